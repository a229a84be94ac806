set_option maxRecDepth 100000
/-! THE LAW'S OWN BODY -/
/-- the script: its length, its numbers -/
def SC (D : SD) (s : State) (sn : Int) (sc : Int → Int) : Prop := (0 ≤ sn ∧ sn ≤ 384) ∧ (∀ i, r32 (sc i)) ∧ va_T .int D.scr sn.toNat (fun j => iv (sc j)) (AB D) s D.H0
theorem SC.r {D : SD} {s : State} {sn : Int} {sc : Int → Int} (h : SC D s sn sc) : r32 sn := by have := h.1; unfold r32; omega
section GSc
variable {p : Program} {l : Launch} {e : Env} {R : Room} {s : State} {m : MethodId} {args : Array Value} {below : List Frame} {meth : Method} {c : Code} {D : SD} {h0 : Hp} {nL : Nat} {cc : ByteArray} {own : String} {ret : Option FieldType} {pc : Nat} {ls : List (Nat × Value)} {st : List Value} {h : Hp}
variable {α : Type} {Φ : α → (State → Prop) → Prop} {k : Option α} {sn : Int} {sc : Int → Int}
theorem rv_sc : rv D (-1) = .ref D.scr := rfl
theorem g_scl (X : CX D p R s m args meth c h0 cc own nL ret) (hS : SC D s sn sc) (hd : decode cc pc = .ok (.arraylength, 1)) (g : G p l e R s m args below meth c D h0 nL Φ (pc + 1) ls (iv sn :: st) h k) : G p l e R s m args below meth c D h0 nL Φ pc ls (rv D (-1) :: st) h k :=
  G.lift (fun Q a H locs lsA hR hL hl => by
    obtain ⟨⟨b1, b2⟩, -, hT⟩ := hS
    obtain ⟨cell, h1, h2, h3, h4, h5, h6, h7⟩ := hT.kept (keepH hR)
    rw [rv_sc]
    refine W.alen X.1 X.2.1 (n := Int32.ofInt sn) h1 h2 ?_ rfl rfl hd (a H locs lsA hR hL hl)
    rw [h5]
    apply i_eq
    rw [Int32.toInt_ofNat_of_lt (by omega), w32_id (by unfold r32; omega)]
    omega) g
theorem g_scA (X : CX D p R s m args meth c h0 cc own nL ret) {i : Int} (hS : SC D s sn sc) (ri : r32 i) (hi : 0 ≤ i ∧ i < sn) (hd : decode cc pc = .ok (.iaload, 1)) (g : G p l e R s m args below meth c D h0 nL Φ (pc + 1) ls (iv (sc i) :: st) h k) : G p l e R s m args below meth c D h0 nL Φ pc ls (iv i :: rv D (-1) :: st) h k :=
  G.lift (fun Q a H locs lsA hR hL hl => by
    obtain ⟨⟨b1, b2⟩, -, hT⟩ := hS
    obtain ⟨cell, h1, h2, h3, h4, h5, h6, h7⟩ := hT.kept (keepH hR)
    rw [rv_sc]
    have hc : (Int32.ofInt i).toNatClampNeg = i.toNat := by
      show (Int32.ofInt i).toInt.toNat = _
      rw [i_toInt ri]
    have hin2 : ¬ (Int32.ofInt i < 0 ∨ cell.slots.size ≤ (Int32.ofInt i).toNatClampNeg) := fun q => by
      rcases q with q | q
      · exact in_i (n := sn) ri hi.1 hi.2 (Or.inl q)
      · rw [hc] at q; omega
    have e1 : ((i.toNat : Nat) : Int) = i := by omega
    have e2 := h6 i.toNat (by omega)
    rw [show (fun j : Nat => iv (sc j)) i.toNat = iv (sc i) from by show iv (sc ((i.toNat : Nat) : Int)) = _; rw [e1]] at e2
    exact W.iald (v := iv (sc i)) X.1 X.2.1 h1 h2 h3 hin2 (by rw [hc]; exact e2) rfl rfl hd (a H locs lsA hR hL hl)) g
end GSc
def k_L_law : List (Nat × Instr × Nat) := [(0, .new 8, 3), (3, .dup, 1), (4, .invokespecial 84, 3), (7, .astore_n 1, 1), (8, .new 85, 3), (11, .dup, 1), (12, .invokespecial 87, 3), (15, .astore_n 2, 1), (16, .iconst 1, 1), (17, .newarray .long, 2), (19, .astore_n 3, 1), (20, .iconst 0, 1), (21, .istore 4, 2), (23, .iload 4, 2), (25, .aload_n 0, 1), (26, .arraylength, 1), (27, .bipush 6, 2), (29, .isub, 1), (30, .if_icmp .gt 1257, 3), (33, .aload_n 0, 1), (34, .iload 4, 2), (36, .iaload, 1), (37, .bipush 31, 2), (39, .iand, 1), (136, .aload_n 1, 1), (137, .aload_n 0, 1), (138, .iload 4, 2), (140, .iconst 1, 1), (141, .iadd, 1), (142, .iaload, 1), (143, .aload_n 0, 1), (144, .iload 4, 2), (146, .iconst 2, 1), (147, .iadd, 1), (148, .iaload, 1), (149, .aload_n 0, 1), (150, .iload 4, 2), (152, .iconst 3, 1), (153, .iadd, 1), (154, .iaload, 1), (155, .aload_n 0, 1), (156, .iload 4, 2), (158, .iconst 4, 1), (159, .iadd, 1), (160, .iaload, 1), (161, .aload_n 0, 1), (162, .iload 4, 2), (164, .iconst 5, 1), (165, .iadd, 1), (166, .iaload, 1), (167, .aload_n 3, 1), (168, .invokestatic 88, 3), (171, .istore 5, 2), (173, .aload_n 2, 1), (174, .aload_n 0, 1), (175, .iload 4, 2), (177, .iconst 1, 1), (178, .iadd, 1), (179, .iaload, 1), (180, .aload_n 0, 1), (181, .iload 4, 2), (183, .iconst 2, 1), (184, .iadd, 1), (185, .iaload, 1), (186, .aload_n 0, 1), (187, .iload 4, 2), (189, .iconst 3, 1), (190, .iadd, 1), (191, .iaload, 1), (192, .aload_n 0, 1), (193, .iload 4, 2), (195, .iconst 4, 1), (196, .iadd, 1), (197, .iaload, 1), (198, .aload_n 0, 1), (199, .iload 4, 2), (201, .iconst 5, 1), (202, .iadd, 1), (203, .iaload, 1), (204, .invokevirtual 93, 3), (207, .istore 6, 2), (209, .aload_n 2, 1), (210, .invokevirtual 94, 3), (213, .iload 5, 2), (215, .if_icmp .eq 5, 3), (218, .iconst 0, 1), (219, .ireturn, 1), (220, .iload 5, 2), (222, .ifCond .ne 15, 3), (225, .aload_n 3, 1), (226, .iconst 0, 1), (227, .laload, 1), (228, .iload 6, 2), (230, .i2l, 1), (231, .lcmp, 1), (232, .ifCond .eq 5, 3), (235, .iconst 0, 1), (236, .ireturn, 1), (237, .goto 1044, 3), (240, .aload_n 1, 1), (241, .aload_n 0, 1), (242, .iload 4, 2), (244, .iconst 1, 1), (245, .iadd, 1), (246, .iaload, 1), (247, .aload_n 3, 1), (248, .invokestatic 97, 3), (251, .istore 5, 2), (253, .aload_n 2, 1), (254, .aload_n 0, 1), (255, .iload 4, 2), (257, .iconst 1, 1), (258, .iadd, 1), (259, .iaload, 1), (260, .invokevirtual 100, 3), (263, .istore 6, 2), (265, .aload_n 2, 1), (266, .invokevirtual 94, 3), (269, .iload 5, 2), (271, .if_icmp .eq 5, 3), (274, .iconst 0, 1), (275, .ireturn, 1), (276, .iload 5, 2), (278, .ifCond .ne 15, 3), (281, .aload_n 3, 1), (282, .iconst 0, 1), (283, .laload, 1), (284, .iload 6, 2), (286, .i2l, 1), (287, .lcmp, 1), (288, .ifCond .eq 5, 3), (291, .iconst 0, 1), (292, .ireturn, 1), (293, .goto 988, 3), (296, .aload_n 1, 1), (297, .aload_n 3, 1), (298, .invokestatic 101, 3), (301, .istore 5, 2), (303, .aload_n 2, 1), (304, .invokevirtual 104, 3), (307, .istore 6, 2), (309, .aload_n 2, 1), (310, .invokevirtual 94, 3), (313, .iload 5, 2), (315, .if_icmp .eq 5, 3), (318, .iconst 0, 1), (319, .ireturn, 1), (320, .iload 5, 2), (322, .ifCond .ne 15, 3), (325, .aload_n 3, 1), (326, .iconst 0, 1), (327, .laload, 1), (328, .iload 6, 2), (330, .i2l, 1), (331, .lcmp, 1), (332, .ifCond .eq 5, 3), (335, .iconst 0, 1), (336, .ireturn, 1), (337, .goto 944, 3), (340, .aload_n 1, 1), (341, .aload_n 3, 1), (342, .invokestatic 105, 3), (345, .istore 5, 2), (347, .aload_n 2, 1), (348, .invokevirtual 107, 3), (351, .istore 6, 2), (353, .aload_n 2, 1), (354, .invokevirtual 94, 3), (357, .iload 5, 2), (359, .if_icmp .eq 5, 3), (362, .iconst 0, 1), (363, .ireturn, 1), (364, .iload 5, 2), (366, .ifCond .ne 15, 3), (369, .aload_n 3, 1), (370, .iconst 0, 1), (371, .laload, 1), (372, .iload 6, 2), (374, .i2l, 1), (375, .lcmp, 1), (376, .ifCond .eq 5, 3), (379, .iconst 0, 1), (380, .ireturn, 1), (381, .goto 900, 3), (384, .aload_n 1, 1), (385, .aload_n 3, 1), (386, .invokestatic 108, 3), (389, .istore 5, 2), (391, .aload_n 2, 1), (392, .invokevirtual 110, 3), (395, .istore 6, 2), (397, .aload_n 2, 1), (398, .invokevirtual 94, 3), (401, .iload 5, 2), (403, .if_icmp .eq 5, 3), (406, .iconst 0, 1), (407, .ireturn, 1), (408, .iload 5, 2), (410, .ifCond .ne 15, 3), (413, .aload_n 3, 1), (414, .iconst 0, 1), (415, .laload, 1), (416, .iload 6, 2), (418, .i2l, 1), (419, .lcmp, 1), (420, .ifCond .eq 5, 3), (423, .iconst 0, 1), (424, .ireturn, 1), (425, .goto 856, 3), (428, .aload_n 1, 1), (429, .aload_n 3, 1), (430, .invokestatic 111, 3), (433, .istore 5, 2), (435, .aload_n 2, 1), (436, .invokevirtual 113, 3), (439, .istore 6, 2), (441, .aload_n 2, 1), (442, .invokevirtual 94, 3), (445, .iload 5, 2), (447, .if_icmp .eq 5, 3), (450, .iconst 0, 1), (451, .ireturn, 1), (452, .iload 5, 2), (454, .ifCond .ne 15, 3), (457, .aload_n 3, 1), (458, .iconst 0, 1), (459, .laload, 1), (460, .iload 6, 2), (462, .i2l, 1), (463, .lcmp, 1), (464, .ifCond .eq 5, 3), (467, .iconst 0, 1), (468, .ireturn, 1), (469, .goto 812, 3), (472, .aload_n 1, 1), (473, .aload_n 0, 1), (474, .iload 4, 2), (476, .iconst 1, 1), (477, .iadd, 1), (478, .iaload, 1), (479, .aload_n 0, 1), (480, .iload 4, 2), (482, .iconst 2, 1), (483, .iadd, 1), (484, .iaload, 1), (485, .aload_n 3, 1), (486, .invokestatic 114, 3), (489, .istore 5, 2), (491, .aload_n 2, 1), (492, .aload_n 0, 1), (493, .iload 4, 2), (495, .iconst 1, 1), (496, .iadd, 1), (497, .iaload, 1), (498, .aload_n 0, 1), (499, .iload 4, 2), (501, .iconst 2, 1), (502, .iadd, 1), (503, .iaload, 1), (504, .invokevirtual 117, 3), (507, .istore 6, 2), (509, .aload_n 2, 1), (510, .invokevirtual 94, 3), (513, .iload 5, 2), (515, .if_icmp .eq 5, 3), (518, .iconst 0, 1), (519, .ireturn, 1), (520, .iload 5, 2), (522, .ifCond .ne 15, 3), (525, .aload_n 3, 1), (526, .iconst 0, 1), (527, .laload, 1), (528, .iload 6, 2), (530, .i2l, 1), (531, .lcmp, 1), (532, .ifCond .eq 5, 3), (535, .iconst 0, 1), (536, .ireturn, 1), (537, .goto 744, 3), (540, .aload_n 1, 1), (541, .invokevirtual 118, 3), (544, .aload_n 2, 1), (545, .invokevirtual 121, 3), (548, .if_icmp .eq 733, 3), (551, .iconst 0, 1), (552, .ireturn, 1), (553, .aload_n 1, 1), (554, .aload_n 0, 1), (555, .iload 4, 2), (557, .iconst 1, 1), (558, .iadd, 1), (559, .iaload, 1), (560, .aload_n 3, 1), (561, .invokestatic 122, 3), (564, .istore 5, 2), (566, .aload_n 2, 1), (567, .aload_n 0, 1), (568, .iload 4, 2), (570, .iconst 1, 1), (571, .iadd, 1), (572, .iaload, 1), (573, .invokevirtual 124, 3), (576, .istore 6, 2), (578, .aload_n 2, 1), (579, .invokevirtual 94, 3), (582, .iload 5, 2), (584, .if_icmp .eq 5, 3), (587, .iconst 0, 1), (588, .ireturn, 1), (589, .iload 5, 2), (591, .ifCond .ne 15, 3), (594, .aload_n 3, 1), (595, .iconst 0, 1), (596, .laload, 1), (597, .iload 6, 2), (599, .i2l, 1), (600, .lcmp, 1), (601, .ifCond .eq 5, 3), (604, .iconst 0, 1), (605, .ireturn, 1), (606, .goto 675, 3), (609, .aload_n 1, 1), (610, .aload_n 0, 1), (611, .iload 4, 2), (613, .iconst 1, 1), (614, .iadd, 1), (615, .iaload, 1), (616, .aload_n 0, 1), (617, .iload 4, 2), (619, .iconst 2, 1), (620, .iadd, 1), (621, .iaload, 1), (622, .aload_n 3, 1), (623, .invokestatic 125, 3), (626, .istore 5, 2), (628, .aload_n 2, 1), (629, .aload_n 0, 1), (630, .iload 4, 2), (632, .iconst 1, 1), (633, .iadd, 1), (634, .iaload, 1), (635, .aload_n 0, 1), (636, .iload 4, 2), (638, .iconst 2, 1), (639, .iadd, 1), (640, .iaload, 1), (641, .invokevirtual 127, 3), (644, .istore 6, 2), (646, .aload_n 2, 1), (647, .invokevirtual 94, 3), (650, .iload 5, 2), (652, .if_icmp .eq 5, 3), (655, .iconst 0, 1), (656, .ireturn, 1), (657, .iload 5, 2), (659, .ifCond .ne 15, 3), (662, .aload_n 3, 1), (663, .iconst 0, 1), (664, .laload, 1), (665, .iload 6, 2), (667, .i2l, 1), (668, .lcmp, 1), (669, .ifCond .eq 5, 3), (672, .iconst 0, 1), (673, .ireturn, 1), (674, .goto 607, 3), (677, .aload_n 1, 1), (678, .aload_n 0, 1), (679, .iload 4, 2), (681, .iconst 1, 1), (682, .iadd, 1), (683, .iaload, 1), (684, .aload_n 3, 1), (685, .invokestatic 128, 3), (688, .istore 5, 2), (690, .aload_n 2, 1), (691, .aload_n 0, 1), (692, .iload 4, 2), (694, .iconst 1, 1), (695, .iadd, 1), (696, .iaload, 1), (697, .invokevirtual 130, 3), (700, .istore 6, 2), (702, .aload_n 2, 1), (703, .invokevirtual 94, 3), (706, .iload 5, 2), (708, .if_icmp .eq 5, 3), (711, .iconst 0, 1), (712, .ireturn, 1), (713, .iload 5, 2), (715, .ifCond .ne 15, 3), (718, .aload_n 3, 1), (719, .iconst 0, 1), (720, .laload, 1), (721, .iload 6, 2), (723, .i2l, 1), (724, .lcmp, 1), (725, .ifCond .eq 5, 3), (728, .iconst 0, 1), (729, .ireturn, 1), (730, .goto 551, 3), (733, .aload_n 1, 1), (734, .aload_n 0, 1), (735, .iload 4, 2), (737, .iconst 1, 1), (738, .iadd, 1), (739, .iaload, 1), (740, .aload_n 0, 1), (741, .iload 4, 2), (743, .iconst 2, 1), (744, .iadd, 1), (745, .iaload, 1), (746, .aload_n 3, 1), (747, .invokestatic 131, 3), (750, .istore 5, 2), (752, .aload_n 2, 1), (753, .aload_n 0, 1), (754, .iload 4, 2), (756, .iconst 1, 1), (757, .iadd, 1), (758, .iaload, 1), (759, .aload_n 0, 1), (760, .iload 4, 2), (762, .iconst 2, 1), (763, .iadd, 1), (764, .iaload, 1), (765, .invokevirtual 133, 3), (768, .istore 6, 2), (770, .aload_n 2, 1), (771, .invokevirtual 94, 3), (774, .iload 5, 2), (776, .if_icmp .eq 5, 3), (779, .iconst 0, 1), (780, .ireturn, 1), (781, .iload 5, 2), (783, .ifCond .ne 15, 3), (786, .aload_n 3, 1), (787, .iconst 0, 1), (788, .laload, 1), (789, .iload 6, 2), (791, .i2l, 1), (792, .lcmp, 1), (793, .ifCond .eq 5, 3), (796, .iconst 0, 1), (797, .ireturn, 1), (798, .goto 483, 3), (801, .aload_n 1, 1), (802, .aload_n 0, 1), (803, .iload 4, 2), (805, .iconst 1, 1), (806, .iadd, 1), (807, .iaload, 1), (808, .aload_n 0, 1), (809, .iload 4, 2), (811, .iconst 2, 1), (812, .iadd, 1), (813, .iaload, 1), (814, .aload_n 3, 1), (815, .invokestatic 134, 3), (818, .istore 5, 2), (820, .aload_n 2, 1), (821, .aload_n 0, 1), (822, .iload 4, 2), (824, .iconst 1, 1), (825, .iadd, 1), (826, .iaload, 1), (827, .aload_n 0, 1), (828, .iload 4, 2), (830, .iconst 2, 1), (831, .iadd, 1), (832, .iaload, 1), (833, .invokevirtual 136, 3), (836, .lstore 6, 2), (838, .aload_n 2, 1), (839, .invokevirtual 94, 3), (842, .iload 5, 2), (844, .if_icmp .eq 5, 3), (847, .iconst 0, 1), (848, .ireturn, 1), (849, .iload 5, 2), (851, .ifCond .ne 14, 3), (854, .aload_n 3, 1), (855, .iconst 0, 1), (856, .laload, 1), (857, .lload 6, 2), (859, .lcmp, 1), (860, .ifCond .eq 5, 3), (863, .iconst 0, 1), (864, .ireturn, 1), (865, .goto 416, 3), (868, .aload_n 1, 1), (869, .aload_n 0, 1), (870, .iload 4, 2), (872, .iconst 1, 1), (873, .iadd, 1), (874, .iaload, 1), (875, .aload_n 0, 1), (876, .iload 4, 2), (878, .iconst 2, 1), (879, .iadd, 1), (880, .iaload, 1), (881, .aload_n 3, 1), (882, .invokestatic 137, 3), (885, .istore 5, 2), (887, .aload_n 2, 1), (888, .aload_n 0, 1), (889, .iload 4, 2), (891, .iconst 1, 1), (892, .iadd, 1), (893, .iaload, 1), (894, .aload_n 0, 1), (895, .iload 4, 2), (897, .iconst 2, 1), (898, .iadd, 1), (899, .iaload, 1), (900, .invokevirtual 139, 3), (903, .lstore 6, 2), (905, .aload_n 2, 1), (906, .invokevirtual 94, 3), (909, .iload 5, 2), (911, .if_icmp .eq 5, 3), (914, .iconst 0, 1), (915, .ireturn, 1), (916, .iload 5, 2), (918, .ifCond .ne 14, 3), (921, .aload_n 3, 1), (922, .iconst 0, 1), (923, .laload, 1), (924, .lload 6, 2), (926, .lcmp, 1), (927, .ifCond .eq 5, 3), (930, .iconst 0, 1), (931, .ireturn, 1), (932, .goto 349, 3), (935, .aload_n 1, 1), (936, .aload_n 0, 1), (937, .iload 4, 2), (939, .iconst 1, 1), (940, .iadd, 1), (941, .iaload, 1), (942, .aload_n 3, 1), (943, .invokestatic 140, 3), (946, .istore 5, 2), (948, .aload_n 2, 1), (949, .aload_n 0, 1), (950, .iload 4, 2), (952, .iconst 1, 1), (953, .iadd, 1), (954, .iaload, 1), (955, .invokevirtual 142, 3), (958, .lstore 6, 2), (960, .aload_n 2, 1), (961, .invokevirtual 94, 3), (964, .iload 5, 2), (966, .if_icmp .eq 5, 3), (969, .iconst 0, 1), (970, .ireturn, 1), (971, .iload 5, 2), (973, .ifCond .ne 14, 3), (976, .aload_n 3, 1), (977, .iconst 0, 1), (978, .laload, 1), (979, .lload 6, 2), (981, .lcmp, 1), (982, .ifCond .eq 5, 3), (985, .iconst 0, 1), (986, .ireturn, 1), (987, .goto 294, 3), (990, .aload_n 1, 1), (991, .aload_n 0, 1), (992, .iload 4, 2), (994, .iconst 1, 1), (995, .iadd, 1), (996, .iaload, 1), (997, .aload_n 3, 1), (998, .invokestatic 143, 3), (1001, .istore 5, 2), (1003, .aload_n 2, 1), (1004, .aload_n 0, 1), (1005, .iload 4, 2), (1007, .iconst 1, 1), (1008, .iadd, 1), (1009, .iaload, 1), (1010, .invokevirtual 145, 3), (1013, .istore 6, 2), (1015, .aload_n 2, 1), (1016, .invokevirtual 94, 3), (1019, .iload 5, 2), (1021, .if_icmp .eq 5, 3), (1024, .iconst 0, 1), (1025, .ireturn, 1), (1026, .iload 5, 2), (1028, .ifCond .ne 15, 3), (1031, .aload_n 3, 1), (1032, .iconst 0, 1), (1033, .laload, 1), (1034, .iload 6, 2), (1036, .i2l, 1), (1037, .lcmp, 1), (1038, .ifCond .eq 5, 3), (1041, .iconst 0, 1), (1042, .ireturn, 1), (1043, .goto 238, 3), (1046, .aload_n 1, 1), (1047, .aload_n 0, 1), (1048, .iload 4, 2), (1050, .iconst 1, 1), (1051, .iadd, 1), (1052, .iaload, 1), (1053, .aload_n 0, 1), (1054, .iload 4, 2), (1056, .iconst 2, 1), (1057, .iadd, 1), (1058, .iaload, 1), (1059, .aload_n 3, 1), (1060, .invokestatic 146, 3), (1063, .istore 5, 2), (1065, .aload_n 2, 1), (1066, .aload_n 0, 1), (1067, .iload 4, 2), (1069, .iconst 1, 1), (1070, .iadd, 1), (1071, .iaload, 1), (1072, .aload_n 0, 1), (1073, .iload 4, 2), (1075, .iconst 2, 1), (1076, .iadd, 1), (1077, .iaload, 1), (1078, .invokevirtual 148, 3), (1081, .istore 6, 2), (1083, .aload_n 2, 1), (1084, .invokevirtual 94, 3), (1087, .iload 5, 2), (1089, .if_icmp .eq 5, 3), (1092, .iconst 0, 1), (1093, .ireturn, 1), (1094, .iload 5, 2), (1096, .ifCond .ne 15, 3), (1099, .aload_n 3, 1), (1100, .iconst 0, 1), (1101, .laload, 1), (1102, .iload 6, 2), (1104, .i2l, 1), (1105, .lcmp, 1), (1106, .ifCond .eq 5, 3), (1109, .iconst 0, 1), (1110, .ireturn, 1), (1111, .goto 170, 3), (1114, .aload_n 1, 1), (1115, .aload_n 0, 1), (1116, .iload 4, 2), (1118, .iconst 1, 1), (1119, .iadd, 1), (1120, .iaload, 1), (1121, .aload_n 3, 1), (1122, .invokestatic 149, 3), (1125, .istore 5, 2), (1127, .aload_n 2, 1), (1128, .aload_n 0, 1), (1129, .iload 4, 2), (1131, .iconst 1, 1), (1132, .iadd, 1), (1133, .iaload, 1), (1134, .invokevirtual 151, 3), (1137, .istore 6, 2), (1139, .aload_n 2, 1), (1140, .invokevirtual 94, 3), (1143, .iload 5, 2), (1145, .if_icmp .eq 5, 3), (1148, .iconst 0, 1), (1149, .ireturn, 1), (1150, .iload 5, 2), (1152, .ifCond .ne 15, 3), (1155, .aload_n 3, 1), (1156, .iconst 0, 1), (1157, .laload, 1), (1158, .iload 6, 2), (1160, .i2l, 1), (1161, .lcmp, 1), (1162, .ifCond .eq 5, 3), (1165, .iconst 0, 1), (1166, .ireturn, 1), (1167, .goto 114, 3), (1170, .aload_n 1, 1), (1171, .aload_n 0, 1), (1172, .iload 4, 2), (1174, .iconst 1, 1), (1175, .iadd, 1), (1176, .iaload, 1), (1177, .aload_n 3, 1), (1178, .invokestatic 152, 3), (1181, .istore 5, 2), (1183, .aload_n 2, 1), (1184, .aload_n 0, 1), (1185, .iload 4, 2), (1187, .iconst 1, 1), (1188, .iadd, 1), (1189, .iaload, 1), (1190, .invokevirtual 154, 3), (1193, .istore 6, 2), (1195, .aload_n 2, 1), (1196, .invokevirtual 94, 3), (1199, .iload 5, 2), (1201, .if_icmp .eq 5, 3), (1204, .iconst 0, 1), (1205, .ireturn, 1), (1206, .iload 5, 2), (1208, .ifCond .ne 15, 3), (1211, .aload_n 3, 1), (1212, .iconst 0, 1), (1213, .laload, 1), (1214, .iload 6, 2), (1216, .i2l, 1), (1217, .lcmp, 1), (1218, .ifCond .eq 5, 3), (1221, .iconst 0, 1), (1222, .ireturn, 1), (1223, .goto 58, 3), (1226, .aload_n 1, 1), (1227, .aload_n 0, 1), (1228, .iload 4, 2), (1230, .iconst 1, 1), (1231, .iadd, 1), (1232, .iaload, 1), (1233, .aload_n 3, 1), (1234, .invokestatic 155, 3), (1237, .istore 5, 2), (1239, .aload_n 2, 1), (1240, .aload_n 0, 1), (1241, .iload 4, 2), (1243, .iconst 1, 1), (1244, .iadd, 1), (1245, .iaload, 1), (1246, .invokevirtual 157, 3), (1249, .lstore 6, 2), (1251, .aload_n 2, 1), (1252, .invokevirtual 94, 3), (1255, .iload 5, 2), (1257, .if_icmp .eq 5, 3), (1260, .iconst 0, 1), (1261, .ireturn, 1), (1262, .iload 5, 2), (1264, .ifCond .ne 14, 3), (1267, .aload_n 3, 1), (1268, .iconst 0, 1), (1269, .laload, 1), (1270, .lload 6, 2), (1272, .lcmp, 1), (1273, .ifCond .eq 5, 3), (1276, .iconst 0, 1), (1277, .ireturn, 1), (1278, .goto 3, 3), (1281, .iinc 4 6, 3), (1284, .goto (-1261), 3), (1287, .iconst 1, 1), (1288, .ireturn, 1)]
theorem t_L_law : ∀ q ∈ k_L_law, decode code q.1 = .ok q.2 := dl_all (by decide +kernel)
theorem dS_L_law_40 : decode code 40 = .ok (.tableswitch 1241 0 19 #[96, 200, 256, 300, 344, 388, 432, 500, 513, 569, 637, 693, 761, 828, 895, 950, 1006, 1074, 1130, 1186], 96) := by decide +kernel
noncomputable def m_L_law_j1281 (sn : Int) (sc : Int → Int) (x4_23 : Int) (h_1281 : Hp) : Option ((Int × Hp) ⊕ ((Int × Hp))) :=
  lt_ (w32 (x4_23 + 6)) fun x4_1281 =>
  some (.inl (x4_1281, h_1281))
noncomputable def m_L_law_l23 (sn : Int) (sc : Int → Int) (a0 a8 a17 x4_23 : Int) (h_23 : Hp) : Option ((Int × Hp) ⊕ ((Int × Hp))) :=
  if (w32 (sn - 6)) < x4_23 then (some (.inr (1, h_23)))
  else (gd (0 ≤ x4_23 ∧ x4_23 < sn) (if (iand_ (sc x4_23) 31) = 0 then (gd (0 ≤ (w32 (x4_23 + 1)) ∧ (w32 (x4_23 + 1)) < sn) (gd (0 ≤ (w32 (x4_23 + 2)) ∧ (w32 (x4_23 + 2)) < sn) (gd (0 ≤ (w32 (x4_23 + 3)) ∧ (w32 (x4_23 + 3)) < sn) (gd (0 ≤ (w32 (x4_23 + 4)) ∧ (w32 (x4_23 + 4)) < sn) (gd (0 ≤ (w32 (x4_23 + 5)) ∧ (w32 (x4_23 + 5)) < sn) (bW (m_X0_feed a0 (sc (w32 (x4_23 + 1))) (sc (w32 (x4_23 + 2))) (sc (w32 (x4_23 + 3))) (sc (w32 (x4_23 + 4))) (sc (w32 (x4_23 + 5))) a17 h_23) fun v168 h168 =>
  gd (0 ≤ (w32 (x4_23 + 1)) ∧ (w32 (x4_23 + 1)) < sn) (gd (0 ≤ (w32 (x4_23 + 2)) ∧ (w32 (x4_23 + 2)) < sn) (gd (0 ≤ (w32 (x4_23 + 3)) ∧ (w32 (x4_23 + 3)) < sn) (gd (0 ≤ (w32 (x4_23 + 4)) ∧ (w32 (x4_23 + 4)) < sn) (gd (0 ≤ (w32 (x4_23 + 5)) ∧ (w32 (x4_23 + 5)) < sn) (bW (m_X18_feed a8 (sc (w32 (x4_23 + 1))) (sc (w32 (x4_23 + 2))) (sc (w32 (x4_23 + 3))) (sc (w32 (x4_23 + 4))) (sc (w32 (x4_23 + 5))) h168) fun v204 h204 =>
  (m_X18_thrown a8 h204).bind fun v210 =>
  if v210 = v168 then (if v168 ≠ 0 then (m_L_law_j1281 sn sc x4_23 h204)
  else (gd (h204 a17 (-2) % 16 = 4 ∧ (0 : Int) ≤ 0 ∧ 0 < h204 a17 (-1)) (if (lcmp_ (h204 a17 0) v204) = 0 then (m_L_law_j1281 sn sc x4_23 h204)
  else (some (.inr (0, h204))))))
  else (some (.inr (0, h204))))))))))))))
  else (if (iand_ (sc x4_23) 31) = 1 then (gd (0 ≤ (w32 (x4_23 + 1)) ∧ (w32 (x4_23 + 1)) < sn) (bW (m_X0_end a0 (sc (w32 (x4_23 + 1))) a17 h_23) fun v248 h248 =>
  gd (0 ≤ (w32 (x4_23 + 1)) ∧ (w32 (x4_23 + 1)) < sn) (bW (m_X18_end a8 (sc (w32 (x4_23 + 1))) h248) fun v260 h260 =>
  (m_X18_thrown a8 h260).bind fun v266 =>
  if v266 = v248 then (if v248 ≠ 0 then (m_L_law_j1281 sn sc x4_23 h260)
  else (gd (h260 a17 (-2) % 16 = 4 ∧ (0 : Int) ≤ 0 ∧ 0 < h260 a17 (-1)) (if (lcmp_ (h260 a17 0) v260) = 0 then (m_L_law_j1281 sn sc x4_23 h260)
  else (some (.inr (0, h260))))))
  else (some (.inr (0, h260))))))
  else (if (iand_ (sc x4_23) 31) = 2 then (bW (m_X0_font a0 a17 h_23) fun v298 h298 =>
  bW (m_X18_font a8 h298) fun v304 h304 =>
  (m_X18_thrown a8 h304).bind fun v310 =>
  if v310 = v298 then (if v298 ≠ 0 then (m_L_law_j1281 sn sc x4_23 h304)
  else (gd (h304 a17 (-2) % 16 = 4 ∧ (0 : Int) ≤ 0 ∧ 0 < h304 a17 (-1)) (if (lcmp_ (h304 a17 0) v304) = 0 then (m_L_law_j1281 sn sc x4_23 h304)
  else (some (.inr (0, h304))))))
  else (some (.inr (0, h304))))
  else (if (iand_ (sc x4_23) 31) = 3 then (bW (m_X0_hyphens a0 a17 h_23) fun v342 h342 =>
  bW (m_X18_hyphens a8 h342) fun v348 h348 =>
  (m_X18_thrown a8 h348).bind fun v354 =>
  if v354 = v342 then (if v342 ≠ 0 then (m_L_law_j1281 sn sc x4_23 h348)
  else (gd (h348 a17 (-2) % 16 = 4 ∧ (0 : Int) ≤ 0 ∧ 0 < h348 a17 (-1)) (if (lcmp_ (h348 a17 0) v348) = 0 then (m_L_law_j1281 sn sc x4_23 h348)
  else (some (.inr (0, h348))))))
  else (some (.inr (0, h348))))
  else (if (iand_ (sc x4_23) 31) = 4 then (bW (m_X0_style a0 a17 h_23) fun v386 h386 =>
  bW (m_X18_style a8 h386) fun v392 h392 =>
  (m_X18_thrown a8 h392).bind fun v398 =>
  if v398 = v386 then (if v386 ≠ 0 then (m_L_law_j1281 sn sc x4_23 h392)
  else (gd (h392 a17 (-2) % 16 = 4 ∧ (0 : Int) ≤ 0 ∧ 0 < h392 a17 (-1)) (if (lcmp_ (h392 a17 0) v392) = 0 then (m_L_law_j1281 sn sc x4_23 h392)
  else (some (.inr (0, h392))))))
  else (some (.inr (0, h392))))
  else (if (iand_ (sc x4_23) 31) = 5 then (bW (m_X0_source a0 a17 h_23) fun v430 h430 =>
  bW (m_X18_source a8 h430) fun v436 h436 =>
  (m_X18_thrown a8 h436).bind fun v442 =>
  if v442 = v430 then (if v430 ≠ 0 then (m_L_law_j1281 sn sc x4_23 h436)
  else (gd (h436 a17 (-2) % 16 = 4 ∧ (0 : Int) ≤ 0 ∧ 0 < h436 a17 (-1)) (if (lcmp_ (h436 a17 0) v436) = 0 then (m_L_law_j1281 sn sc x4_23 h436)
  else (some (.inr (0, h436))))))
  else (some (.inr (0, h436))))
  else (if (iand_ (sc x4_23) 31) = 6 then (gd (0 ≤ (w32 (x4_23 + 1)) ∧ (w32 (x4_23 + 1)) < sn) (gd (0 ≤ (w32 (x4_23 + 2)) ∧ (w32 (x4_23 + 2)) < sn) (bW (m_X0_change a0 (sc (w32 (x4_23 + 1))) (sc (w32 (x4_23 + 2))) a17 h_23) fun v486 h486 =>
  gd (0 ≤ (w32 (x4_23 + 1)) ∧ (w32 (x4_23 + 1)) < sn) (gd (0 ≤ (w32 (x4_23 + 2)) ∧ (w32 (x4_23 + 2)) < sn) (bW (m_X18_change a8 (sc (w32 (x4_23 + 1))) (sc (w32 (x4_23 + 2))) h486) fun v504 h504 =>
  (m_X18_thrown a8 h504).bind fun v510 =>
  if v510 = v486 then (if v486 ≠ 0 then (m_L_law_j1281 sn sc x4_23 h504)
  else (gd (h504 a17 (-2) % 16 = 4 ∧ (0 : Int) ≤ 0 ∧ 0 < h504 a17 (-1)) (if (lcmp_ (h504 a17 0) v504) = 0 then (m_L_law_j1281 sn sc x4_23 h504)
  else (some (.inr (0, h504))))))
  else (some (.inr (0, h504))))))))
  else (if (iand_ (sc x4_23) 31) = 7 then ((m_X1_place a0 h_23).bind fun v541 =>
  bW (m_X18_place a8 h_23) fun v545 h545 =>
  if v541 = v545 then (m_L_law_j1281 sn sc x4_23 h545)
  else (some (.inr (0, h545))))
  else (if (iand_ (sc x4_23) 31) = 8 then (gd (0 ≤ (w32 (x4_23 + 1)) ∧ (w32 (x4_23 + 1)) < sn) (bW (m_X0_set a0 (sc (w32 (x4_23 + 1))) a17 h_23) fun v561 h561 =>
  gd (0 ≤ (w32 (x4_23 + 1)) ∧ (w32 (x4_23 + 1)) < sn) (bW (m_X18_set a8 (sc (w32 (x4_23 + 1))) h561) fun v573 h573 =>
  (m_X18_thrown a8 h573).bind fun v579 =>
  if v579 = v561 then (if v561 ≠ 0 then (m_L_law_j1281 sn sc x4_23 h573)
  else (gd (h573 a17 (-2) % 16 = 4 ∧ (0 : Int) ≤ 0 ∧ 0 < h573 a17 (-1)) (if (lcmp_ (h573 a17 0) v573) = 0 then (m_L_law_j1281 sn sc x4_23 h573)
  else (some (.inr (0, h573))))))
  else (some (.inr (0, h573))))))
  else (if (iand_ (sc x4_23) 31) = 9 then (gd (0 ≤ (w32 (x4_23 + 1)) ∧ (w32 (x4_23 + 1)) < sn) (gd (0 ≤ (w32 (x4_23 + 2)) ∧ (w32 (x4_23 + 2)) < sn) (bW (m_X0_element a0 (sc (w32 (x4_23 + 1))) (sc (w32 (x4_23 + 2))) a17 h_23) fun v623 h623 =>
  gd (0 ≤ (w32 (x4_23 + 1)) ∧ (w32 (x4_23 + 1)) < sn) (gd (0 ≤ (w32 (x4_23 + 2)) ∧ (w32 (x4_23 + 2)) < sn) (bW (m_X18_element a8 (sc (w32 (x4_23 + 1))) (sc (w32 (x4_23 + 2))) h623) fun v641 h641 =>
  (m_X18_thrown a8 h641).bind fun v647 =>
  if v647 = v623 then (if v623 ≠ 0 then (m_L_law_j1281 sn sc x4_23 h641)
  else (gd (h641 a17 (-2) % 16 = 4 ∧ (0 : Int) ≤ 0 ∧ 0 < h641 a17 (-1)) (if (lcmp_ (h641 a17 0) v641) = 0 then (m_L_law_j1281 sn sc x4_23 h641)
  else (some (.inr (0, h641))))))
  else (some (.inr (0, h641))))))))
  else (if (iand_ (sc x4_23) 31) = 10 then (gd (0 ≤ (w32 (x4_23 + 1)) ∧ (w32 (x4_23 + 1)) < sn) (bW (m_X0_count a0 (sc (w32 (x4_23 + 1))) a17 h_23) fun v685 h685 =>
  gd (0 ≤ (w32 (x4_23 + 1)) ∧ (w32 (x4_23 + 1)) < sn) (bW (m_X18_count a8 (sc (w32 (x4_23 + 1))) h685) fun v697 h697 =>
  (m_X18_thrown a8 h697).bind fun v703 =>
  if v703 = v685 then (if v685 ≠ 0 then (m_L_law_j1281 sn sc x4_23 h697)
  else (gd (h697 a17 (-2) % 16 = 4 ∧ (0 : Int) ≤ 0 ∧ 0 < h697 a17 (-1)) (if (lcmp_ (h697 a17 0) v697) = 0 then (m_L_law_j1281 sn sc x4_23 h697)
  else (some (.inr (0, h697))))))
  else (some (.inr (0, h697))))))
  else (if (iand_ (sc x4_23) 31) = 11 then (gd (0 ≤ (w32 (x4_23 + 1)) ∧ (w32 (x4_23 + 1)) < sn) (gd (0 ≤ (w32 (x4_23 + 2)) ∧ (w32 (x4_23 + 2)) < sn) (bW (m_X0_line a0 (sc (w32 (x4_23 + 1))) (sc (w32 (x4_23 + 2))) a17 h_23) fun v747 h747 =>
  gd (0 ≤ (w32 (x4_23 + 1)) ∧ (w32 (x4_23 + 1)) < sn) (gd (0 ≤ (w32 (x4_23 + 2)) ∧ (w32 (x4_23 + 2)) < sn) (bW (m_X18_line a8 (sc (w32 (x4_23 + 1))) (sc (w32 (x4_23 + 2))) h747) fun v765 h765 =>
  (m_X18_thrown a8 h765).bind fun v771 =>
  if v771 = v747 then (if v747 ≠ 0 then (m_L_law_j1281 sn sc x4_23 h765)
  else (gd (h765 a17 (-2) % 16 = 4 ∧ (0 : Int) ≤ 0 ∧ 0 < h765 a17 (-1)) (if (lcmp_ (h765 a17 0) v765) = 0 then (m_L_law_j1281 sn sc x4_23 h765)
  else (some (.inr (0, h765))))))
  else (some (.inr (0, h765))))))))
  else (if (iand_ (sc x4_23) 31) = 12 then (gd (0 ≤ (w32 (x4_23 + 1)) ∧ (w32 (x4_23 + 1)) < sn) (gd (0 ≤ (w32 (x4_23 + 2)) ∧ (w32 (x4_23 + 2)) < sn) (bW (m_X0_spot a0 (sc (w32 (x4_23 + 1))) (sc (w32 (x4_23 + 2))) a17 h_23) fun v815 h815 =>
  gd (0 ≤ (w32 (x4_23 + 1)) ∧ (w32 (x4_23 + 1)) < sn) (gd (0 ≤ (w32 (x4_23 + 2)) ∧ (w32 (x4_23 + 2)) < sn) (bW (m_X18_spot a8 (sc (w32 (x4_23 + 1))) (sc (w32 (x4_23 + 2))) h815) fun v833 h833 =>
  (m_X18_thrown a8 h833).bind fun v839 =>
  if v839 = v815 then (if v815 ≠ 0 then (m_L_law_j1281 sn sc x4_23 h833)
  else (gd (h833 a17 (-2) % 16 = 4 ∧ (0 : Int) ≤ 0 ∧ 0 < h833 a17 (-1)) (if (lcmp_ (h833 a17 0) v833) = 0 then (m_L_law_j1281 sn sc x4_23 h833)
  else (some (.inr (0, h833))))))
  else (some (.inr (0, h833))))))))
  else (if (iand_ (sc x4_23) 31) = 13 then (gd (0 ≤ (w32 (x4_23 + 1)) ∧ (w32 (x4_23 + 1)) < sn) (gd (0 ≤ (w32 (x4_23 + 2)) ∧ (w32 (x4_23 + 2)) < sn) (bW (m_X0_paragraph a0 (sc (w32 (x4_23 + 1))) (sc (w32 (x4_23 + 2))) a17 h_23) fun v882 h882 =>
  gd (0 ≤ (w32 (x4_23 + 1)) ∧ (w32 (x4_23 + 1)) < sn) (gd (0 ≤ (w32 (x4_23 + 2)) ∧ (w32 (x4_23 + 2)) < sn) (bW (m_X18_paragraph a8 (sc (w32 (x4_23 + 1))) (sc (w32 (x4_23 + 2))) h882) fun v900 h900 =>
  (m_X18_thrown a8 h900).bind fun v906 =>
  if v906 = v882 then (if v882 ≠ 0 then (m_L_law_j1281 sn sc x4_23 h900)
  else (gd (h900 a17 (-2) % 16 = 4 ∧ (0 : Int) ≤ 0 ∧ 0 < h900 a17 (-1)) (if (lcmp_ (h900 a17 0) v900) = 0 then (m_L_law_j1281 sn sc x4_23 h900)
  else (some (.inr (0, h900))))))
  else (some (.inr (0, h900))))))))
  else (if (iand_ (sc x4_23) 31) = 14 then (gd (0 ≤ (w32 (x4_23 + 1)) ∧ (w32 (x4_23 + 1)) < sn) (bW (m_X0_judge a0 (sc (w32 (x4_23 + 1))) a17 h_23) fun v943 h943 =>
  gd (0 ≤ (w32 (x4_23 + 1)) ∧ (w32 (x4_23 + 1)) < sn) (bW (m_X18_judge a8 (sc (w32 (x4_23 + 1))) h943) fun v955 h955 =>
  (m_X18_thrown a8 h955).bind fun v961 =>
  if v961 = v943 then (if v943 ≠ 0 then (m_L_law_j1281 sn sc x4_23 h955)
  else (gd (h955 a17 (-2) % 16 = 4 ∧ (0 : Int) ≤ 0 ∧ 0 < h955 a17 (-1)) (if (lcmp_ (h955 a17 0) v955) = 0 then (m_L_law_j1281 sn sc x4_23 h955)
  else (some (.inr (0, h955))))))
  else (some (.inr (0, h955))))))
  else (if (iand_ (sc x4_23) 31) = 15 then (gd (0 ≤ (w32 (x4_23 + 1)) ∧ (w32 (x4_23 + 1)) < sn) (bW (m_X0_where a0 (sc (w32 (x4_23 + 1))) a17 h_23) fun v998 h998 =>
  gd (0 ≤ (w32 (x4_23 + 1)) ∧ (w32 (x4_23 + 1)) < sn) (bW (m_X18_where a8 (sc (w32 (x4_23 + 1))) h998) fun v1010 h1010 =>
  (m_X18_thrown a8 h1010).bind fun v1016 =>
  if v1016 = v998 then (if v998 ≠ 0 then (m_L_law_j1281 sn sc x4_23 h1010)
  else (gd (h1010 a17 (-2) % 16 = 4 ∧ (0 : Int) ≤ 0 ∧ 0 < h1010 a17 (-1)) (if (lcmp_ (h1010 a17 0) v1010) = 0 then (m_L_law_j1281 sn sc x4_23 h1010)
  else (some (.inr (0, h1010))))))
  else (some (.inr (0, h1010))))))
  else (if (iand_ (sc x4_23) 31) = 16 then (gd (0 ≤ (w32 (x4_23 + 1)) ∧ (w32 (x4_23 + 1)) < sn) (gd (0 ≤ (w32 (x4_23 + 2)) ∧ (w32 (x4_23 + 2)) < sn) (bW (m_X0_note a0 (sc (w32 (x4_23 + 1))) (sc (w32 (x4_23 + 2))) a17 h_23) fun v1060 h1060 =>
  gd (0 ≤ (w32 (x4_23 + 1)) ∧ (w32 (x4_23 + 1)) < sn) (gd (0 ≤ (w32 (x4_23 + 2)) ∧ (w32 (x4_23 + 2)) < sn) (bW (m_X18_note a8 (sc (w32 (x4_23 + 1))) (sc (w32 (x4_23 + 2))) h1060) fun v1078 h1078 =>
  (m_X18_thrown a8 h1078).bind fun v1084 =>
  if v1084 = v1060 then (if v1060 ≠ 0 then (m_L_law_j1281 sn sc x4_23 h1078)
  else (gd (h1078 a17 (-2) % 16 = 4 ∧ (0 : Int) ≤ 0 ∧ 0 < h1078 a17 (-1)) (if (lcmp_ (h1078 a17 0) v1078) = 0 then (m_L_law_j1281 sn sc x4_23 h1078)
  else (some (.inr (0, h1078))))))
  else (some (.inr (0, h1078))))))))
  else (if (iand_ (sc x4_23) 31) = 17 then (gd (0 ≤ (w32 (x4_23 + 1)) ∧ (w32 (x4_23 + 1)) < sn) (bW (m_X0_wavering a0 (sc (w32 (x4_23 + 1))) a17 h_23) fun v1122 h1122 =>
  gd (0 ≤ (w32 (x4_23 + 1)) ∧ (w32 (x4_23 + 1)) < sn) (bW (m_X18_wavering a8 (sc (w32 (x4_23 + 1))) h1122) fun v1134 h1134 =>
  (m_X18_thrown a8 h1134).bind fun v1140 =>
  if v1140 = v1122 then (if v1122 ≠ 0 then (m_L_law_j1281 sn sc x4_23 h1134)
  else (gd (h1134 a17 (-2) % 16 = 4 ∧ (0 : Int) ≤ 0 ∧ 0 < h1134 a17 (-1)) (if (lcmp_ (h1134 a17 0) v1134) = 0 then (m_L_law_j1281 sn sc x4_23 h1134)
  else (some (.inr (0, h1134))))))
  else (some (.inr (0, h1134))))))
  else (if (iand_ (sc x4_23) 31) = 18 then (gd (0 ≤ (w32 (x4_23 + 1)) ∧ (w32 (x4_23 + 1)) < sn) (bW (m_X0_print a0 (sc (w32 (x4_23 + 1))) a17 h_23) fun v1178 h1178 =>
  gd (0 ≤ (w32 (x4_23 + 1)) ∧ (w32 (x4_23 + 1)) < sn) (bW (m_X18_print a8 (sc (w32 (x4_23 + 1))) h1178) fun v1190 h1190 =>
  (m_X18_thrown a8 h1190).bind fun v1196 =>
  if v1196 = v1178 then (if v1178 ≠ 0 then (m_L_law_j1281 sn sc x4_23 h1190)
  else (gd (h1190 a17 (-2) % 16 = 4 ∧ (0 : Int) ≤ 0 ∧ 0 < h1190 a17 (-1)) (if (lcmp_ (h1190 a17 0) v1190) = 0 then (m_L_law_j1281 sn sc x4_23 h1190)
  else (some (.inr (0, h1190))))))
  else (some (.inr (0, h1190))))))
  else (if (iand_ (sc x4_23) 31) = 19 then (gd (0 ≤ (w32 (x4_23 + 1)) ∧ (w32 (x4_23 + 1)) < sn) (bW (m_X0_word a0 (sc (w32 (x4_23 + 1))) a17 h_23) fun v1234 h1234 =>
  gd (0 ≤ (w32 (x4_23 + 1)) ∧ (w32 (x4_23 + 1)) < sn) (bW (m_X18_word a8 (sc (w32 (x4_23 + 1))) h1234) fun v1246 h1246 =>
  (m_X18_thrown a8 h1246).bind fun v1252 =>
  if v1252 = v1234 then (if v1234 ≠ 0 then (m_L_law_j1281 sn sc x4_23 h1246)
  else (gd (h1246 a17 (-2) % 16 = 4 ∧ (0 : Int) ≤ 0 ∧ 0 < h1246 a17 (-1)) (if (lcmp_ (h1246 a17 0) v1246) = 0 then (m_L_law_j1281 sn sc x4_23 h1246)
  else (some (.inr (0, h1246))))))
  else (some (.inr (0, h1246))))))
  else (m_L_law_j1281 sn sc x4_23 h_23))))))))))))))))))))))
noncomputable def m_L_law (sn : Int) (sc : Int → Int) (h : Hp) : Option (Int × Hp) :=
  al h 16 23 fun a0 h0 =>
  (m_X1_init a0 h0).bind fun h4 =>
  al h4 304 23 fun a8 h8 =>
  (m_X18_init a8 h8).bind fun h12 =>
  al h12 5700 1 fun a17 h17 =>
  lt_ 0 fun x4_21 =>
  (lp (fun (q : Int × Hp) => m_L_law_l23 sn sc a0 a8 a17 q.1 q.2) (x4_21, h17)).bind (fun (x : Int × Hp) => some x)
theorem s_L_law {l : Launch} [NoTr l] {D : SD} {p : Program} {e : Env} {s : State} {m : MethodId} {args : Array Value} {below : List Frame} {meth : Method} {c : Code} {sn : Int} {sc : Int → Int} {h : Hp} (X : CX D p room_1 s m args meth c h code "ScholarsPressLaw" 8 (some .boolean)) (hS : SC D s sn sc) : G p l e room_1 s m args below meth c D h 8 (FinR D room_1 s below h 3 (fun (v : Int × Hp) => ((0, v.1), v.2))) 0 [(0, rv D (-1))] [] h (m_L_law sn sc h) := by
  unfold m_L_law
  refine r_new (pc := 0) X kX1 q400 (dl_at t_L_law 0 rfl) fun a0 h0 p0 k0 E0 => ?_
  refine g_dup (pc := 3) X rv_cat (dl_at t_L_law 1 rfl) ?_
  refine r_callV (pc := 4) X (fun _ hv => s_X1_init k0 hv) cw_code q404 q355 (in_I X (As := []) (Int.ne_of_gt p0) rfl (Or.inl q402) q403 q404 ⟨by decide, by decide⟩ rfl (dl_at t_L_law 2 rfl)) (dl_at t_L_law 2 rfl) (cat24 (st := [rv D a0]) (Nat.le_of_ble_eq_true rfl)) (Nat.le_of_ble_eq_true rfl) (Nat.le_of_ble_eq_true rfl) fun h4 E4 => ?_
  refine g_astore_nN (pc := 7) X (j := 1) (i := 1) (x := a0) (b := 0) (w := rv D (-1)) (rest := []) rfl (Nat.le_of_ble_eq_true rfl) [0] rfl (by decide) rv_cat rfl (dl_at t_L_law 3 rfl) ?_
  refine r_new (pc := 8) X kX18 q3255 (dl_at t_L_law 4 rfl) fun a8 h8 p8 k8 E8 => ?_
  refine g_dup (pc := 11) X rv_cat (dl_at t_L_law 5 rfl) ?_
  refine r_callV (pc := 12) X (fun _ hv => s_X18_init k8 hv) cw_code q3259 q372 (in_I X (As := []) (Int.ne_of_gt p8) rfl (Or.inl q3257) q3258 q3259 ⟨by decide, by decide⟩ rfl (dl_at t_L_law 6 rfl)) (dl_at t_L_law 6 rfl) (cat24 (st := [rv D a8]) (Nat.le_of_ble_eq_true rfl)) (Nat.le_of_ble_eq_true rfl) (Nat.le_of_ble_eq_true rfl) fun h12 E12 => ?_
  refine g_astore_nN (pc := 15) X (j := 2) (i := 2) (x := a8) (b := 1) (w := rv D a0) (rest := [(0, rv D (-1))]) rfl (Nat.le_of_ble_eq_true rfl) [0, 1] rfl (by decide) rv_cat rfl (dl_at t_L_law 7 rfl) ?_
  refine g_iconst (pc := 16) X (n := 1) (dl_at t_L_law 8 rfl) ?_
  refine r_newa (pc := 17) X 4 356 (Nat.le_of_ble_eq_true rfl) (Nat.le_of_ble_eq_true rfl) rfl q978 (r32_c rfl) rfl (dl_at t_L_law 9 rfl) fun a17 h17 p17 k17 l17 E17 => ?_
  refine g_astore_nN (pc := 19) X (j := 3) (i := 3) (x := a17) (b := 2) (w := rv D a8) (rest := [(1, rv D a0), (0, rv D (-1))]) rfl (Nat.le_of_ble_eq_true rfl) [0, 1, 2] rfl (by decide) rv_cat rfl (dl_at t_L_law 10 rfl) ?_
  refine g_iconst (pc := 20) X (n := 0) (dl_at t_L_law 11 rfl) ?_
  refine g_ltz (Or.inl rfl) fun x4_21 r4_21 => ?_
  refine g_istoreN (pc := 21) X (i := 4) (x := x4_21) (b := 3) (w := rv D a17) (rest := [(2, rv D a8), (1, rv D a0), (0, rv D (-1))]) (Nat.le_of_ble_eq_true rfl) [0, 1, 2, 3] rfl (by decide) rv_cat rfl (dl_at t_L_law 12 rfl) ?_
  refine g_ls (ls2 := [(0, rv D (-1)), (1, rv D a0), (2, rv D a8), (3, rv D a17), (4, iv x4_21)]) [4, 3, 2, 1, 0] rfl ?_
  refine g_loop0F (fun (q : Int × Hp) => [(0, rv D (-1)), (1, rv D a0), (2, rv D a8), (3, rv D a17), (4, iv q.1)]) (fun (q : Int × Hp) => q.2) (fun (q : Int × Hp) => r32 q.1 ∧ Ext h17 q.2) (x4_21, h17) ⟨(r32_z r4_21), (Ext.refl _)⟩ ?_ (fun _ => rfl)
  · rintro ⟨x4_23, h_23⟩ ⟨r4_23, E_23⟩
    try dsimp only
    unfold m_L_law_l23
    refine g_iload (pc := 23) X (i := 4) (q := 4) (x := x4_23) rfl (dl_at t_L_law 13 rfl) ?_
    refine g_aload_n (pc := 25) X (j := 0) (i := 0) (q := 0) (x := (-1)) rfl rfl (dl_at t_L_law 14 rfl) ?_
    refine g_scl (pc := 26) X hS (dl_at t_L_law 15 rfl) ?_
    refine g_bipush (pc := 27) X (n := 6) rfl (dl_at t_L_law 16 rfl) ?_
    refine g_isub (pc := 29) X hS.r (r32_c rfl) (dl_at t_L_law 17 rfl) ?_
    refine g_icmpgt (pc := 30) X r4_23 (r32_w _) (off := 1257) (tgt := 1287) rfl (dl_at t_L_law 18 rfl) (fun _ => ?_) (fun _ => ?_)
    · refine g_iconst (pc := 1287) X (n := 1) (dl_at t_L_law 754 rfl) ?_
      exact g_at fun Q hQ => (g_zret (pc := 1288) X (Or.inr rfl) rfl rfl (dl_at t_L_law 755 rfl)) _ Q rfl hQ
    refine g_aload_n (pc := 33) X (j := 0) (i := 0) (q := 0) (x := (-1)) rfl rfl (dl_at t_L_law 19 rfl) ?_
    refine g_iload (pc := 34) X (i := 4) (q := 4) (x := x4_23) rfl (dl_at t_L_law 20 rfl) ?_
    refine g_gd fun k36 => ?_
    refine g_scA (pc := 36) X hS r4_23 k36 (dl_at t_L_law 21 rfl) ?_
    refine g_bipush (pc := 37) X (n := 31) rfl (dl_at t_L_law 22 rfl) ?_
    refine g_iand (pc := 39) X (dl_at t_L_law 23 rfl) ?_
    refine g_join (γ := Hp) (fun q => Ext h_23 q) 1281 (fun q => [(0, rv D (-1)), (1, rv D a0), (2, rv D a8), (3, rv D a17), (4, iv x4_23)]) (fun q => []) (fun q => q) (fun q => m_L_law_j1281 sn sc x4_23 q) ?_ ?_
    · rintro h_1281 E_1281
      try dsimp only
      unfold m_L_law_j1281
      refine r_iincN (pc := 1281) X (i := 4) (q := 4) (n := 6) (x := x4_23) (b := 3) (w := rv D a17) (rest := [(0, rv D (-1)), (1, rv D a0), (2, rv D a8)]) rfl r4_23 (r32_c rfl) (Nat.le_of_ble_eq_true rfl) [3, 0, 1, 2] rfl (by decide) rv_cat rfl (dl_at t_L_law 752 rfl) fun x4_1281 r4_1281 => ?_
      refine g_goto (pc := 1284) X (off := (-1261)) (tgt := 23) rfl (dl_at t_L_law 753 rfl) ?_
      refine g_ls (ls2 := [(0, rv D (-1)), (1, rv D a0), (2, rv D a8), (3, rv D a17), (4, iv x4_1281)]) [2, 3, 4, 1, 0] rfl ?_
      exact g_at fun Q hQ => hQ ⟨r4_1281, (E_23.trans E_1281)⟩
    intro J1281
    refine g_case (fun w40 => ?_) (fun nw40 => ?_)
    · refine g_tabIn (pc := 40) X (off := 96) (tgt := 136) (r32_iand _ _) w40 (by decide) (by decide) rfl rfl dS_L_law_40 ?_
      refine g_aload_n (pc := 136) X (j := 1) (i := 1) (q := 1) (x := a0) rfl rfl (dl_at t_L_law 24 rfl) ?_
      refine g_aload_n (pc := 137) X (j := 0) (i := 0) (q := 0) (x := (-1)) rfl rfl (dl_at t_L_law 25 rfl) ?_
      refine g_iload (pc := 138) X (i := 4) (q := 4) (x := x4_23) rfl (dl_at t_L_law 26 rfl) ?_
      refine g_iconst (pc := 140) X (n := 1) (dl_at t_L_law 27 rfl) ?_
      refine g_iadd (pc := 141) X r4_23 (r32_c rfl) (dl_at t_L_law 28 rfl) ?_
      refine g_gd fun k142 => ?_
      refine g_scA (pc := 142) X hS (r32_w _) k142 (dl_at t_L_law 29 rfl) ?_
      refine g_aload_n (pc := 143) X (j := 0) (i := 0) (q := 0) (x := (-1)) rfl rfl (dl_at t_L_law 30 rfl) ?_
      refine g_iload (pc := 144) X (i := 4) (q := 4) (x := x4_23) rfl (dl_at t_L_law 31 rfl) ?_
      refine g_iconst (pc := 146) X (n := 2) (dl_at t_L_law 32 rfl) ?_
      refine g_iadd (pc := 147) X r4_23 (r32_c rfl) (dl_at t_L_law 33 rfl) ?_
      refine g_gd fun k148 => ?_
      refine g_scA (pc := 148) X hS (r32_w _) k148 (dl_at t_L_law 34 rfl) ?_
      refine g_aload_n (pc := 149) X (j := 0) (i := 0) (q := 0) (x := (-1)) rfl rfl (dl_at t_L_law 35 rfl) ?_
      refine g_iload (pc := 150) X (i := 4) (q := 4) (x := x4_23) rfl (dl_at t_L_law 36 rfl) ?_
      refine g_iconst (pc := 152) X (n := 3) (dl_at t_L_law 37 rfl) ?_
      refine g_iadd (pc := 153) X r4_23 (r32_c rfl) (dl_at t_L_law 38 rfl) ?_
      refine g_gd fun k154 => ?_
      refine g_scA (pc := 154) X hS (r32_w _) k154 (dl_at t_L_law 39 rfl) ?_
      refine g_aload_n (pc := 155) X (j := 0) (i := 0) (q := 0) (x := (-1)) rfl rfl (dl_at t_L_law 40 rfl) ?_
      refine g_iload (pc := 156) X (i := 4) (q := 4) (x := x4_23) rfl (dl_at t_L_law 41 rfl) ?_
      refine g_iconst (pc := 158) X (n := 4) (dl_at t_L_law 42 rfl) ?_
      refine g_iadd (pc := 159) X r4_23 (r32_c rfl) (dl_at t_L_law 43 rfl) ?_
      refine g_gd fun k160 => ?_
      refine g_scA (pc := 160) X hS (r32_w _) k160 (dl_at t_L_law 44 rfl) ?_
      refine g_aload_n (pc := 161) X (j := 0) (i := 0) (q := 0) (x := (-1)) rfl rfl (dl_at t_L_law 45 rfl) ?_
      refine g_iload (pc := 162) X (i := 4) (q := 4) (x := x4_23) rfl (dl_at t_L_law 46 rfl) ?_
      refine g_iconst (pc := 164) X (n := 5) (dl_at t_L_law 47 rfl) ?_
      refine g_iadd (pc := 165) X r4_23 (r32_c rfl) (dl_at t_L_law 48 rfl) ?_
      refine g_gd fun k166 => ?_
      refine g_scA (pc := 166) X hS (r32_w _) k166 (dl_at t_L_law 49 rfl) ?_
      refine g_aload_n (pc := 167) X (j := 3) (i := 3) (q := 3) (x := a17) rfl rfl (dl_at t_L_law 50 rfl) ?_
      refine r_callWi (pc := 168) X (fun _ hv => s_X0_feed (hS.2.1 _) (hS.2.1 _) (hS.2.1 _) (hS.2.1 _) (hS.2.1 _) hv) cw_with q1564 q354 (in_Sw X (As := [rv D a0, iv (sc (w32 (x4_23 + 1))), iv (sc (w32 (x4_23 + 2))), iv (sc (w32 (x4_23 + 3))), iv (sc (w32 (x4_23 + 4))), iv (sc (w32 (x4_23 + 5))), rv D a17]) (Or.inl q1562) q1563 q354 q1564 ⟨by decide, by decide⟩ rfl (dl_at t_L_law 51 rfl)) (dl_at t_L_law 51 rfl) (cat24 (st := []) (Nat.le_of_ble_eq_true rfl)) (Nat.le_of_ble_eq_true rfl) (Nat.le_of_ble_eq_true rfl) fun v168 h168 g168 E168 => ?_
      refine g_istoreN (pc := 171) X (i := 5) (x := v168) (b := 4) (w := iv x4_23) (rest := [(0, rv D (-1)), (1, rv D a0), (2, rv D a8), (3, rv D a17)]) (Nat.le_of_ble_eq_true rfl) [4, 0, 1, 2, 3] rfl (by decide) rfl rfl (dl_at t_L_law 52 rfl) ?_
      refine g_aload_n (pc := 173) X (j := 2) (i := 2) (q := 4) (x := a8) rfl rfl (dl_at t_L_law 53 rfl) ?_
      refine g_aload_n (pc := 174) X (j := 0) (i := 0) (q := 2) (x := (-1)) rfl rfl (dl_at t_L_law 54 rfl) ?_
      refine g_iload (pc := 175) X (i := 4) (q := 1) (x := x4_23) rfl (dl_at t_L_law 55 rfl) ?_
      refine g_iconst (pc := 177) X (n := 1) (dl_at t_L_law 56 rfl) ?_
      refine g_iadd (pc := 178) X r4_23 (r32_c rfl) (dl_at t_L_law 57 rfl) ?_
      refine g_gd fun k179 => ?_
      refine g_scA (pc := 179) X hS (r32_w _) k179 (dl_at t_L_law 58 rfl) ?_
      refine g_aload_n (pc := 180) X (j := 0) (i := 0) (q := 2) (x := (-1)) rfl rfl (dl_at t_L_law 59 rfl) ?_
      refine g_iload (pc := 181) X (i := 4) (q := 1) (x := x4_23) rfl (dl_at t_L_law 60 rfl) ?_
      refine g_iconst (pc := 183) X (n := 2) (dl_at t_L_law 61 rfl) ?_
      refine g_iadd (pc := 184) X r4_23 (r32_c rfl) (dl_at t_L_law 62 rfl) ?_
      refine g_gd fun k185 => ?_
      refine g_scA (pc := 185) X hS (r32_w _) k185 (dl_at t_L_law 63 rfl) ?_
      refine g_aload_n (pc := 186) X (j := 0) (i := 0) (q := 2) (x := (-1)) rfl rfl (dl_at t_L_law 64 rfl) ?_
      refine g_iload (pc := 187) X (i := 4) (q := 1) (x := x4_23) rfl (dl_at t_L_law 65 rfl) ?_
      refine g_iconst (pc := 189) X (n := 3) (dl_at t_L_law 66 rfl) ?_
      refine g_iadd (pc := 190) X r4_23 (r32_c rfl) (dl_at t_L_law 67 rfl) ?_
      refine g_gd fun k191 => ?_
      refine g_scA (pc := 191) X hS (r32_w _) k191 (dl_at t_L_law 68 rfl) ?_
      refine g_aload_n (pc := 192) X (j := 0) (i := 0) (q := 2) (x := (-1)) rfl rfl (dl_at t_L_law 69 rfl) ?_
      refine g_iload (pc := 193) X (i := 4) (q := 1) (x := x4_23) rfl (dl_at t_L_law 70 rfl) ?_
      refine g_iconst (pc := 195) X (n := 4) (dl_at t_L_law 71 rfl) ?_
      refine g_iadd (pc := 196) X r4_23 (r32_c rfl) (dl_at t_L_law 72 rfl) ?_
      refine g_gd fun k197 => ?_
      refine g_scA (pc := 197) X hS (r32_w _) k197 (dl_at t_L_law 73 rfl) ?_
      refine g_aload_n (pc := 198) X (j := 0) (i := 0) (q := 2) (x := (-1)) rfl rfl (dl_at t_L_law 74 rfl) ?_
      refine g_iload (pc := 199) X (i := 4) (q := 1) (x := x4_23) rfl (dl_at t_L_law 75 rfl) ?_
      refine g_iconst (pc := 201) X (n := 5) (dl_at t_L_law 76 rfl) ?_
      refine g_iadd (pc := 202) X r4_23 (r32_c rfl) (dl_at t_L_law 77 rfl) ?_
      refine g_gd fun k203 => ?_
      refine g_scA (pc := 203) X hS (r32_w _) k203 (dl_at t_L_law 78 rfl) ?_
      have k204 := kx (E12.trans (E17.trans (E_23.trans E168))) (by decide) k8
      refine r_callWi (pc := 204) X (fun _ hv => s_X18_feed k204 (hS.2.1 _) (hS.2.1 _) (hS.2.1 _) (hS.2.1 _) (hS.2.1 _) hv) cw_code q4313 q372 (in_Vk X (As := [iv (sc (w32 (x4_23 + 1))), iv (sc (w32 (x4_23 + 2))), iv (sc (w32 (x4_23 + 3))), iv (sc (w32 (x4_23 + 4))), iv (sc (w32 (x4_23 + 5)))]) kX18 k204 (Or.inl q4310) q4311 q4312 cw_code q4313 ⟨by decide, by decide⟩ rfl (dl_at t_L_law 79 rfl)) (dl_at t_L_law 79 rfl) (cat24 (st := []) (Nat.le_of_ble_eq_true rfl)) (Nat.le_of_ble_eq_true rfl) (Nat.le_of_ble_eq_true rfl) fun v204 h204 g204 E204 => ?_
      refine g_istoreN (pc := 207) X (i := 6) (x := v204) (b := 5) (w := iv v168) (rest := [(4, iv x4_23), (0, rv D (-1)), (1, rv D a0), (2, rv D a8), (3, rv D a17)]) (Nat.le_of_ble_eq_true rfl) [0, 1, 2, 3, 4, 5] rfl (by decide) rfl rfl (dl_at t_L_law 80 rfl) ?_
      refine g_aload_n (pc := 209) X (j := 2) (i := 2) (q := 5) (x := a8) rfl rfl (dl_at t_L_law 81 rfl) ?_
      have k210 := kx E204 (by decide) k204
      refine r_callRi (pc := 210) X (fun _ hv => s_X18_thrown k210 hv) cw_code q4309 q372 (in_Vk X (As := []) kX18 k210 (Or.inl q4306) q4307 q4308 cw_code q4309 ⟨by decide, by decide⟩ rfl (dl_at t_L_law 82 rfl)) (dl_at t_L_law 82 rfl) (cat24 (st := []) (Nat.le_of_ble_eq_true rfl)) (Nat.le_of_ble_eq_true rfl) (Nat.le_of_ble_eq_true rfl) fun v210 g210 => ?_
      refine g_iload (pc := 213) X (i := 5) (q := 1) (x := v168) rfl (dl_at t_L_law 83 rfl) ?_
      refine g_icmpeq (pc := 215) X g210 g168 (off := 5) (tgt := 220) rfl (dl_at t_L_law 84 rfl) (fun _ => ?_) (fun _ => ?_)
      · refine g_iload (pc := 220) X (i := 5) (q := 1) (x := v168) rfl (dl_at t_L_law 87 rfl) ?_
        refine g_ifne (pc := 222) X g168 (off := 15) (tgt := 237) rfl (dl_at t_L_law 88 rfl) (fun _ => ?_) (fun _ => ?_)
        · refine g_goto (pc := 237) X (off := 1044) (tgt := 1281) rfl (dl_at t_L_law 98 rfl) ?_
          refine g_ls (ls2 := [(0, rv D (-1)), (1, rv D a0), (2, rv D a8), (3, rv D a17), (4, iv x4_23)]) [3, 4, 5, 6, 2] rfl ?_
          exact J1281 h204 (E168.trans E204)
        refine g_aload_n (pc := 225) X (j := 3) (i := 3) (q := 6) (x := a17) rfl rfl (dl_at t_L_law 89 rfl) ?_
        refine g_iconst (pc := 226) X (n := 0) (dl_at t_L_law 90 rfl) ?_
        refine g_gd fun k227 => ?_
        refine g_lald (pc := 227) X (r32_c rfl) k227 (dl_at t_L_law 91 rfl) fun g227 => ?_
        refine g_iload (pc := 228) X (i := 6) (q := 0) (x := v204) rfl (dl_at t_L_law 92 rfl) ?_
        refine g_i2l (pc := 230) X g204 (dl_at t_L_law 93 rfl) ?_
        refine g_lcmp (pc := 231) X g227 (r64_of g204) (dl_at t_L_law 94 rfl) ?_
        refine g_ifeq (pc := 232) X (r32_lcmp _ _) (off := 5) (tgt := 237) rfl (dl_at t_L_law 95 rfl) (fun _ => ?_) (fun _ => ?_)
        · refine g_goto (pc := 237) X (off := 1044) (tgt := 1281) rfl (dl_at t_L_law 98 rfl) ?_
          refine g_ls (ls2 := [(0, rv D (-1)), (1, rv D a0), (2, rv D a8), (3, rv D a17), (4, iv x4_23)]) [3, 4, 5, 6, 2] rfl ?_
          exact J1281 h204 (E168.trans E204)
        refine g_iconst (pc := 235) X (n := 0) (dl_at t_L_law 96 rfl) ?_
        exact g_at fun Q hQ => (g_zret (pc := 236) X (Or.inl rfl) rfl rfl (dl_at t_L_law 97 rfl)) _ Q rfl hQ
      refine g_iconst (pc := 218) X (n := 0) (dl_at t_L_law 85 rfl) ?_
      exact g_at fun Q hQ => (g_zret (pc := 219) X (Or.inl rfl) rfl rfl (dl_at t_L_law 86 rfl)) _ Q rfl hQ
    refine g_case (fun w40_1 => ?_) (fun nw40_1 => ?_)
    · refine g_tabIn (pc := 40) X (off := 200) (tgt := 240) (r32_iand _ _) w40_1 (by decide) (by decide) rfl rfl dS_L_law_40 ?_
      refine g_aload_n (pc := 240) X (j := 1) (i := 1) (q := 1) (x := a0) rfl rfl (dl_at t_L_law 99 rfl) ?_
      refine g_aload_n (pc := 241) X (j := 0) (i := 0) (q := 0) (x := (-1)) rfl rfl (dl_at t_L_law 100 rfl) ?_
      refine g_iload (pc := 242) X (i := 4) (q := 4) (x := x4_23) rfl (dl_at t_L_law 101 rfl) ?_
      refine g_iconst (pc := 244) X (n := 1) (dl_at t_L_law 102 rfl) ?_
      refine g_iadd (pc := 245) X r4_23 (r32_c rfl) (dl_at t_L_law 103 rfl) ?_
      refine g_gd fun k246 => ?_
      refine g_scA (pc := 246) X hS (r32_w _) k246 (dl_at t_L_law 104 rfl) ?_
      refine g_aload_n (pc := 247) X (j := 3) (i := 3) (q := 3) (x := a17) rfl rfl (dl_at t_L_law 105 rfl) ?_
      refine r_callWi (pc := 248) X (fun _ hv => s_X0_end (hS.2.1 _) hv) cw_with q1681 q354 (in_Sw X (As := [rv D a0, iv (sc (w32 (x4_23 + 1))), rv D a17]) (Or.inl q1679) q1680 q354 q1681 ⟨by decide, by decide⟩ rfl (dl_at t_L_law 106 rfl)) (dl_at t_L_law 106 rfl) (cat24 (st := []) (Nat.le_of_ble_eq_true rfl)) (Nat.le_of_ble_eq_true rfl) (Nat.le_of_ble_eq_true rfl) fun v248 h248 g248 E248 => ?_
      refine g_istoreN (pc := 251) X (i := 5) (x := v248) (b := 4) (w := iv x4_23) (rest := [(0, rv D (-1)), (1, rv D a0), (2, rv D a8), (3, rv D a17)]) (Nat.le_of_ble_eq_true rfl) [4, 0, 1, 2, 3] rfl (by decide) rfl rfl (dl_at t_L_law 107 rfl) ?_
      refine g_aload_n (pc := 253) X (j := 2) (i := 2) (q := 4) (x := a8) rfl rfl (dl_at t_L_law 108 rfl) ?_
      refine g_aload_n (pc := 254) X (j := 0) (i := 0) (q := 2) (x := (-1)) rfl rfl (dl_at t_L_law 109 rfl) ?_
      refine g_iload (pc := 255) X (i := 4) (q := 1) (x := x4_23) rfl (dl_at t_L_law 110 rfl) ?_
      refine g_iconst (pc := 257) X (n := 1) (dl_at t_L_law 111 rfl) ?_
      refine g_iadd (pc := 258) X r4_23 (r32_c rfl) (dl_at t_L_law 112 rfl) ?_
      refine g_gd fun k259 => ?_
      refine g_scA (pc := 259) X hS (r32_w _) k259 (dl_at t_L_law 113 rfl) ?_
      have k260 := kx (E12.trans (E17.trans (E_23.trans E248))) (by decide) k8
      refine r_callWi (pc := 260) X (fun _ hv => s_X18_end k260 (hS.2.1 _) hv) cw_code q4325 q372 (in_Vk X (As := [iv (sc (w32 (x4_23 + 1)))]) kX18 k260 (Or.inl q4322) q4323 q4324 cw_code q4325 ⟨by decide, by decide⟩ rfl (dl_at t_L_law 114 rfl)) (dl_at t_L_law 114 rfl) (cat24 (st := []) (Nat.le_of_ble_eq_true rfl)) (Nat.le_of_ble_eq_true rfl) (Nat.le_of_ble_eq_true rfl) fun v260 h260 g260 E260 => ?_
      refine g_istoreN (pc := 263) X (i := 6) (x := v260) (b := 5) (w := iv v248) (rest := [(4, iv x4_23), (0, rv D (-1)), (1, rv D a0), (2, rv D a8), (3, rv D a17)]) (Nat.le_of_ble_eq_true rfl) [0, 1, 2, 3, 4, 5] rfl (by decide) rfl rfl (dl_at t_L_law 115 rfl) ?_
      refine g_aload_n (pc := 265) X (j := 2) (i := 2) (q := 5) (x := a8) rfl rfl (dl_at t_L_law 116 rfl) ?_
      have k266 := kx E260 (by decide) k260
      refine r_callRi (pc := 266) X (fun _ hv => s_X18_thrown k266 hv) cw_code q4309 q372 (in_Vk X (As := []) kX18 k266 (Or.inl q4306) q4307 q4308 cw_code q4309 ⟨by decide, by decide⟩ rfl (dl_at t_L_law 117 rfl)) (dl_at t_L_law 117 rfl) (cat24 (st := []) (Nat.le_of_ble_eq_true rfl)) (Nat.le_of_ble_eq_true rfl) (Nat.le_of_ble_eq_true rfl) fun v266 g266 => ?_
      refine g_iload (pc := 269) X (i := 5) (q := 1) (x := v248) rfl (dl_at t_L_law 118 rfl) ?_
      refine g_icmpeq (pc := 271) X g266 g248 (off := 5) (tgt := 276) rfl (dl_at t_L_law 119 rfl) (fun _ => ?_) (fun _ => ?_)
      · refine g_iload (pc := 276) X (i := 5) (q := 1) (x := v248) rfl (dl_at t_L_law 122 rfl) ?_
        refine g_ifne (pc := 278) X g248 (off := 15) (tgt := 293) rfl (dl_at t_L_law 123 rfl) (fun _ => ?_) (fun _ => ?_)
        · refine g_goto (pc := 293) X (off := 988) (tgt := 1281) rfl (dl_at t_L_law 133 rfl) ?_
          refine g_ls (ls2 := [(0, rv D (-1)), (1, rv D a0), (2, rv D a8), (3, rv D a17), (4, iv x4_23)]) [3, 4, 5, 6, 2] rfl ?_
          exact J1281 h260 (E248.trans E260)
        refine g_aload_n (pc := 281) X (j := 3) (i := 3) (q := 6) (x := a17) rfl rfl (dl_at t_L_law 124 rfl) ?_
        refine g_iconst (pc := 282) X (n := 0) (dl_at t_L_law 125 rfl) ?_
        refine g_gd fun k283 => ?_
        refine g_lald (pc := 283) X (r32_c rfl) k283 (dl_at t_L_law 126 rfl) fun g283 => ?_
        refine g_iload (pc := 284) X (i := 6) (q := 0) (x := v260) rfl (dl_at t_L_law 127 rfl) ?_
        refine g_i2l (pc := 286) X g260 (dl_at t_L_law 128 rfl) ?_
        refine g_lcmp (pc := 287) X g283 (r64_of g260) (dl_at t_L_law 129 rfl) ?_
        refine g_ifeq (pc := 288) X (r32_lcmp _ _) (off := 5) (tgt := 293) rfl (dl_at t_L_law 130 rfl) (fun _ => ?_) (fun _ => ?_)
        · refine g_goto (pc := 293) X (off := 988) (tgt := 1281) rfl (dl_at t_L_law 133 rfl) ?_
          refine g_ls (ls2 := [(0, rv D (-1)), (1, rv D a0), (2, rv D a8), (3, rv D a17), (4, iv x4_23)]) [3, 4, 5, 6, 2] rfl ?_
          exact J1281 h260 (E248.trans E260)
        refine g_iconst (pc := 291) X (n := 0) (dl_at t_L_law 131 rfl) ?_
        exact g_at fun Q hQ => (g_zret (pc := 292) X (Or.inl rfl) rfl rfl (dl_at t_L_law 132 rfl)) _ Q rfl hQ
      refine g_iconst (pc := 274) X (n := 0) (dl_at t_L_law 120 rfl) ?_
      exact g_at fun Q hQ => (g_zret (pc := 275) X (Or.inl rfl) rfl rfl (dl_at t_L_law 121 rfl)) _ Q rfl hQ
    refine g_case (fun w40_2 => ?_) (fun nw40_2 => ?_)
    · refine g_tabIn (pc := 40) X (off := 256) (tgt := 296) (r32_iand _ _) w40_2 (by decide) (by decide) rfl rfl dS_L_law_40 ?_
      refine g_aload_n (pc := 296) X (j := 1) (i := 1) (q := 1) (x := a0) rfl rfl (dl_at t_L_law 134 rfl) ?_
      refine g_aload_n (pc := 297) X (j := 3) (i := 3) (q := 3) (x := a17) rfl rfl (dl_at t_L_law 135 rfl) ?_
      refine r_callWi (pc := 298) X (fun _ hv => s_X0_font hv) cw_with q1707 q354 (in_Sw X (As := [rv D a0, rv D a17]) (Or.inl q1705) q1706 q354 q1707 ⟨by decide, by decide⟩ rfl (dl_at t_L_law 136 rfl)) (dl_at t_L_law 136 rfl) (cat24 (st := []) (Nat.le_of_ble_eq_true rfl)) (Nat.le_of_ble_eq_true rfl) (Nat.le_of_ble_eq_true rfl) fun v298 h298 g298 E298 => ?_
      refine g_istoreN (pc := 301) X (i := 5) (x := v298) (b := 4) (w := iv x4_23) (rest := [(0, rv D (-1)), (1, rv D a0), (2, rv D a8), (3, rv D a17)]) (Nat.le_of_ble_eq_true rfl) [4, 0, 1, 2, 3] rfl (by decide) rfl rfl (dl_at t_L_law 137 rfl) ?_
      refine g_aload_n (pc := 303) X (j := 2) (i := 2) (q := 4) (x := a8) rfl rfl (dl_at t_L_law 138 rfl) ?_
      have k304 := kx (E12.trans (E17.trans (E_23.trans E298))) (by decide) k8
      refine r_callWi (pc := 304) X (fun _ hv => s_X18_font k304 hv) cw_with q4329 q372 (in_Vk X (As := []) kX18 k304 (Or.inl q4326) q4327 q4328 cw_with q4329 ⟨by decide, by decide⟩ rfl (dl_at t_L_law 139 rfl)) (dl_at t_L_law 139 rfl) (cat24 (st := []) (Nat.le_of_ble_eq_true rfl)) (Nat.le_of_ble_eq_true rfl) (Nat.le_of_ble_eq_true rfl) fun v304 h304 g304 E304 => ?_
      refine g_istoreN (pc := 307) X (i := 6) (x := v304) (b := 5) (w := iv v298) (rest := [(4, iv x4_23), (0, rv D (-1)), (1, rv D a0), (2, rv D a8), (3, rv D a17)]) (Nat.le_of_ble_eq_true rfl) [0, 1, 2, 3, 4, 5] rfl (by decide) rfl rfl (dl_at t_L_law 140 rfl) ?_
      refine g_aload_n (pc := 309) X (j := 2) (i := 2) (q := 5) (x := a8) rfl rfl (dl_at t_L_law 141 rfl) ?_
      have k310 := kx E304 (by decide) k304
      refine r_callRi (pc := 310) X (fun _ hv => s_X18_thrown k310 hv) cw_code q4309 q372 (in_Vk X (As := []) kX18 k310 (Or.inl q4306) q4307 q4308 cw_code q4309 ⟨by decide, by decide⟩ rfl (dl_at t_L_law 142 rfl)) (dl_at t_L_law 142 rfl) (cat24 (st := []) (Nat.le_of_ble_eq_true rfl)) (Nat.le_of_ble_eq_true rfl) (Nat.le_of_ble_eq_true rfl) fun v310 g310 => ?_
      refine g_iload (pc := 313) X (i := 5) (q := 1) (x := v298) rfl (dl_at t_L_law 143 rfl) ?_
      refine g_icmpeq (pc := 315) X g310 g298 (off := 5) (tgt := 320) rfl (dl_at t_L_law 144 rfl) (fun _ => ?_) (fun _ => ?_)
      · refine g_iload (pc := 320) X (i := 5) (q := 1) (x := v298) rfl (dl_at t_L_law 147 rfl) ?_
        refine g_ifne (pc := 322) X g298 (off := 15) (tgt := 337) rfl (dl_at t_L_law 148 rfl) (fun _ => ?_) (fun _ => ?_)
        · refine g_goto (pc := 337) X (off := 944) (tgt := 1281) rfl (dl_at t_L_law 158 rfl) ?_
          refine g_ls (ls2 := [(0, rv D (-1)), (1, rv D a0), (2, rv D a8), (3, rv D a17), (4, iv x4_23)]) [3, 4, 5, 6, 2] rfl ?_
          exact J1281 h304 (E298.trans E304)
        refine g_aload_n (pc := 325) X (j := 3) (i := 3) (q := 6) (x := a17) rfl rfl (dl_at t_L_law 149 rfl) ?_
        refine g_iconst (pc := 326) X (n := 0) (dl_at t_L_law 150 rfl) ?_
        refine g_gd fun k327 => ?_
        refine g_lald (pc := 327) X (r32_c rfl) k327 (dl_at t_L_law 151 rfl) fun g327 => ?_
        refine g_iload (pc := 328) X (i := 6) (q := 0) (x := v304) rfl (dl_at t_L_law 152 rfl) ?_
        refine g_i2l (pc := 330) X g304 (dl_at t_L_law 153 rfl) ?_
        refine g_lcmp (pc := 331) X g327 (r64_of g304) (dl_at t_L_law 154 rfl) ?_
        refine g_ifeq (pc := 332) X (r32_lcmp _ _) (off := 5) (tgt := 337) rfl (dl_at t_L_law 155 rfl) (fun _ => ?_) (fun _ => ?_)
        · refine g_goto (pc := 337) X (off := 944) (tgt := 1281) rfl (dl_at t_L_law 158 rfl) ?_
          refine g_ls (ls2 := [(0, rv D (-1)), (1, rv D a0), (2, rv D a8), (3, rv D a17), (4, iv x4_23)]) [3, 4, 5, 6, 2] rfl ?_
          exact J1281 h304 (E298.trans E304)
        refine g_iconst (pc := 335) X (n := 0) (dl_at t_L_law 156 rfl) ?_
        exact g_at fun Q hQ => (g_zret (pc := 336) X (Or.inl rfl) rfl rfl (dl_at t_L_law 157 rfl)) _ Q rfl hQ
      refine g_iconst (pc := 318) X (n := 0) (dl_at t_L_law 145 rfl) ?_
      exact g_at fun Q hQ => (g_zret (pc := 319) X (Or.inl rfl) rfl rfl (dl_at t_L_law 146 rfl)) _ Q rfl hQ
    refine g_case (fun w40_3 => ?_) (fun nw40_3 => ?_)
    · refine g_tabIn (pc := 40) X (off := 300) (tgt := 340) (r32_iand _ _) w40_3 (by decide) (by decide) rfl rfl dS_L_law_40 ?_
      refine g_aload_n (pc := 340) X (j := 1) (i := 1) (q := 1) (x := a0) rfl rfl (dl_at t_L_law 159 rfl) ?_
      refine g_aload_n (pc := 341) X (j := 3) (i := 3) (q := 3) (x := a17) rfl rfl (dl_at t_L_law 160 rfl) ?_
      refine r_callWi (pc := 342) X (fun _ hv => s_X0_hyphens hv) cw_with q1899 q354 (in_Sw X (As := [rv D a0, rv D a17]) (Or.inl q1897) q1898 q354 q1899 ⟨by decide, by decide⟩ rfl (dl_at t_L_law 161 rfl)) (dl_at t_L_law 161 rfl) (cat24 (st := []) (Nat.le_of_ble_eq_true rfl)) (Nat.le_of_ble_eq_true rfl) (Nat.le_of_ble_eq_true rfl) fun v342 h342 g342 E342 => ?_
      refine g_istoreN (pc := 345) X (i := 5) (x := v342) (b := 4) (w := iv x4_23) (rest := [(0, rv D (-1)), (1, rv D a0), (2, rv D a8), (3, rv D a17)]) (Nat.le_of_ble_eq_true rfl) [4, 0, 1, 2, 3] rfl (by decide) rfl rfl (dl_at t_L_law 162 rfl) ?_
      refine g_aload_n (pc := 347) X (j := 2) (i := 2) (q := 4) (x := a8) rfl rfl (dl_at t_L_law 163 rfl) ?_
      have k348 := kx (E12.trans (E17.trans (E_23.trans E342))) (by decide) k8
      refine r_callWi (pc := 348) X (fun _ hv => s_X18_hyphens k348 hv) cw_with q4443 q372 (in_Vk X (As := []) kX18 k348 (Or.inl q4440) q4441 q4442 cw_with q4443 ⟨by decide, by decide⟩ rfl (dl_at t_L_law 164 rfl)) (dl_at t_L_law 164 rfl) (cat24 (st := []) (Nat.le_of_ble_eq_true rfl)) (Nat.le_of_ble_eq_true rfl) (Nat.le_of_ble_eq_true rfl) fun v348 h348 g348 E348 => ?_
      refine g_istoreN (pc := 351) X (i := 6) (x := v348) (b := 5) (w := iv v342) (rest := [(4, iv x4_23), (0, rv D (-1)), (1, rv D a0), (2, rv D a8), (3, rv D a17)]) (Nat.le_of_ble_eq_true rfl) [0, 1, 2, 3, 4, 5] rfl (by decide) rfl rfl (dl_at t_L_law 165 rfl) ?_
      refine g_aload_n (pc := 353) X (j := 2) (i := 2) (q := 5) (x := a8) rfl rfl (dl_at t_L_law 166 rfl) ?_
      have k354 := kx E348 (by decide) k348
      refine r_callRi (pc := 354) X (fun _ hv => s_X18_thrown k354 hv) cw_code q4309 q372 (in_Vk X (As := []) kX18 k354 (Or.inl q4306) q4307 q4308 cw_code q4309 ⟨by decide, by decide⟩ rfl (dl_at t_L_law 167 rfl)) (dl_at t_L_law 167 rfl) (cat24 (st := []) (Nat.le_of_ble_eq_true rfl)) (Nat.le_of_ble_eq_true rfl) (Nat.le_of_ble_eq_true rfl) fun v354 g354 => ?_
      refine g_iload (pc := 357) X (i := 5) (q := 1) (x := v342) rfl (dl_at t_L_law 168 rfl) ?_
      refine g_icmpeq (pc := 359) X g354 g342 (off := 5) (tgt := 364) rfl (dl_at t_L_law 169 rfl) (fun _ => ?_) (fun _ => ?_)
      · refine g_iload (pc := 364) X (i := 5) (q := 1) (x := v342) rfl (dl_at t_L_law 172 rfl) ?_
        refine g_ifne (pc := 366) X g342 (off := 15) (tgt := 381) rfl (dl_at t_L_law 173 rfl) (fun _ => ?_) (fun _ => ?_)
        · refine g_goto (pc := 381) X (off := 900) (tgt := 1281) rfl (dl_at t_L_law 183 rfl) ?_
          refine g_ls (ls2 := [(0, rv D (-1)), (1, rv D a0), (2, rv D a8), (3, rv D a17), (4, iv x4_23)]) [3, 4, 5, 6, 2] rfl ?_
          exact J1281 h348 (E342.trans E348)
        refine g_aload_n (pc := 369) X (j := 3) (i := 3) (q := 6) (x := a17) rfl rfl (dl_at t_L_law 174 rfl) ?_
        refine g_iconst (pc := 370) X (n := 0) (dl_at t_L_law 175 rfl) ?_
        refine g_gd fun k371 => ?_
        refine g_lald (pc := 371) X (r32_c rfl) k371 (dl_at t_L_law 176 rfl) fun g371 => ?_
        refine g_iload (pc := 372) X (i := 6) (q := 0) (x := v348) rfl (dl_at t_L_law 177 rfl) ?_
        refine g_i2l (pc := 374) X g348 (dl_at t_L_law 178 rfl) ?_
        refine g_lcmp (pc := 375) X g371 (r64_of g348) (dl_at t_L_law 179 rfl) ?_
        refine g_ifeq (pc := 376) X (r32_lcmp _ _) (off := 5) (tgt := 381) rfl (dl_at t_L_law 180 rfl) (fun _ => ?_) (fun _ => ?_)
        · refine g_goto (pc := 381) X (off := 900) (tgt := 1281) rfl (dl_at t_L_law 183 rfl) ?_
          refine g_ls (ls2 := [(0, rv D (-1)), (1, rv D a0), (2, rv D a8), (3, rv D a17), (4, iv x4_23)]) [3, 4, 5, 6, 2] rfl ?_
          exact J1281 h348 (E342.trans E348)
        refine g_iconst (pc := 379) X (n := 0) (dl_at t_L_law 181 rfl) ?_
        exact g_at fun Q hQ => (g_zret (pc := 380) X (Or.inl rfl) rfl rfl (dl_at t_L_law 182 rfl)) _ Q rfl hQ
      refine g_iconst (pc := 362) X (n := 0) (dl_at t_L_law 170 rfl) ?_
      exact g_at fun Q hQ => (g_zret (pc := 363) X (Or.inl rfl) rfl rfl (dl_at t_L_law 171 rfl)) _ Q rfl hQ
    refine g_case (fun w40_4 => ?_) (fun nw40_4 => ?_)
    · refine g_tabIn (pc := 40) X (off := 344) (tgt := 384) (r32_iand _ _) w40_4 (by decide) (by decide) rfl rfl dS_L_law_40 ?_
      refine g_aload_n (pc := 384) X (j := 1) (i := 1) (q := 1) (x := a0) rfl rfl (dl_at t_L_law 184 rfl) ?_
      refine g_aload_n (pc := 385) X (j := 3) (i := 3) (q := 3) (x := a17) rfl rfl (dl_at t_L_law 185 rfl) ?_
      refine r_callWi (pc := 386) X (fun _ hv => s_X0_style hv) cw_with q1953 q354 (in_Sw X (As := [rv D a0, rv D a17]) (Or.inl q1951) q1952 q354 q1953 ⟨by decide, by decide⟩ rfl (dl_at t_L_law 186 rfl)) (dl_at t_L_law 186 rfl) (cat24 (st := []) (Nat.le_of_ble_eq_true rfl)) (Nat.le_of_ble_eq_true rfl) (Nat.le_of_ble_eq_true rfl) fun v386 h386 g386 E386 => ?_
      refine g_istoreN (pc := 389) X (i := 5) (x := v386) (b := 4) (w := iv x4_23) (rest := [(0, rv D (-1)), (1, rv D a0), (2, rv D a8), (3, rv D a17)]) (Nat.le_of_ble_eq_true rfl) [4, 0, 1, 2, 3] rfl (by decide) rfl rfl (dl_at t_L_law 187 rfl) ?_
      refine g_aload_n (pc := 391) X (j := 2) (i := 2) (q := 4) (x := a8) rfl rfl (dl_at t_L_law 188 rfl) ?_
      have k392 := kx (E12.trans (E17.trans (E_23.trans E386))) (by decide) k8
      refine r_callWi (pc := 392) X (fun _ hv => s_X18_style k392 hv) cw_with q4473 q372 (in_Vk X (As := []) kX18 k392 (Or.inl q4470) q4471 q4472 cw_with q4473 ⟨by decide, by decide⟩ rfl (dl_at t_L_law 189 rfl)) (dl_at t_L_law 189 rfl) (cat24 (st := []) (Nat.le_of_ble_eq_true rfl)) (Nat.le_of_ble_eq_true rfl) (Nat.le_of_ble_eq_true rfl) fun v392 h392 g392 E392 => ?_
      refine g_istoreN (pc := 395) X (i := 6) (x := v392) (b := 5) (w := iv v386) (rest := [(4, iv x4_23), (0, rv D (-1)), (1, rv D a0), (2, rv D a8), (3, rv D a17)]) (Nat.le_of_ble_eq_true rfl) [0, 1, 2, 3, 4, 5] rfl (by decide) rfl rfl (dl_at t_L_law 190 rfl) ?_
      refine g_aload_n (pc := 397) X (j := 2) (i := 2) (q := 5) (x := a8) rfl rfl (dl_at t_L_law 191 rfl) ?_
      have k398 := kx E392 (by decide) k392
      refine r_callRi (pc := 398) X (fun _ hv => s_X18_thrown k398 hv) cw_code q4309 q372 (in_Vk X (As := []) kX18 k398 (Or.inl q4306) q4307 q4308 cw_code q4309 ⟨by decide, by decide⟩ rfl (dl_at t_L_law 192 rfl)) (dl_at t_L_law 192 rfl) (cat24 (st := []) (Nat.le_of_ble_eq_true rfl)) (Nat.le_of_ble_eq_true rfl) (Nat.le_of_ble_eq_true rfl) fun v398 g398 => ?_
      refine g_iload (pc := 401) X (i := 5) (q := 1) (x := v386) rfl (dl_at t_L_law 193 rfl) ?_
      refine g_icmpeq (pc := 403) X g398 g386 (off := 5) (tgt := 408) rfl (dl_at t_L_law 194 rfl) (fun _ => ?_) (fun _ => ?_)
      · refine g_iload (pc := 408) X (i := 5) (q := 1) (x := v386) rfl (dl_at t_L_law 197 rfl) ?_
        refine g_ifne (pc := 410) X g386 (off := 15) (tgt := 425) rfl (dl_at t_L_law 198 rfl) (fun _ => ?_) (fun _ => ?_)
        · refine g_goto (pc := 425) X (off := 856) (tgt := 1281) rfl (dl_at t_L_law 208 rfl) ?_
          refine g_ls (ls2 := [(0, rv D (-1)), (1, rv D a0), (2, rv D a8), (3, rv D a17), (4, iv x4_23)]) [3, 4, 5, 6, 2] rfl ?_
          exact J1281 h392 (E386.trans E392)
        refine g_aload_n (pc := 413) X (j := 3) (i := 3) (q := 6) (x := a17) rfl rfl (dl_at t_L_law 199 rfl) ?_
        refine g_iconst (pc := 414) X (n := 0) (dl_at t_L_law 200 rfl) ?_
        refine g_gd fun k415 => ?_
        refine g_lald (pc := 415) X (r32_c rfl) k415 (dl_at t_L_law 201 rfl) fun g415 => ?_
        refine g_iload (pc := 416) X (i := 6) (q := 0) (x := v392) rfl (dl_at t_L_law 202 rfl) ?_
        refine g_i2l (pc := 418) X g392 (dl_at t_L_law 203 rfl) ?_
        refine g_lcmp (pc := 419) X g415 (r64_of g392) (dl_at t_L_law 204 rfl) ?_
        refine g_ifeq (pc := 420) X (r32_lcmp _ _) (off := 5) (tgt := 425) rfl (dl_at t_L_law 205 rfl) (fun _ => ?_) (fun _ => ?_)
        · refine g_goto (pc := 425) X (off := 856) (tgt := 1281) rfl (dl_at t_L_law 208 rfl) ?_
          refine g_ls (ls2 := [(0, rv D (-1)), (1, rv D a0), (2, rv D a8), (3, rv D a17), (4, iv x4_23)]) [3, 4, 5, 6, 2] rfl ?_
          exact J1281 h392 (E386.trans E392)
        refine g_iconst (pc := 423) X (n := 0) (dl_at t_L_law 206 rfl) ?_
        exact g_at fun Q hQ => (g_zret (pc := 424) X (Or.inl rfl) rfl rfl (dl_at t_L_law 207 rfl)) _ Q rfl hQ
      refine g_iconst (pc := 406) X (n := 0) (dl_at t_L_law 195 rfl) ?_
      exact g_at fun Q hQ => (g_zret (pc := 407) X (Or.inl rfl) rfl rfl (dl_at t_L_law 196 rfl)) _ Q rfl hQ
    refine g_case (fun w40_5 => ?_) (fun nw40_5 => ?_)
    · refine g_tabIn (pc := 40) X (off := 388) (tgt := 428) (r32_iand _ _) w40_5 (by decide) (by decide) rfl rfl dS_L_law_40 ?_
      refine g_aload_n (pc := 428) X (j := 1) (i := 1) (q := 1) (x := a0) rfl rfl (dl_at t_L_law 209 rfl) ?_
      refine g_aload_n (pc := 429) X (j := 3) (i := 3) (q := 3) (x := a17) rfl rfl (dl_at t_L_law 210 rfl) ?_
      refine r_callWi (pc := 430) X (fun _ hv => s_X0_source hv) cw_with q2122 q354 (in_Sw X (As := [rv D a0, rv D a17]) (Or.inl q2120) q2121 q354 q2122 ⟨by decide, by decide⟩ rfl (dl_at t_L_law 211 rfl)) (dl_at t_L_law 211 rfl) (cat24 (st := []) (Nat.le_of_ble_eq_true rfl)) (Nat.le_of_ble_eq_true rfl) (Nat.le_of_ble_eq_true rfl) fun v430 h430 g430 E430 => ?_
      refine g_istoreN (pc := 433) X (i := 5) (x := v430) (b := 4) (w := iv x4_23) (rest := [(0, rv D (-1)), (1, rv D a0), (2, rv D a8), (3, rv D a17)]) (Nat.le_of_ble_eq_true rfl) [4, 0, 1, 2, 3] rfl (by decide) rfl rfl (dl_at t_L_law 212 rfl) ?_
      refine g_aload_n (pc := 435) X (j := 2) (i := 2) (q := 4) (x := a8) rfl rfl (dl_at t_L_law 213 rfl) ?_
      have k436 := kx (E12.trans (E17.trans (E_23.trans E430))) (by decide) k8
      refine r_callWi (pc := 436) X (fun _ hv => s_X18_source k436 hv) cw_with q4562 q372 (in_Vk X (As := []) kX18 k436 (Or.inl q4559) q4560 q4561 cw_with q4562 ⟨by decide, by decide⟩ rfl (dl_at t_L_law 214 rfl)) (dl_at t_L_law 214 rfl) (cat24 (st := []) (Nat.le_of_ble_eq_true rfl)) (Nat.le_of_ble_eq_true rfl) (Nat.le_of_ble_eq_true rfl) fun v436 h436 g436 E436 => ?_
      refine g_istoreN (pc := 439) X (i := 6) (x := v436) (b := 5) (w := iv v430) (rest := [(4, iv x4_23), (0, rv D (-1)), (1, rv D a0), (2, rv D a8), (3, rv D a17)]) (Nat.le_of_ble_eq_true rfl) [0, 1, 2, 3, 4, 5] rfl (by decide) rfl rfl (dl_at t_L_law 215 rfl) ?_
      refine g_aload_n (pc := 441) X (j := 2) (i := 2) (q := 5) (x := a8) rfl rfl (dl_at t_L_law 216 rfl) ?_
      have k442 := kx E436 (by decide) k436
      refine r_callRi (pc := 442) X (fun _ hv => s_X18_thrown k442 hv) cw_code q4309 q372 (in_Vk X (As := []) kX18 k442 (Or.inl q4306) q4307 q4308 cw_code q4309 ⟨by decide, by decide⟩ rfl (dl_at t_L_law 217 rfl)) (dl_at t_L_law 217 rfl) (cat24 (st := []) (Nat.le_of_ble_eq_true rfl)) (Nat.le_of_ble_eq_true rfl) (Nat.le_of_ble_eq_true rfl) fun v442 g442 => ?_
      refine g_iload (pc := 445) X (i := 5) (q := 1) (x := v430) rfl (dl_at t_L_law 218 rfl) ?_
      refine g_icmpeq (pc := 447) X g442 g430 (off := 5) (tgt := 452) rfl (dl_at t_L_law 219 rfl) (fun _ => ?_) (fun _ => ?_)
      · refine g_iload (pc := 452) X (i := 5) (q := 1) (x := v430) rfl (dl_at t_L_law 222 rfl) ?_
        refine g_ifne (pc := 454) X g430 (off := 15) (tgt := 469) rfl (dl_at t_L_law 223 rfl) (fun _ => ?_) (fun _ => ?_)
        · refine g_goto (pc := 469) X (off := 812) (tgt := 1281) rfl (dl_at t_L_law 233 rfl) ?_
          refine g_ls (ls2 := [(0, rv D (-1)), (1, rv D a0), (2, rv D a8), (3, rv D a17), (4, iv x4_23)]) [3, 4, 5, 6, 2] rfl ?_
          exact J1281 h436 (E430.trans E436)
        refine g_aload_n (pc := 457) X (j := 3) (i := 3) (q := 6) (x := a17) rfl rfl (dl_at t_L_law 224 rfl) ?_
        refine g_iconst (pc := 458) X (n := 0) (dl_at t_L_law 225 rfl) ?_
        refine g_gd fun k459 => ?_
        refine g_lald (pc := 459) X (r32_c rfl) k459 (dl_at t_L_law 226 rfl) fun g459 => ?_
        refine g_iload (pc := 460) X (i := 6) (q := 0) (x := v436) rfl (dl_at t_L_law 227 rfl) ?_
        refine g_i2l (pc := 462) X g436 (dl_at t_L_law 228 rfl) ?_
        refine g_lcmp (pc := 463) X g459 (r64_of g436) (dl_at t_L_law 229 rfl) ?_
        refine g_ifeq (pc := 464) X (r32_lcmp _ _) (off := 5) (tgt := 469) rfl (dl_at t_L_law 230 rfl) (fun _ => ?_) (fun _ => ?_)
        · refine g_goto (pc := 469) X (off := 812) (tgt := 1281) rfl (dl_at t_L_law 233 rfl) ?_
          refine g_ls (ls2 := [(0, rv D (-1)), (1, rv D a0), (2, rv D a8), (3, rv D a17), (4, iv x4_23)]) [3, 4, 5, 6, 2] rfl ?_
          exact J1281 h436 (E430.trans E436)
        refine g_iconst (pc := 467) X (n := 0) (dl_at t_L_law 231 rfl) ?_
        exact g_at fun Q hQ => (g_zret (pc := 468) X (Or.inl rfl) rfl rfl (dl_at t_L_law 232 rfl)) _ Q rfl hQ
      refine g_iconst (pc := 450) X (n := 0) (dl_at t_L_law 220 rfl) ?_
      exact g_at fun Q hQ => (g_zret (pc := 451) X (Or.inl rfl) rfl rfl (dl_at t_L_law 221 rfl)) _ Q rfl hQ
    refine g_case (fun w40_6 => ?_) (fun nw40_6 => ?_)
    · refine g_tabIn (pc := 40) X (off := 432) (tgt := 472) (r32_iand _ _) w40_6 (by decide) (by decide) rfl rfl dS_L_law_40 ?_
      refine g_aload_n (pc := 472) X (j := 1) (i := 1) (q := 1) (x := a0) rfl rfl (dl_at t_L_law 234 rfl) ?_
      refine g_aload_n (pc := 473) X (j := 0) (i := 0) (q := 0) (x := (-1)) rfl rfl (dl_at t_L_law 235 rfl) ?_
      refine g_iload (pc := 474) X (i := 4) (q := 4) (x := x4_23) rfl (dl_at t_L_law 236 rfl) ?_
      refine g_iconst (pc := 476) X (n := 1) (dl_at t_L_law 237 rfl) ?_
      refine g_iadd (pc := 477) X r4_23 (r32_c rfl) (dl_at t_L_law 238 rfl) ?_
      refine g_gd fun k478 => ?_
      refine g_scA (pc := 478) X hS (r32_w _) k478 (dl_at t_L_law 239 rfl) ?_
      refine g_aload_n (pc := 479) X (j := 0) (i := 0) (q := 0) (x := (-1)) rfl rfl (dl_at t_L_law 240 rfl) ?_
      refine g_iload (pc := 480) X (i := 4) (q := 4) (x := x4_23) rfl (dl_at t_L_law 241 rfl) ?_
      refine g_iconst (pc := 482) X (n := 2) (dl_at t_L_law 242 rfl) ?_
      refine g_iadd (pc := 483) X r4_23 (r32_c rfl) (dl_at t_L_law 243 rfl) ?_
      refine g_gd fun k484 => ?_
      refine g_scA (pc := 484) X hS (r32_w _) k484 (dl_at t_L_law 244 rfl) ?_
      refine g_aload_n (pc := 485) X (j := 3) (i := 3) (q := 3) (x := a17) rfl rfl (dl_at t_L_law 245 rfl) ?_
      refine r_callWi (pc := 486) X (fun _ hv => s_X0_change (hS.2.1 _) (hS.2.1 _) hv) cw_with q2236 q354 (in_Sw X (As := [rv D a0, iv (sc (w32 (x4_23 + 1))), iv (sc (w32 (x4_23 + 2))), rv D a17]) (Or.inl q2234) q2235 q354 q2236 ⟨by decide, by decide⟩ rfl (dl_at t_L_law 246 rfl)) (dl_at t_L_law 246 rfl) (cat24 (st := []) (Nat.le_of_ble_eq_true rfl)) (Nat.le_of_ble_eq_true rfl) (Nat.le_of_ble_eq_true rfl) fun v486 h486 g486 E486 => ?_
      refine g_istoreN (pc := 489) X (i := 5) (x := v486) (b := 4) (w := iv x4_23) (rest := [(0, rv D (-1)), (1, rv D a0), (2, rv D a8), (3, rv D a17)]) (Nat.le_of_ble_eq_true rfl) [4, 0, 1, 2, 3] rfl (by decide) rfl rfl (dl_at t_L_law 247 rfl) ?_
      refine g_aload_n (pc := 491) X (j := 2) (i := 2) (q := 4) (x := a8) rfl rfl (dl_at t_L_law 248 rfl) ?_
      refine g_aload_n (pc := 492) X (j := 0) (i := 0) (q := 2) (x := (-1)) rfl rfl (dl_at t_L_law 249 rfl) ?_
      refine g_iload (pc := 493) X (i := 4) (q := 1) (x := x4_23) rfl (dl_at t_L_law 250 rfl) ?_
      refine g_iconst (pc := 495) X (n := 1) (dl_at t_L_law 251 rfl) ?_
      refine g_iadd (pc := 496) X r4_23 (r32_c rfl) (dl_at t_L_law 252 rfl) ?_
      refine g_gd fun k497 => ?_
      refine g_scA (pc := 497) X hS (r32_w _) k497 (dl_at t_L_law 253 rfl) ?_
      refine g_aload_n (pc := 498) X (j := 0) (i := 0) (q := 2) (x := (-1)) rfl rfl (dl_at t_L_law 254 rfl) ?_
      refine g_iload (pc := 499) X (i := 4) (q := 1) (x := x4_23) rfl (dl_at t_L_law 255 rfl) ?_
      refine g_iconst (pc := 501) X (n := 2) (dl_at t_L_law 256 rfl) ?_
      refine g_iadd (pc := 502) X r4_23 (r32_c rfl) (dl_at t_L_law 257 rfl) ?_
      refine g_gd fun k503 => ?_
      refine g_scA (pc := 503) X hS (r32_w _) k503 (dl_at t_L_law 258 rfl) ?_
      have k504 := kx (E12.trans (E17.trans (E_23.trans E486))) (by decide) k8
      refine r_callWi (pc := 504) X (fun _ hv => s_X18_change k504 (hS.2.1 _) (hS.2.1 _) hv) cw_with q4647 q372 (in_Vk X (As := [iv (sc (w32 (x4_23 + 1))), iv (sc (w32 (x4_23 + 2)))]) kX18 k504 (Or.inl q4644) q4645 q4646 cw_with q4647 ⟨by decide, by decide⟩ rfl (dl_at t_L_law 259 rfl)) (dl_at t_L_law 259 rfl) (cat24 (st := []) (Nat.le_of_ble_eq_true rfl)) (Nat.le_of_ble_eq_true rfl) (Nat.le_of_ble_eq_true rfl) fun v504 h504 g504 E504 => ?_
      refine g_istoreN (pc := 507) X (i := 6) (x := v504) (b := 5) (w := iv v486) (rest := [(4, iv x4_23), (0, rv D (-1)), (1, rv D a0), (2, rv D a8), (3, rv D a17)]) (Nat.le_of_ble_eq_true rfl) [0, 1, 2, 3, 4, 5] rfl (by decide) rfl rfl (dl_at t_L_law 260 rfl) ?_
      refine g_aload_n (pc := 509) X (j := 2) (i := 2) (q := 5) (x := a8) rfl rfl (dl_at t_L_law 261 rfl) ?_
      have k510 := kx E504 (by decide) k504
      refine r_callRi (pc := 510) X (fun _ hv => s_X18_thrown k510 hv) cw_code q4309 q372 (in_Vk X (As := []) kX18 k510 (Or.inl q4306) q4307 q4308 cw_code q4309 ⟨by decide, by decide⟩ rfl (dl_at t_L_law 262 rfl)) (dl_at t_L_law 262 rfl) (cat24 (st := []) (Nat.le_of_ble_eq_true rfl)) (Nat.le_of_ble_eq_true rfl) (Nat.le_of_ble_eq_true rfl) fun v510 g510 => ?_
      refine g_iload (pc := 513) X (i := 5) (q := 1) (x := v486) rfl (dl_at t_L_law 263 rfl) ?_
      refine g_icmpeq (pc := 515) X g510 g486 (off := 5) (tgt := 520) rfl (dl_at t_L_law 264 rfl) (fun _ => ?_) (fun _ => ?_)
      · refine g_iload (pc := 520) X (i := 5) (q := 1) (x := v486) rfl (dl_at t_L_law 267 rfl) ?_
        refine g_ifne (pc := 522) X g486 (off := 15) (tgt := 537) rfl (dl_at t_L_law 268 rfl) (fun _ => ?_) (fun _ => ?_)
        · refine g_goto (pc := 537) X (off := 744) (tgt := 1281) rfl (dl_at t_L_law 278 rfl) ?_
          refine g_ls (ls2 := [(0, rv D (-1)), (1, rv D a0), (2, rv D a8), (3, rv D a17), (4, iv x4_23)]) [3, 4, 5, 6, 2] rfl ?_
          exact J1281 h504 (E486.trans E504)
        refine g_aload_n (pc := 525) X (j := 3) (i := 3) (q := 6) (x := a17) rfl rfl (dl_at t_L_law 269 rfl) ?_
        refine g_iconst (pc := 526) X (n := 0) (dl_at t_L_law 270 rfl) ?_
        refine g_gd fun k527 => ?_
        refine g_lald (pc := 527) X (r32_c rfl) k527 (dl_at t_L_law 271 rfl) fun g527 => ?_
        refine g_iload (pc := 528) X (i := 6) (q := 0) (x := v504) rfl (dl_at t_L_law 272 rfl) ?_
        refine g_i2l (pc := 530) X g504 (dl_at t_L_law 273 rfl) ?_
        refine g_lcmp (pc := 531) X g527 (r64_of g504) (dl_at t_L_law 274 rfl) ?_
        refine g_ifeq (pc := 532) X (r32_lcmp _ _) (off := 5) (tgt := 537) rfl (dl_at t_L_law 275 rfl) (fun _ => ?_) (fun _ => ?_)
        · refine g_goto (pc := 537) X (off := 744) (tgt := 1281) rfl (dl_at t_L_law 278 rfl) ?_
          refine g_ls (ls2 := [(0, rv D (-1)), (1, rv D a0), (2, rv D a8), (3, rv D a17), (4, iv x4_23)]) [3, 4, 5, 6, 2] rfl ?_
          exact J1281 h504 (E486.trans E504)
        refine g_iconst (pc := 535) X (n := 0) (dl_at t_L_law 276 rfl) ?_
        exact g_at fun Q hQ => (g_zret (pc := 536) X (Or.inl rfl) rfl rfl (dl_at t_L_law 277 rfl)) _ Q rfl hQ
      refine g_iconst (pc := 518) X (n := 0) (dl_at t_L_law 265 rfl) ?_
      exact g_at fun Q hQ => (g_zret (pc := 519) X (Or.inl rfl) rfl rfl (dl_at t_L_law 266 rfl)) _ Q rfl hQ
    refine g_case (fun w40_7 => ?_) (fun nw40_7 => ?_)
    · refine g_tabIn (pc := 40) X (off := 500) (tgt := 540) (r32_iand _ _) w40_7 (by decide) (by decide) rfl rfl dS_L_law_40 ?_
      refine g_aload_n (pc := 540) X (j := 1) (i := 1) (q := 1) (x := a0) rfl rfl (dl_at t_L_law 279 rfl) ?_
      have k541 := kx (E4.trans (E8.trans (E12.trans (E17.trans E_23)))) (by decide) k0
      refine r_callRi (pc := 541) X (fun _ hv => s_X1_place k541 hv) cw_code q1561 q355 (in_Vk X (As := []) kX1 k541 (Or.inl q1558) q1559 q1560 cw_code q1561 ⟨by decide, by decide⟩ rfl (dl_at t_L_law 280 rfl)) (dl_at t_L_law 280 rfl) (cat24 (st := []) (Nat.le_of_ble_eq_true rfl)) (Nat.le_of_ble_eq_true rfl) (Nat.le_of_ble_eq_true rfl) fun v541 g541 => ?_
      refine g_aload_n (pc := 544) X (j := 2) (i := 2) (q := 2) (x := a8) rfl rfl (dl_at t_L_law 281 rfl) ?_
      have k545 := kx (E12.trans (E17.trans E_23)) (by decide) k8
      refine r_callWi (pc := 545) X (fun _ hv => s_X18_place k545 hv) cw_code q4651 q372 (in_Vk X (As := []) kX18 k545 (Or.inl q4648) q4649 q4650 cw_code q4651 ⟨by decide, by decide⟩ rfl (dl_at t_L_law 282 rfl)) (dl_at t_L_law 282 rfl) (cat24 (st := [iv v541]) (Nat.le_of_ble_eq_true rfl)) (Nat.le_of_ble_eq_true rfl) (Nat.le_of_ble_eq_true rfl) fun v545 h545 g545 E545 => ?_
      refine g_icmpeq (pc := 548) X g541 g545 (off := 733) (tgt := 1281) rfl (dl_at t_L_law 283 rfl) (fun _ => ?_) (fun _ => ?_)
      · exact J1281 h545 E545
      refine g_iconst (pc := 551) X (n := 0) (dl_at t_L_law 284 rfl) ?_
      exact g_at fun Q hQ => (g_zret (pc := 552) X (Or.inl rfl) rfl rfl (dl_at t_L_law 285 rfl)) _ Q rfl hQ
    refine g_case (fun w40_8 => ?_) (fun nw40_8 => ?_)
    · refine g_tabIn (pc := 40) X (off := 513) (tgt := 553) (r32_iand _ _) w40_8 (by decide) (by decide) rfl rfl dS_L_law_40 ?_
      refine g_aload_n (pc := 553) X (j := 1) (i := 1) (q := 1) (x := a0) rfl rfl (dl_at t_L_law 286 rfl) ?_
      refine g_aload_n (pc := 554) X (j := 0) (i := 0) (q := 0) (x := (-1)) rfl rfl (dl_at t_L_law 287 rfl) ?_
      refine g_iload (pc := 555) X (i := 4) (q := 4) (x := x4_23) rfl (dl_at t_L_law 288 rfl) ?_
      refine g_iconst (pc := 557) X (n := 1) (dl_at t_L_law 289 rfl) ?_
      refine g_iadd (pc := 558) X r4_23 (r32_c rfl) (dl_at t_L_law 290 rfl) ?_
      refine g_gd fun k559 => ?_
      refine g_scA (pc := 559) X hS (r32_w _) k559 (dl_at t_L_law 291 rfl) ?_
      refine g_aload_n (pc := 560) X (j := 3) (i := 3) (q := 3) (x := a17) rfl rfl (dl_at t_L_law 292 rfl) ?_
      refine r_callWi (pc := 561) X (fun _ hv => s_X0_set (hS.2.1 _) hv) cw_with q2262 q354 (in_Sw X (As := [rv D a0, iv (sc (w32 (x4_23 + 1))), rv D a17]) (Or.inl q2260) q2261 q354 q2262 ⟨by decide, by decide⟩ rfl (dl_at t_L_law 293 rfl)) (dl_at t_L_law 293 rfl) (cat24 (st := []) (Nat.le_of_ble_eq_true rfl)) (Nat.le_of_ble_eq_true rfl) (Nat.le_of_ble_eq_true rfl) fun v561 h561 g561 E561 => ?_
      refine g_istoreN (pc := 564) X (i := 5) (x := v561) (b := 4) (w := iv x4_23) (rest := [(0, rv D (-1)), (1, rv D a0), (2, rv D a8), (3, rv D a17)]) (Nat.le_of_ble_eq_true rfl) [4, 0, 1, 2, 3] rfl (by decide) rfl rfl (dl_at t_L_law 294 rfl) ?_
      refine g_aload_n (pc := 566) X (j := 2) (i := 2) (q := 4) (x := a8) rfl rfl (dl_at t_L_law 295 rfl) ?_
      refine g_aload_n (pc := 567) X (j := 0) (i := 0) (q := 2) (x := (-1)) rfl rfl (dl_at t_L_law 296 rfl) ?_
      refine g_iload (pc := 568) X (i := 4) (q := 1) (x := x4_23) rfl (dl_at t_L_law 297 rfl) ?_
      refine g_iconst (pc := 570) X (n := 1) (dl_at t_L_law 298 rfl) ?_
      refine g_iadd (pc := 571) X r4_23 (r32_c rfl) (dl_at t_L_law 299 rfl) ?_
      refine g_gd fun k572 => ?_
      refine g_scA (pc := 572) X hS (r32_w _) k572 (dl_at t_L_law 300 rfl) ?_
      have k573 := kx (E12.trans (E17.trans (E_23.trans E561))) (by decide) k8
      refine r_callWi (pc := 573) X (fun _ hv => s_X18_set k573 (hS.2.1 _) hv) cw_with q4655 q372 (in_Vk X (As := [iv (sc (w32 (x4_23 + 1)))]) kX18 k573 (Or.inl q4652) q4653 q4654 cw_with q4655 ⟨by decide, by decide⟩ rfl (dl_at t_L_law 301 rfl)) (dl_at t_L_law 301 rfl) (cat24 (st := []) (Nat.le_of_ble_eq_true rfl)) (Nat.le_of_ble_eq_true rfl) (Nat.le_of_ble_eq_true rfl) fun v573 h573 g573 E573 => ?_
      refine g_istoreN (pc := 576) X (i := 6) (x := v573) (b := 5) (w := iv v561) (rest := [(4, iv x4_23), (0, rv D (-1)), (1, rv D a0), (2, rv D a8), (3, rv D a17)]) (Nat.le_of_ble_eq_true rfl) [0, 1, 2, 3, 4, 5] rfl (by decide) rfl rfl (dl_at t_L_law 302 rfl) ?_
      refine g_aload_n (pc := 578) X (j := 2) (i := 2) (q := 5) (x := a8) rfl rfl (dl_at t_L_law 303 rfl) ?_
      have k579 := kx E573 (by decide) k573
      refine r_callRi (pc := 579) X (fun _ hv => s_X18_thrown k579 hv) cw_code q4309 q372 (in_Vk X (As := []) kX18 k579 (Or.inl q4306) q4307 q4308 cw_code q4309 ⟨by decide, by decide⟩ rfl (dl_at t_L_law 304 rfl)) (dl_at t_L_law 304 rfl) (cat24 (st := []) (Nat.le_of_ble_eq_true rfl)) (Nat.le_of_ble_eq_true rfl) (Nat.le_of_ble_eq_true rfl) fun v579 g579 => ?_
      refine g_iload (pc := 582) X (i := 5) (q := 1) (x := v561) rfl (dl_at t_L_law 305 rfl) ?_
      refine g_icmpeq (pc := 584) X g579 g561 (off := 5) (tgt := 589) rfl (dl_at t_L_law 306 rfl) (fun _ => ?_) (fun _ => ?_)
      · refine g_iload (pc := 589) X (i := 5) (q := 1) (x := v561) rfl (dl_at t_L_law 309 rfl) ?_
        refine g_ifne (pc := 591) X g561 (off := 15) (tgt := 606) rfl (dl_at t_L_law 310 rfl) (fun _ => ?_) (fun _ => ?_)
        · refine g_goto (pc := 606) X (off := 675) (tgt := 1281) rfl (dl_at t_L_law 320 rfl) ?_
          refine g_ls (ls2 := [(0, rv D (-1)), (1, rv D a0), (2, rv D a8), (3, rv D a17), (4, iv x4_23)]) [3, 4, 5, 6, 2] rfl ?_
          exact J1281 h573 (E561.trans E573)
        refine g_aload_n (pc := 594) X (j := 3) (i := 3) (q := 6) (x := a17) rfl rfl (dl_at t_L_law 311 rfl) ?_
        refine g_iconst (pc := 595) X (n := 0) (dl_at t_L_law 312 rfl) ?_
        refine g_gd fun k596 => ?_
        refine g_lald (pc := 596) X (r32_c rfl) k596 (dl_at t_L_law 313 rfl) fun g596 => ?_
        refine g_iload (pc := 597) X (i := 6) (q := 0) (x := v573) rfl (dl_at t_L_law 314 rfl) ?_
        refine g_i2l (pc := 599) X g573 (dl_at t_L_law 315 rfl) ?_
        refine g_lcmp (pc := 600) X g596 (r64_of g573) (dl_at t_L_law 316 rfl) ?_
        refine g_ifeq (pc := 601) X (r32_lcmp _ _) (off := 5) (tgt := 606) rfl (dl_at t_L_law 317 rfl) (fun _ => ?_) (fun _ => ?_)
        · refine g_goto (pc := 606) X (off := 675) (tgt := 1281) rfl (dl_at t_L_law 320 rfl) ?_
          refine g_ls (ls2 := [(0, rv D (-1)), (1, rv D a0), (2, rv D a8), (3, rv D a17), (4, iv x4_23)]) [3, 4, 5, 6, 2] rfl ?_
          exact J1281 h573 (E561.trans E573)
        refine g_iconst (pc := 604) X (n := 0) (dl_at t_L_law 318 rfl) ?_
        exact g_at fun Q hQ => (g_zret (pc := 605) X (Or.inl rfl) rfl rfl (dl_at t_L_law 319 rfl)) _ Q rfl hQ
      refine g_iconst (pc := 587) X (n := 0) (dl_at t_L_law 307 rfl) ?_
      exact g_at fun Q hQ => (g_zret (pc := 588) X (Or.inl rfl) rfl rfl (dl_at t_L_law 308 rfl)) _ Q rfl hQ
    refine g_case (fun w40_9 => ?_) (fun nw40_9 => ?_)
    · refine g_tabIn (pc := 40) X (off := 569) (tgt := 609) (r32_iand _ _) w40_9 (by decide) (by decide) rfl rfl dS_L_law_40 ?_
      refine g_aload_n (pc := 609) X (j := 1) (i := 1) (q := 1) (x := a0) rfl rfl (dl_at t_L_law 321 rfl) ?_
      refine g_aload_n (pc := 610) X (j := 0) (i := 0) (q := 0) (x := (-1)) rfl rfl (dl_at t_L_law 322 rfl) ?_
      refine g_iload (pc := 611) X (i := 4) (q := 4) (x := x4_23) rfl (dl_at t_L_law 323 rfl) ?_
      refine g_iconst (pc := 613) X (n := 1) (dl_at t_L_law 324 rfl) ?_
      refine g_iadd (pc := 614) X r4_23 (r32_c rfl) (dl_at t_L_law 325 rfl) ?_
      refine g_gd fun k615 => ?_
      refine g_scA (pc := 615) X hS (r32_w _) k615 (dl_at t_L_law 326 rfl) ?_
      refine g_aload_n (pc := 616) X (j := 0) (i := 0) (q := 0) (x := (-1)) rfl rfl (dl_at t_L_law 327 rfl) ?_
      refine g_iload (pc := 617) X (i := 4) (q := 4) (x := x4_23) rfl (dl_at t_L_law 328 rfl) ?_
      refine g_iconst (pc := 619) X (n := 2) (dl_at t_L_law 329 rfl) ?_
      refine g_iadd (pc := 620) X r4_23 (r32_c rfl) (dl_at t_L_law 330 rfl) ?_
      refine g_gd fun k621 => ?_
      refine g_scA (pc := 621) X hS (r32_w _) k621 (dl_at t_L_law 331 rfl) ?_
      refine g_aload_n (pc := 622) X (j := 3) (i := 3) (q := 3) (x := a17) rfl rfl (dl_at t_L_law 332 rfl) ?_
      refine r_callWi (pc := 623) X (fun _ hv => s_X0_element (hS.2.1 _) (hS.2.1 _) hv) cw_with q3055 q354 (in_Sw X (As := [rv D a0, iv (sc (w32 (x4_23 + 1))), iv (sc (w32 (x4_23 + 2))), rv D a17]) (Or.inl q3053) q3054 q354 q3055 ⟨by decide, by decide⟩ rfl (dl_at t_L_law 333 rfl)) (dl_at t_L_law 333 rfl) (cat24 (st := []) (Nat.le_of_ble_eq_true rfl)) (Nat.le_of_ble_eq_true rfl) (Nat.le_of_ble_eq_true rfl) fun v623 h623 g623 E623 => ?_
      refine g_istoreN (pc := 626) X (i := 5) (x := v623) (b := 4) (w := iv x4_23) (rest := [(0, rv D (-1)), (1, rv D a0), (2, rv D a8), (3, rv D a17)]) (Nat.le_of_ble_eq_true rfl) [4, 0, 1, 2, 3] rfl (by decide) rfl rfl (dl_at t_L_law 334 rfl) ?_
      refine g_aload_n (pc := 628) X (j := 2) (i := 2) (q := 4) (x := a8) rfl rfl (dl_at t_L_law 335 rfl) ?_
      refine g_aload_n (pc := 629) X (j := 0) (i := 0) (q := 2) (x := (-1)) rfl rfl (dl_at t_L_law 336 rfl) ?_
      refine g_iload (pc := 630) X (i := 4) (q := 1) (x := x4_23) rfl (dl_at t_L_law 337 rfl) ?_
      refine g_iconst (pc := 632) X (n := 1) (dl_at t_L_law 338 rfl) ?_
      refine g_iadd (pc := 633) X r4_23 (r32_c rfl) (dl_at t_L_law 339 rfl) ?_
      refine g_gd fun k634 => ?_
      refine g_scA (pc := 634) X hS (r32_w _) k634 (dl_at t_L_law 340 rfl) ?_
      refine g_aload_n (pc := 635) X (j := 0) (i := 0) (q := 2) (x := (-1)) rfl rfl (dl_at t_L_law 341 rfl) ?_
      refine g_iload (pc := 636) X (i := 4) (q := 1) (x := x4_23) rfl (dl_at t_L_law 342 rfl) ?_
      refine g_iconst (pc := 638) X (n := 2) (dl_at t_L_law 343 rfl) ?_
      refine g_iadd (pc := 639) X r4_23 (r32_c rfl) (dl_at t_L_law 344 rfl) ?_
      refine g_gd fun k640 => ?_
      refine g_scA (pc := 640) X hS (r32_w _) k640 (dl_at t_L_law 345 rfl) ?_
      have k641 := kx (E12.trans (E17.trans (E_23.trans E623))) (by decide) k8
      refine r_callWi (pc := 641) X (fun _ hv => s_X18_element k641 (hS.2.1 _) (hS.2.1 _) hv) cw_code q5145 q372 (in_Vk X (As := [iv (sc (w32 (x4_23 + 1))), iv (sc (w32 (x4_23 + 2)))]) kX18 k641 (Or.inl q5142) q5143 q5144 cw_code q5145 ⟨by decide, by decide⟩ rfl (dl_at t_L_law 346 rfl)) (dl_at t_L_law 346 rfl) (cat24 (st := []) (Nat.le_of_ble_eq_true rfl)) (Nat.le_of_ble_eq_true rfl) (Nat.le_of_ble_eq_true rfl) fun v641 h641 g641 E641 => ?_
      refine g_istoreN (pc := 644) X (i := 6) (x := v641) (b := 5) (w := iv v623) (rest := [(4, iv x4_23), (0, rv D (-1)), (1, rv D a0), (2, rv D a8), (3, rv D a17)]) (Nat.le_of_ble_eq_true rfl) [0, 1, 2, 3, 4, 5] rfl (by decide) rfl rfl (dl_at t_L_law 347 rfl) ?_
      refine g_aload_n (pc := 646) X (j := 2) (i := 2) (q := 5) (x := a8) rfl rfl (dl_at t_L_law 348 rfl) ?_
      have k647 := kx E641 (by decide) k641
      refine r_callRi (pc := 647) X (fun _ hv => s_X18_thrown k647 hv) cw_code q4309 q372 (in_Vk X (As := []) kX18 k647 (Or.inl q4306) q4307 q4308 cw_code q4309 ⟨by decide, by decide⟩ rfl (dl_at t_L_law 349 rfl)) (dl_at t_L_law 349 rfl) (cat24 (st := []) (Nat.le_of_ble_eq_true rfl)) (Nat.le_of_ble_eq_true rfl) (Nat.le_of_ble_eq_true rfl) fun v647 g647 => ?_
      refine g_iload (pc := 650) X (i := 5) (q := 1) (x := v623) rfl (dl_at t_L_law 350 rfl) ?_
      refine g_icmpeq (pc := 652) X g647 g623 (off := 5) (tgt := 657) rfl (dl_at t_L_law 351 rfl) (fun _ => ?_) (fun _ => ?_)
      · refine g_iload (pc := 657) X (i := 5) (q := 1) (x := v623) rfl (dl_at t_L_law 354 rfl) ?_
        refine g_ifne (pc := 659) X g623 (off := 15) (tgt := 674) rfl (dl_at t_L_law 355 rfl) (fun _ => ?_) (fun _ => ?_)
        · refine g_goto (pc := 674) X (off := 607) (tgt := 1281) rfl (dl_at t_L_law 365 rfl) ?_
          refine g_ls (ls2 := [(0, rv D (-1)), (1, rv D a0), (2, rv D a8), (3, rv D a17), (4, iv x4_23)]) [3, 4, 5, 6, 2] rfl ?_
          exact J1281 h641 (E623.trans E641)
        refine g_aload_n (pc := 662) X (j := 3) (i := 3) (q := 6) (x := a17) rfl rfl (dl_at t_L_law 356 rfl) ?_
        refine g_iconst (pc := 663) X (n := 0) (dl_at t_L_law 357 rfl) ?_
        refine g_gd fun k664 => ?_
        refine g_lald (pc := 664) X (r32_c rfl) k664 (dl_at t_L_law 358 rfl) fun g664 => ?_
        refine g_iload (pc := 665) X (i := 6) (q := 0) (x := v641) rfl (dl_at t_L_law 359 rfl) ?_
        refine g_i2l (pc := 667) X g641 (dl_at t_L_law 360 rfl) ?_
        refine g_lcmp (pc := 668) X g664 (r64_of g641) (dl_at t_L_law 361 rfl) ?_
        refine g_ifeq (pc := 669) X (r32_lcmp _ _) (off := 5) (tgt := 674) rfl (dl_at t_L_law 362 rfl) (fun _ => ?_) (fun _ => ?_)
        · refine g_goto (pc := 674) X (off := 607) (tgt := 1281) rfl (dl_at t_L_law 365 rfl) ?_
          refine g_ls (ls2 := [(0, rv D (-1)), (1, rv D a0), (2, rv D a8), (3, rv D a17), (4, iv x4_23)]) [3, 4, 5, 6, 2] rfl ?_
          exact J1281 h641 (E623.trans E641)
        refine g_iconst (pc := 672) X (n := 0) (dl_at t_L_law 363 rfl) ?_
        exact g_at fun Q hQ => (g_zret (pc := 673) X (Or.inl rfl) rfl rfl (dl_at t_L_law 364 rfl)) _ Q rfl hQ
      refine g_iconst (pc := 655) X (n := 0) (dl_at t_L_law 352 rfl) ?_
      exact g_at fun Q hQ => (g_zret (pc := 656) X (Or.inl rfl) rfl rfl (dl_at t_L_law 353 rfl)) _ Q rfl hQ
    refine g_case (fun w40_10 => ?_) (fun nw40_10 => ?_)
    · refine g_tabIn (pc := 40) X (off := 637) (tgt := 677) (r32_iand _ _) w40_10 (by decide) (by decide) rfl rfl dS_L_law_40 ?_
      refine g_aload_n (pc := 677) X (j := 1) (i := 1) (q := 1) (x := a0) rfl rfl (dl_at t_L_law 366 rfl) ?_
      refine g_aload_n (pc := 678) X (j := 0) (i := 0) (q := 0) (x := (-1)) rfl rfl (dl_at t_L_law 367 rfl) ?_
      refine g_iload (pc := 679) X (i := 4) (q := 4) (x := x4_23) rfl (dl_at t_L_law 368 rfl) ?_
      refine g_iconst (pc := 681) X (n := 1) (dl_at t_L_law 369 rfl) ?_
      refine g_iadd (pc := 682) X r4_23 (r32_c rfl) (dl_at t_L_law 370 rfl) ?_
      refine g_gd fun k683 => ?_
      refine g_scA (pc := 683) X hS (r32_w _) k683 (dl_at t_L_law 371 rfl) ?_
      refine g_aload_n (pc := 684) X (j := 3) (i := 3) (q := 3) (x := a17) rfl rfl (dl_at t_L_law 372 rfl) ?_
      refine r_callWi (pc := 685) X (fun _ hv => s_X0_count (hS.2.1 _) hv) cw_with q3067 q354 (in_Sw X (As := [rv D a0, iv (sc (w32 (x4_23 + 1))), rv D a17]) (Or.inl q3065) q3066 q354 q3067 ⟨by decide, by decide⟩ rfl (dl_at t_L_law 373 rfl)) (dl_at t_L_law 373 rfl) (cat24 (st := []) (Nat.le_of_ble_eq_true rfl)) (Nat.le_of_ble_eq_true rfl) (Nat.le_of_ble_eq_true rfl) fun v685 h685 g685 E685 => ?_
      refine g_istoreN (pc := 688) X (i := 5) (x := v685) (b := 4) (w := iv x4_23) (rest := [(0, rv D (-1)), (1, rv D a0), (2, rv D a8), (3, rv D a17)]) (Nat.le_of_ble_eq_true rfl) [4, 0, 1, 2, 3] rfl (by decide) rfl rfl (dl_at t_L_law 374 rfl) ?_
      refine g_aload_n (pc := 690) X (j := 2) (i := 2) (q := 4) (x := a8) rfl rfl (dl_at t_L_law 375 rfl) ?_
      refine g_aload_n (pc := 691) X (j := 0) (i := 0) (q := 2) (x := (-1)) rfl rfl (dl_at t_L_law 376 rfl) ?_
      refine g_iload (pc := 692) X (i := 4) (q := 1) (x := x4_23) rfl (dl_at t_L_law 377 rfl) ?_
      refine g_iconst (pc := 694) X (n := 1) (dl_at t_L_law 378 rfl) ?_
      refine g_iadd (pc := 695) X r4_23 (r32_c rfl) (dl_at t_L_law 379 rfl) ?_
      refine g_gd fun k696 => ?_
      refine g_scA (pc := 696) X hS (r32_w _) k696 (dl_at t_L_law 380 rfl) ?_
      have k697 := kx (E12.trans (E17.trans (E_23.trans E685))) (by decide) k8
      refine r_callWi (pc := 697) X (fun _ hv => s_X18_count k697 (hS.2.1 _) hv) cw_code q5152 q372 (in_Vk X (As := [iv (sc (w32 (x4_23 + 1)))]) kX18 k697 (Or.inl q5149) q5150 q5151 cw_code q5152 ⟨by decide, by decide⟩ rfl (dl_at t_L_law 381 rfl)) (dl_at t_L_law 381 rfl) (cat24 (st := []) (Nat.le_of_ble_eq_true rfl)) (Nat.le_of_ble_eq_true rfl) (Nat.le_of_ble_eq_true rfl) fun v697 h697 g697 E697 => ?_
      refine g_istoreN (pc := 700) X (i := 6) (x := v697) (b := 5) (w := iv v685) (rest := [(4, iv x4_23), (0, rv D (-1)), (1, rv D a0), (2, rv D a8), (3, rv D a17)]) (Nat.le_of_ble_eq_true rfl) [0, 1, 2, 3, 4, 5] rfl (by decide) rfl rfl (dl_at t_L_law 382 rfl) ?_
      refine g_aload_n (pc := 702) X (j := 2) (i := 2) (q := 5) (x := a8) rfl rfl (dl_at t_L_law 383 rfl) ?_
      have k703 := kx E697 (by decide) k697
      refine r_callRi (pc := 703) X (fun _ hv => s_X18_thrown k703 hv) cw_code q4309 q372 (in_Vk X (As := []) kX18 k703 (Or.inl q4306) q4307 q4308 cw_code q4309 ⟨by decide, by decide⟩ rfl (dl_at t_L_law 384 rfl)) (dl_at t_L_law 384 rfl) (cat24 (st := []) (Nat.le_of_ble_eq_true rfl)) (Nat.le_of_ble_eq_true rfl) (Nat.le_of_ble_eq_true rfl) fun v703 g703 => ?_
      refine g_iload (pc := 706) X (i := 5) (q := 1) (x := v685) rfl (dl_at t_L_law 385 rfl) ?_
      refine g_icmpeq (pc := 708) X g703 g685 (off := 5) (tgt := 713) rfl (dl_at t_L_law 386 rfl) (fun _ => ?_) (fun _ => ?_)
      · refine g_iload (pc := 713) X (i := 5) (q := 1) (x := v685) rfl (dl_at t_L_law 389 rfl) ?_
        refine g_ifne (pc := 715) X g685 (off := 15) (tgt := 730) rfl (dl_at t_L_law 390 rfl) (fun _ => ?_) (fun _ => ?_)
        · refine g_goto (pc := 730) X (off := 551) (tgt := 1281) rfl (dl_at t_L_law 400 rfl) ?_
          refine g_ls (ls2 := [(0, rv D (-1)), (1, rv D a0), (2, rv D a8), (3, rv D a17), (4, iv x4_23)]) [3, 4, 5, 6, 2] rfl ?_
          exact J1281 h697 (E685.trans E697)
        refine g_aload_n (pc := 718) X (j := 3) (i := 3) (q := 6) (x := a17) rfl rfl (dl_at t_L_law 391 rfl) ?_
        refine g_iconst (pc := 719) X (n := 0) (dl_at t_L_law 392 rfl) ?_
        refine g_gd fun k720 => ?_
        refine g_lald (pc := 720) X (r32_c rfl) k720 (dl_at t_L_law 393 rfl) fun g720 => ?_
        refine g_iload (pc := 721) X (i := 6) (q := 0) (x := v697) rfl (dl_at t_L_law 394 rfl) ?_
        refine g_i2l (pc := 723) X g697 (dl_at t_L_law 395 rfl) ?_
        refine g_lcmp (pc := 724) X g720 (r64_of g697) (dl_at t_L_law 396 rfl) ?_
        refine g_ifeq (pc := 725) X (r32_lcmp _ _) (off := 5) (tgt := 730) rfl (dl_at t_L_law 397 rfl) (fun _ => ?_) (fun _ => ?_)
        · refine g_goto (pc := 730) X (off := 551) (tgt := 1281) rfl (dl_at t_L_law 400 rfl) ?_
          refine g_ls (ls2 := [(0, rv D (-1)), (1, rv D a0), (2, rv D a8), (3, rv D a17), (4, iv x4_23)]) [3, 4, 5, 6, 2] rfl ?_
          exact J1281 h697 (E685.trans E697)
        refine g_iconst (pc := 728) X (n := 0) (dl_at t_L_law 398 rfl) ?_
        exact g_at fun Q hQ => (g_zret (pc := 729) X (Or.inl rfl) rfl rfl (dl_at t_L_law 399 rfl)) _ Q rfl hQ
      refine g_iconst (pc := 711) X (n := 0) (dl_at t_L_law 387 rfl) ?_
      exact g_at fun Q hQ => (g_zret (pc := 712) X (Or.inl rfl) rfl rfl (dl_at t_L_law 388 rfl)) _ Q rfl hQ
    refine g_case (fun w40_11 => ?_) (fun nw40_11 => ?_)
    · refine g_tabIn (pc := 40) X (off := 693) (tgt := 733) (r32_iand _ _) w40_11 (by decide) (by decide) rfl rfl dS_L_law_40 ?_
      refine g_aload_n (pc := 733) X (j := 1) (i := 1) (q := 1) (x := a0) rfl rfl (dl_at t_L_law 401 rfl) ?_
      refine g_aload_n (pc := 734) X (j := 0) (i := 0) (q := 0) (x := (-1)) rfl rfl (dl_at t_L_law 402 rfl) ?_
      refine g_iload (pc := 735) X (i := 4) (q := 4) (x := x4_23) rfl (dl_at t_L_law 403 rfl) ?_
      refine g_iconst (pc := 737) X (n := 1) (dl_at t_L_law 404 rfl) ?_
      refine g_iadd (pc := 738) X r4_23 (r32_c rfl) (dl_at t_L_law 405 rfl) ?_
      refine g_gd fun k739 => ?_
      refine g_scA (pc := 739) X hS (r32_w _) k739 (dl_at t_L_law 406 rfl) ?_
      refine g_aload_n (pc := 740) X (j := 0) (i := 0) (q := 0) (x := (-1)) rfl rfl (dl_at t_L_law 407 rfl) ?_
      refine g_iload (pc := 741) X (i := 4) (q := 4) (x := x4_23) rfl (dl_at t_L_law 408 rfl) ?_
      refine g_iconst (pc := 743) X (n := 2) (dl_at t_L_law 409 rfl) ?_
      refine g_iadd (pc := 744) X r4_23 (r32_c rfl) (dl_at t_L_law 410 rfl) ?_
      refine g_gd fun k745 => ?_
      refine g_scA (pc := 745) X hS (r32_w _) k745 (dl_at t_L_law 411 rfl) ?_
      refine g_aload_n (pc := 746) X (j := 3) (i := 3) (q := 3) (x := a17) rfl rfl (dl_at t_L_law 412 rfl) ?_
      refine r_callWi (pc := 747) X (fun _ hv => s_X0_line (hS.2.1 _) (hS.2.1 _) hv) cw_with q3086 q354 (in_Sw X (As := [rv D a0, iv (sc (w32 (x4_23 + 1))), iv (sc (w32 (x4_23 + 2))), rv D a17]) (Or.inl q3084) q3085 q354 q3086 ⟨by decide, by decide⟩ rfl (dl_at t_L_law 413 rfl)) (dl_at t_L_law 413 rfl) (cat24 (st := []) (Nat.le_of_ble_eq_true rfl)) (Nat.le_of_ble_eq_true rfl) (Nat.le_of_ble_eq_true rfl) fun v747 h747 g747 E747 => ?_
      refine g_istoreN (pc := 750) X (i := 5) (x := v747) (b := 4) (w := iv x4_23) (rest := [(0, rv D (-1)), (1, rv D a0), (2, rv D a8), (3, rv D a17)]) (Nat.le_of_ble_eq_true rfl) [4, 0, 1, 2, 3] rfl (by decide) rfl rfl (dl_at t_L_law 414 rfl) ?_
      refine g_aload_n (pc := 752) X (j := 2) (i := 2) (q := 4) (x := a8) rfl rfl (dl_at t_L_law 415 rfl) ?_
      refine g_aload_n (pc := 753) X (j := 0) (i := 0) (q := 2) (x := (-1)) rfl rfl (dl_at t_L_law 416 rfl) ?_
      refine g_iload (pc := 754) X (i := 4) (q := 1) (x := x4_23) rfl (dl_at t_L_law 417 rfl) ?_
      refine g_iconst (pc := 756) X (n := 1) (dl_at t_L_law 418 rfl) ?_
      refine g_iadd (pc := 757) X r4_23 (r32_c rfl) (dl_at t_L_law 419 rfl) ?_
      refine g_gd fun k758 => ?_
      refine g_scA (pc := 758) X hS (r32_w _) k758 (dl_at t_L_law 420 rfl) ?_
      refine g_aload_n (pc := 759) X (j := 0) (i := 0) (q := 2) (x := (-1)) rfl rfl (dl_at t_L_law 421 rfl) ?_
      refine g_iload (pc := 760) X (i := 4) (q := 1) (x := x4_23) rfl (dl_at t_L_law 422 rfl) ?_
      refine g_iconst (pc := 762) X (n := 2) (dl_at t_L_law 423 rfl) ?_
      refine g_iadd (pc := 763) X r4_23 (r32_c rfl) (dl_at t_L_law 424 rfl) ?_
      refine g_gd fun k764 => ?_
      refine g_scA (pc := 764) X hS (r32_w _) k764 (dl_at t_L_law 425 rfl) ?_
      have k765 := kx (E12.trans (E17.trans (E_23.trans E747))) (by decide) k8
      refine r_callWi (pc := 765) X (fun _ hv => s_X18_line k765 (hS.2.1 _) (hS.2.1 _) hv) cw_code q5156 q372 (in_Vk X (As := [iv (sc (w32 (x4_23 + 1))), iv (sc (w32 (x4_23 + 2)))]) kX18 k765 (Or.inl q5153) q5154 q5155 cw_code q5156 ⟨by decide, by decide⟩ rfl (dl_at t_L_law 426 rfl)) (dl_at t_L_law 426 rfl) (cat24 (st := []) (Nat.le_of_ble_eq_true rfl)) (Nat.le_of_ble_eq_true rfl) (Nat.le_of_ble_eq_true rfl) fun v765 h765 g765 E765 => ?_
      refine g_istoreN (pc := 768) X (i := 6) (x := v765) (b := 5) (w := iv v747) (rest := [(4, iv x4_23), (0, rv D (-1)), (1, rv D a0), (2, rv D a8), (3, rv D a17)]) (Nat.le_of_ble_eq_true rfl) [0, 1, 2, 3, 4, 5] rfl (by decide) rfl rfl (dl_at t_L_law 427 rfl) ?_
      refine g_aload_n (pc := 770) X (j := 2) (i := 2) (q := 5) (x := a8) rfl rfl (dl_at t_L_law 428 rfl) ?_
      have k771 := kx E765 (by decide) k765
      refine r_callRi (pc := 771) X (fun _ hv => s_X18_thrown k771 hv) cw_code q4309 q372 (in_Vk X (As := []) kX18 k771 (Or.inl q4306) q4307 q4308 cw_code q4309 ⟨by decide, by decide⟩ rfl (dl_at t_L_law 429 rfl)) (dl_at t_L_law 429 rfl) (cat24 (st := []) (Nat.le_of_ble_eq_true rfl)) (Nat.le_of_ble_eq_true rfl) (Nat.le_of_ble_eq_true rfl) fun v771 g771 => ?_
      refine g_iload (pc := 774) X (i := 5) (q := 1) (x := v747) rfl (dl_at t_L_law 430 rfl) ?_
      refine g_icmpeq (pc := 776) X g771 g747 (off := 5) (tgt := 781) rfl (dl_at t_L_law 431 rfl) (fun _ => ?_) (fun _ => ?_)
      · refine g_iload (pc := 781) X (i := 5) (q := 1) (x := v747) rfl (dl_at t_L_law 434 rfl) ?_
        refine g_ifne (pc := 783) X g747 (off := 15) (tgt := 798) rfl (dl_at t_L_law 435 rfl) (fun _ => ?_) (fun _ => ?_)
        · refine g_goto (pc := 798) X (off := 483) (tgt := 1281) rfl (dl_at t_L_law 445 rfl) ?_
          refine g_ls (ls2 := [(0, rv D (-1)), (1, rv D a0), (2, rv D a8), (3, rv D a17), (4, iv x4_23)]) [3, 4, 5, 6, 2] rfl ?_
          exact J1281 h765 (E747.trans E765)
        refine g_aload_n (pc := 786) X (j := 3) (i := 3) (q := 6) (x := a17) rfl rfl (dl_at t_L_law 436 rfl) ?_
        refine g_iconst (pc := 787) X (n := 0) (dl_at t_L_law 437 rfl) ?_
        refine g_gd fun k788 => ?_
        refine g_lald (pc := 788) X (r32_c rfl) k788 (dl_at t_L_law 438 rfl) fun g788 => ?_
        refine g_iload (pc := 789) X (i := 6) (q := 0) (x := v765) rfl (dl_at t_L_law 439 rfl) ?_
        refine g_i2l (pc := 791) X g765 (dl_at t_L_law 440 rfl) ?_
        refine g_lcmp (pc := 792) X g788 (r64_of g765) (dl_at t_L_law 441 rfl) ?_
        refine g_ifeq (pc := 793) X (r32_lcmp _ _) (off := 5) (tgt := 798) rfl (dl_at t_L_law 442 rfl) (fun _ => ?_) (fun _ => ?_)
        · refine g_goto (pc := 798) X (off := 483) (tgt := 1281) rfl (dl_at t_L_law 445 rfl) ?_
          refine g_ls (ls2 := [(0, rv D (-1)), (1, rv D a0), (2, rv D a8), (3, rv D a17), (4, iv x4_23)]) [3, 4, 5, 6, 2] rfl ?_
          exact J1281 h765 (E747.trans E765)
        refine g_iconst (pc := 796) X (n := 0) (dl_at t_L_law 443 rfl) ?_
        exact g_at fun Q hQ => (g_zret (pc := 797) X (Or.inl rfl) rfl rfl (dl_at t_L_law 444 rfl)) _ Q rfl hQ
      refine g_iconst (pc := 779) X (n := 0) (dl_at t_L_law 432 rfl) ?_
      exact g_at fun Q hQ => (g_zret (pc := 780) X (Or.inl rfl) rfl rfl (dl_at t_L_law 433 rfl)) _ Q rfl hQ
    refine g_case (fun w40_12 => ?_) (fun nw40_12 => ?_)
    · refine g_tabIn (pc := 40) X (off := 761) (tgt := 801) (r32_iand _ _) w40_12 (by decide) (by decide) rfl rfl dS_L_law_40 ?_
      refine g_aload_n (pc := 801) X (j := 1) (i := 1) (q := 1) (x := a0) rfl rfl (dl_at t_L_law 446 rfl) ?_
      refine g_aload_n (pc := 802) X (j := 0) (i := 0) (q := 0) (x := (-1)) rfl rfl (dl_at t_L_law 447 rfl) ?_
      refine g_iload (pc := 803) X (i := 4) (q := 4) (x := x4_23) rfl (dl_at t_L_law 448 rfl) ?_
      refine g_iconst (pc := 805) X (n := 1) (dl_at t_L_law 449 rfl) ?_
      refine g_iadd (pc := 806) X r4_23 (r32_c rfl) (dl_at t_L_law 450 rfl) ?_
      refine g_gd fun k807 => ?_
      refine g_scA (pc := 807) X hS (r32_w _) k807 (dl_at t_L_law 451 rfl) ?_
      refine g_aload_n (pc := 808) X (j := 0) (i := 0) (q := 0) (x := (-1)) rfl rfl (dl_at t_L_law 452 rfl) ?_
      refine g_iload (pc := 809) X (i := 4) (q := 4) (x := x4_23) rfl (dl_at t_L_law 453 rfl) ?_
      refine g_iconst (pc := 811) X (n := 2) (dl_at t_L_law 454 rfl) ?_
      refine g_iadd (pc := 812) X r4_23 (r32_c rfl) (dl_at t_L_law 455 rfl) ?_
      refine g_gd fun k813 => ?_
      refine g_scA (pc := 813) X hS (r32_w _) k813 (dl_at t_L_law 456 rfl) ?_
      refine g_aload_n (pc := 814) X (j := 3) (i := 3) (q := 3) (x := a17) rfl rfl (dl_at t_L_law 457 rfl) ?_
      refine r_callWi (pc := 815) X (fun _ hv => s_X0_spot (hS.2.1 _) (hS.2.1 _) hv) cw_with q3111 q354 (in_Sw X (As := [rv D a0, iv (sc (w32 (x4_23 + 1))), iv (sc (w32 (x4_23 + 2))), rv D a17]) (Or.inl q3109) q3110 q354 q3111 ⟨by decide, by decide⟩ rfl (dl_at t_L_law 458 rfl)) (dl_at t_L_law 458 rfl) (cat24 (st := []) (Nat.le_of_ble_eq_true rfl)) (Nat.le_of_ble_eq_true rfl) (Nat.le_of_ble_eq_true rfl) fun v815 h815 g815 E815 => ?_
      refine g_istoreN (pc := 818) X (i := 5) (x := v815) (b := 4) (w := iv x4_23) (rest := [(0, rv D (-1)), (1, rv D a0), (2, rv D a8), (3, rv D a17)]) (Nat.le_of_ble_eq_true rfl) [4, 0, 1, 2, 3] rfl (by decide) rfl rfl (dl_at t_L_law 459 rfl) ?_
      refine g_aload_n (pc := 820) X (j := 2) (i := 2) (q := 4) (x := a8) rfl rfl (dl_at t_L_law 460 rfl) ?_
      refine g_aload_n (pc := 821) X (j := 0) (i := 0) (q := 2) (x := (-1)) rfl rfl (dl_at t_L_law 461 rfl) ?_
      refine g_iload (pc := 822) X (i := 4) (q := 1) (x := x4_23) rfl (dl_at t_L_law 462 rfl) ?_
      refine g_iconst (pc := 824) X (n := 1) (dl_at t_L_law 463 rfl) ?_
      refine g_iadd (pc := 825) X r4_23 (r32_c rfl) (dl_at t_L_law 464 rfl) ?_
      refine g_gd fun k826 => ?_
      refine g_scA (pc := 826) X hS (r32_w _) k826 (dl_at t_L_law 465 rfl) ?_
      refine g_aload_n (pc := 827) X (j := 0) (i := 0) (q := 2) (x := (-1)) rfl rfl (dl_at t_L_law 466 rfl) ?_
      refine g_iload (pc := 828) X (i := 4) (q := 1) (x := x4_23) rfl (dl_at t_L_law 467 rfl) ?_
      refine g_iconst (pc := 830) X (n := 2) (dl_at t_L_law 468 rfl) ?_
      refine g_iadd (pc := 831) X r4_23 (r32_c rfl) (dl_at t_L_law 469 rfl) ?_
      refine g_gd fun k832 => ?_
      refine g_scA (pc := 832) X hS (r32_w _) k832 (dl_at t_L_law 470 rfl) ?_
      have k833 := kx (E12.trans (E17.trans (E_23.trans E815))) (by decide) k8
      refine r_callWl (pc := 833) X (fun _ hv => s_X18_spot k833 (hS.2.1 _) (hS.2.1 _) hv) cw_code q5168 q372 (in_Vk X (As := [iv (sc (w32 (x4_23 + 1))), iv (sc (w32 (x4_23 + 2)))]) kX18 k833 (Or.inl q5165) q5166 q5167 cw_code q5168 ⟨by decide, by decide⟩ rfl (dl_at t_L_law 471 rfl)) (dl_at t_L_law 471 rfl) (cat24 (st := []) (Nat.le_of_ble_eq_true rfl)) (Nat.le_of_ble_eq_true rfl) (Nat.le_of_ble_eq_true rfl) fun v833 h833 g833 E833 => ?_
      refine g_lstoreN (pc := 836) X (i := 6) (x := v833) (b := 5) (w := iv v815) (rest := [(4, iv x4_23), (0, rv D (-1)), (1, rv D a0), (2, rv D a8), (3, rv D a17)]) (Nat.le_of_ble_eq_true rfl) [0, 1, 2, 3, 4, 5] rfl (by decide) (by decide) rfl rfl (dl_at t_L_law 472 rfl) ?_
      refine g_aload_n (pc := 838) X (j := 2) (i := 2) (q := 5) (x := a8) rfl rfl (dl_at t_L_law 473 rfl) ?_
      have k839 := kx E833 (by decide) k833
      refine r_callRi (pc := 839) X (fun _ hv => s_X18_thrown k839 hv) cw_code q4309 q372 (in_Vk X (As := []) kX18 k839 (Or.inl q4306) q4307 q4308 cw_code q4309 ⟨by decide, by decide⟩ rfl (dl_at t_L_law 474 rfl)) (dl_at t_L_law 474 rfl) (cat24 (st := []) (Nat.le_of_ble_eq_true rfl)) (Nat.le_of_ble_eq_true rfl) (Nat.le_of_ble_eq_true rfl) fun v839 g839 => ?_
      refine g_iload (pc := 842) X (i := 5) (q := 1) (x := v815) rfl (dl_at t_L_law 475 rfl) ?_
      refine g_icmpeq (pc := 844) X g839 g815 (off := 5) (tgt := 849) rfl (dl_at t_L_law 476 rfl) (fun _ => ?_) (fun _ => ?_)
      · refine g_iload (pc := 849) X (i := 5) (q := 1) (x := v815) rfl (dl_at t_L_law 479 rfl) ?_
        refine g_ifne (pc := 851) X g815 (off := 14) (tgt := 865) rfl (dl_at t_L_law 480 rfl) (fun _ => ?_) (fun _ => ?_)
        · refine g_goto (pc := 865) X (off := 416) (tgt := 1281) rfl (dl_at t_L_law 489 rfl) ?_
          refine g_ls (ls2 := [(0, rv D (-1)), (1, rv D a0), (2, rv D a8), (3, rv D a17), (4, iv x4_23)]) [3, 4, 5, 6, 2] rfl ?_
          exact J1281 h833 (E815.trans E833)
        refine g_aload_n (pc := 854) X (j := 3) (i := 3) (q := 6) (x := a17) rfl rfl (dl_at t_L_law 481 rfl) ?_
        refine g_iconst (pc := 855) X (n := 0) (dl_at t_L_law 482 rfl) ?_
        refine g_gd fun k856 => ?_
        refine g_lald (pc := 856) X (r32_c rfl) k856 (dl_at t_L_law 483 rfl) fun g856 => ?_
        refine g_lload (pc := 857) X (i := 6) (q := 0) (x := v833) rfl (dl_at t_L_law 484 rfl) ?_
        refine g_lcmp (pc := 859) X g856 g833 (dl_at t_L_law 485 rfl) ?_
        refine g_ifeq (pc := 860) X (r32_lcmp _ _) (off := 5) (tgt := 865) rfl (dl_at t_L_law 486 rfl) (fun _ => ?_) (fun _ => ?_)
        · refine g_goto (pc := 865) X (off := 416) (tgt := 1281) rfl (dl_at t_L_law 489 rfl) ?_
          refine g_ls (ls2 := [(0, rv D (-1)), (1, rv D a0), (2, rv D a8), (3, rv D a17), (4, iv x4_23)]) [3, 4, 5, 6, 2] rfl ?_
          exact J1281 h833 (E815.trans E833)
        refine g_iconst (pc := 863) X (n := 0) (dl_at t_L_law 487 rfl) ?_
        exact g_at fun Q hQ => (g_zret (pc := 864) X (Or.inl rfl) rfl rfl (dl_at t_L_law 488 rfl)) _ Q rfl hQ
      refine g_iconst (pc := 847) X (n := 0) (dl_at t_L_law 477 rfl) ?_
      exact g_at fun Q hQ => (g_zret (pc := 848) X (Or.inl rfl) rfl rfl (dl_at t_L_law 478 rfl)) _ Q rfl hQ
    refine g_case (fun w40_13 => ?_) (fun nw40_13 => ?_)
    · refine g_tabIn (pc := 40) X (off := 828) (tgt := 868) (r32_iand _ _) w40_13 (by decide) (by decide) rfl rfl dS_L_law_40 ?_
      refine g_aload_n (pc := 868) X (j := 1) (i := 1) (q := 1) (x := a0) rfl rfl (dl_at t_L_law 490 rfl) ?_
      refine g_aload_n (pc := 869) X (j := 0) (i := 0) (q := 0) (x := (-1)) rfl rfl (dl_at t_L_law 491 rfl) ?_
      refine g_iload (pc := 870) X (i := 4) (q := 4) (x := x4_23) rfl (dl_at t_L_law 492 rfl) ?_
      refine g_iconst (pc := 872) X (n := 1) (dl_at t_L_law 493 rfl) ?_
      refine g_iadd (pc := 873) X r4_23 (r32_c rfl) (dl_at t_L_law 494 rfl) ?_
      refine g_gd fun k874 => ?_
      refine g_scA (pc := 874) X hS (r32_w _) k874 (dl_at t_L_law 495 rfl) ?_
      refine g_aload_n (pc := 875) X (j := 0) (i := 0) (q := 0) (x := (-1)) rfl rfl (dl_at t_L_law 496 rfl) ?_
      refine g_iload (pc := 876) X (i := 4) (q := 4) (x := x4_23) rfl (dl_at t_L_law 497 rfl) ?_
      refine g_iconst (pc := 878) X (n := 2) (dl_at t_L_law 498 rfl) ?_
      refine g_iadd (pc := 879) X r4_23 (r32_c rfl) (dl_at t_L_law 499 rfl) ?_
      refine g_gd fun k880 => ?_
      refine g_scA (pc := 880) X hS (r32_w _) k880 (dl_at t_L_law 500 rfl) ?_
      refine g_aload_n (pc := 881) X (j := 3) (i := 3) (q := 3) (x := a17) rfl rfl (dl_at t_L_law 501 rfl) ?_
      refine r_callWi (pc := 882) X (fun _ hv => s_X0_paragraph (hS.2.1 _) (hS.2.1 _) hv) cw_with q3128 q354 (in_Sw X (As := [rv D a0, iv (sc (w32 (x4_23 + 1))), iv (sc (w32 (x4_23 + 2))), rv D a17]) (Or.inl q3126) q3127 q354 q3128 ⟨by decide, by decide⟩ rfl (dl_at t_L_law 502 rfl)) (dl_at t_L_law 502 rfl) (cat24 (st := []) (Nat.le_of_ble_eq_true rfl)) (Nat.le_of_ble_eq_true rfl) (Nat.le_of_ble_eq_true rfl) fun v882 h882 g882 E882 => ?_
      refine g_istoreN (pc := 885) X (i := 5) (x := v882) (b := 4) (w := iv x4_23) (rest := [(0, rv D (-1)), (1, rv D a0), (2, rv D a8), (3, rv D a17)]) (Nat.le_of_ble_eq_true rfl) [4, 0, 1, 2, 3] rfl (by decide) rfl rfl (dl_at t_L_law 503 rfl) ?_
      refine g_aload_n (pc := 887) X (j := 2) (i := 2) (q := 4) (x := a8) rfl rfl (dl_at t_L_law 504 rfl) ?_
      refine g_aload_n (pc := 888) X (j := 0) (i := 0) (q := 2) (x := (-1)) rfl rfl (dl_at t_L_law 505 rfl) ?_
      refine g_iload (pc := 889) X (i := 4) (q := 1) (x := x4_23) rfl (dl_at t_L_law 506 rfl) ?_
      refine g_iconst (pc := 891) X (n := 1) (dl_at t_L_law 507 rfl) ?_
      refine g_iadd (pc := 892) X r4_23 (r32_c rfl) (dl_at t_L_law 508 rfl) ?_
      refine g_gd fun k893 => ?_
      refine g_scA (pc := 893) X hS (r32_w _) k893 (dl_at t_L_law 509 rfl) ?_
      refine g_aload_n (pc := 894) X (j := 0) (i := 0) (q := 2) (x := (-1)) rfl rfl (dl_at t_L_law 510 rfl) ?_
      refine g_iload (pc := 895) X (i := 4) (q := 1) (x := x4_23) rfl (dl_at t_L_law 511 rfl) ?_
      refine g_iconst (pc := 897) X (n := 2) (dl_at t_L_law 512 rfl) ?_
      refine g_iadd (pc := 898) X r4_23 (r32_c rfl) (dl_at t_L_law 513 rfl) ?_
      refine g_gd fun k899 => ?_
      refine g_scA (pc := 899) X hS (r32_w _) k899 (dl_at t_L_law 514 rfl) ?_
      have k900 := kx (E12.trans (E17.trans (E_23.trans E882))) (by decide) k8
      refine r_callWl (pc := 900) X (fun _ hv => s_X18_paragraph k900 (hS.2.1 _) (hS.2.1 _) hv) cw_code q5182 q372 (in_Vk X (As := [iv (sc (w32 (x4_23 + 1))), iv (sc (w32 (x4_23 + 2)))]) kX18 k900 (Or.inl q5179) q5180 q5181 cw_code q5182 ⟨by decide, by decide⟩ rfl (dl_at t_L_law 515 rfl)) (dl_at t_L_law 515 rfl) (cat24 (st := []) (Nat.le_of_ble_eq_true rfl)) (Nat.le_of_ble_eq_true rfl) (Nat.le_of_ble_eq_true rfl) fun v900 h900 g900 E900 => ?_
      refine g_lstoreN (pc := 903) X (i := 6) (x := v900) (b := 5) (w := iv v882) (rest := [(4, iv x4_23), (0, rv D (-1)), (1, rv D a0), (2, rv D a8), (3, rv D a17)]) (Nat.le_of_ble_eq_true rfl) [0, 1, 2, 3, 4, 5] rfl (by decide) (by decide) rfl rfl (dl_at t_L_law 516 rfl) ?_
      refine g_aload_n (pc := 905) X (j := 2) (i := 2) (q := 5) (x := a8) rfl rfl (dl_at t_L_law 517 rfl) ?_
      have k906 := kx E900 (by decide) k900
      refine r_callRi (pc := 906) X (fun _ hv => s_X18_thrown k906 hv) cw_code q4309 q372 (in_Vk X (As := []) kX18 k906 (Or.inl q4306) q4307 q4308 cw_code q4309 ⟨by decide, by decide⟩ rfl (dl_at t_L_law 518 rfl)) (dl_at t_L_law 518 rfl) (cat24 (st := []) (Nat.le_of_ble_eq_true rfl)) (Nat.le_of_ble_eq_true rfl) (Nat.le_of_ble_eq_true rfl) fun v906 g906 => ?_
      refine g_iload (pc := 909) X (i := 5) (q := 1) (x := v882) rfl (dl_at t_L_law 519 rfl) ?_
      refine g_icmpeq (pc := 911) X g906 g882 (off := 5) (tgt := 916) rfl (dl_at t_L_law 520 rfl) (fun _ => ?_) (fun _ => ?_)
      · refine g_iload (pc := 916) X (i := 5) (q := 1) (x := v882) rfl (dl_at t_L_law 523 rfl) ?_
        refine g_ifne (pc := 918) X g882 (off := 14) (tgt := 932) rfl (dl_at t_L_law 524 rfl) (fun _ => ?_) (fun _ => ?_)
        · refine g_goto (pc := 932) X (off := 349) (tgt := 1281) rfl (dl_at t_L_law 533 rfl) ?_
          refine g_ls (ls2 := [(0, rv D (-1)), (1, rv D a0), (2, rv D a8), (3, rv D a17), (4, iv x4_23)]) [3, 4, 5, 6, 2] rfl ?_
          exact J1281 h900 (E882.trans E900)
        refine g_aload_n (pc := 921) X (j := 3) (i := 3) (q := 6) (x := a17) rfl rfl (dl_at t_L_law 525 rfl) ?_
        refine g_iconst (pc := 922) X (n := 0) (dl_at t_L_law 526 rfl) ?_
        refine g_gd fun k923 => ?_
        refine g_lald (pc := 923) X (r32_c rfl) k923 (dl_at t_L_law 527 rfl) fun g923 => ?_
        refine g_lload (pc := 924) X (i := 6) (q := 0) (x := v900) rfl (dl_at t_L_law 528 rfl) ?_
        refine g_lcmp (pc := 926) X g923 g900 (dl_at t_L_law 529 rfl) ?_
        refine g_ifeq (pc := 927) X (r32_lcmp _ _) (off := 5) (tgt := 932) rfl (dl_at t_L_law 530 rfl) (fun _ => ?_) (fun _ => ?_)
        · refine g_goto (pc := 932) X (off := 349) (tgt := 1281) rfl (dl_at t_L_law 533 rfl) ?_
          refine g_ls (ls2 := [(0, rv D (-1)), (1, rv D a0), (2, rv D a8), (3, rv D a17), (4, iv x4_23)]) [3, 4, 5, 6, 2] rfl ?_
          exact J1281 h900 (E882.trans E900)
        refine g_iconst (pc := 930) X (n := 0) (dl_at t_L_law 531 rfl) ?_
        exact g_at fun Q hQ => (g_zret (pc := 931) X (Or.inl rfl) rfl rfl (dl_at t_L_law 532 rfl)) _ Q rfl hQ
      refine g_iconst (pc := 914) X (n := 0) (dl_at t_L_law 521 rfl) ?_
      exact g_at fun Q hQ => (g_zret (pc := 915) X (Or.inl rfl) rfl rfl (dl_at t_L_law 522 rfl)) _ Q rfl hQ
    refine g_case (fun w40_14 => ?_) (fun nw40_14 => ?_)
    · refine g_tabIn (pc := 40) X (off := 895) (tgt := 935) (r32_iand _ _) w40_14 (by decide) (by decide) rfl rfl dS_L_law_40 ?_
      refine g_aload_n (pc := 935) X (j := 1) (i := 1) (q := 1) (x := a0) rfl rfl (dl_at t_L_law 534 rfl) ?_
      refine g_aload_n (pc := 936) X (j := 0) (i := 0) (q := 0) (x := (-1)) rfl rfl (dl_at t_L_law 535 rfl) ?_
      refine g_iload (pc := 937) X (i := 4) (q := 4) (x := x4_23) rfl (dl_at t_L_law 536 rfl) ?_
      refine g_iconst (pc := 939) X (n := 1) (dl_at t_L_law 537 rfl) ?_
      refine g_iadd (pc := 940) X r4_23 (r32_c rfl) (dl_at t_L_law 538 rfl) ?_
      refine g_gd fun k941 => ?_
      refine g_scA (pc := 941) X hS (r32_w _) k941 (dl_at t_L_law 539 rfl) ?_
      refine g_aload_n (pc := 942) X (j := 3) (i := 3) (q := 3) (x := a17) rfl rfl (dl_at t_L_law 540 rfl) ?_
      refine r_callWi (pc := 943) X (fun _ hv => s_X0_judge (hS.2.1 _) hv) cw_with q3135 q354 (in_Sw X (As := [rv D a0, iv (sc (w32 (x4_23 + 1))), rv D a17]) (Or.inl q3133) q3134 q354 q3135 ⟨by decide, by decide⟩ rfl (dl_at t_L_law 541 rfl)) (dl_at t_L_law 541 rfl) (cat24 (st := []) (Nat.le_of_ble_eq_true rfl)) (Nat.le_of_ble_eq_true rfl) (Nat.le_of_ble_eq_true rfl) fun v943 h943 g943 E943 => ?_
      refine g_istoreN (pc := 946) X (i := 5) (x := v943) (b := 4) (w := iv x4_23) (rest := [(0, rv D (-1)), (1, rv D a0), (2, rv D a8), (3, rv D a17)]) (Nat.le_of_ble_eq_true rfl) [4, 0, 1, 2, 3] rfl (by decide) rfl rfl (dl_at t_L_law 542 rfl) ?_
      refine g_aload_n (pc := 948) X (j := 2) (i := 2) (q := 4) (x := a8) rfl rfl (dl_at t_L_law 543 rfl) ?_
      refine g_aload_n (pc := 949) X (j := 0) (i := 0) (q := 2) (x := (-1)) rfl rfl (dl_at t_L_law 544 rfl) ?_
      refine g_iload (pc := 950) X (i := 4) (q := 1) (x := x4_23) rfl (dl_at t_L_law 545 rfl) ?_
      refine g_iconst (pc := 952) X (n := 1) (dl_at t_L_law 546 rfl) ?_
      refine g_iadd (pc := 953) X r4_23 (r32_c rfl) (dl_at t_L_law 547 rfl) ?_
      refine g_gd fun k954 => ?_
      refine g_scA (pc := 954) X hS (r32_w _) k954 (dl_at t_L_law 548 rfl) ?_
      have k955 := kx (E12.trans (E17.trans (E_23.trans E943))) (by decide) k8
      refine r_callWl (pc := 955) X (fun _ hv => s_X18_judge k955 (hS.2.1 _) hv) cw_code q5186 q372 (in_Vk X (As := [iv (sc (w32 (x4_23 + 1)))]) kX18 k955 (Or.inl q5183) q5184 q5185 cw_code q5186 ⟨by decide, by decide⟩ rfl (dl_at t_L_law 549 rfl)) (dl_at t_L_law 549 rfl) (cat24 (st := []) (Nat.le_of_ble_eq_true rfl)) (Nat.le_of_ble_eq_true rfl) (Nat.le_of_ble_eq_true rfl) fun v955 h955 g955 E955 => ?_
      refine g_lstoreN (pc := 958) X (i := 6) (x := v955) (b := 5) (w := iv v943) (rest := [(4, iv x4_23), (0, rv D (-1)), (1, rv D a0), (2, rv D a8), (3, rv D a17)]) (Nat.le_of_ble_eq_true rfl) [0, 1, 2, 3, 4, 5] rfl (by decide) (by decide) rfl rfl (dl_at t_L_law 550 rfl) ?_
      refine g_aload_n (pc := 960) X (j := 2) (i := 2) (q := 5) (x := a8) rfl rfl (dl_at t_L_law 551 rfl) ?_
      have k961 := kx E955 (by decide) k955
      refine r_callRi (pc := 961) X (fun _ hv => s_X18_thrown k961 hv) cw_code q4309 q372 (in_Vk X (As := []) kX18 k961 (Or.inl q4306) q4307 q4308 cw_code q4309 ⟨by decide, by decide⟩ rfl (dl_at t_L_law 552 rfl)) (dl_at t_L_law 552 rfl) (cat24 (st := []) (Nat.le_of_ble_eq_true rfl)) (Nat.le_of_ble_eq_true rfl) (Nat.le_of_ble_eq_true rfl) fun v961 g961 => ?_
      refine g_iload (pc := 964) X (i := 5) (q := 1) (x := v943) rfl (dl_at t_L_law 553 rfl) ?_
      refine g_icmpeq (pc := 966) X g961 g943 (off := 5) (tgt := 971) rfl (dl_at t_L_law 554 rfl) (fun _ => ?_) (fun _ => ?_)
      · refine g_iload (pc := 971) X (i := 5) (q := 1) (x := v943) rfl (dl_at t_L_law 557 rfl) ?_
        refine g_ifne (pc := 973) X g943 (off := 14) (tgt := 987) rfl (dl_at t_L_law 558 rfl) (fun _ => ?_) (fun _ => ?_)
        · refine g_goto (pc := 987) X (off := 294) (tgt := 1281) rfl (dl_at t_L_law 567 rfl) ?_
          refine g_ls (ls2 := [(0, rv D (-1)), (1, rv D a0), (2, rv D a8), (3, rv D a17), (4, iv x4_23)]) [3, 4, 5, 6, 2] rfl ?_
          exact J1281 h955 (E943.trans E955)
        refine g_aload_n (pc := 976) X (j := 3) (i := 3) (q := 6) (x := a17) rfl rfl (dl_at t_L_law 559 rfl) ?_
        refine g_iconst (pc := 977) X (n := 0) (dl_at t_L_law 560 rfl) ?_
        refine g_gd fun k978 => ?_
        refine g_lald (pc := 978) X (r32_c rfl) k978 (dl_at t_L_law 561 rfl) fun g978 => ?_
        refine g_lload (pc := 979) X (i := 6) (q := 0) (x := v955) rfl (dl_at t_L_law 562 rfl) ?_
        refine g_lcmp (pc := 981) X g978 g955 (dl_at t_L_law 563 rfl) ?_
        refine g_ifeq (pc := 982) X (r32_lcmp _ _) (off := 5) (tgt := 987) rfl (dl_at t_L_law 564 rfl) (fun _ => ?_) (fun _ => ?_)
        · refine g_goto (pc := 987) X (off := 294) (tgt := 1281) rfl (dl_at t_L_law 567 rfl) ?_
          refine g_ls (ls2 := [(0, rv D (-1)), (1, rv D a0), (2, rv D a8), (3, rv D a17), (4, iv x4_23)]) [3, 4, 5, 6, 2] rfl ?_
          exact J1281 h955 (E943.trans E955)
        refine g_iconst (pc := 985) X (n := 0) (dl_at t_L_law 565 rfl) ?_
        exact g_at fun Q hQ => (g_zret (pc := 986) X (Or.inl rfl) rfl rfl (dl_at t_L_law 566 rfl)) _ Q rfl hQ
      refine g_iconst (pc := 969) X (n := 0) (dl_at t_L_law 555 rfl) ?_
      exact g_at fun Q hQ => (g_zret (pc := 970) X (Or.inl rfl) rfl rfl (dl_at t_L_law 556 rfl)) _ Q rfl hQ
    refine g_case (fun w40_15 => ?_) (fun nw40_15 => ?_)
    · refine g_tabIn (pc := 40) X (off := 950) (tgt := 990) (r32_iand _ _) w40_15 (by decide) (by decide) rfl rfl dS_L_law_40 ?_
      refine g_aload_n (pc := 990) X (j := 1) (i := 1) (q := 1) (x := a0) rfl rfl (dl_at t_L_law 568 rfl) ?_
      refine g_aload_n (pc := 991) X (j := 0) (i := 0) (q := 0) (x := (-1)) rfl rfl (dl_at t_L_law 569 rfl) ?_
      refine g_iload (pc := 992) X (i := 4) (q := 4) (x := x4_23) rfl (dl_at t_L_law 570 rfl) ?_
      refine g_iconst (pc := 994) X (n := 1) (dl_at t_L_law 571 rfl) ?_
      refine g_iadd (pc := 995) X r4_23 (r32_c rfl) (dl_at t_L_law 572 rfl) ?_
      refine g_gd fun k996 => ?_
      refine g_scA (pc := 996) X hS (r32_w _) k996 (dl_at t_L_law 573 rfl) ?_
      refine g_aload_n (pc := 997) X (j := 3) (i := 3) (q := 3) (x := a17) rfl rfl (dl_at t_L_law 574 rfl) ?_
      refine r_callWi (pc := 998) X (fun _ hv => s_X0_where (hS.2.1 _) hv) cw_with q3149 q354 (in_Sw X (As := [rv D a0, iv (sc (w32 (x4_23 + 1))), rv D a17]) (Or.inl q3147) q3148 q354 q3149 ⟨by decide, by decide⟩ rfl (dl_at t_L_law 575 rfl)) (dl_at t_L_law 575 rfl) (cat24 (st := []) (Nat.le_of_ble_eq_true rfl)) (Nat.le_of_ble_eq_true rfl) (Nat.le_of_ble_eq_true rfl) fun v998 h998 g998 E998 => ?_
      refine g_istoreN (pc := 1001) X (i := 5) (x := v998) (b := 4) (w := iv x4_23) (rest := [(0, rv D (-1)), (1, rv D a0), (2, rv D a8), (3, rv D a17)]) (Nat.le_of_ble_eq_true rfl) [4, 0, 1, 2, 3] rfl (by decide) rfl rfl (dl_at t_L_law 576 rfl) ?_
      refine g_aload_n (pc := 1003) X (j := 2) (i := 2) (q := 4) (x := a8) rfl rfl (dl_at t_L_law 577 rfl) ?_
      refine g_aload_n (pc := 1004) X (j := 0) (i := 0) (q := 2) (x := (-1)) rfl rfl (dl_at t_L_law 578 rfl) ?_
      refine g_iload (pc := 1005) X (i := 4) (q := 1) (x := x4_23) rfl (dl_at t_L_law 579 rfl) ?_
      refine g_iconst (pc := 1007) X (n := 1) (dl_at t_L_law 580 rfl) ?_
      refine g_iadd (pc := 1008) X r4_23 (r32_c rfl) (dl_at t_L_law 581 rfl) ?_
      refine g_gd fun k1009 => ?_
      refine g_scA (pc := 1009) X hS (r32_w _) k1009 (dl_at t_L_law 582 rfl) ?_
      have k1010 := kx (E12.trans (E17.trans (E_23.trans E998))) (by decide) k8
      refine r_callWi (pc := 1010) X (fun _ hv => s_X18_where k1010 (hS.2.1 _) hv) cw_code q5196 q372 (in_Vk X (As := [iv (sc (w32 (x4_23 + 1)))]) kX18 k1010 (Or.inl q5193) q5194 q5195 cw_code q5196 ⟨by decide, by decide⟩ rfl (dl_at t_L_law 583 rfl)) (dl_at t_L_law 583 rfl) (cat24 (st := []) (Nat.le_of_ble_eq_true rfl)) (Nat.le_of_ble_eq_true rfl) (Nat.le_of_ble_eq_true rfl) fun v1010 h1010 g1010 E1010 => ?_
      refine g_istoreN (pc := 1013) X (i := 6) (x := v1010) (b := 5) (w := iv v998) (rest := [(4, iv x4_23), (0, rv D (-1)), (1, rv D a0), (2, rv D a8), (3, rv D a17)]) (Nat.le_of_ble_eq_true rfl) [0, 1, 2, 3, 4, 5] rfl (by decide) rfl rfl (dl_at t_L_law 584 rfl) ?_
      refine g_aload_n (pc := 1015) X (j := 2) (i := 2) (q := 5) (x := a8) rfl rfl (dl_at t_L_law 585 rfl) ?_
      have k1016 := kx E1010 (by decide) k1010
      refine r_callRi (pc := 1016) X (fun _ hv => s_X18_thrown k1016 hv) cw_code q4309 q372 (in_Vk X (As := []) kX18 k1016 (Or.inl q4306) q4307 q4308 cw_code q4309 ⟨by decide, by decide⟩ rfl (dl_at t_L_law 586 rfl)) (dl_at t_L_law 586 rfl) (cat24 (st := []) (Nat.le_of_ble_eq_true rfl)) (Nat.le_of_ble_eq_true rfl) (Nat.le_of_ble_eq_true rfl) fun v1016 g1016 => ?_
      refine g_iload (pc := 1019) X (i := 5) (q := 1) (x := v998) rfl (dl_at t_L_law 587 rfl) ?_
      refine g_icmpeq (pc := 1021) X g1016 g998 (off := 5) (tgt := 1026) rfl (dl_at t_L_law 588 rfl) (fun _ => ?_) (fun _ => ?_)
      · refine g_iload (pc := 1026) X (i := 5) (q := 1) (x := v998) rfl (dl_at t_L_law 591 rfl) ?_
        refine g_ifne (pc := 1028) X g998 (off := 15) (tgt := 1043) rfl (dl_at t_L_law 592 rfl) (fun _ => ?_) (fun _ => ?_)
        · refine g_goto (pc := 1043) X (off := 238) (tgt := 1281) rfl (dl_at t_L_law 602 rfl) ?_
          refine g_ls (ls2 := [(0, rv D (-1)), (1, rv D a0), (2, rv D a8), (3, rv D a17), (4, iv x4_23)]) [3, 4, 5, 6, 2] rfl ?_
          exact J1281 h1010 (E998.trans E1010)
        refine g_aload_n (pc := 1031) X (j := 3) (i := 3) (q := 6) (x := a17) rfl rfl (dl_at t_L_law 593 rfl) ?_
        refine g_iconst (pc := 1032) X (n := 0) (dl_at t_L_law 594 rfl) ?_
        refine g_gd fun k1033 => ?_
        refine g_lald (pc := 1033) X (r32_c rfl) k1033 (dl_at t_L_law 595 rfl) fun g1033 => ?_
        refine g_iload (pc := 1034) X (i := 6) (q := 0) (x := v1010) rfl (dl_at t_L_law 596 rfl) ?_
        refine g_i2l (pc := 1036) X g1010 (dl_at t_L_law 597 rfl) ?_
        refine g_lcmp (pc := 1037) X g1033 (r64_of g1010) (dl_at t_L_law 598 rfl) ?_
        refine g_ifeq (pc := 1038) X (r32_lcmp _ _) (off := 5) (tgt := 1043) rfl (dl_at t_L_law 599 rfl) (fun _ => ?_) (fun _ => ?_)
        · refine g_goto (pc := 1043) X (off := 238) (tgt := 1281) rfl (dl_at t_L_law 602 rfl) ?_
          refine g_ls (ls2 := [(0, rv D (-1)), (1, rv D a0), (2, rv D a8), (3, rv D a17), (4, iv x4_23)]) [3, 4, 5, 6, 2] rfl ?_
          exact J1281 h1010 (E998.trans E1010)
        refine g_iconst (pc := 1041) X (n := 0) (dl_at t_L_law 600 rfl) ?_
        exact g_at fun Q hQ => (g_zret (pc := 1042) X (Or.inl rfl) rfl rfl (dl_at t_L_law 601 rfl)) _ Q rfl hQ
      refine g_iconst (pc := 1024) X (n := 0) (dl_at t_L_law 589 rfl) ?_
      exact g_at fun Q hQ => (g_zret (pc := 1025) X (Or.inl rfl) rfl rfl (dl_at t_L_law 590 rfl)) _ Q rfl hQ
    refine g_case (fun w40_16 => ?_) (fun nw40_16 => ?_)
    · refine g_tabIn (pc := 40) X (off := 1006) (tgt := 1046) (r32_iand _ _) w40_16 (by decide) (by decide) rfl rfl dS_L_law_40 ?_
      refine g_aload_n (pc := 1046) X (j := 1) (i := 1) (q := 1) (x := a0) rfl rfl (dl_at t_L_law 603 rfl) ?_
      refine g_aload_n (pc := 1047) X (j := 0) (i := 0) (q := 0) (x := (-1)) rfl rfl (dl_at t_L_law 604 rfl) ?_
      refine g_iload (pc := 1048) X (i := 4) (q := 4) (x := x4_23) rfl (dl_at t_L_law 605 rfl) ?_
      refine g_iconst (pc := 1050) X (n := 1) (dl_at t_L_law 606 rfl) ?_
      refine g_iadd (pc := 1051) X r4_23 (r32_c rfl) (dl_at t_L_law 607 rfl) ?_
      refine g_gd fun k1052 => ?_
      refine g_scA (pc := 1052) X hS (r32_w _) k1052 (dl_at t_L_law 608 rfl) ?_
      refine g_aload_n (pc := 1053) X (j := 0) (i := 0) (q := 0) (x := (-1)) rfl rfl (dl_at t_L_law 609 rfl) ?_
      refine g_iload (pc := 1054) X (i := 4) (q := 4) (x := x4_23) rfl (dl_at t_L_law 610 rfl) ?_
      refine g_iconst (pc := 1056) X (n := 2) (dl_at t_L_law 611 rfl) ?_
      refine g_iadd (pc := 1057) X r4_23 (r32_c rfl) (dl_at t_L_law 612 rfl) ?_
      refine g_gd fun k1058 => ?_
      refine g_scA (pc := 1058) X hS (r32_w _) k1058 (dl_at t_L_law 613 rfl) ?_
      refine g_aload_n (pc := 1059) X (j := 3) (i := 3) (q := 3) (x := a17) rfl rfl (dl_at t_L_law 614 rfl) ?_
      refine r_callWi (pc := 1060) X (fun _ hv => s_X0_note (hS.2.1 _) (hS.2.1 _) hv) cw_with q3179 q354 (in_Sw X (As := [rv D a0, iv (sc (w32 (x4_23 + 1))), iv (sc (w32 (x4_23 + 2))), rv D a17]) (Or.inl q3177) q3178 q354 q3179 ⟨by decide, by decide⟩ rfl (dl_at t_L_law 615 rfl)) (dl_at t_L_law 615 rfl) (cat24 (st := []) (Nat.le_of_ble_eq_true rfl)) (Nat.le_of_ble_eq_true rfl) (Nat.le_of_ble_eq_true rfl) fun v1060 h1060 g1060 E1060 => ?_
      refine g_istoreN (pc := 1063) X (i := 5) (x := v1060) (b := 4) (w := iv x4_23) (rest := [(0, rv D (-1)), (1, rv D a0), (2, rv D a8), (3, rv D a17)]) (Nat.le_of_ble_eq_true rfl) [4, 0, 1, 2, 3] rfl (by decide) rfl rfl (dl_at t_L_law 616 rfl) ?_
      refine g_aload_n (pc := 1065) X (j := 2) (i := 2) (q := 4) (x := a8) rfl rfl (dl_at t_L_law 617 rfl) ?_
      refine g_aload_n (pc := 1066) X (j := 0) (i := 0) (q := 2) (x := (-1)) rfl rfl (dl_at t_L_law 618 rfl) ?_
      refine g_iload (pc := 1067) X (i := 4) (q := 1) (x := x4_23) rfl (dl_at t_L_law 619 rfl) ?_
      refine g_iconst (pc := 1069) X (n := 1) (dl_at t_L_law 620 rfl) ?_
      refine g_iadd (pc := 1070) X r4_23 (r32_c rfl) (dl_at t_L_law 621 rfl) ?_
      refine g_gd fun k1071 => ?_
      refine g_scA (pc := 1071) X hS (r32_w _) k1071 (dl_at t_L_law 622 rfl) ?_
      refine g_aload_n (pc := 1072) X (j := 0) (i := 0) (q := 2) (x := (-1)) rfl rfl (dl_at t_L_law 623 rfl) ?_
      refine g_iload (pc := 1073) X (i := 4) (q := 1) (x := x4_23) rfl (dl_at t_L_law 624 rfl) ?_
      refine g_iconst (pc := 1075) X (n := 2) (dl_at t_L_law 625 rfl) ?_
      refine g_iadd (pc := 1076) X r4_23 (r32_c rfl) (dl_at t_L_law 626 rfl) ?_
      refine g_gd fun k1077 => ?_
      refine g_scA (pc := 1077) X hS (r32_w _) k1077 (dl_at t_L_law 627 rfl) ?_
      have k1078 := kx (E12.trans (E17.trans (E_23.trans E1060))) (by decide) k8
      refine r_callWi (pc := 1078) X (fun _ hv => s_X18_note k1078 (hS.2.1 _) (hS.2.1 _) hv) cw_code q5201 q372 (in_Vk X (As := [iv (sc (w32 (x4_23 + 1))), iv (sc (w32 (x4_23 + 2)))]) kX18 k1078 (Or.inl q5198) q5199 q5200 cw_code q5201 ⟨by decide, by decide⟩ rfl (dl_at t_L_law 628 rfl)) (dl_at t_L_law 628 rfl) (cat24 (st := []) (Nat.le_of_ble_eq_true rfl)) (Nat.le_of_ble_eq_true rfl) (Nat.le_of_ble_eq_true rfl) fun v1078 h1078 g1078 E1078 => ?_
      refine g_istoreN (pc := 1081) X (i := 6) (x := v1078) (b := 5) (w := iv v1060) (rest := [(4, iv x4_23), (0, rv D (-1)), (1, rv D a0), (2, rv D a8), (3, rv D a17)]) (Nat.le_of_ble_eq_true rfl) [0, 1, 2, 3, 4, 5] rfl (by decide) rfl rfl (dl_at t_L_law 629 rfl) ?_
      refine g_aload_n (pc := 1083) X (j := 2) (i := 2) (q := 5) (x := a8) rfl rfl (dl_at t_L_law 630 rfl) ?_
      have k1084 := kx E1078 (by decide) k1078
      refine r_callRi (pc := 1084) X (fun _ hv => s_X18_thrown k1084 hv) cw_code q4309 q372 (in_Vk X (As := []) kX18 k1084 (Or.inl q4306) q4307 q4308 cw_code q4309 ⟨by decide, by decide⟩ rfl (dl_at t_L_law 631 rfl)) (dl_at t_L_law 631 rfl) (cat24 (st := []) (Nat.le_of_ble_eq_true rfl)) (Nat.le_of_ble_eq_true rfl) (Nat.le_of_ble_eq_true rfl) fun v1084 g1084 => ?_
      refine g_iload (pc := 1087) X (i := 5) (q := 1) (x := v1060) rfl (dl_at t_L_law 632 rfl) ?_
      refine g_icmpeq (pc := 1089) X g1084 g1060 (off := 5) (tgt := 1094) rfl (dl_at t_L_law 633 rfl) (fun _ => ?_) (fun _ => ?_)
      · refine g_iload (pc := 1094) X (i := 5) (q := 1) (x := v1060) rfl (dl_at t_L_law 636 rfl) ?_
        refine g_ifne (pc := 1096) X g1060 (off := 15) (tgt := 1111) rfl (dl_at t_L_law 637 rfl) (fun _ => ?_) (fun _ => ?_)
        · refine g_goto (pc := 1111) X (off := 170) (tgt := 1281) rfl (dl_at t_L_law 647 rfl) ?_
          refine g_ls (ls2 := [(0, rv D (-1)), (1, rv D a0), (2, rv D a8), (3, rv D a17), (4, iv x4_23)]) [3, 4, 5, 6, 2] rfl ?_
          exact J1281 h1078 (E1060.trans E1078)
        refine g_aload_n (pc := 1099) X (j := 3) (i := 3) (q := 6) (x := a17) rfl rfl (dl_at t_L_law 638 rfl) ?_
        refine g_iconst (pc := 1100) X (n := 0) (dl_at t_L_law 639 rfl) ?_
        refine g_gd fun k1101 => ?_
        refine g_lald (pc := 1101) X (r32_c rfl) k1101 (dl_at t_L_law 640 rfl) fun g1101 => ?_
        refine g_iload (pc := 1102) X (i := 6) (q := 0) (x := v1078) rfl (dl_at t_L_law 641 rfl) ?_
        refine g_i2l (pc := 1104) X g1078 (dl_at t_L_law 642 rfl) ?_
        refine g_lcmp (pc := 1105) X g1101 (r64_of g1078) (dl_at t_L_law 643 rfl) ?_
        refine g_ifeq (pc := 1106) X (r32_lcmp _ _) (off := 5) (tgt := 1111) rfl (dl_at t_L_law 644 rfl) (fun _ => ?_) (fun _ => ?_)
        · refine g_goto (pc := 1111) X (off := 170) (tgt := 1281) rfl (dl_at t_L_law 647 rfl) ?_
          refine g_ls (ls2 := [(0, rv D (-1)), (1, rv D a0), (2, rv D a8), (3, rv D a17), (4, iv x4_23)]) [3, 4, 5, 6, 2] rfl ?_
          exact J1281 h1078 (E1060.trans E1078)
        refine g_iconst (pc := 1109) X (n := 0) (dl_at t_L_law 645 rfl) ?_
        exact g_at fun Q hQ => (g_zret (pc := 1110) X (Or.inl rfl) rfl rfl (dl_at t_L_law 646 rfl)) _ Q rfl hQ
      refine g_iconst (pc := 1092) X (n := 0) (dl_at t_L_law 634 rfl) ?_
      exact g_at fun Q hQ => (g_zret (pc := 1093) X (Or.inl rfl) rfl rfl (dl_at t_L_law 635 rfl)) _ Q rfl hQ
    refine g_case (fun w40_17 => ?_) (fun nw40_17 => ?_)
    · refine g_tabIn (pc := 40) X (off := 1074) (tgt := 1114) (r32_iand _ _) w40_17 (by decide) (by decide) rfl rfl dS_L_law_40 ?_
      refine g_aload_n (pc := 1114) X (j := 1) (i := 1) (q := 1) (x := a0) rfl rfl (dl_at t_L_law 648 rfl) ?_
      refine g_aload_n (pc := 1115) X (j := 0) (i := 0) (q := 0) (x := (-1)) rfl rfl (dl_at t_L_law 649 rfl) ?_
      refine g_iload (pc := 1116) X (i := 4) (q := 4) (x := x4_23) rfl (dl_at t_L_law 650 rfl) ?_
      refine g_iconst (pc := 1118) X (n := 1) (dl_at t_L_law 651 rfl) ?_
      refine g_iadd (pc := 1119) X r4_23 (r32_c rfl) (dl_at t_L_law 652 rfl) ?_
      refine g_gd fun k1120 => ?_
      refine g_scA (pc := 1120) X hS (r32_w _) k1120 (dl_at t_L_law 653 rfl) ?_
      refine g_aload_n (pc := 1121) X (j := 3) (i := 3) (q := 3) (x := a17) rfl rfl (dl_at t_L_law 654 rfl) ?_
      refine r_callWi (pc := 1122) X (fun _ hv => s_X0_wavering (hS.2.1 _) hv) cw_with q3206 q354 (in_Sw X (As := [rv D a0, iv (sc (w32 (x4_23 + 1))), rv D a17]) (Or.inl q3204) q3205 q354 q3206 ⟨by decide, by decide⟩ rfl (dl_at t_L_law 655 rfl)) (dl_at t_L_law 655 rfl) (cat24 (st := []) (Nat.le_of_ble_eq_true rfl)) (Nat.le_of_ble_eq_true rfl) (Nat.le_of_ble_eq_true rfl) fun v1122 h1122 g1122 E1122 => ?_
      refine g_istoreN (pc := 1125) X (i := 5) (x := v1122) (b := 4) (w := iv x4_23) (rest := [(0, rv D (-1)), (1, rv D a0), (2, rv D a8), (3, rv D a17)]) (Nat.le_of_ble_eq_true rfl) [4, 0, 1, 2, 3] rfl (by decide) rfl rfl (dl_at t_L_law 656 rfl) ?_
      refine g_aload_n (pc := 1127) X (j := 2) (i := 2) (q := 4) (x := a8) rfl rfl (dl_at t_L_law 657 rfl) ?_
      refine g_aload_n (pc := 1128) X (j := 0) (i := 0) (q := 2) (x := (-1)) rfl rfl (dl_at t_L_law 658 rfl) ?_
      refine g_iload (pc := 1129) X (i := 4) (q := 1) (x := x4_23) rfl (dl_at t_L_law 659 rfl) ?_
      refine g_iconst (pc := 1131) X (n := 1) (dl_at t_L_law 660 rfl) ?_
      refine g_iadd (pc := 1132) X r4_23 (r32_c rfl) (dl_at t_L_law 661 rfl) ?_
      refine g_gd fun k1133 => ?_
      refine g_scA (pc := 1133) X hS (r32_w _) k1133 (dl_at t_L_law 662 rfl) ?_
      have k1134 := kx (E12.trans (E17.trans (E_23.trans E1122))) (by decide) k8
      refine r_callWi (pc := 1134) X (fun _ hv => s_X18_wavering k1134 (hS.2.1 _) hv) cw_code q5205 q372 (in_Vk X (As := [iv (sc (w32 (x4_23 + 1)))]) kX18 k1134 (Or.inl q5202) q5203 q5204 cw_code q5205 ⟨by decide, by decide⟩ rfl (dl_at t_L_law 663 rfl)) (dl_at t_L_law 663 rfl) (cat24 (st := []) (Nat.le_of_ble_eq_true rfl)) (Nat.le_of_ble_eq_true rfl) (Nat.le_of_ble_eq_true rfl) fun v1134 h1134 g1134 E1134 => ?_
      refine g_istoreN (pc := 1137) X (i := 6) (x := v1134) (b := 5) (w := iv v1122) (rest := [(4, iv x4_23), (0, rv D (-1)), (1, rv D a0), (2, rv D a8), (3, rv D a17)]) (Nat.le_of_ble_eq_true rfl) [0, 1, 2, 3, 4, 5] rfl (by decide) rfl rfl (dl_at t_L_law 664 rfl) ?_
      refine g_aload_n (pc := 1139) X (j := 2) (i := 2) (q := 5) (x := a8) rfl rfl (dl_at t_L_law 665 rfl) ?_
      have k1140 := kx E1134 (by decide) k1134
      refine r_callRi (pc := 1140) X (fun _ hv => s_X18_thrown k1140 hv) cw_code q4309 q372 (in_Vk X (As := []) kX18 k1140 (Or.inl q4306) q4307 q4308 cw_code q4309 ⟨by decide, by decide⟩ rfl (dl_at t_L_law 666 rfl)) (dl_at t_L_law 666 rfl) (cat24 (st := []) (Nat.le_of_ble_eq_true rfl)) (Nat.le_of_ble_eq_true rfl) (Nat.le_of_ble_eq_true rfl) fun v1140 g1140 => ?_
      refine g_iload (pc := 1143) X (i := 5) (q := 1) (x := v1122) rfl (dl_at t_L_law 667 rfl) ?_
      refine g_icmpeq (pc := 1145) X g1140 g1122 (off := 5) (tgt := 1150) rfl (dl_at t_L_law 668 rfl) (fun _ => ?_) (fun _ => ?_)
      · refine g_iload (pc := 1150) X (i := 5) (q := 1) (x := v1122) rfl (dl_at t_L_law 671 rfl) ?_
        refine g_ifne (pc := 1152) X g1122 (off := 15) (tgt := 1167) rfl (dl_at t_L_law 672 rfl) (fun _ => ?_) (fun _ => ?_)
        · refine g_goto (pc := 1167) X (off := 114) (tgt := 1281) rfl (dl_at t_L_law 682 rfl) ?_
          refine g_ls (ls2 := [(0, rv D (-1)), (1, rv D a0), (2, rv D a8), (3, rv D a17), (4, iv x4_23)]) [3, 4, 5, 6, 2] rfl ?_
          exact J1281 h1134 (E1122.trans E1134)
        refine g_aload_n (pc := 1155) X (j := 3) (i := 3) (q := 6) (x := a17) rfl rfl (dl_at t_L_law 673 rfl) ?_
        refine g_iconst (pc := 1156) X (n := 0) (dl_at t_L_law 674 rfl) ?_
        refine g_gd fun k1157 => ?_
        refine g_lald (pc := 1157) X (r32_c rfl) k1157 (dl_at t_L_law 675 rfl) fun g1157 => ?_
        refine g_iload (pc := 1158) X (i := 6) (q := 0) (x := v1134) rfl (dl_at t_L_law 676 rfl) ?_
        refine g_i2l (pc := 1160) X g1134 (dl_at t_L_law 677 rfl) ?_
        refine g_lcmp (pc := 1161) X g1157 (r64_of g1134) (dl_at t_L_law 678 rfl) ?_
        refine g_ifeq (pc := 1162) X (r32_lcmp _ _) (off := 5) (tgt := 1167) rfl (dl_at t_L_law 679 rfl) (fun _ => ?_) (fun _ => ?_)
        · refine g_goto (pc := 1167) X (off := 114) (tgt := 1281) rfl (dl_at t_L_law 682 rfl) ?_
          refine g_ls (ls2 := [(0, rv D (-1)), (1, rv D a0), (2, rv D a8), (3, rv D a17), (4, iv x4_23)]) [3, 4, 5, 6, 2] rfl ?_
          exact J1281 h1134 (E1122.trans E1134)
        refine g_iconst (pc := 1165) X (n := 0) (dl_at t_L_law 680 rfl) ?_
        exact g_at fun Q hQ => (g_zret (pc := 1166) X (Or.inl rfl) rfl rfl (dl_at t_L_law 681 rfl)) _ Q rfl hQ
      refine g_iconst (pc := 1148) X (n := 0) (dl_at t_L_law 669 rfl) ?_
      exact g_at fun Q hQ => (g_zret (pc := 1149) X (Or.inl rfl) rfl rfl (dl_at t_L_law 670 rfl)) _ Q rfl hQ
    refine g_case (fun w40_18 => ?_) (fun nw40_18 => ?_)
    · refine g_tabIn (pc := 40) X (off := 1130) (tgt := 1170) (r32_iand _ _) w40_18 (by decide) (by decide) rfl rfl dS_L_law_40 ?_
      refine g_aload_n (pc := 1170) X (j := 1) (i := 1) (q := 1) (x := a0) rfl rfl (dl_at t_L_law 683 rfl) ?_
      refine g_aload_n (pc := 1171) X (j := 0) (i := 0) (q := 0) (x := (-1)) rfl rfl (dl_at t_L_law 684 rfl) ?_
      refine g_iload (pc := 1172) X (i := 4) (q := 4) (x := x4_23) rfl (dl_at t_L_law 685 rfl) ?_
      refine g_iconst (pc := 1174) X (n := 1) (dl_at t_L_law 686 rfl) ?_
      refine g_iadd (pc := 1175) X r4_23 (r32_c rfl) (dl_at t_L_law 687 rfl) ?_
      refine g_gd fun k1176 => ?_
      refine g_scA (pc := 1176) X hS (r32_w _) k1176 (dl_at t_L_law 688 rfl) ?_
      refine g_aload_n (pc := 1177) X (j := 3) (i := 3) (q := 3) (x := a17) rfl rfl (dl_at t_L_law 689 rfl) ?_
      refine r_callWi (pc := 1178) X (fun _ hv => s_X0_print (hS.2.1 _) hv) cw_with q3213 q354 (in_Sw X (As := [rv D a0, iv (sc (w32 (x4_23 + 1))), rv D a17]) (Or.inl q3211) q3212 q354 q3213 ⟨by decide, by decide⟩ rfl (dl_at t_L_law 690 rfl)) (dl_at t_L_law 690 rfl) (cat24 (st := []) (Nat.le_of_ble_eq_true rfl)) (Nat.le_of_ble_eq_true rfl) (Nat.le_of_ble_eq_true rfl) fun v1178 h1178 g1178 E1178 => ?_
      refine g_istoreN (pc := 1181) X (i := 5) (x := v1178) (b := 4) (w := iv x4_23) (rest := [(0, rv D (-1)), (1, rv D a0), (2, rv D a8), (3, rv D a17)]) (Nat.le_of_ble_eq_true rfl) [4, 0, 1, 2, 3] rfl (by decide) rfl rfl (dl_at t_L_law 691 rfl) ?_
      refine g_aload_n (pc := 1183) X (j := 2) (i := 2) (q := 4) (x := a8) rfl rfl (dl_at t_L_law 692 rfl) ?_
      refine g_aload_n (pc := 1184) X (j := 0) (i := 0) (q := 2) (x := (-1)) rfl rfl (dl_at t_L_law 693 rfl) ?_
      refine g_iload (pc := 1185) X (i := 4) (q := 1) (x := x4_23) rfl (dl_at t_L_law 694 rfl) ?_
      refine g_iconst (pc := 1187) X (n := 1) (dl_at t_L_law 695 rfl) ?_
      refine g_iadd (pc := 1188) X r4_23 (r32_c rfl) (dl_at t_L_law 696 rfl) ?_
      refine g_gd fun k1189 => ?_
      refine g_scA (pc := 1189) X hS (r32_w _) k1189 (dl_at t_L_law 697 rfl) ?_
      have k1190 := kx (E12.trans (E17.trans (E_23.trans E1178))) (by decide) k8
      refine r_callWi (pc := 1190) X (fun _ hv => s_X18_print k1190 (hS.2.1 _) hv) cw_code q5209 q372 (in_Vk X (As := [iv (sc (w32 (x4_23 + 1)))]) kX18 k1190 (Or.inl q5206) q5207 q5208 cw_code q5209 ⟨by decide, by decide⟩ rfl (dl_at t_L_law 698 rfl)) (dl_at t_L_law 698 rfl) (cat24 (st := []) (Nat.le_of_ble_eq_true rfl)) (Nat.le_of_ble_eq_true rfl) (Nat.le_of_ble_eq_true rfl) fun v1190 h1190 g1190 E1190 => ?_
      refine g_istoreN (pc := 1193) X (i := 6) (x := v1190) (b := 5) (w := iv v1178) (rest := [(4, iv x4_23), (0, rv D (-1)), (1, rv D a0), (2, rv D a8), (3, rv D a17)]) (Nat.le_of_ble_eq_true rfl) [0, 1, 2, 3, 4, 5] rfl (by decide) rfl rfl (dl_at t_L_law 699 rfl) ?_
      refine g_aload_n (pc := 1195) X (j := 2) (i := 2) (q := 5) (x := a8) rfl rfl (dl_at t_L_law 700 rfl) ?_
      have k1196 := kx E1190 (by decide) k1190
      refine r_callRi (pc := 1196) X (fun _ hv => s_X18_thrown k1196 hv) cw_code q4309 q372 (in_Vk X (As := []) kX18 k1196 (Or.inl q4306) q4307 q4308 cw_code q4309 ⟨by decide, by decide⟩ rfl (dl_at t_L_law 701 rfl)) (dl_at t_L_law 701 rfl) (cat24 (st := []) (Nat.le_of_ble_eq_true rfl)) (Nat.le_of_ble_eq_true rfl) (Nat.le_of_ble_eq_true rfl) fun v1196 g1196 => ?_
      refine g_iload (pc := 1199) X (i := 5) (q := 1) (x := v1178) rfl (dl_at t_L_law 702 rfl) ?_
      refine g_icmpeq (pc := 1201) X g1196 g1178 (off := 5) (tgt := 1206) rfl (dl_at t_L_law 703 rfl) (fun _ => ?_) (fun _ => ?_)
      · refine g_iload (pc := 1206) X (i := 5) (q := 1) (x := v1178) rfl (dl_at t_L_law 706 rfl) ?_
        refine g_ifne (pc := 1208) X g1178 (off := 15) (tgt := 1223) rfl (dl_at t_L_law 707 rfl) (fun _ => ?_) (fun _ => ?_)
        · refine g_goto (pc := 1223) X (off := 58) (tgt := 1281) rfl (dl_at t_L_law 717 rfl) ?_
          refine g_ls (ls2 := [(0, rv D (-1)), (1, rv D a0), (2, rv D a8), (3, rv D a17), (4, iv x4_23)]) [3, 4, 5, 6, 2] rfl ?_
          exact J1281 h1190 (E1178.trans E1190)
        refine g_aload_n (pc := 1211) X (j := 3) (i := 3) (q := 6) (x := a17) rfl rfl (dl_at t_L_law 708 rfl) ?_
        refine g_iconst (pc := 1212) X (n := 0) (dl_at t_L_law 709 rfl) ?_
        refine g_gd fun k1213 => ?_
        refine g_lald (pc := 1213) X (r32_c rfl) k1213 (dl_at t_L_law 710 rfl) fun g1213 => ?_
        refine g_iload (pc := 1214) X (i := 6) (q := 0) (x := v1190) rfl (dl_at t_L_law 711 rfl) ?_
        refine g_i2l (pc := 1216) X g1190 (dl_at t_L_law 712 rfl) ?_
        refine g_lcmp (pc := 1217) X g1213 (r64_of g1190) (dl_at t_L_law 713 rfl) ?_
        refine g_ifeq (pc := 1218) X (r32_lcmp _ _) (off := 5) (tgt := 1223) rfl (dl_at t_L_law 714 rfl) (fun _ => ?_) (fun _ => ?_)
        · refine g_goto (pc := 1223) X (off := 58) (tgt := 1281) rfl (dl_at t_L_law 717 rfl) ?_
          refine g_ls (ls2 := [(0, rv D (-1)), (1, rv D a0), (2, rv D a8), (3, rv D a17), (4, iv x4_23)]) [3, 4, 5, 6, 2] rfl ?_
          exact J1281 h1190 (E1178.trans E1190)
        refine g_iconst (pc := 1221) X (n := 0) (dl_at t_L_law 715 rfl) ?_
        exact g_at fun Q hQ => (g_zret (pc := 1222) X (Or.inl rfl) rfl rfl (dl_at t_L_law 716 rfl)) _ Q rfl hQ
      refine g_iconst (pc := 1204) X (n := 0) (dl_at t_L_law 704 rfl) ?_
      exact g_at fun Q hQ => (g_zret (pc := 1205) X (Or.inl rfl) rfl rfl (dl_at t_L_law 705 rfl)) _ Q rfl hQ
    refine g_case (fun w40_19 => ?_) (fun nw40_19 => ?_)
    · refine g_tabIn (pc := 40) X (off := 1186) (tgt := 1226) (r32_iand _ _) w40_19 (by decide) (by decide) rfl rfl dS_L_law_40 ?_
      refine g_aload_n (pc := 1226) X (j := 1) (i := 1) (q := 1) (x := a0) rfl rfl (dl_at t_L_law 718 rfl) ?_
      refine g_aload_n (pc := 1227) X (j := 0) (i := 0) (q := 0) (x := (-1)) rfl rfl (dl_at t_L_law 719 rfl) ?_
      refine g_iload (pc := 1228) X (i := 4) (q := 4) (x := x4_23) rfl (dl_at t_L_law 720 rfl) ?_
      refine g_iconst (pc := 1230) X (n := 1) (dl_at t_L_law 721 rfl) ?_
      refine g_iadd (pc := 1231) X r4_23 (r32_c rfl) (dl_at t_L_law 722 rfl) ?_
      refine g_gd fun k1232 => ?_
      refine g_scA (pc := 1232) X hS (r32_w _) k1232 (dl_at t_L_law 723 rfl) ?_
      refine g_aload_n (pc := 1233) X (j := 3) (i := 3) (q := 3) (x := a17) rfl rfl (dl_at t_L_law 724 rfl) ?_
      refine r_callWi (pc := 1234) X (fun _ hv => s_X0_word (hS.2.1 _) hv) cw_with q3249 q354 (in_Sw X (As := [rv D a0, iv (sc (w32 (x4_23 + 1))), rv D a17]) (Or.inl q3247) q3248 q354 q3249 ⟨by decide, by decide⟩ rfl (dl_at t_L_law 725 rfl)) (dl_at t_L_law 725 rfl) (cat24 (st := []) (Nat.le_of_ble_eq_true rfl)) (Nat.le_of_ble_eq_true rfl) (Nat.le_of_ble_eq_true rfl) fun v1234 h1234 g1234 E1234 => ?_
      refine g_istoreN (pc := 1237) X (i := 5) (x := v1234) (b := 4) (w := iv x4_23) (rest := [(0, rv D (-1)), (1, rv D a0), (2, rv D a8), (3, rv D a17)]) (Nat.le_of_ble_eq_true rfl) [4, 0, 1, 2, 3] rfl (by decide) rfl rfl (dl_at t_L_law 726 rfl) ?_
      refine g_aload_n (pc := 1239) X (j := 2) (i := 2) (q := 4) (x := a8) rfl rfl (dl_at t_L_law 727 rfl) ?_
      refine g_aload_n (pc := 1240) X (j := 0) (i := 0) (q := 2) (x := (-1)) rfl rfl (dl_at t_L_law 728 rfl) ?_
      refine g_iload (pc := 1241) X (i := 4) (q := 1) (x := x4_23) rfl (dl_at t_L_law 729 rfl) ?_
      refine g_iconst (pc := 1243) X (n := 1) (dl_at t_L_law 730 rfl) ?_
      refine g_iadd (pc := 1244) X r4_23 (r32_c rfl) (dl_at t_L_law 731 rfl) ?_
      refine g_gd fun k1245 => ?_
      refine g_scA (pc := 1245) X hS (r32_w _) k1245 (dl_at t_L_law 732 rfl) ?_
      have k1246 := kx (E12.trans (E17.trans (E_23.trans E1234))) (by decide) k8
      refine r_callWl (pc := 1246) X (fun _ hv => s_X18_word k1246 (hS.2.1 _) hv) cw_code q5248 q372 (in_Vk X (As := [iv (sc (w32 (x4_23 + 1)))]) kX18 k1246 (Or.inl q5245) q5246 q5247 cw_code q5248 ⟨by decide, by decide⟩ rfl (dl_at t_L_law 733 rfl)) (dl_at t_L_law 733 rfl) (cat24 (st := []) (Nat.le_of_ble_eq_true rfl)) (Nat.le_of_ble_eq_true rfl) (Nat.le_of_ble_eq_true rfl) fun v1246 h1246 g1246 E1246 => ?_
      refine g_lstoreN (pc := 1249) X (i := 6) (x := v1246) (b := 5) (w := iv v1234) (rest := [(4, iv x4_23), (0, rv D (-1)), (1, rv D a0), (2, rv D a8), (3, rv D a17)]) (Nat.le_of_ble_eq_true rfl) [0, 1, 2, 3, 4, 5] rfl (by decide) (by decide) rfl rfl (dl_at t_L_law 734 rfl) ?_
      refine g_aload_n (pc := 1251) X (j := 2) (i := 2) (q := 5) (x := a8) rfl rfl (dl_at t_L_law 735 rfl) ?_
      have k1252 := kx E1246 (by decide) k1246
      refine r_callRi (pc := 1252) X (fun _ hv => s_X18_thrown k1252 hv) cw_code q4309 q372 (in_Vk X (As := []) kX18 k1252 (Or.inl q4306) q4307 q4308 cw_code q4309 ⟨by decide, by decide⟩ rfl (dl_at t_L_law 736 rfl)) (dl_at t_L_law 736 rfl) (cat24 (st := []) (Nat.le_of_ble_eq_true rfl)) (Nat.le_of_ble_eq_true rfl) (Nat.le_of_ble_eq_true rfl) fun v1252 g1252 => ?_
      refine g_iload (pc := 1255) X (i := 5) (q := 1) (x := v1234) rfl (dl_at t_L_law 737 rfl) ?_
      refine g_icmpeq (pc := 1257) X g1252 g1234 (off := 5) (tgt := 1262) rfl (dl_at t_L_law 738 rfl) (fun _ => ?_) (fun _ => ?_)
      · refine g_iload (pc := 1262) X (i := 5) (q := 1) (x := v1234) rfl (dl_at t_L_law 741 rfl) ?_
        refine g_ifne (pc := 1264) X g1234 (off := 14) (tgt := 1278) rfl (dl_at t_L_law 742 rfl) (fun _ => ?_) (fun _ => ?_)
        · refine g_goto (pc := 1278) X (off := 3) (tgt := 1281) rfl (dl_at t_L_law 751 rfl) ?_
          refine g_ls (ls2 := [(0, rv D (-1)), (1, rv D a0), (2, rv D a8), (3, rv D a17), (4, iv x4_23)]) [3, 4, 5, 6, 2] rfl ?_
          exact J1281 h1246 (E1234.trans E1246)
        refine g_aload_n (pc := 1267) X (j := 3) (i := 3) (q := 6) (x := a17) rfl rfl (dl_at t_L_law 743 rfl) ?_
        refine g_iconst (pc := 1268) X (n := 0) (dl_at t_L_law 744 rfl) ?_
        refine g_gd fun k1269 => ?_
        refine g_lald (pc := 1269) X (r32_c rfl) k1269 (dl_at t_L_law 745 rfl) fun g1269 => ?_
        refine g_lload (pc := 1270) X (i := 6) (q := 0) (x := v1246) rfl (dl_at t_L_law 746 rfl) ?_
        refine g_lcmp (pc := 1272) X g1269 g1246 (dl_at t_L_law 747 rfl) ?_
        refine g_ifeq (pc := 1273) X (r32_lcmp _ _) (off := 5) (tgt := 1278) rfl (dl_at t_L_law 748 rfl) (fun _ => ?_) (fun _ => ?_)
        · refine g_goto (pc := 1278) X (off := 3) (tgt := 1281) rfl (dl_at t_L_law 751 rfl) ?_
          refine g_ls (ls2 := [(0, rv D (-1)), (1, rv D a0), (2, rv D a8), (3, rv D a17), (4, iv x4_23)]) [3, 4, 5, 6, 2] rfl ?_
          exact J1281 h1246 (E1234.trans E1246)
        refine g_iconst (pc := 1276) X (n := 0) (dl_at t_L_law 749 rfl) ?_
        exact g_at fun Q hQ => (g_zret (pc := 1277) X (Or.inl rfl) rfl rfl (dl_at t_L_law 750 rfl)) _ Q rfl hQ
      refine g_iconst (pc := 1260) X (n := 0) (dl_at t_L_law 739 rfl) ?_
      exact g_at fun Q hQ => (g_zret (pc := 1261) X (Or.inl rfl) rfl rfl (dl_at t_L_law 740 rfl)) _ Q rfl hQ
    have w40_20 : ¬ (iand_ (sc x4_23) 31) ∈ ([0, 1, 2, 3, 4, 5, 6, 7, 8, 9, 10, 11, 12, 13, 14, 15, 16, 17, 18, 19] : List Int) := by simp only [List.mem_cons, List.not_mem_nil, or_false, not_or] at *; simp only [*, not_false_eq_true, and_self]
    refine g_tabElse (pc := 40) X (tgt := 1281) [0, 1, 2, 3, 4, 5, 6, 7, 8, 9, 10, 11, 12, 13, 14, 15, 16, 17, 18, 19] (r32_iand _ _) w40_20 rfl rfl dS_L_law_40 ?_
    exact J1281 h_23 (Ext.refl _)
