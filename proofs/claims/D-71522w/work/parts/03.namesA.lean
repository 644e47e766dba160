theorem q89 : (Jvm.Cond.initialized "ExcessTreeLaw") ∈ lw_all := lw_g (lw_at lw_m1 0 rfl) rfl
set_option maxRecDepth 100000
theorem q111 : (Jvm.Cond.classLink "ExcessTreeLaw" (7 : Nat) "ExcessTree") ∈ lw_all := lw_g (lw_at lw_m1 22 rfl) rfl
theorem q113 : (Jvm.Cond.methodLink "ExcessTreeLaw" (9 : Nat) ({ cls := "ExcessTree", name := "<init>", desc := "()V" } : Jvm.MethodName)) ∈ lw_all := lw_g (lw_at lw_m1 24 rfl) rfl
theorem q237 : (Jvm.Cond.methodLink "ExcessTreeLaw" (13 : Nat) ({ cls := "ExcessTree", name := "feed", desc := "(I)I" } : Jvm.MethodName)) ∈ lw_all := lw_g (lw_at lw_m1 148 rfl) rfl
theorem q245 : (Jvm.Cond.methodLink "ExcessTreeLaw" (18 : Nat) ({ cls := "ExcessTree", name := "end", desc := "(I)I" } : Jvm.MethodName)) ∈ lw_all := lw_g (lw_at lw_m1 156 rfl) rfl
theorem q249 : (Jvm.Cond.methodLink "ExcessTreeLaw" (22 : Nat) ({ cls := "ExcessTree", name := "text", desc := "()I" } : Jvm.MethodName)) ∈ lw_all := lw_g (lw_at lw_m1 160 rfl) rfl
theorem q413 : (Jvm.Cond.methodLink "ExcessTreeLaw" (27 : Nat) ({ cls := "ExcessTree", name := "fault", desc := "()I" } : Jvm.MethodName)) ∈ lw_all := lw_g (lw_at lw_m2 84 rfl) rfl
theorem q417 : (Jvm.Cond.methodLink "ExcessTreeLaw" (31 : Nat) ({ cls := "ExcessTree", name := "size", desc := "(I)I" } : Jvm.MethodName)) ∈ lw_all := lw_g (lw_at lw_m2 88 rfl) rfl
theorem q444 : (Jvm.Cond.methodLink "ExcessTreeLaw" (35 : Nat) ({ cls := "ExcessTree", name := "bit", desc := "(I)I" } : Jvm.MethodName)) ∈ lw_all := lw_g (lw_at lw_m2 115 rfl) rfl
theorem q452 : (Jvm.Cond.methodLink "ExcessTreeLaw" (39 : Nat) ({ cls := "ExcessTree", name := "excess", desc := "(I)I" } : Jvm.MethodName)) ∈ lw_all := lw_g (lw_at lw_m2 123 rfl) rfl
theorem q465 : (Jvm.Cond.methodLink "ExcessTreeLaw" (43 : Nat) ({ cls := "ExcessTree", name := "rank", desc := "(II)I" } : Jvm.MethodName)) ∈ lw_all := lw_g (lw_at lw_m2 136 rfl) rfl
theorem q470 : (Jvm.Cond.methodLink "ExcessTreeLaw" (48 : Nat) ({ cls := "ExcessTree", name := "select", desc := "(II)I" } : Jvm.MethodName)) ∈ lw_all := lw_g (lw_at lw_m2 141 rfl) rfl
theorem q478 : (Jvm.Cond.methodLink "ExcessTreeLaw" (52 : Nat) ({ cls := "ExcessTree", name := "forward", desc := "(II)I" } : Jvm.MethodName)) ∈ lw_all := lw_g (lw_at lw_m2 149 rfl) rfl
theorem q496 : (Jvm.Cond.methodLink "ExcessTreeLaw" (56 : Nat) ({ cls := "ExcessTree", name := "backward", desc := "(II)I" } : Jvm.MethodName)) ∈ lw_all := lw_g (lw_at lw_m2 167 rfl) rfl
theorem q508 : (Jvm.Cond.methodLink "ExcessTreeLaw" (60 : Nat) ({ cls := "ExcessTree", name := "match", desc := "(I)I" } : Jvm.MethodName)) ∈ lw_all := lw_g (lw_at lw_m2 179 rfl) rfl
theorem q516 : (Jvm.Cond.methodLink "ExcessTreeLaw" (64 : Nat) ({ cls := "ExcessTree", name := "least", desc := "(III)I" } : Jvm.MethodName)) ∈ lw_all := lw_g (lw_at lw_m2 187 rfl) rfl
theorem q526 : (Jvm.Cond.methodLink "ExcessTreeLaw" (69 : Nat) ({ cls := "ExcessTree", name := "block", desc := "(II)I" } : Jvm.MethodName)) ∈ lw_all := lw_g (lw_at lw_m2 197 rfl) rfl
theorem q530 : (Jvm.Cond.methodLink "ExcessTreeLaw" (73 : Nat) ({ cls := "ExcessTree", name := "node", desc := "(II)I" } : Jvm.MethodName)) ∈ lw_all := lw_g (lw_at lw_m2 201 rfl) rfl
theorem q594 : (Jvm.Cond.methodLink "ExcessTreeLaw" (77 : Nat) ({ cls := "ExcessTree", name := "child", desc := "(II)I" } : Jvm.MethodName)) ∈ lw_all := lw_g (lw_at lw_m3 25 rfl) rfl
theorem q602 : (Jvm.Cond.methodLink "ExcessTreeLaw" (81 : Nat) ({ cls := "ExcessTree", name := "below", desc := "(I)I" } : Jvm.MethodName)) ∈ lw_all := lw_g (lw_at lw_m3 33 rfl) rfl
theorem q606 : (Jvm.Cond.methodLink "ExcessTreeLaw" (85 : Nat) ({ cls := "ExcessTree", name := "up", desc := "(II)I" } : Jvm.MethodName)) ∈ lw_all := lw_g (lw_at lw_m3 37 rfl) rfl
theorem q610 : (Jvm.Cond.methodLink "ExcessTreeLaw" (89 : Nat) ({ cls := "ExcessTree", name := "meet", desc := "(II)I" } : Jvm.MethodName)) ∈ lw_all := lw_g (lw_at lw_m3 41 rfl) rfl
theorem q622 : (Jvm.Cond.methodLink "ExcessTreeLaw" (93 : Nat) ({ cls := "ExcessTree", name := "way", desc := "(II)I" } : Jvm.MethodName)) ∈ lw_all := lw_g (lw_at lw_m3 53 rfl) rfl
theorem q626 : (Jvm.Cond.methodLink "ExcessTreeLaw" (97 : Nat) ({ cls := "ExcessTree", name := "level", desc := "(II)I" } : Jvm.MethodName)) ∈ lw_all := lw_g (lw_at lw_m3 57 rfl) rfl
theorem q642 : (Jvm.Cond.methodLink "ExcessTreeLaw" (101 : Nat) ({ cls := "ExcessTree", name := "beside", desc := "(II)I" } : Jvm.MethodName)) ∈ lw_all := lw_g (lw_at lw_m3 73 rfl) rfl
theorem q650 : (Jvm.Cond.methodLink "ExcessTreeLaw" (105 : Nat) ({ cls := "ExcessTree", name := "deepest", desc := "(I)I" } : Jvm.MethodName)) ∈ lw_all := lw_g (lw_at lw_m3 81 rfl) rfl
theorem q654 : (Jvm.Cond.methodLink "ExcessTreeLaw" (109 : Nat) ({ cls := "ExcessTree", name := "alike", desc := "(II)I" } : Jvm.MethodName)) ∈ lw_all := lw_g (lw_at lw_m3 85 rfl) rfl
theorem q658 : (Jvm.Cond.methodLink "ExcessTreeLaw" (113 : Nat) ({ cls := "ExcessTree", name := "weight", desc := "(I)I" } : Jvm.MethodName)) ∈ lw_all := lw_g (lw_at lw_m3 89 rfl) rfl
theorem q662 : (Jvm.Cond.methodLink "ExcessTreeLaw" (117 : Nat) ({ cls := "ExcessTree", name := "set", desc := "(II)I" } : Jvm.MethodName)) ∈ lw_all := lw_g (lw_at lw_m3 93 rfl) rfl
theorem q666 : (Jvm.Cond.methodLink "ExcessTreeLaw" (121 : Nat) ({ cls := "ExcessTree", name := "sum", desc := "(II)I" } : Jvm.MethodName)) ∈ lw_all := lw_g (lw_at lw_m3 97 rfl) rfl
theorem q713 : (Jvm.Cond.methodLink "ExcessTreeLaw" (125 : Nat) ({ cls := "ExcessTree", name := "heaviest", desc := "(I)I" } : Jvm.MethodName)) ∈ lw_all := lw_g (lw_at lw_m3 144 rfl) rfl
theorem q717 : (Jvm.Cond.methodLink "ExcessTreeLaw" (129 : Nat) ({ cls := "ExcessTree", name := "plant", desc := "(I)I" } : Jvm.MethodName)) ∈ lw_all := lw_g (lw_at lw_m3 148 rfl) rfl
theorem q726 : (Jvm.Cond.methodLink "ExcessTreeLaw" (133 : Nat) ({ cls := "ExcessTree", name := "leaf", desc := "(III)I" } : Jvm.MethodName)) ∈ lw_all := lw_g (lw_at lw_m3 157 rfl) rfl
theorem q743 : (Jvm.Cond.methodLink "ExcessTreeLaw" (137 : Nat) ({ cls := "ExcessTree", name := "prune", desc := "(I)I" } : Jvm.MethodName)) ∈ lw_all := lw_g (lw_at lw_m3 174 rfl) rfl
theorem q759 : (Jvm.Cond.methodLink "ExcessTreeLaw" (141 : Nat) ({ cls := "ExcessTree", name := "fell", desc := "(I)I" } : Jvm.MethodName)) ∈ lw_all := lw_g (lw_at lw_m3 190 rfl) rfl
theorem q763 : (Jvm.Cond.methodLink "ExcessTreeLaw" (145 : Nat) ({ cls := "ExcessTree", name := "wrap", desc := "(IIII)I" } : Jvm.MethodName)) ∈ lw_all := lw_g (lw_at lw_m3 194 rfl) rfl
theorem q767 : (Jvm.Cond.methodLink "ExcessTreeLaw" (150 : Nat) ({ cls := "ExcessTree", name := "melt", desc := "(I)I" } : Jvm.MethodName)) ∈ lw_all := lw_g (lw_at lw_m3 198 rfl) rfl
theorem q771 : (Jvm.Cond.methodLink "ExcessTreeLaw" (154 : Nat) ({ cls := "ExcessTree", name := "graft", desc := "(III)I" } : Jvm.MethodName)) ∈ lw_all := lw_g (lw_at lw_m3 202 rfl) rfl
theorem q775 : (Jvm.Cond.methodLink "ExcessTreeLaw" (158 : Nat) ({ cls := "ExcessTree", name := "grow", desc := "(II)I" } : Jvm.MethodName)) ∈ lw_all := lw_g (lw_at lw_m3 206 rfl) rfl
theorem q792 : (Jvm.Cond.methodLink "ExcessTreeLaw" (162 : Nat) ({ cls := "ExcessTree", name := "keep", desc := "(I)I" } : Jvm.MethodName)) ∈ lw_all := lw_g (lw_at lw_m3 223 rfl) rfl
theorem q796 : (Jvm.Cond.methodLink "ExcessTreeLaw" (166 : Nat) ({ cls := "ExcessTree", name := "back", desc := "(I)I" } : Jvm.MethodName)) ∈ lw_all := lw_g (lw_at lw_m3 227 rfl) rfl
theorem q800 : (Jvm.Cond.methodLink "ExcessTreeLaw" (170 : Nat) ({ cls := "ExcessTree", name := "sheet", desc := "(III)I" } : Jvm.MethodName)) ∈ lw_all := lw_g (lw_at lw_m3 231 rfl) rfl
theorem q821 : (Jvm.Cond.methodLink "ExcessTreeLaw" (176 : Nat) ({ cls := "ExcessTree", name := "lay", desc := "(IIJ)I" } : Jvm.MethodName)) ∈ lw_all := lw_g (lw_at lw_m4 12 rfl) rfl
theorem q872 : (Jvm.Cond.methodLink "ExcessTreeLaw" (181 : Nat) ({ cls := "ExcessTree", name := "look", desc := "(II)J" } : Jvm.MethodName)) ∈ lw_all := lw_g (lw_at lw_m4 63 rfl) rfl
theorem q876 : (Jvm.Cond.methodLink "ExcessTreeLaw" (186 : Nat) ({ cls := "ExcessTree", name := "read", desc := "(IIII)I" } : Jvm.MethodName)) ∈ lw_all := lw_g (lw_at lw_m4 67 rfl) rfl
theorem q906 : (Jvm.Cond.methodLink "ExcessTreeLaw" (190 : Nat) ({ cls := "ExcessTree", name := "stow", desc := "(III)I" } : Jvm.MethodName)) ∈ lw_all := lw_g (lw_at lw_m4 97 rfl) rfl
theorem q916 : (Jvm.Cond.methodLink "ExcessTreeLaw" (194 : Nat) ({ cls := "ExcessTree", name := "torn", desc := "()I" } : Jvm.MethodName)) ∈ lw_all := lw_g (lw_at lw_m4 107 rfl) rfl
theorem q920 : (Jvm.Cond.methodLink "ExcessTreeLaw" (198 : Nat) ({ cls := "ExcessTree", name := "count", desc := "(I)I" } : Jvm.MethodName)) ∈ lw_all := lw_g (lw_at lw_m4 111 rfl) rfl
theorem q932 : (Jvm.Cond.classLink "ExcessTreeLaw" (10 : Nat) "ExcessTreeModel") ∈ lw_all := lw_g (lw_at lw_m4 123 rfl) rfl
theorem q934 : (Jvm.Cond.methodLink "ExcessTreeLaw" (12 : Nat) ({ cls := "ExcessTreeModel", name := "<init>", desc := "()V" } : Jvm.MethodName)) ∈ lw_all := lw_g (lw_at lw_m4 125 rfl) rfl
theorem q994 : (Jvm.Cond.methodLink "ExcessTreeLaw" (17 : Nat) ({ cls := "ExcessTreeModel", name := "feed", desc := "(I)I" } : Jvm.MethodName)) ∈ lw_all := lw_g (lw_at lw_m4 185 rfl) rfl
theorem q1002 : (Jvm.Cond.methodLink "ExcessTreeLaw" (21 : Nat) ({ cls := "ExcessTreeModel", name := "end", desc := "(I)I" } : Jvm.MethodName)) ∈ lw_all := lw_g (lw_at lw_m4 193 rfl) rfl
theorem q1006 : (Jvm.Cond.methodLink "ExcessTreeLaw" (26 : Nat) ({ cls := "ExcessTreeModel", name := "text", desc := "()I" } : Jvm.MethodName)) ∈ lw_all := lw_g (lw_at lw_m4 197 rfl) rfl
theorem q1028 : (Jvm.Cond.methodLink "ExcessTreeLaw" (30 : Nat) ({ cls := "ExcessTreeModel", name := "fault", desc := "()I" } : Jvm.MethodName)) ∈ lw_all := lw_g (lw_at lw_m4 219 rfl) rfl
theorem q1032 : (Jvm.Cond.methodLink "ExcessTreeLaw" (34 : Nat) ({ cls := "ExcessTreeModel", name := "size", desc := "(I)I" } : Jvm.MethodName)) ∈ lw_all := lw_g (lw_at lw_m4 223 rfl) rfl
theorem q1052 : (Jvm.Cond.methodLink "ExcessTreeLaw" (38 : Nat) ({ cls := "ExcessTreeModel", name := "bit", desc := "(I)I" } : Jvm.MethodName)) ∈ lw_all := lw_g (lw_at lw_m5 3 rfl) rfl
theorem q1056 : (Jvm.Cond.methodLink "ExcessTreeLaw" (42 : Nat) ({ cls := "ExcessTreeModel", name := "excess", desc := "(I)I" } : Jvm.MethodName)) ∈ lw_all := lw_g (lw_at lw_m5 7 rfl) rfl
theorem q1064 : (Jvm.Cond.methodLink "ExcessTreeLaw" (47 : Nat) ({ cls := "ExcessTreeModel", name := "rank", desc := "(II)I" } : Jvm.MethodName)) ∈ lw_all := lw_g (lw_at lw_m5 15 rfl) rfl
theorem q1073 : (Jvm.Cond.methodLink "ExcessTreeLaw" (51 : Nat) ({ cls := "ExcessTreeModel", name := "select", desc := "(II)I" } : Jvm.MethodName)) ∈ lw_all := lw_g (lw_at lw_m5 24 rfl) rfl
theorem q1077 : (Jvm.Cond.methodLink "ExcessTreeLaw" (55 : Nat) ({ cls := "ExcessTreeModel", name := "forward", desc := "(II)I" } : Jvm.MethodName)) ∈ lw_all := lw_g (lw_at lw_m5 28 rfl) rfl
theorem q1081 : (Jvm.Cond.methodLink "ExcessTreeLaw" (59 : Nat) ({ cls := "ExcessTreeModel", name := "backward", desc := "(II)I" } : Jvm.MethodName)) ∈ lw_all := lw_g (lw_at lw_m5 32 rfl) rfl
theorem q1085 : (Jvm.Cond.methodLink "ExcessTreeLaw" (63 : Nat) ({ cls := "ExcessTreeModel", name := "match", desc := "(I)I" } : Jvm.MethodName)) ∈ lw_all := lw_g (lw_at lw_m5 36 rfl) rfl
theorem q1093 : (Jvm.Cond.methodLink "ExcessTreeLaw" (68 : Nat) ({ cls := "ExcessTreeModel", name := "least", desc := "(III)I" } : Jvm.MethodName)) ∈ lw_all := lw_g (lw_at lw_m5 44 rfl) rfl
theorem q1098 : (Jvm.Cond.methodLink "ExcessTreeLaw" (72 : Nat) ({ cls := "ExcessTreeModel", name := "block", desc := "(II)I" } : Jvm.MethodName)) ∈ lw_all := lw_g (lw_at lw_m5 49 rfl) rfl
theorem q1103 : (Jvm.Cond.methodLink "ExcessTreeLaw" (76 : Nat) ({ cls := "ExcessTreeModel", name := "node", desc := "(II)I" } : Jvm.MethodName)) ∈ lw_all := lw_g (lw_at lw_m5 54 rfl) rfl
theorem q1163 : (Jvm.Cond.methodLink "ExcessTreeLaw" (80 : Nat) ({ cls := "ExcessTreeModel", name := "child", desc := "(II)I" } : Jvm.MethodName)) ∈ lw_all := lw_g (lw_at lw_m5 114 rfl) rfl
theorem q1167 : (Jvm.Cond.methodLink "ExcessTreeLaw" (84 : Nat) ({ cls := "ExcessTreeModel", name := "below", desc := "(I)I" } : Jvm.MethodName)) ∈ lw_all := lw_g (lw_at lw_m5 118 rfl) rfl
theorem q1171 : (Jvm.Cond.methodLink "ExcessTreeLaw" (88 : Nat) ({ cls := "ExcessTreeModel", name := "up", desc := "(II)I" } : Jvm.MethodName)) ∈ lw_all := lw_g (lw_at lw_m5 122 rfl) rfl
theorem q1175 : (Jvm.Cond.methodLink "ExcessTreeLaw" (92 : Nat) ({ cls := "ExcessTreeModel", name := "meet", desc := "(II)I" } : Jvm.MethodName)) ∈ lw_all := lw_g (lw_at lw_m5 126 rfl) rfl
theorem q1187 : (Jvm.Cond.methodLink "ExcessTreeLaw" (96 : Nat) ({ cls := "ExcessTreeModel", name := "way", desc := "(II)I" } : Jvm.MethodName)) ∈ lw_all := lw_g (lw_at lw_m5 138 rfl) rfl
theorem q1191 : (Jvm.Cond.methodLink "ExcessTreeLaw" (100 : Nat) ({ cls := "ExcessTreeModel", name := "level", desc := "(II)I" } : Jvm.MethodName)) ∈ lw_all := lw_g (lw_at lw_m5 142 rfl) rfl
theorem q1195 : (Jvm.Cond.methodLink "ExcessTreeLaw" (104 : Nat) ({ cls := "ExcessTreeModel", name := "beside", desc := "(II)I" } : Jvm.MethodName)) ∈ lw_all := lw_g (lw_at lw_m5 146 rfl) rfl
theorem q1199 : (Jvm.Cond.methodLink "ExcessTreeLaw" (108 : Nat) ({ cls := "ExcessTreeModel", name := "deepest", desc := "(I)I" } : Jvm.MethodName)) ∈ lw_all := lw_g (lw_at lw_m5 150 rfl) rfl
theorem q1203 : (Jvm.Cond.methodLink "ExcessTreeLaw" (112 : Nat) ({ cls := "ExcessTreeModel", name := "alike", desc := "(II)I" } : Jvm.MethodName)) ∈ lw_all := lw_g (lw_at lw_m5 154 rfl) rfl
theorem q1207 : (Jvm.Cond.methodLink "ExcessTreeLaw" (116 : Nat) ({ cls := "ExcessTreeModel", name := "weight", desc := "(I)I" } : Jvm.MethodName)) ∈ lw_all := lw_g (lw_at lw_m5 158 rfl) rfl
theorem q1211 : (Jvm.Cond.methodLink "ExcessTreeLaw" (120 : Nat) ({ cls := "ExcessTreeModel", name := "set", desc := "(II)I" } : Jvm.MethodName)) ∈ lw_all := lw_g (lw_at lw_m5 162 rfl) rfl
theorem q1215 : (Jvm.Cond.methodLink "ExcessTreeLaw" (124 : Nat) ({ cls := "ExcessTreeModel", name := "sum", desc := "(II)I" } : Jvm.MethodName)) ∈ lw_all := lw_g (lw_at lw_m5 166 rfl) rfl
theorem q1220 : (Jvm.Cond.methodLink "ExcessTreeLaw" (128 : Nat) ({ cls := "ExcessTreeModel", name := "heaviest", desc := "(I)I" } : Jvm.MethodName)) ∈ lw_all := lw_g (lw_at lw_m5 171 rfl) rfl
theorem q1224 : (Jvm.Cond.methodLink "ExcessTreeLaw" (132 : Nat) ({ cls := "ExcessTreeModel", name := "plant", desc := "(I)I" } : Jvm.MethodName)) ∈ lw_all := lw_g (lw_at lw_m5 175 rfl) rfl
theorem q1228 : (Jvm.Cond.methodLink "ExcessTreeLaw" (136 : Nat) ({ cls := "ExcessTreeModel", name := "leaf", desc := "(III)I" } : Jvm.MethodName)) ∈ lw_all := lw_g (lw_at lw_m5 179 rfl) rfl
theorem q1248 : (Jvm.Cond.methodLink "ExcessTreeLaw" (140 : Nat) ({ cls := "ExcessTreeModel", name := "prune", desc := "(I)I" } : Jvm.MethodName)) ∈ lw_all := lw_g (lw_at lw_m5 199 rfl) rfl
theorem q1260 : (Jvm.Cond.methodLink "ExcessTreeLaw" (144 : Nat) ({ cls := "ExcessTreeModel", name := "fell", desc := "(I)I" } : Jvm.MethodName)) ∈ lw_all := lw_g (lw_at lw_m5 211 rfl) rfl
theorem q1264 : (Jvm.Cond.methodLink "ExcessTreeLaw" (149 : Nat) ({ cls := "ExcessTreeModel", name := "wrap", desc := "(IIII)I" } : Jvm.MethodName)) ∈ lw_all := lw_g (lw_at lw_m5 215 rfl) rfl
theorem q1268 : (Jvm.Cond.methodLink "ExcessTreeLaw" (153 : Nat) ({ cls := "ExcessTreeModel", name := "melt", desc := "(I)I" } : Jvm.MethodName)) ∈ lw_all := lw_g (lw_at lw_m5 219 rfl) rfl
theorem q1272 : (Jvm.Cond.methodLink "ExcessTreeLaw" (157 : Nat) ({ cls := "ExcessTreeModel", name := "graft", desc := "(III)I" } : Jvm.MethodName)) ∈ lw_all := lw_g (lw_at lw_m5 223 rfl) rfl
theorem q1276 : (Jvm.Cond.methodLink "ExcessTreeLaw" (161 : Nat) ({ cls := "ExcessTreeModel", name := "grow", desc := "(II)I" } : Jvm.MethodName)) ∈ lw_all := lw_g (lw_at lw_m5 227 rfl) rfl
theorem q1284 : (Jvm.Cond.methodLink "ExcessTreeLaw" (165 : Nat) ({ cls := "ExcessTreeModel", name := "keep", desc := "(I)I" } : Jvm.MethodName)) ∈ lw_all := lw_g (lw_at lw_m5 235 rfl) rfl
theorem q1288 : (Jvm.Cond.methodLink "ExcessTreeLaw" (169 : Nat) ({ cls := "ExcessTreeModel", name := "back", desc := "(I)I" } : Jvm.MethodName)) ∈ lw_all := lw_g (lw_at lw_m5 239 rfl) rfl
theorem q1292 : (Jvm.Cond.methodLink "ExcessTreeLaw" (173 : Nat) ({ cls := "ExcessTreeModel", name := "sheet", desc := "(III)I" } : Jvm.MethodName)) ∈ lw_all := lw_g (lw_at lw_m6 3 rfl) rfl
theorem q1296 : (Jvm.Cond.methodLink "ExcessTreeLaw" (180 : Nat) ({ cls := "ExcessTreeModel", name := "lay", desc := "(IIJ)I" } : Jvm.MethodName)) ∈ lw_all := lw_g (lw_at lw_m6 7 rfl) rfl
theorem q1303 : (Jvm.Cond.methodLink "ExcessTreeLaw" (185 : Nat) ({ cls := "ExcessTreeModel", name := "look", desc := "(II)J" } : Jvm.MethodName)) ∈ lw_all := lw_g (lw_at lw_m6 14 rfl) rfl
theorem q1307 : (Jvm.Cond.methodLink "ExcessTreeLaw" (189 : Nat) ({ cls := "ExcessTreeModel", name := "read", desc := "(IIII)I" } : Jvm.MethodName)) ∈ lw_all := lw_g (lw_at lw_m6 18 rfl) rfl
theorem q1323 : (Jvm.Cond.methodLink "ExcessTreeLaw" (193 : Nat) ({ cls := "ExcessTreeModel", name := "stow", desc := "(III)I" } : Jvm.MethodName)) ∈ lw_all := lw_g (lw_at lw_m6 34 rfl) rfl
theorem q1328 : (Jvm.Cond.methodLink "ExcessTreeLaw" (197 : Nat) ({ cls := "ExcessTreeModel", name := "torn", desc := "()I" } : Jvm.MethodName)) ∈ lw_all := lw_g (lw_at lw_m6 39 rfl) rfl
theorem q1332 : (Jvm.Cond.methodLink "ExcessTreeLaw" (201 : Nat) ({ cls := "ExcessTreeModel", name := "count", desc := "(I)I" } : Jvm.MethodName)) ∈ lw_all := lw_g (lw_at lw_m6 43 rfl) rfl
theorem q1336 : (Jvm.Cond.constantLong "ExcessTreeLaw" (174 : Nat) (4294967295 : Int64)) ∈ lw_all := lw_g (lw_at lw_m6 47 rfl) rfl
theorem q99 : (Jvm.Cond.initialized "java/lang/System") ∈ lw_all := lw_g (lw_at lw_m1 10 rfl) rfl
set_option maxRecDepth 100000
theorem q411 : (Jvm.Cond.static ({ cls := "java/lang/System", name := "arraycopy", desc := "(Ljava/lang/Object;ILjava/lang/Object;II)V" } : Jvm.MethodName)) ∈ lw_all := lw_g (lw_at lw_m2 82 rfl) rfl
theorem q412 : (Jvm.Cond.native ({ cls := "java/lang/System", name := "arraycopy", desc := "(Ljava/lang/Object;ILjava/lang/Object;II)V" } : Jvm.MethodName)) ∈ lw_all := lw_g (lw_at lw_m2 83 rfl) rfl
theorem q152 : (Jvm.Cond.arrayClass Jvm.ClassFile.FieldType.long) ∈ lw_all := lw_g (lw_at lw_m1 63 rfl) rfl
set_option maxRecDepth 100000
theorem q153 : (Jvm.Cond.arrayClass Jvm.ClassFile.FieldType.int) ∈ lw_all := lw_g (lw_at lw_m1 64 rfl) rfl
theorem q154 : (Jvm.Cond.arrayClass Jvm.ClassFile.FieldType.short) ∈ lw_all := lw_g (lw_at lw_m1 65 rfl) rfl
theorem q155 : (Jvm.Cond.arrayOver (Jvm.ClassFile.FieldType.object "ExcessTree$Row")) ∈ lw_tbl := lw_at lw_m1 66 rfl
theorem q157 : (Jvm.Cond.arrayOver (Jvm.ClassFile.FieldType.object "ExcessTree$Sheet")) ∈ lw_tbl := lw_at lw_m1 68 rfl
theorem q167 : (Jvm.Cond.arrayClass Jvm.ClassFile.FieldType.byte) ∈ lw_all := lw_g (lw_at lw_m1 78 rfl) rfl
theorem q993 : (Jvm.Cond.arrayClass Jvm.ClassFile.FieldType.boolean) ∈ lw_all := lw_g (lw_at lw_m4 184 rfl) rfl
/-! java/lang/Math -/
set_option maxRecDepth 100000
def RJ0 : String := "java/lang/Math"
abbrev cJ0_min : ByteArray := prog_15_method_69_code
def yJ0_min : MethodName := ⟨RJ0, "min", "(II)I"⟩
def dkwJ0_min_0 : List UInt8 := [26, 27, 163, 0, 7, 26, 167, 0, 4, 27, 172]
abbrev dktJ0_min_0 : List UInt8 := dkwJ0_min_0 ++ []
theorem dksJ0_min_0 : cJ0_min.data.toList.drop 0 = dktJ0_min_0 := by decide +kernel
theorem dJ0_min_0 : decode cJ0_min 0 = .ok (.iload_n 0, 1) := dk_26 (dk_at dksJ0_min_0 0 rfl rfl)
theorem dJ0_min_1 : decode cJ0_min 1 = .ok (.iload_n 1, 1) := dk_27 (dk_at dksJ0_min_0 1 rfl rfl)
theorem dJ0_min_2 : decode cJ0_min 2 = .ok (.if_icmp .gt 7, 3) := dk_163 0 7 (dk_at dksJ0_min_0 2 rfl rfl)
theorem dJ0_min_5 : decode cJ0_min 5 = .ok (.iload_n 0, 1) := dk_26 (dk_at dksJ0_min_0 5 rfl rfl)
theorem dJ0_min_6 : decode cJ0_min 6 = .ok (.goto 4, 3) := dk_167 0 4 (dk_at dksJ0_min_0 6 rfl rfl)
theorem dJ0_min_9 : decode cJ0_min 9 = .ok (.iload_n 1, 1) := dk_27 (dk_at dksJ0_min_0 9 rfl rfl)
theorem dJ0_min_10 : decode cJ0_min 10 = .ok (.ireturn, 1) := dk_172 (dk_at dksJ0_min_0 10 rfl rfl)
abbrev cJ0_max : ByteArray := prog_15_method_65_code
def yJ0_max : MethodName := ⟨RJ0, "max", "(II)I"⟩
def dkwJ0_max_0 : List UInt8 := [26, 27, 161, 0, 7, 26, 167, 0, 4, 27, 172]
abbrev dktJ0_max_0 : List UInt8 := dkwJ0_max_0 ++ []
theorem dksJ0_max_0 : cJ0_max.data.toList.drop 0 = dktJ0_max_0 := by decide +kernel
theorem dJ0_max_0 : decode cJ0_max 0 = .ok (.iload_n 0, 1) := dk_26 (dk_at dksJ0_max_0 0 rfl rfl)
theorem dJ0_max_1 : decode cJ0_max 1 = .ok (.iload_n 1, 1) := dk_27 (dk_at dksJ0_max_0 1 rfl rfl)
theorem dJ0_max_2 : decode cJ0_max 2 = .ok (.if_icmp .lt 7, 3) := dk_161 0 7 (dk_at dksJ0_max_0 2 rfl rfl)
theorem dJ0_max_5 : decode cJ0_max 5 = .ok (.iload_n 0, 1) := dk_26 (dk_at dksJ0_max_0 5 rfl rfl)
theorem dJ0_max_6 : decode cJ0_max 6 = .ok (.goto 4, 3) := dk_167 0 4 (dk_at dksJ0_max_0 6 rfl rfl)
theorem dJ0_max_9 : decode cJ0_max 9 = .ok (.iload_n 1, 1) := dk_27 (dk_at dksJ0_max_0 9 rfl rfl)
theorem dJ0_max_10 : decode cJ0_max 10 = .ok (.ireturn, 1) := dk_172 (dk_at dksJ0_max_0 10 rfl rfl)
abbrev cJ0_addExact : ByteArray := prog_15_method_24_code
def yJ0_addExact : MethodName := ⟨RJ0, "addExact", "(II)I"⟩
def dkwJ0_addExact_1 : List UInt8 := [28, 172]
abbrev dktJ0_addExact_1 : List UInt8 := dkwJ0_addExact_1 ++ []
def dkwJ0_addExact_0 : List UInt8 := [26, 27, 96, 61, 26, 28, 130, 27, 28, 130, 126, 156, 0, 13, 187, 0, 109, 89, 18, 111, 183, 0, 113, 191]
abbrev dktJ0_addExact_0 : List UInt8 := dkwJ0_addExact_0 ++ dktJ0_addExact_1
theorem dksJ0_addExact_0 : cJ0_addExact.data.toList.drop 0 = dktJ0_addExact_0 := by decide +kernel
theorem dksJ0_addExact_1 : cJ0_addExact.data.toList.drop 24 = dktJ0_addExact_1 := dk_seg dksJ0_addExact_0 24 rfl rfl
theorem dJ0_addExact_0 : decode cJ0_addExact 0 = .ok (.iload_n 0, 1) := dk_26 (dk_at dksJ0_addExact_0 0 rfl rfl)
theorem dJ0_addExact_1 : decode cJ0_addExact 1 = .ok (.iload_n 1, 1) := dk_27 (dk_at dksJ0_addExact_0 1 rfl rfl)
theorem dJ0_addExact_2 : decode cJ0_addExact 2 = .ok (.iadd, 1) := dk_96 (dk_at dksJ0_addExact_0 2 rfl rfl)
theorem dJ0_addExact_3 : decode cJ0_addExact 3 = .ok (.istore_n 2, 1) := dk_61 (dk_at dksJ0_addExact_0 3 rfl rfl)
theorem dJ0_addExact_4 : decode cJ0_addExact 4 = .ok (.iload_n 0, 1) := dk_26 (dk_at dksJ0_addExact_0 4 rfl rfl)
theorem dJ0_addExact_5 : decode cJ0_addExact 5 = .ok (.iload_n 2, 1) := dk_28 (dk_at dksJ0_addExact_0 5 rfl rfl)
theorem dJ0_addExact_6 : decode cJ0_addExact 6 = .ok (.ixor, 1) := dk_130 (dk_at dksJ0_addExact_0 6 rfl rfl)
theorem dJ0_addExact_7 : decode cJ0_addExact 7 = .ok (.iload_n 1, 1) := dk_27 (dk_at dksJ0_addExact_0 7 rfl rfl)
theorem dJ0_addExact_8 : decode cJ0_addExact 8 = .ok (.iload_n 2, 1) := dk_28 (dk_at dksJ0_addExact_0 8 rfl rfl)
theorem dJ0_addExact_9 : decode cJ0_addExact 9 = .ok (.ixor, 1) := dk_130 (dk_at dksJ0_addExact_0 9 rfl rfl)
theorem dJ0_addExact_10 : decode cJ0_addExact 10 = .ok (.iand, 1) := dk_126 (dk_at dksJ0_addExact_0 10 rfl rfl)
theorem dJ0_addExact_11 : decode cJ0_addExact 11 = .ok (.ifCond .ge 13, 3) := dk_156 0 13 (dk_at dksJ0_addExact_0 11 rfl rfl)
theorem dJ0_addExact_14 : decode cJ0_addExact 14 = .ok (.new 109, 3) := dk_187 0 109 (dk_at dksJ0_addExact_0 14 rfl rfl)
theorem dJ0_addExact_17 : decode cJ0_addExact 17 = .ok (.dup, 1) := dk_89 (dk_at dksJ0_addExact_0 17 rfl rfl)
theorem dJ0_addExact_18 : decode cJ0_addExact 18 = .ok (.ldc 111, 2) := dk_18 111 (dk_at dksJ0_addExact_0 18 rfl rfl)
theorem dJ0_addExact_20 : decode cJ0_addExact 20 = .ok (.invokespecial 113, 3) := dk_183 0 113 (dk_at dksJ0_addExact_0 20 rfl rfl)
theorem dJ0_addExact_23 : decode cJ0_addExact 23 = .ok (.athrow, 1) := dk_191 (dk_at dksJ0_addExact_0 23 rfl rfl)
theorem dJ0_addExact_24 : decode cJ0_addExact 24 = .ok (.iload_n 2, 1) := dk_28 (dk_at dksJ0_addExact_1 0 rfl rfl)
theorem dJ0_addExact_25 : decode cJ0_addExact 25 = .ok (.ireturn, 1) := dk_172 (dk_at dksJ0_addExact_1 1 rfl rfl)
theorem q93 : (Jvm.Cond.initialized "java/lang/Math") ∈ lw_all := lw_g (lw_at lw_m1 4 rfl) rfl
theorem q177 : (Jvm.Cond.static ({ cls := "java/lang/Math", name := "min", desc := "(II)I" } : Jvm.MethodName)) ∈ lw_all := lw_g (lw_at lw_m1 88 rfl) rfl
theorem q178 : (Jvm.Cond.code ({ cls := "java/lang/Math", name := "min", desc := "(II)I" } : Jvm.MethodName) prog_15_method_69_code (2 : Nat) (Option.some Jvm.ClassFile.FieldType.int)) ∈ lw_all := lw_g (lw_at lw_m1 89 rfl) rfl
theorem q188 : (Jvm.Cond.static ({ cls := "java/lang/Math", name := "max", desc := "(II)I" } : Jvm.MethodName)) ∈ lw_all := lw_g (lw_at lw_m1 99 rfl) rfl
theorem q189 : (Jvm.Cond.code ({ cls := "java/lang/Math", name := "max", desc := "(II)I" } : Jvm.MethodName) prog_15_method_65_code (2 : Nat) (Option.some Jvm.ClassFile.FieldType.int)) ∈ lw_all := lw_g (lw_at lw_m1 100 rfl) rfl
theorem q704 : (Jvm.Cond.static ({ cls := "java/lang/Math", name := "addExact", desc := "(II)I" } : Jvm.MethodName)) ∈ lw_all := lw_g (lw_at lw_m3 135 rfl) rfl
theorem q705 : (Jvm.Cond.code ({ cls := "java/lang/Math", name := "addExact", desc := "(II)I" } : Jvm.MethodName) prog_15_method_24_code (3 : Nat) (Option.some Jvm.ClassFile.FieldType.int)) ∈ lw_all := lw_g (lw_at lw_m3 136 rfl) rfl
theorem q706 : (Jvm.Cond.classLink "java/lang/Math" (109 : Nat) "java/lang/ArithmeticException") ∈ lw_all := lw_g (lw_at lw_m3 137 rfl) rfl
theorem q707 : (Jvm.Cond.stringRef "java/lang/Math" (111 : Nat) "integer overflow") ∈ lw_tbl := lw_at lw_m3 138 rfl
theorem q708 : (Jvm.Cond.methodLink "java/lang/Math" (113 : Nat) ({ cls := "java/lang/ArithmeticException", name := "<init>", desc := "(Ljava/lang/String;)V" } : Jvm.MethodName)) ∈ lw_all := lw_g (lw_at lw_m3 139 rfl) rfl
/-! java/lang/Long -/
set_option maxRecDepth 100000
def RJ3 : String := "java/lang/Long"
abbrev cJ3_bitCount : ByteArray := prog_14_method_50_code
def yJ3_bitCount : MethodName := ⟨RJ3, "bitCount", "(J)I"⟩
def dkwJ3_bitCount_2 : List UInt8 := [30, 30, 16, 32, 125, 97, 63, 30, 136, 16, 127, 126, 172]
abbrev dktJ3_bitCount_2 : List UInt8 := dkwJ3_bitCount_2 ++ []
def dkwJ3_bitCount_1 : List UInt8 := [30, 30, 7, 125, 97, 20, 1, 62, 127, 63, 30, 30, 16, 8, 125, 97, 63, 30, 30, 16, 16, 125, 97, 63]
abbrev dktJ3_bitCount_1 : List UInt8 := dkwJ3_bitCount_1 ++ dktJ3_bitCount_2
def dkwJ3_bitCount_0 : List UInt8 := [30, 30, 4, 125, 20, 1, 58, 127, 101, 63, 30, 20, 1, 60, 127, 30, 5, 125, 20, 1, 60, 127, 97, 63]
abbrev dktJ3_bitCount_0 : List UInt8 := dkwJ3_bitCount_0 ++ dktJ3_bitCount_1
theorem dksJ3_bitCount_0 : cJ3_bitCount.data.toList.drop 0 = dktJ3_bitCount_0 := by decide +kernel
theorem dksJ3_bitCount_1 : cJ3_bitCount.data.toList.drop 24 = dktJ3_bitCount_1 := dk_seg dksJ3_bitCount_0 24 rfl rfl
theorem dksJ3_bitCount_2 : cJ3_bitCount.data.toList.drop 48 = dktJ3_bitCount_2 := dk_seg dksJ3_bitCount_1 24 rfl rfl
theorem dJ3_bitCount_0 : decode cJ3_bitCount 0 = .ok (.lload_n 0, 1) := dk_30 (dk_at dksJ3_bitCount_0 0 rfl rfl)
theorem dJ3_bitCount_1 : decode cJ3_bitCount 1 = .ok (.lload_n 0, 1) := dk_30 (dk_at dksJ3_bitCount_0 1 rfl rfl)
theorem dJ3_bitCount_2 : decode cJ3_bitCount 2 = .ok (.iconst 1, 1) := dk_4 (dk_at dksJ3_bitCount_0 2 rfl rfl)
theorem dJ3_bitCount_3 : decode cJ3_bitCount 3 = .ok (.lushr, 1) := dk_125 (dk_at dksJ3_bitCount_0 3 rfl rfl)
theorem dJ3_bitCount_4 : decode cJ3_bitCount 4 = .ok (.ldc2_w 314, 3) := dk_20 1 58 (dk_at dksJ3_bitCount_0 4 rfl rfl)
theorem dJ3_bitCount_7 : decode cJ3_bitCount 7 = .ok (.land, 1) := dk_127 (dk_at dksJ3_bitCount_0 7 rfl rfl)
theorem dJ3_bitCount_8 : decode cJ3_bitCount 8 = .ok (.lsub, 1) := dk_101 (dk_at dksJ3_bitCount_0 8 rfl rfl)
theorem dJ3_bitCount_9 : decode cJ3_bitCount 9 = .ok (.lstore_n 0, 1) := dk_63 (dk_at dksJ3_bitCount_0 9 rfl rfl)
theorem dJ3_bitCount_10 : decode cJ3_bitCount 10 = .ok (.lload_n 0, 1) := dk_30 (dk_at dksJ3_bitCount_0 10 rfl rfl)
theorem dJ3_bitCount_11 : decode cJ3_bitCount 11 = .ok (.ldc2_w 316, 3) := dk_20 1 60 (dk_at dksJ3_bitCount_0 11 rfl rfl)
theorem dJ3_bitCount_14 : decode cJ3_bitCount 14 = .ok (.land, 1) := dk_127 (dk_at dksJ3_bitCount_0 14 rfl rfl)
theorem dJ3_bitCount_15 : decode cJ3_bitCount 15 = .ok (.lload_n 0, 1) := dk_30 (dk_at dksJ3_bitCount_0 15 rfl rfl)
theorem dJ3_bitCount_16 : decode cJ3_bitCount 16 = .ok (.iconst 2, 1) := dk_5 (dk_at dksJ3_bitCount_0 16 rfl rfl)
theorem dJ3_bitCount_17 : decode cJ3_bitCount 17 = .ok (.lushr, 1) := dk_125 (dk_at dksJ3_bitCount_0 17 rfl rfl)
theorem dJ3_bitCount_18 : decode cJ3_bitCount 18 = .ok (.ldc2_w 316, 3) := dk_20 1 60 (dk_at dksJ3_bitCount_0 18 rfl rfl)
theorem dJ3_bitCount_21 : decode cJ3_bitCount 21 = .ok (.land, 1) := dk_127 (dk_at dksJ3_bitCount_0 21 rfl rfl)
theorem dJ3_bitCount_22 : decode cJ3_bitCount 22 = .ok (.ladd, 1) := dk_97 (dk_at dksJ3_bitCount_0 22 rfl rfl)
theorem dJ3_bitCount_23 : decode cJ3_bitCount 23 = .ok (.lstore_n 0, 1) := dk_63 (dk_at dksJ3_bitCount_0 23 rfl rfl)
theorem dJ3_bitCount_24 : decode cJ3_bitCount 24 = .ok (.lload_n 0, 1) := dk_30 (dk_at dksJ3_bitCount_1 0 rfl rfl)
theorem dJ3_bitCount_25 : decode cJ3_bitCount 25 = .ok (.lload_n 0, 1) := dk_30 (dk_at dksJ3_bitCount_1 1 rfl rfl)
theorem dJ3_bitCount_26 : decode cJ3_bitCount 26 = .ok (.iconst 4, 1) := dk_7 (dk_at dksJ3_bitCount_1 2 rfl rfl)
theorem dJ3_bitCount_27 : decode cJ3_bitCount 27 = .ok (.lushr, 1) := dk_125 (dk_at dksJ3_bitCount_1 3 rfl rfl)
theorem dJ3_bitCount_28 : decode cJ3_bitCount 28 = .ok (.ladd, 1) := dk_97 (dk_at dksJ3_bitCount_1 4 rfl rfl)
theorem dJ3_bitCount_29 : decode cJ3_bitCount 29 = .ok (.ldc2_w 318, 3) := dk_20 1 62 (dk_at dksJ3_bitCount_1 5 rfl rfl)
theorem dJ3_bitCount_32 : decode cJ3_bitCount 32 = .ok (.land, 1) := dk_127 (dk_at dksJ3_bitCount_1 8 rfl rfl)
theorem dJ3_bitCount_33 : decode cJ3_bitCount 33 = .ok (.lstore_n 0, 1) := dk_63 (dk_at dksJ3_bitCount_1 9 rfl rfl)
theorem dJ3_bitCount_34 : decode cJ3_bitCount 34 = .ok (.lload_n 0, 1) := dk_30 (dk_at dksJ3_bitCount_1 10 rfl rfl)
theorem dJ3_bitCount_35 : decode cJ3_bitCount 35 = .ok (.lload_n 0, 1) := dk_30 (dk_at dksJ3_bitCount_1 11 rfl rfl)
theorem dJ3_bitCount_36 : decode cJ3_bitCount 36 = .ok (.bipush 8, 2) := dk_16 8 (dk_at dksJ3_bitCount_1 12 rfl rfl)
theorem dJ3_bitCount_38 : decode cJ3_bitCount 38 = .ok (.lushr, 1) := dk_125 (dk_at dksJ3_bitCount_1 14 rfl rfl)
theorem dJ3_bitCount_39 : decode cJ3_bitCount 39 = .ok (.ladd, 1) := dk_97 (dk_at dksJ3_bitCount_1 15 rfl rfl)
theorem dJ3_bitCount_40 : decode cJ3_bitCount 40 = .ok (.lstore_n 0, 1) := dk_63 (dk_at dksJ3_bitCount_1 16 rfl rfl)
theorem dJ3_bitCount_41 : decode cJ3_bitCount 41 = .ok (.lload_n 0, 1) := dk_30 (dk_at dksJ3_bitCount_1 17 rfl rfl)
theorem dJ3_bitCount_42 : decode cJ3_bitCount 42 = .ok (.lload_n 0, 1) := dk_30 (dk_at dksJ3_bitCount_1 18 rfl rfl)
theorem dJ3_bitCount_43 : decode cJ3_bitCount 43 = .ok (.bipush 16, 2) := dk_16 16 (dk_at dksJ3_bitCount_1 19 rfl rfl)
theorem dJ3_bitCount_45 : decode cJ3_bitCount 45 = .ok (.lushr, 1) := dk_125 (dk_at dksJ3_bitCount_1 21 rfl rfl)
theorem dJ3_bitCount_46 : decode cJ3_bitCount 46 = .ok (.ladd, 1) := dk_97 (dk_at dksJ3_bitCount_1 22 rfl rfl)
theorem dJ3_bitCount_47 : decode cJ3_bitCount 47 = .ok (.lstore_n 0, 1) := dk_63 (dk_at dksJ3_bitCount_1 23 rfl rfl)
theorem dJ3_bitCount_48 : decode cJ3_bitCount 48 = .ok (.lload_n 0, 1) := dk_30 (dk_at dksJ3_bitCount_2 0 rfl rfl)
theorem dJ3_bitCount_49 : decode cJ3_bitCount 49 = .ok (.lload_n 0, 1) := dk_30 (dk_at dksJ3_bitCount_2 1 rfl rfl)
theorem dJ3_bitCount_50 : decode cJ3_bitCount 50 = .ok (.bipush 32, 2) := dk_16 32 (dk_at dksJ3_bitCount_2 2 rfl rfl)
theorem dJ3_bitCount_52 : decode cJ3_bitCount 52 = .ok (.lushr, 1) := dk_125 (dk_at dksJ3_bitCount_2 4 rfl rfl)
theorem dJ3_bitCount_53 : decode cJ3_bitCount 53 = .ok (.ladd, 1) := dk_97 (dk_at dksJ3_bitCount_2 5 rfl rfl)
theorem dJ3_bitCount_54 : decode cJ3_bitCount 54 = .ok (.lstore_n 0, 1) := dk_63 (dk_at dksJ3_bitCount_2 6 rfl rfl)
theorem dJ3_bitCount_55 : decode cJ3_bitCount 55 = .ok (.lload_n 0, 1) := dk_30 (dk_at dksJ3_bitCount_2 7 rfl rfl)
theorem dJ3_bitCount_56 : decode cJ3_bitCount 56 = .ok (.l2i, 1) := dk_136 (dk_at dksJ3_bitCount_2 8 rfl rfl)
theorem dJ3_bitCount_57 : decode cJ3_bitCount 57 = .ok (.bipush 127, 2) := dk_16 127 (dk_at dksJ3_bitCount_2 9 rfl rfl)
theorem dJ3_bitCount_59 : decode cJ3_bitCount 59 = .ok (.iand, 1) := dk_126 (dk_at dksJ3_bitCount_2 11 rfl rfl)
theorem dJ3_bitCount_60 : decode cJ3_bitCount 60 = .ok (.ireturn, 1) := dk_172 (dk_at dksJ3_bitCount_2 12 rfl rfl)
theorem q100 : (Jvm.Cond.initialized "java/lang/Long") ∈ lw_all := lw_g (lw_at lw_m1 11 rfl) rfl
theorem q434 : (Jvm.Cond.static ({ cls := "java/lang/Long", name := "bitCount", desc := "(J)I" } : Jvm.MethodName)) ∈ lw_all := lw_g (lw_at lw_m2 105 rfl) rfl
theorem q435 : (Jvm.Cond.code ({ cls := "java/lang/Long", name := "bitCount", desc := "(J)I" } : Jvm.MethodName) prog_14_method_50_code (2 : Nat) (Option.some Jvm.ClassFile.FieldType.int)) ∈ lw_all := lw_g (lw_at lw_m2 106 rfl) rfl
theorem q436 : (Jvm.Cond.constantLong "java/lang/Long" (314 : Nat) (6148914691236517205 : Int64)) ∈ lw_all := lw_g (lw_at lw_m2 107 rfl) rfl
theorem q437 : (Jvm.Cond.constantLong "java/lang/Long" (316 : Nat) (3689348814741910323 : Int64)) ∈ lw_all := lw_g (lw_at lw_m2 108 rfl) rfl
theorem q438 : (Jvm.Cond.constantLong "java/lang/Long" (318 : Nat) (1085102592571150095 : Int64)) ∈ lw_all := lw_g (lw_at lw_m2 109 rfl) rfl
/-! java/lang/Integer -/
set_option maxRecDepth 100000
def RJ13 : String := "java/lang/Integer"
abbrev cJ13_bitCount : ByteArray := prog_13_method_49_code
def yJ13_bitCount : MethodName := ⟨RJ13, "bitCount", "(I)I"⟩
def dkwJ13_bitCount_2 : List UInt8 := [26, 16, 63, 126, 172]
abbrev dktJ13_bitCount_2 : List UInt8 := dkwJ13_bitCount_2 ++ []
def dkwJ13_bitCount_1 : List UInt8 := [26, 26, 7, 124, 96, 19, 1, 11, 126, 59, 26, 26, 16, 8, 124, 96, 59, 26, 26, 16, 16, 124, 96, 59]
abbrev dktJ13_bitCount_1 : List UInt8 := dkwJ13_bitCount_1 ++ dktJ13_bitCount_2
def dkwJ13_bitCount_0 : List UInt8 := [26, 26, 4, 124, 19, 1, 9, 126, 100, 59, 26, 19, 1, 10, 126, 26, 5, 124, 19, 1, 10, 126, 96, 59]
abbrev dktJ13_bitCount_0 : List UInt8 := dkwJ13_bitCount_0 ++ dktJ13_bitCount_1
theorem dksJ13_bitCount_0 : cJ13_bitCount.data.toList.drop 0 = dktJ13_bitCount_0 := by decide +kernel
theorem dksJ13_bitCount_1 : cJ13_bitCount.data.toList.drop 24 = dktJ13_bitCount_1 := dk_seg dksJ13_bitCount_0 24 rfl rfl
theorem dksJ13_bitCount_2 : cJ13_bitCount.data.toList.drop 48 = dktJ13_bitCount_2 := dk_seg dksJ13_bitCount_1 24 rfl rfl
theorem dJ13_bitCount_0 : decode cJ13_bitCount 0 = .ok (.iload_n 0, 1) := dk_26 (dk_at dksJ13_bitCount_0 0 rfl rfl)
theorem dJ13_bitCount_1 : decode cJ13_bitCount 1 = .ok (.iload_n 0, 1) := dk_26 (dk_at dksJ13_bitCount_0 1 rfl rfl)
theorem dJ13_bitCount_2 : decode cJ13_bitCount 2 = .ok (.iconst 1, 1) := dk_4 (dk_at dksJ13_bitCount_0 2 rfl rfl)
theorem dJ13_bitCount_3 : decode cJ13_bitCount 3 = .ok (.iushr, 1) := dk_124 (dk_at dksJ13_bitCount_0 3 rfl rfl)
theorem dJ13_bitCount_4 : decode cJ13_bitCount 4 = .ok (.ldc_w 265, 3) := dk_19 1 9 (dk_at dksJ13_bitCount_0 4 rfl rfl)
theorem dJ13_bitCount_7 : decode cJ13_bitCount 7 = .ok (.iand, 1) := dk_126 (dk_at dksJ13_bitCount_0 7 rfl rfl)
theorem dJ13_bitCount_8 : decode cJ13_bitCount 8 = .ok (.isub, 1) := dk_100 (dk_at dksJ13_bitCount_0 8 rfl rfl)
theorem dJ13_bitCount_9 : decode cJ13_bitCount 9 = .ok (.istore_n 0, 1) := dk_59 (dk_at dksJ13_bitCount_0 9 rfl rfl)
theorem dJ13_bitCount_10 : decode cJ13_bitCount 10 = .ok (.iload_n 0, 1) := dk_26 (dk_at dksJ13_bitCount_0 10 rfl rfl)
theorem dJ13_bitCount_11 : decode cJ13_bitCount 11 = .ok (.ldc_w 266, 3) := dk_19 1 10 (dk_at dksJ13_bitCount_0 11 rfl rfl)
theorem dJ13_bitCount_14 : decode cJ13_bitCount 14 = .ok (.iand, 1) := dk_126 (dk_at dksJ13_bitCount_0 14 rfl rfl)
theorem dJ13_bitCount_15 : decode cJ13_bitCount 15 = .ok (.iload_n 0, 1) := dk_26 (dk_at dksJ13_bitCount_0 15 rfl rfl)
theorem dJ13_bitCount_16 : decode cJ13_bitCount 16 = .ok (.iconst 2, 1) := dk_5 (dk_at dksJ13_bitCount_0 16 rfl rfl)
theorem dJ13_bitCount_17 : decode cJ13_bitCount 17 = .ok (.iushr, 1) := dk_124 (dk_at dksJ13_bitCount_0 17 rfl rfl)
theorem dJ13_bitCount_18 : decode cJ13_bitCount 18 = .ok (.ldc_w 266, 3) := dk_19 1 10 (dk_at dksJ13_bitCount_0 18 rfl rfl)
theorem dJ13_bitCount_21 : decode cJ13_bitCount 21 = .ok (.iand, 1) := dk_126 (dk_at dksJ13_bitCount_0 21 rfl rfl)
theorem dJ13_bitCount_22 : decode cJ13_bitCount 22 = .ok (.iadd, 1) := dk_96 (dk_at dksJ13_bitCount_0 22 rfl rfl)
theorem dJ13_bitCount_23 : decode cJ13_bitCount 23 = .ok (.istore_n 0, 1) := dk_59 (dk_at dksJ13_bitCount_0 23 rfl rfl)
theorem dJ13_bitCount_24 : decode cJ13_bitCount 24 = .ok (.iload_n 0, 1) := dk_26 (dk_at dksJ13_bitCount_1 0 rfl rfl)
theorem dJ13_bitCount_25 : decode cJ13_bitCount 25 = .ok (.iload_n 0, 1) := dk_26 (dk_at dksJ13_bitCount_1 1 rfl rfl)
theorem dJ13_bitCount_26 : decode cJ13_bitCount 26 = .ok (.iconst 4, 1) := dk_7 (dk_at dksJ13_bitCount_1 2 rfl rfl)
theorem dJ13_bitCount_27 : decode cJ13_bitCount 27 = .ok (.iushr, 1) := dk_124 (dk_at dksJ13_bitCount_1 3 rfl rfl)
theorem dJ13_bitCount_28 : decode cJ13_bitCount 28 = .ok (.iadd, 1) := dk_96 (dk_at dksJ13_bitCount_1 4 rfl rfl)
theorem dJ13_bitCount_29 : decode cJ13_bitCount 29 = .ok (.ldc_w 267, 3) := dk_19 1 11 (dk_at dksJ13_bitCount_1 5 rfl rfl)
theorem dJ13_bitCount_32 : decode cJ13_bitCount 32 = .ok (.iand, 1) := dk_126 (dk_at dksJ13_bitCount_1 8 rfl rfl)
theorem dJ13_bitCount_33 : decode cJ13_bitCount 33 = .ok (.istore_n 0, 1) := dk_59 (dk_at dksJ13_bitCount_1 9 rfl rfl)
theorem dJ13_bitCount_34 : decode cJ13_bitCount 34 = .ok (.iload_n 0, 1) := dk_26 (dk_at dksJ13_bitCount_1 10 rfl rfl)
theorem dJ13_bitCount_35 : decode cJ13_bitCount 35 = .ok (.iload_n 0, 1) := dk_26 (dk_at dksJ13_bitCount_1 11 rfl rfl)
theorem dJ13_bitCount_36 : decode cJ13_bitCount 36 = .ok (.bipush 8, 2) := dk_16 8 (dk_at dksJ13_bitCount_1 12 rfl rfl)
theorem dJ13_bitCount_38 : decode cJ13_bitCount 38 = .ok (.iushr, 1) := dk_124 (dk_at dksJ13_bitCount_1 14 rfl rfl)
theorem dJ13_bitCount_39 : decode cJ13_bitCount 39 = .ok (.iadd, 1) := dk_96 (dk_at dksJ13_bitCount_1 15 rfl rfl)
theorem dJ13_bitCount_40 : decode cJ13_bitCount 40 = .ok (.istore_n 0, 1) := dk_59 (dk_at dksJ13_bitCount_1 16 rfl rfl)
theorem dJ13_bitCount_41 : decode cJ13_bitCount 41 = .ok (.iload_n 0, 1) := dk_26 (dk_at dksJ13_bitCount_1 17 rfl rfl)
theorem dJ13_bitCount_42 : decode cJ13_bitCount 42 = .ok (.iload_n 0, 1) := dk_26 (dk_at dksJ13_bitCount_1 18 rfl rfl)
theorem dJ13_bitCount_43 : decode cJ13_bitCount 43 = .ok (.bipush 16, 2) := dk_16 16 (dk_at dksJ13_bitCount_1 19 rfl rfl)
theorem dJ13_bitCount_45 : decode cJ13_bitCount 45 = .ok (.iushr, 1) := dk_124 (dk_at dksJ13_bitCount_1 21 rfl rfl)
theorem dJ13_bitCount_46 : decode cJ13_bitCount 46 = .ok (.iadd, 1) := dk_96 (dk_at dksJ13_bitCount_1 22 rfl rfl)
theorem dJ13_bitCount_47 : decode cJ13_bitCount 47 = .ok (.istore_n 0, 1) := dk_59 (dk_at dksJ13_bitCount_1 23 rfl rfl)
theorem dJ13_bitCount_48 : decode cJ13_bitCount 48 = .ok (.iload_n 0, 1) := dk_26 (dk_at dksJ13_bitCount_2 0 rfl rfl)
theorem dJ13_bitCount_49 : decode cJ13_bitCount 49 = .ok (.bipush 63, 2) := dk_16 63 (dk_at dksJ13_bitCount_2 1 rfl rfl)
theorem dJ13_bitCount_51 : decode cJ13_bitCount 51 = .ok (.iand, 1) := dk_126 (dk_at dksJ13_bitCount_2 3 rfl rfl)
theorem dJ13_bitCount_52 : decode cJ13_bitCount 52 = .ok (.ireturn, 1) := dk_172 (dk_at dksJ13_bitCount_2 4 rfl rfl)
theorem q110 : (Jvm.Cond.initialized "java/lang/Integer") ∈ lw_all := lw_g (lw_at lw_m1 21 rfl) rfl
theorem q927 : (Jvm.Cond.static ({ cls := "java/lang/Integer", name := "bitCount", desc := "(I)I" } : Jvm.MethodName)) ∈ lw_all := lw_g (lw_at lw_m4 118 rfl) rfl
theorem q928 : (Jvm.Cond.code ({ cls := "java/lang/Integer", name := "bitCount", desc := "(I)I" } : Jvm.MethodName) prog_13_method_49_code (1 : Nat) (Option.some Jvm.ClassFile.FieldType.int)) ∈ lw_all := lw_g (lw_at lw_m4 119 rfl) rfl
theorem q929 : (Jvm.Cond.constant "java/lang/Integer" (265 : Nat) (1431655765 : Int32)) ∈ lw_all := lw_g (lw_at lw_m4 120 rfl) rfl
theorem q930 : (Jvm.Cond.constant "java/lang/Integer" (266 : Nat) (858993459 : Int32)) ∈ lw_all := lw_g (lw_at lw_m4 121 rfl) rfl
theorem q931 : (Jvm.Cond.constant "java/lang/Integer" (267 : Nat) (252645135 : Int32)) ∈ lw_all := lw_g (lw_at lw_m4 122 rfl) rfl
/-! java/lang/Object -/
set_option maxRecDepth 100000
def RJ14 : String := "java/lang/Object"
abbrev cJ14_init : ByteArray := object_method_1_code
def yJ14_init : MethodName := ⟨RJ14, "<init>", "()V"⟩
theorem dJ14_init_0 : decode cJ14_init 0 = .ok (.return_, 1) := by decide +kernel
theorem q117 : (Jvm.Cond.instanceMethod ({ cls := "java/lang/Object", name := "<init>", desc := "()V" } : Jvm.MethodName)) ∈ lw_all := lw_g (lw_at lw_m1 28 rfl) rfl
theorem q118 : (Jvm.Cond.code ({ cls := "java/lang/Object", name := "<init>", desc := "()V" } : Jvm.MethodName) object_method_1_code (1 : Nat) (Option.none : Option Jvm.ClassFile.FieldType)) ∈ lw_all := lw_g (lw_at lw_m1 29 rfl) rfl
/-! java/util/Arrays -/
set_option maxRecDepth 100000
def RJ7 : String := "java/util/Arrays"
abbrev cJ7_fill : ByteArray := prog_22_method_101_code
def yJ7_fill : MethodName := ⟨RJ7, "fill", "([JJ)V"⟩
def dkwJ7_fill_0 : List UInt8 := [3, 62, 42, 190, 54, 4, 29, 21, 4, 162, 0, 13, 42, 29, 31, 80, 132, 3, 1, 167, 255, 243, 177]
abbrev dktJ7_fill_0 : List UInt8 := dkwJ7_fill_0 ++ []
theorem dksJ7_fill_0 : cJ7_fill.data.toList.drop 0 = dktJ7_fill_0 := by decide +kernel
theorem dJ7_fill_0 : decode cJ7_fill 0 = .ok (.iconst 0, 1) := dk_3 (dk_at dksJ7_fill_0 0 rfl rfl)
theorem dJ7_fill_1 : decode cJ7_fill 1 = .ok (.istore_n 3, 1) := dk_62 (dk_at dksJ7_fill_0 1 rfl rfl)
theorem dJ7_fill_2 : decode cJ7_fill 2 = .ok (.aload_n 0, 1) := dk_42 (dk_at dksJ7_fill_0 2 rfl rfl)
theorem dJ7_fill_3 : decode cJ7_fill 3 = .ok (.arraylength, 1) := dk_190 (dk_at dksJ7_fill_0 3 rfl rfl)
theorem dJ7_fill_4 : decode cJ7_fill 4 = .ok (.istore 4, 2) := dk_54 4 (dk_at dksJ7_fill_0 4 rfl rfl)
theorem dJ7_fill_6 : decode cJ7_fill 6 = .ok (.iload_n 3, 1) := dk_29 (dk_at dksJ7_fill_0 6 rfl rfl)
theorem dJ7_fill_7 : decode cJ7_fill 7 = .ok (.iload 4, 2) := dk_21 4 (dk_at dksJ7_fill_0 7 rfl rfl)
theorem dJ7_fill_9 : decode cJ7_fill 9 = .ok (.if_icmp .ge 13, 3) := dk_162 0 13 (dk_at dksJ7_fill_0 9 rfl rfl)
theorem dJ7_fill_12 : decode cJ7_fill 12 = .ok (.aload_n 0, 1) := dk_42 (dk_at dksJ7_fill_0 12 rfl rfl)
theorem dJ7_fill_13 : decode cJ7_fill 13 = .ok (.iload_n 3, 1) := dk_29 (dk_at dksJ7_fill_0 13 rfl rfl)
theorem dJ7_fill_14 : decode cJ7_fill 14 = .ok (.lload_n 1, 1) := dk_31 (dk_at dksJ7_fill_0 14 rfl rfl)
theorem dJ7_fill_15 : decode cJ7_fill 15 = .ok (.lastore, 1) := dk_80 (dk_at dksJ7_fill_0 15 rfl rfl)
theorem dJ7_fill_16 : decode cJ7_fill 16 = .ok (.iinc 3 1, 3) := dk_132 3 1 (dk_at dksJ7_fill_0 16 rfl rfl)
theorem dJ7_fill_19 : decode cJ7_fill 19 = .ok (.goto (-13), 3) := dk_167 255 243 (dk_at dksJ7_fill_0 19 rfl rfl)
theorem dJ7_fill_22 : decode cJ7_fill 22 = .ok (.return_, 1) := dk_177 (dk_at dksJ7_fill_0 22 rfl rfl)
abbrev cJ7_fill_2 : ByteArray := prog_22_method_103_code
def yJ7_fill_2 : MethodName := ⟨RJ7, "fill", "([II)V"⟩
def dkwJ7_fill_2_0 : List UInt8 := [3, 61, 42, 190, 62, 28, 29, 162, 0, 13, 42, 28, 27, 79, 132, 2, 1, 167, 255, 244, 177]
abbrev dktJ7_fill_2_0 : List UInt8 := dkwJ7_fill_2_0 ++ []
theorem dksJ7_fill_2_0 : cJ7_fill_2.data.toList.drop 0 = dktJ7_fill_2_0 := by decide +kernel
theorem dJ7_fill_2_0 : decode cJ7_fill_2 0 = .ok (.iconst 0, 1) := dk_3 (dk_at dksJ7_fill_2_0 0 rfl rfl)
theorem dJ7_fill_2_1 : decode cJ7_fill_2 1 = .ok (.istore_n 2, 1) := dk_61 (dk_at dksJ7_fill_2_0 1 rfl rfl)
theorem dJ7_fill_2_2 : decode cJ7_fill_2 2 = .ok (.aload_n 0, 1) := dk_42 (dk_at dksJ7_fill_2_0 2 rfl rfl)
theorem dJ7_fill_2_3 : decode cJ7_fill_2 3 = .ok (.arraylength, 1) := dk_190 (dk_at dksJ7_fill_2_0 3 rfl rfl)
theorem dJ7_fill_2_4 : decode cJ7_fill_2 4 = .ok (.istore_n 3, 1) := dk_62 (dk_at dksJ7_fill_2_0 4 rfl rfl)
theorem dJ7_fill_2_5 : decode cJ7_fill_2 5 = .ok (.iload_n 2, 1) := dk_28 (dk_at dksJ7_fill_2_0 5 rfl rfl)
theorem dJ7_fill_2_6 : decode cJ7_fill_2 6 = .ok (.iload_n 3, 1) := dk_29 (dk_at dksJ7_fill_2_0 6 rfl rfl)
theorem dJ7_fill_2_7 : decode cJ7_fill_2 7 = .ok (.if_icmp .ge 13, 3) := dk_162 0 13 (dk_at dksJ7_fill_2_0 7 rfl rfl)
theorem dJ7_fill_2_10 : decode cJ7_fill_2 10 = .ok (.aload_n 0, 1) := dk_42 (dk_at dksJ7_fill_2_0 10 rfl rfl)
theorem dJ7_fill_2_11 : decode cJ7_fill_2 11 = .ok (.iload_n 2, 1) := dk_28 (dk_at dksJ7_fill_2_0 11 rfl rfl)
theorem dJ7_fill_2_12 : decode cJ7_fill_2 12 = .ok (.iload_n 1, 1) := dk_27 (dk_at dksJ7_fill_2_0 12 rfl rfl)
theorem dJ7_fill_2_13 : decode cJ7_fill_2 13 = .ok (.iastore, 1) := dk_79 (dk_at dksJ7_fill_2_0 13 rfl rfl)
theorem dJ7_fill_2_14 : decode cJ7_fill_2 14 = .ok (.iinc 2 1, 3) := dk_132 2 1 (dk_at dksJ7_fill_2_0 14 rfl rfl)
theorem dJ7_fill_2_17 : decode cJ7_fill_2 17 = .ok (.goto (-12), 3) := dk_167 255 244 (dk_at dksJ7_fill_2_0 17 rfl rfl)
theorem dJ7_fill_2_20 : decode cJ7_fill_2 20 = .ok (.return_, 1) := dk_177 (dk_at dksJ7_fill_2_0 20 rfl rfl)
theorem q104 : (Jvm.Cond.initialized "java/util/Arrays") ∈ lw_all := lw_g (lw_at lw_m1 15 rfl) rfl
theorem q785 : (Jvm.Cond.static ({ cls := "java/util/Arrays", name := "fill", desc := "([JJ)V" } : Jvm.MethodName)) ∈ lw_all := lw_g (lw_at lw_m3 216 rfl) rfl
theorem q786 : (Jvm.Cond.code ({ cls := "java/util/Arrays", name := "fill", desc := "([JJ)V" } : Jvm.MethodName) prog_22_method_101_code (5 : Nat) (Option.none : Option Jvm.ClassFile.FieldType)) ∈ lw_all := lw_g (lw_at lw_m3 217 rfl) rfl
theorem q788 : (Jvm.Cond.static ({ cls := "java/util/Arrays", name := "fill", desc := "([II)V" } : Jvm.MethodName)) ∈ lw_all := lw_g (lw_at lw_m3 219 rfl) rfl
theorem q789 : (Jvm.Cond.code ({ cls := "java/util/Arrays", name := "fill", desc := "([II)V" } : Jvm.MethodName) prog_22_method_103_code (4 : Nat) (Option.none : Option Jvm.ClassFile.FieldType)) ∈ lw_all := lw_g (lw_at lw_m3 220 rfl) rfl
/-! ExcessTree$Row -/
set_option maxRecDepth 100000
def RX1 : String := "ExcessTree$Row"
def TX1 : u_T := fun k => match k with
  | 0 => ("ExcessTree$Row", "words", "[J", true)
  | 1 => ("ExcessTree$Row", "places", "I", false)
  | 2 => ("ExcessTree$Row", "weight", "[I", true)
  | 3 => ("ExcessTree$Row", "gain", "[S", true)
  | 4 => ("ExcessTree$Row", "low", "[S", true)
  | _ => ("ExcessTree$Row", "high", "[S", true)
def tyX1 : Nat → FieldType := fun k => match k with
  | 0 => .array .long
  | 1 => .int
  | 2 => .array .int
  | 3 => .array .short
  | 4 => .array .short
  | _ => .array .short
abbrev wsX10 : List Cond := u_ws RX1 TX1 6
theorem nmX1 : ∀ a, a < 6 → ∀ b, b < 6 → a ≠ b → (TX1 a).2.1 ≠ (TX1 b).2.1 := by decide +kernel
theorem tyX1_ok : ∀ k, k < 6 → parseFieldDescriptor (TX1 k).2.2.1 = some (tyX1 k) := by decide +kernel
abbrev cX1_init : ByteArray := prog_4_method_1_code
def yX1_init : MethodName := ⟨RX1, "<init>", "()V"⟩
def dkwX1_init_1 : List UInt8 := [181, 0, 19, 42, 16, 16, 188, 9, 181, 0, 23, 42, 16, 16, 188, 9, 181, 0, 26, 177]
abbrev dktX1_init_1 : List UInt8 := dkwX1_init_1 ++ []
def dkwX1_init_0 : List UInt8 := [42, 183, 0, 3, 42, 5, 188, 11, 181, 0, 9, 42, 16, 64, 188, 10, 181, 0, 15, 42, 16, 16, 188, 9]
abbrev dktX1_init_0 : List UInt8 := dkwX1_init_0 ++ dktX1_init_1
theorem dksX1_init_0 : cX1_init.data.toList.drop 0 = dktX1_init_0 := by decide +kernel
theorem dksX1_init_1 : cX1_init.data.toList.drop 24 = dktX1_init_1 := dk_seg dksX1_init_0 24 rfl rfl
theorem dX1_init_0 : decode cX1_init 0 = .ok (.aload_n 0, 1) := dk_42 (dk_at dksX1_init_0 0 rfl rfl)
theorem dX1_init_1 : decode cX1_init 1 = .ok (.invokespecial 3, 3) := dk_183 0 3 (dk_at dksX1_init_0 1 rfl rfl)
theorem dX1_init_4 : decode cX1_init 4 = .ok (.aload_n 0, 1) := dk_42 (dk_at dksX1_init_0 4 rfl rfl)
theorem dX1_init_5 : decode cX1_init 5 = .ok (.iconst 2, 1) := dk_5 (dk_at dksX1_init_0 5 rfl rfl)
theorem dX1_init_6 : decode cX1_init 6 = .ok (.newarray .long, 2) := dk_188_11 (dk_at dksX1_init_0 6 rfl rfl)
theorem dX1_init_8 : decode cX1_init 8 = .ok (.putfield 9, 3) := dk_181 0 9 (dk_at dksX1_init_0 8 rfl rfl)
theorem dX1_init_11 : decode cX1_init 11 = .ok (.aload_n 0, 1) := dk_42 (dk_at dksX1_init_0 11 rfl rfl)
theorem dX1_init_12 : decode cX1_init 12 = .ok (.bipush 64, 2) := dk_16 64 (dk_at dksX1_init_0 12 rfl rfl)
theorem dX1_init_14 : decode cX1_init 14 = .ok (.newarray .int, 2) := dk_188_10 (dk_at dksX1_init_0 14 rfl rfl)
theorem dX1_init_16 : decode cX1_init 16 = .ok (.putfield 15, 3) := dk_181 0 15 (dk_at dksX1_init_0 16 rfl rfl)
theorem dX1_init_19 : decode cX1_init 19 = .ok (.aload_n 0, 1) := dk_42 (dk_at dksX1_init_0 19 rfl rfl)
theorem dX1_init_20 : decode cX1_init 20 = .ok (.bipush 16, 2) := dk_16 16 (dk_at dksX1_init_0 20 rfl rfl)
theorem dX1_init_22 : decode cX1_init 22 = .ok (.newarray .short, 2) := dk_188_9 (dk_at dksX1_init_0 22 rfl rfl)
theorem dX1_init_24 : decode cX1_init 24 = .ok (.putfield 19, 3) := dk_181 0 19 (dk_at dksX1_init_1 0 rfl rfl)
theorem dX1_init_27 : decode cX1_init 27 = .ok (.aload_n 0, 1) := dk_42 (dk_at dksX1_init_1 3 rfl rfl)
theorem dX1_init_28 : decode cX1_init 28 = .ok (.bipush 16, 2) := dk_16 16 (dk_at dksX1_init_1 4 rfl rfl)
theorem dX1_init_30 : decode cX1_init 30 = .ok (.newarray .short, 2) := dk_188_9 (dk_at dksX1_init_1 6 rfl rfl)
theorem dX1_init_32 : decode cX1_init 32 = .ok (.putfield 23, 3) := dk_181 0 23 (dk_at dksX1_init_1 8 rfl rfl)
theorem dX1_init_35 : decode cX1_init 35 = .ok (.aload_n 0, 1) := dk_42 (dk_at dksX1_init_1 11 rfl rfl)
theorem dX1_init_36 : decode cX1_init 36 = .ok (.bipush 16, 2) := dk_16 16 (dk_at dksX1_init_1 12 rfl rfl)
theorem dX1_init_38 : decode cX1_init 38 = .ok (.newarray .short, 2) := dk_188_9 (dk_at dksX1_init_1 14 rfl rfl)
theorem dX1_init_40 : decode cX1_init 40 = .ok (.putfield 26, 3) := dk_181 0 26 (dk_at dksX1_init_1 16 rfl rfl)
theorem dX1_init_43 : decode cX1_init 43 = .ok (.return_, 1) := dk_177 (dk_at dksX1_init_1 19 rfl rfl)
abbrev cX1_summariseAll : ByteArray := prog_4_method_9_code
def yX1_summariseAll : MethodName := ⟨RX1, "summariseAll", "()V"⟩
def dkwX1_summariseAll_5 : List UInt8 := [53, 96, 184, 0, 51, 147, 86, 132, 1, 255, 167, 255, 149, 177]
abbrev dktX1_summariseAll_5 : List UInt8 := dkwX1_summariseAll_5 ++ []
def dkwX1_summariseAll_4 : List UInt8 := [180, 0, 26, 5, 27, 104, 53, 42, 180, 0, 19, 5, 27, 104, 53, 42, 180, 0, 26, 5, 27, 104, 4, 96]
abbrev dktX1_summariseAll_4 : List UInt8 := dkwX1_summariseAll_4 ++ dktX1_summariseAll_5
def dkwX1_summariseAll_3 : List UInt8 := [104, 53, 42, 180, 0, 23, 5, 27, 104, 4, 96, 53, 96, 184, 0, 45, 147, 86, 42, 180, 0, 26, 27, 42]
abbrev dktX1_summariseAll_3 : List UInt8 := dkwX1_summariseAll_3 ++ dktX1_summariseAll_4
def dkwX1_summariseAll_2 : List UInt8 := [96, 53, 96, 147, 86, 42, 180, 0, 23, 27, 42, 180, 0, 23, 5, 27, 104, 53, 42, 180, 0, 19, 5, 27]
abbrev dktX1_summariseAll_2 : List UInt8 := dkwX1_summariseAll_2 ++ dktX1_summariseAll_3
def dkwX1_summariseAll_1 : List UInt8 := [158, 0, 109, 42, 180, 0, 19, 27, 42, 180, 0, 19, 5, 27, 104, 53, 42, 180, 0, 19, 5, 27, 104, 4]
abbrev dktX1_summariseAll_1 : List UInt8 := dkwX1_summariseAll_1 ++ dktX1_summariseAll_2
def dkwX1_summariseAll_0 : List UInt8 := [3, 60, 27, 16, 8, 162, 0, 14, 42, 27, 182, 0, 67, 132, 1, 1, 167, 255, 242, 16, 7, 60, 27]
abbrev dktX1_summariseAll_0 : List UInt8 := dkwX1_summariseAll_0 ++ dktX1_summariseAll_1
theorem dksX1_summariseAll_0 : cX1_summariseAll.data.toList.drop 0 = dktX1_summariseAll_0 := by decide +kernel
theorem dksX1_summariseAll_1 : cX1_summariseAll.data.toList.drop 23 = dktX1_summariseAll_1 := dk_seg dksX1_summariseAll_0 23 rfl rfl
theorem dksX1_summariseAll_2 : cX1_summariseAll.data.toList.drop 47 = dktX1_summariseAll_2 := dk_seg dksX1_summariseAll_1 24 rfl rfl
theorem dksX1_summariseAll_3 : cX1_summariseAll.data.toList.drop 71 = dktX1_summariseAll_3 := dk_seg dksX1_summariseAll_2 24 rfl rfl
theorem dksX1_summariseAll_4 : cX1_summariseAll.data.toList.drop 95 = dktX1_summariseAll_4 := dk_seg dksX1_summariseAll_3 24 rfl rfl
theorem dksX1_summariseAll_5 : cX1_summariseAll.data.toList.drop 119 = dktX1_summariseAll_5 := dk_seg dksX1_summariseAll_4 24 rfl rfl
theorem dX1_summariseAll_0 : decode cX1_summariseAll 0 = .ok (.iconst 0, 1) := dk_3 (dk_at dksX1_summariseAll_0 0 rfl rfl)
theorem dX1_summariseAll_1 : decode cX1_summariseAll 1 = .ok (.istore_n 1, 1) := dk_60 (dk_at dksX1_summariseAll_0 1 rfl rfl)
theorem dX1_summariseAll_2 : decode cX1_summariseAll 2 = .ok (.iload_n 1, 1) := dk_27 (dk_at dksX1_summariseAll_0 2 rfl rfl)
theorem dX1_summariseAll_3 : decode cX1_summariseAll 3 = .ok (.bipush 8, 2) := dk_16 8 (dk_at dksX1_summariseAll_0 3 rfl rfl)
theorem dX1_summariseAll_5 : decode cX1_summariseAll 5 = .ok (.if_icmp .ge 14, 3) := dk_162 0 14 (dk_at dksX1_summariseAll_0 5 rfl rfl)
theorem dX1_summariseAll_8 : decode cX1_summariseAll 8 = .ok (.aload_n 0, 1) := dk_42 (dk_at dksX1_summariseAll_0 8 rfl rfl)
theorem dX1_summariseAll_9 : decode cX1_summariseAll 9 = .ok (.iload_n 1, 1) := dk_27 (dk_at dksX1_summariseAll_0 9 rfl rfl)
theorem dX1_summariseAll_10 : decode cX1_summariseAll 10 = .ok (.invokevirtual 67, 3) := dk_182 0 67 (dk_at dksX1_summariseAll_0 10 rfl rfl)
theorem dX1_summariseAll_13 : decode cX1_summariseAll 13 = .ok (.iinc 1 1, 3) := dk_132 1 1 (dk_at dksX1_summariseAll_0 13 rfl rfl)
theorem dX1_summariseAll_16 : decode cX1_summariseAll 16 = .ok (.goto (-14), 3) := dk_167 255 242 (dk_at dksX1_summariseAll_0 16 rfl rfl)
theorem dX1_summariseAll_19 : decode cX1_summariseAll 19 = .ok (.bipush 7, 2) := dk_16 7 (dk_at dksX1_summariseAll_0 19 rfl rfl)
theorem dX1_summariseAll_21 : decode cX1_summariseAll 21 = .ok (.istore_n 1, 1) := dk_60 (dk_at dksX1_summariseAll_0 21 rfl rfl)
theorem dX1_summariseAll_22 : decode cX1_summariseAll 22 = .ok (.iload_n 1, 1) := dk_27 (dk_at dksX1_summariseAll_0 22 rfl rfl)
theorem dX1_summariseAll_23 : decode cX1_summariseAll 23 = .ok (.ifCond .le 109, 3) := dk_158 0 109 (dk_at dksX1_summariseAll_1 0 rfl rfl)
theorem dX1_summariseAll_26 : decode cX1_summariseAll 26 = .ok (.aload_n 0, 1) := dk_42 (dk_at dksX1_summariseAll_1 3 rfl rfl)
theorem dX1_summariseAll_27 : decode cX1_summariseAll 27 = .ok (.getfield 19, 3) := dk_180 0 19 (dk_at dksX1_summariseAll_1 4 rfl rfl)
theorem dX1_summariseAll_30 : decode cX1_summariseAll 30 = .ok (.iload_n 1, 1) := dk_27 (dk_at dksX1_summariseAll_1 7 rfl rfl)
theorem dX1_summariseAll_31 : decode cX1_summariseAll 31 = .ok (.aload_n 0, 1) := dk_42 (dk_at dksX1_summariseAll_1 8 rfl rfl)
theorem dX1_summariseAll_32 : decode cX1_summariseAll 32 = .ok (.getfield 19, 3) := dk_180 0 19 (dk_at dksX1_summariseAll_1 9 rfl rfl)
theorem dX1_summariseAll_35 : decode cX1_summariseAll 35 = .ok (.iconst 2, 1) := dk_5 (dk_at dksX1_summariseAll_1 12 rfl rfl)
theorem dX1_summariseAll_36 : decode cX1_summariseAll 36 = .ok (.iload_n 1, 1) := dk_27 (dk_at dksX1_summariseAll_1 13 rfl rfl)
theorem dX1_summariseAll_37 : decode cX1_summariseAll 37 = .ok (.imul, 1) := dk_104 (dk_at dksX1_summariseAll_1 14 rfl rfl)
theorem dX1_summariseAll_38 : decode cX1_summariseAll 38 = .ok (.saload, 1) := dk_53 (dk_at dksX1_summariseAll_1 15 rfl rfl)
theorem dX1_summariseAll_39 : decode cX1_summariseAll 39 = .ok (.aload_n 0, 1) := dk_42 (dk_at dksX1_summariseAll_1 16 rfl rfl)
theorem dX1_summariseAll_40 : decode cX1_summariseAll 40 = .ok (.getfield 19, 3) := dk_180 0 19 (dk_at dksX1_summariseAll_1 17 rfl rfl)
theorem dX1_summariseAll_43 : decode cX1_summariseAll 43 = .ok (.iconst 2, 1) := dk_5 (dk_at dksX1_summariseAll_1 20 rfl rfl)
theorem dX1_summariseAll_44 : decode cX1_summariseAll 44 = .ok (.iload_n 1, 1) := dk_27 (dk_at dksX1_summariseAll_1 21 rfl rfl)
theorem dX1_summariseAll_45 : decode cX1_summariseAll 45 = .ok (.imul, 1) := dk_104 (dk_at dksX1_summariseAll_1 22 rfl rfl)
theorem dX1_summariseAll_46 : decode cX1_summariseAll 46 = .ok (.iconst 1, 1) := dk_4 (dk_at dksX1_summariseAll_1 23 rfl rfl)
theorem dX1_summariseAll_47 : decode cX1_summariseAll 47 = .ok (.iadd, 1) := dk_96 (dk_at dksX1_summariseAll_2 0 rfl rfl)
theorem dX1_summariseAll_48 : decode cX1_summariseAll 48 = .ok (.saload, 1) := dk_53 (dk_at dksX1_summariseAll_2 1 rfl rfl)
theorem dX1_summariseAll_49 : decode cX1_summariseAll 49 = .ok (.iadd, 1) := dk_96 (dk_at dksX1_summariseAll_2 2 rfl rfl)
theorem dX1_summariseAll_50 : decode cX1_summariseAll 50 = .ok (.i2s, 1) := dk_147 (dk_at dksX1_summariseAll_2 3 rfl rfl)
theorem dX1_summariseAll_51 : decode cX1_summariseAll 51 = .ok (.sastore, 1) := dk_86 (dk_at dksX1_summariseAll_2 4 rfl rfl)
theorem dX1_summariseAll_52 : decode cX1_summariseAll 52 = .ok (.aload_n 0, 1) := dk_42 (dk_at dksX1_summariseAll_2 5 rfl rfl)
theorem dX1_summariseAll_53 : decode cX1_summariseAll 53 = .ok (.getfield 23, 3) := dk_180 0 23 (dk_at dksX1_summariseAll_2 6 rfl rfl)
theorem dX1_summariseAll_56 : decode cX1_summariseAll 56 = .ok (.iload_n 1, 1) := dk_27 (dk_at dksX1_summariseAll_2 9 rfl rfl)
theorem dX1_summariseAll_57 : decode cX1_summariseAll 57 = .ok (.aload_n 0, 1) := dk_42 (dk_at dksX1_summariseAll_2 10 rfl rfl)
theorem dX1_summariseAll_58 : decode cX1_summariseAll 58 = .ok (.getfield 23, 3) := dk_180 0 23 (dk_at dksX1_summariseAll_2 11 rfl rfl)
theorem dX1_summariseAll_61 : decode cX1_summariseAll 61 = .ok (.iconst 2, 1) := dk_5 (dk_at dksX1_summariseAll_2 14 rfl rfl)
theorem dX1_summariseAll_62 : decode cX1_summariseAll 62 = .ok (.iload_n 1, 1) := dk_27 (dk_at dksX1_summariseAll_2 15 rfl rfl)
theorem dX1_summariseAll_63 : decode cX1_summariseAll 63 = .ok (.imul, 1) := dk_104 (dk_at dksX1_summariseAll_2 16 rfl rfl)
theorem dX1_summariseAll_64 : decode cX1_summariseAll 64 = .ok (.saload, 1) := dk_53 (dk_at dksX1_summariseAll_2 17 rfl rfl)
theorem dX1_summariseAll_65 : decode cX1_summariseAll 65 = .ok (.aload_n 0, 1) := dk_42 (dk_at dksX1_summariseAll_2 18 rfl rfl)
theorem dX1_summariseAll_66 : decode cX1_summariseAll 66 = .ok (.getfield 19, 3) := dk_180 0 19 (dk_at dksX1_summariseAll_2 19 rfl rfl)
theorem dX1_summariseAll_69 : decode cX1_summariseAll 69 = .ok (.iconst 2, 1) := dk_5 (dk_at dksX1_summariseAll_2 22 rfl rfl)
theorem dX1_summariseAll_70 : decode cX1_summariseAll 70 = .ok (.iload_n 1, 1) := dk_27 (dk_at dksX1_summariseAll_2 23 rfl rfl)
theorem dX1_summariseAll_71 : decode cX1_summariseAll 71 = .ok (.imul, 1) := dk_104 (dk_at dksX1_summariseAll_3 0 rfl rfl)
theorem dX1_summariseAll_72 : decode cX1_summariseAll 72 = .ok (.saload, 1) := dk_53 (dk_at dksX1_summariseAll_3 1 rfl rfl)
theorem dX1_summariseAll_73 : decode cX1_summariseAll 73 = .ok (.aload_n 0, 1) := dk_42 (dk_at dksX1_summariseAll_3 2 rfl rfl)
theorem dX1_summariseAll_74 : decode cX1_summariseAll 74 = .ok (.getfield 23, 3) := dk_180 0 23 (dk_at dksX1_summariseAll_3 3 rfl rfl)
theorem dX1_summariseAll_77 : decode cX1_summariseAll 77 = .ok (.iconst 2, 1) := dk_5 (dk_at dksX1_summariseAll_3 6 rfl rfl)
theorem dX1_summariseAll_78 : decode cX1_summariseAll 78 = .ok (.iload_n 1, 1) := dk_27 (dk_at dksX1_summariseAll_3 7 rfl rfl)
theorem dX1_summariseAll_79 : decode cX1_summariseAll 79 = .ok (.imul, 1) := dk_104 (dk_at dksX1_summariseAll_3 8 rfl rfl)
theorem dX1_summariseAll_80 : decode cX1_summariseAll 80 = .ok (.iconst 1, 1) := dk_4 (dk_at dksX1_summariseAll_3 9 rfl rfl)
theorem dX1_summariseAll_81 : decode cX1_summariseAll 81 = .ok (.iadd, 1) := dk_96 (dk_at dksX1_summariseAll_3 10 rfl rfl)
theorem dX1_summariseAll_82 : decode cX1_summariseAll 82 = .ok (.saload, 1) := dk_53 (dk_at dksX1_summariseAll_3 11 rfl rfl)
theorem dX1_summariseAll_83 : decode cX1_summariseAll 83 = .ok (.iadd, 1) := dk_96 (dk_at dksX1_summariseAll_3 12 rfl rfl)
theorem dX1_summariseAll_84 : decode cX1_summariseAll 84 = .ok (.invokestatic 45, 3) := dk_184 0 45 (dk_at dksX1_summariseAll_3 13 rfl rfl)
theorem dX1_summariseAll_87 : decode cX1_summariseAll 87 = .ok (.i2s, 1) := dk_147 (dk_at dksX1_summariseAll_3 16 rfl rfl)
theorem dX1_summariseAll_88 : decode cX1_summariseAll 88 = .ok (.sastore, 1) := dk_86 (dk_at dksX1_summariseAll_3 17 rfl rfl)
theorem dX1_summariseAll_89 : decode cX1_summariseAll 89 = .ok (.aload_n 0, 1) := dk_42 (dk_at dksX1_summariseAll_3 18 rfl rfl)
theorem dX1_summariseAll_90 : decode cX1_summariseAll 90 = .ok (.getfield 26, 3) := dk_180 0 26 (dk_at dksX1_summariseAll_3 19 rfl rfl)
theorem dX1_summariseAll_93 : decode cX1_summariseAll 93 = .ok (.iload_n 1, 1) := dk_27 (dk_at dksX1_summariseAll_3 22 rfl rfl)
theorem dX1_summariseAll_94 : decode cX1_summariseAll 94 = .ok (.aload_n 0, 1) := dk_42 (dk_at dksX1_summariseAll_3 23 rfl rfl)
theorem dX1_summariseAll_95 : decode cX1_summariseAll 95 = .ok (.getfield 26, 3) := dk_180 0 26 (dk_at dksX1_summariseAll_4 0 rfl rfl)
theorem dX1_summariseAll_98 : decode cX1_summariseAll 98 = .ok (.iconst 2, 1) := dk_5 (dk_at dksX1_summariseAll_4 3 rfl rfl)
theorem dX1_summariseAll_99 : decode cX1_summariseAll 99 = .ok (.iload_n 1, 1) := dk_27 (dk_at dksX1_summariseAll_4 4 rfl rfl)
theorem dX1_summariseAll_100 : decode cX1_summariseAll 100 = .ok (.imul, 1) := dk_104 (dk_at dksX1_summariseAll_4 5 rfl rfl)
theorem dX1_summariseAll_101 : decode cX1_summariseAll 101 = .ok (.saload, 1) := dk_53 (dk_at dksX1_summariseAll_4 6 rfl rfl)
theorem dX1_summariseAll_102 : decode cX1_summariseAll 102 = .ok (.aload_n 0, 1) := dk_42 (dk_at dksX1_summariseAll_4 7 rfl rfl)
theorem dX1_summariseAll_103 : decode cX1_summariseAll 103 = .ok (.getfield 19, 3) := dk_180 0 19 (dk_at dksX1_summariseAll_4 8 rfl rfl)
theorem dX1_summariseAll_106 : decode cX1_summariseAll 106 = .ok (.iconst 2, 1) := dk_5 (dk_at dksX1_summariseAll_4 11 rfl rfl)
theorem dX1_summariseAll_107 : decode cX1_summariseAll 107 = .ok (.iload_n 1, 1) := dk_27 (dk_at dksX1_summariseAll_4 12 rfl rfl)
theorem dX1_summariseAll_108 : decode cX1_summariseAll 108 = .ok (.imul, 1) := dk_104 (dk_at dksX1_summariseAll_4 13 rfl rfl)
theorem dX1_summariseAll_109 : decode cX1_summariseAll 109 = .ok (.saload, 1) := dk_53 (dk_at dksX1_summariseAll_4 14 rfl rfl)
theorem dX1_summariseAll_110 : decode cX1_summariseAll 110 = .ok (.aload_n 0, 1) := dk_42 (dk_at dksX1_summariseAll_4 15 rfl rfl)
theorem dX1_summariseAll_111 : decode cX1_summariseAll 111 = .ok (.getfield 26, 3) := dk_180 0 26 (dk_at dksX1_summariseAll_4 16 rfl rfl)
theorem dX1_summariseAll_114 : decode cX1_summariseAll 114 = .ok (.iconst 2, 1) := dk_5 (dk_at dksX1_summariseAll_4 19 rfl rfl)
theorem dX1_summariseAll_115 : decode cX1_summariseAll 115 = .ok (.iload_n 1, 1) := dk_27 (dk_at dksX1_summariseAll_4 20 rfl rfl)
theorem dX1_summariseAll_116 : decode cX1_summariseAll 116 = .ok (.imul, 1) := dk_104 (dk_at dksX1_summariseAll_4 21 rfl rfl)
theorem dX1_summariseAll_117 : decode cX1_summariseAll 117 = .ok (.iconst 1, 1) := dk_4 (dk_at dksX1_summariseAll_4 22 rfl rfl)
theorem dX1_summariseAll_118 : decode cX1_summariseAll 118 = .ok (.iadd, 1) := dk_96 (dk_at dksX1_summariseAll_4 23 rfl rfl)
theorem dX1_summariseAll_119 : decode cX1_summariseAll 119 = .ok (.saload, 1) := dk_53 (dk_at dksX1_summariseAll_5 0 rfl rfl)
theorem dX1_summariseAll_120 : decode cX1_summariseAll 120 = .ok (.iadd, 1) := dk_96 (dk_at dksX1_summariseAll_5 1 rfl rfl)
theorem dX1_summariseAll_121 : decode cX1_summariseAll 121 = .ok (.invokestatic 51, 3) := dk_184 0 51 (dk_at dksX1_summariseAll_5 2 rfl rfl)
theorem dX1_summariseAll_124 : decode cX1_summariseAll 124 = .ok (.i2s, 1) := dk_147 (dk_at dksX1_summariseAll_5 5 rfl rfl)
theorem dX1_summariseAll_125 : decode cX1_summariseAll 125 = .ok (.sastore, 1) := dk_86 (dk_at dksX1_summariseAll_5 6 rfl rfl)
theorem dX1_summariseAll_126 : decode cX1_summariseAll 126 = .ok (.iinc 1 (-1), 3) := dk_132 1 255 (dk_at dksX1_summariseAll_5 7 rfl rfl)
theorem dX1_summariseAll_129 : decode cX1_summariseAll 129 = .ok (.goto (-107), 3) := dk_167 255 149 (dk_at dksX1_summariseAll_5 10 rfl rfl)
theorem dX1_summariseAll_132 : decode cX1_summariseAll 132 = .ok (.return_, 1) := dk_177 (dk_at dksX1_summariseAll_5 13 rfl rfl)
abbrev cX1_summarise : ByteArray := prog_4_method_8_code
def yX1_summarise : MethodName := ⟨RX1, "summarise", "(I)V"⟩
def dkwX1_summarise_4 : List UInt8 := [21, 4, 147, 86, 177]
abbrev dktX1_summarise_4 : List UInt8 := dkwX1_summarise_4 ++ []
def dkwX1_summarise_3 : List UInt8 := [27, 96, 28, 147, 86, 42, 180, 0, 23, 16, 8, 27, 96, 29, 147, 86, 42, 180, 0, 26, 16, 8, 27, 96]
abbrev dktX1_summarise_3 : List UInt8 := dkwX1_summarise_3 ++ dktX1_summarise_4
def dkwX1_summarise_2 : List UInt8 := [184, 0, 45, 62, 21, 4, 28, 184, 0, 51, 54, 4, 132, 5, 1, 167, 255, 212, 42, 180, 0, 19, 16, 8]
abbrev dktX1_summarise_2 : List UInt8 := dkwX1_summarise_2 ++ dktX1_summarise_3
def dkwX1_summarise_1 : List UInt8 := [16, 16, 27, 4, 96, 104, 184, 0, 45, 162, 0, 32, 28, 42, 21, 5, 182, 0, 64, 96, 61, 29, 28]
abbrev dktX1_summarise_1 : List UInt8 := dkwX1_summarise_1 ++ dktX1_summarise_2
def dkwX1_summarise_0 : List UInt8 := [3, 61, 17, 3, 232, 62, 17, 252, 24, 54, 4, 16, 16, 27, 104, 54, 5, 21, 5, 42, 180, 0, 35]
abbrev dktX1_summarise_0 : List UInt8 := dkwX1_summarise_0 ++ dktX1_summarise_1
theorem dksX1_summarise_0 : cX1_summarise.data.toList.drop 0 = dktX1_summarise_0 := by decide +kernel
theorem dksX1_summarise_1 : cX1_summarise.data.toList.drop 23 = dktX1_summarise_1 := dk_seg dksX1_summarise_0 23 rfl rfl
theorem dksX1_summarise_2 : cX1_summarise.data.toList.drop 46 = dktX1_summarise_2 := dk_seg dksX1_summarise_1 23 rfl rfl
theorem dksX1_summarise_3 : cX1_summarise.data.toList.drop 70 = dktX1_summarise_3 := dk_seg dksX1_summarise_2 24 rfl rfl
theorem dksX1_summarise_4 : cX1_summarise.data.toList.drop 94 = dktX1_summarise_4 := dk_seg dksX1_summarise_3 24 rfl rfl
theorem dX1_summarise_0 : decode cX1_summarise 0 = .ok (.iconst 0, 1) := dk_3 (dk_at dksX1_summarise_0 0 rfl rfl)
theorem dX1_summarise_1 : decode cX1_summarise 1 = .ok (.istore_n 2, 1) := dk_61 (dk_at dksX1_summarise_0 1 rfl rfl)
theorem dX1_summarise_2 : decode cX1_summarise 2 = .ok (.sipush 1000, 3) := dk_17 3 232 (dk_at dksX1_summarise_0 2 rfl rfl)
theorem dX1_summarise_5 : decode cX1_summarise 5 = .ok (.istore_n 3, 1) := dk_62 (dk_at dksX1_summarise_0 5 rfl rfl)
theorem dX1_summarise_6 : decode cX1_summarise 6 = .ok (.sipush (-1000), 3) := dk_17 252 24 (dk_at dksX1_summarise_0 6 rfl rfl)
theorem dX1_summarise_9 : decode cX1_summarise 9 = .ok (.istore 4, 2) := dk_54 4 (dk_at dksX1_summarise_0 9 rfl rfl)
theorem dX1_summarise_11 : decode cX1_summarise 11 = .ok (.bipush 16, 2) := dk_16 16 (dk_at dksX1_summarise_0 11 rfl rfl)
theorem dX1_summarise_13 : decode cX1_summarise 13 = .ok (.iload_n 1, 1) := dk_27 (dk_at dksX1_summarise_0 13 rfl rfl)
theorem dX1_summarise_14 : decode cX1_summarise 14 = .ok (.imul, 1) := dk_104 (dk_at dksX1_summarise_0 14 rfl rfl)
theorem dX1_summarise_15 : decode cX1_summarise 15 = .ok (.istore 5, 2) := dk_54 5 (dk_at dksX1_summarise_0 15 rfl rfl)
theorem dX1_summarise_17 : decode cX1_summarise 17 = .ok (.iload 5, 2) := dk_21 5 (dk_at dksX1_summarise_0 17 rfl rfl)
theorem dX1_summarise_19 : decode cX1_summarise 19 = .ok (.aload_n 0, 1) := dk_42 (dk_at dksX1_summarise_0 19 rfl rfl)
theorem dX1_summarise_20 : decode cX1_summarise 20 = .ok (.getfield 35, 3) := dk_180 0 35 (dk_at dksX1_summarise_0 20 rfl rfl)
theorem dX1_summarise_23 : decode cX1_summarise 23 = .ok (.bipush 16, 2) := dk_16 16 (dk_at dksX1_summarise_1 0 rfl rfl)
theorem dX1_summarise_25 : decode cX1_summarise 25 = .ok (.iload_n 1, 1) := dk_27 (dk_at dksX1_summarise_1 2 rfl rfl)
theorem dX1_summarise_26 : decode cX1_summarise 26 = .ok (.iconst 1, 1) := dk_4 (dk_at dksX1_summarise_1 3 rfl rfl)
theorem dX1_summarise_27 : decode cX1_summarise 27 = .ok (.iadd, 1) := dk_96 (dk_at dksX1_summarise_1 4 rfl rfl)
theorem dX1_summarise_28 : decode cX1_summarise 28 = .ok (.imul, 1) := dk_104 (dk_at dksX1_summarise_1 5 rfl rfl)
theorem dX1_summarise_29 : decode cX1_summarise 29 = .ok (.invokestatic 45, 3) := dk_184 0 45 (dk_at dksX1_summarise_1 6 rfl rfl)
theorem dX1_summarise_32 : decode cX1_summarise 32 = .ok (.if_icmp .ge 32, 3) := dk_162 0 32 (dk_at dksX1_summarise_1 9 rfl rfl)
theorem dX1_summarise_35 : decode cX1_summarise 35 = .ok (.iload_n 2, 1) := dk_28 (dk_at dksX1_summarise_1 12 rfl rfl)
theorem dX1_summarise_36 : decode cX1_summarise 36 = .ok (.aload_n 0, 1) := dk_42 (dk_at dksX1_summarise_1 13 rfl rfl)
theorem dX1_summarise_37 : decode cX1_summarise 37 = .ok (.iload 5, 2) := dk_21 5 (dk_at dksX1_summarise_1 14 rfl rfl)
theorem dX1_summarise_39 : decode cX1_summarise 39 = .ok (.invokevirtual 64, 3) := dk_182 0 64 (dk_at dksX1_summarise_1 16 rfl rfl)
theorem dX1_summarise_42 : decode cX1_summarise 42 = .ok (.iadd, 1) := dk_96 (dk_at dksX1_summarise_1 19 rfl rfl)
theorem dX1_summarise_43 : decode cX1_summarise 43 = .ok (.istore_n 2, 1) := dk_61 (dk_at dksX1_summarise_1 20 rfl rfl)
theorem dX1_summarise_44 : decode cX1_summarise 44 = .ok (.iload_n 3, 1) := dk_29 (dk_at dksX1_summarise_1 21 rfl rfl)
theorem dX1_summarise_45 : decode cX1_summarise 45 = .ok (.iload_n 2, 1) := dk_28 (dk_at dksX1_summarise_1 22 rfl rfl)
theorem dX1_summarise_46 : decode cX1_summarise 46 = .ok (.invokestatic 45, 3) := dk_184 0 45 (dk_at dksX1_summarise_2 0 rfl rfl)
theorem dX1_summarise_49 : decode cX1_summarise 49 = .ok (.istore_n 3, 1) := dk_62 (dk_at dksX1_summarise_2 3 rfl rfl)
theorem dX1_summarise_50 : decode cX1_summarise 50 = .ok (.iload 4, 2) := dk_21 4 (dk_at dksX1_summarise_2 4 rfl rfl)
theorem dX1_summarise_52 : decode cX1_summarise 52 = .ok (.iload_n 2, 1) := dk_28 (dk_at dksX1_summarise_2 6 rfl rfl)
theorem dX1_summarise_53 : decode cX1_summarise 53 = .ok (.invokestatic 51, 3) := dk_184 0 51 (dk_at dksX1_summarise_2 7 rfl rfl)
theorem dX1_summarise_56 : decode cX1_summarise 56 = .ok (.istore 4, 2) := dk_54 4 (dk_at dksX1_summarise_2 10 rfl rfl)
theorem dX1_summarise_58 : decode cX1_summarise 58 = .ok (.iinc 5 1, 3) := dk_132 5 1 (dk_at dksX1_summarise_2 12 rfl rfl)
theorem dX1_summarise_61 : decode cX1_summarise 61 = .ok (.goto (-44), 3) := dk_167 255 212 (dk_at dksX1_summarise_2 15 rfl rfl)
theorem dX1_summarise_64 : decode cX1_summarise 64 = .ok (.aload_n 0, 1) := dk_42 (dk_at dksX1_summarise_2 18 rfl rfl)
theorem dX1_summarise_65 : decode cX1_summarise 65 = .ok (.getfield 19, 3) := dk_180 0 19 (dk_at dksX1_summarise_2 19 rfl rfl)
theorem dX1_summarise_68 : decode cX1_summarise 68 = .ok (.bipush 8, 2) := dk_16 8 (dk_at dksX1_summarise_2 22 rfl rfl)
theorem dX1_summarise_70 : decode cX1_summarise 70 = .ok (.iload_n 1, 1) := dk_27 (dk_at dksX1_summarise_3 0 rfl rfl)
theorem dX1_summarise_71 : decode cX1_summarise 71 = .ok (.iadd, 1) := dk_96 (dk_at dksX1_summarise_3 1 rfl rfl)
theorem dX1_summarise_72 : decode cX1_summarise 72 = .ok (.iload_n 2, 1) := dk_28 (dk_at dksX1_summarise_3 2 rfl rfl)
theorem dX1_summarise_73 : decode cX1_summarise 73 = .ok (.i2s, 1) := dk_147 (dk_at dksX1_summarise_3 3 rfl rfl)
theorem dX1_summarise_74 : decode cX1_summarise 74 = .ok (.sastore, 1) := dk_86 (dk_at dksX1_summarise_3 4 rfl rfl)
theorem dX1_summarise_75 : decode cX1_summarise 75 = .ok (.aload_n 0, 1) := dk_42 (dk_at dksX1_summarise_3 5 rfl rfl)
theorem dX1_summarise_76 : decode cX1_summarise 76 = .ok (.getfield 23, 3) := dk_180 0 23 (dk_at dksX1_summarise_3 6 rfl rfl)
theorem dX1_summarise_79 : decode cX1_summarise 79 = .ok (.bipush 8, 2) := dk_16 8 (dk_at dksX1_summarise_3 9 rfl rfl)
theorem dX1_summarise_81 : decode cX1_summarise 81 = .ok (.iload_n 1, 1) := dk_27 (dk_at dksX1_summarise_3 11 rfl rfl)
theorem dX1_summarise_82 : decode cX1_summarise 82 = .ok (.iadd, 1) := dk_96 (dk_at dksX1_summarise_3 12 rfl rfl)
theorem dX1_summarise_83 : decode cX1_summarise 83 = .ok (.iload_n 3, 1) := dk_29 (dk_at dksX1_summarise_3 13 rfl rfl)
theorem dX1_summarise_84 : decode cX1_summarise 84 = .ok (.i2s, 1) := dk_147 (dk_at dksX1_summarise_3 14 rfl rfl)
theorem dX1_summarise_85 : decode cX1_summarise 85 = .ok (.sastore, 1) := dk_86 (dk_at dksX1_summarise_3 15 rfl rfl)
theorem dX1_summarise_86 : decode cX1_summarise 86 = .ok (.aload_n 0, 1) := dk_42 (dk_at dksX1_summarise_3 16 rfl rfl)
theorem dX1_summarise_87 : decode cX1_summarise 87 = .ok (.getfield 26, 3) := dk_180 0 26 (dk_at dksX1_summarise_3 17 rfl rfl)
theorem dX1_summarise_90 : decode cX1_summarise 90 = .ok (.bipush 8, 2) := dk_16 8 (dk_at dksX1_summarise_3 20 rfl rfl)
theorem dX1_summarise_92 : decode cX1_summarise 92 = .ok (.iload_n 1, 1) := dk_27 (dk_at dksX1_summarise_3 22 rfl rfl)
theorem dX1_summarise_93 : decode cX1_summarise 93 = .ok (.iadd, 1) := dk_96 (dk_at dksX1_summarise_3 23 rfl rfl)
theorem dX1_summarise_94 : decode cX1_summarise 94 = .ok (.iload 4, 2) := dk_21 4 (dk_at dksX1_summarise_4 0 rfl rfl)
theorem dX1_summarise_96 : decode cX1_summarise 96 = .ok (.i2s, 1) := dk_147 (dk_at dksX1_summarise_4 2 rfl rfl)
theorem dX1_summarise_97 : decode cX1_summarise 97 = .ok (.sastore, 1) := dk_86 (dk_at dksX1_summarise_4 3 rfl rfl)
theorem dX1_summarise_98 : decode cX1_summarise 98 = .ok (.return_, 1) := dk_177 (dk_at dksX1_summarise_4 4 rfl rfl)
abbrev cX1_step : ByteArray := prog_4_method_4_code
def yX1_step : MethodName := ⟨RX1, "step", "(I)I"⟩
def dkwX1_step_0 : List UInt8 := [42, 27, 182, 0, 39, 153, 0, 7, 4, 167, 0, 4, 2, 172]
abbrev dktX1_step_0 : List UInt8 := dkwX1_step_0 ++ []
theorem dksX1_step_0 : cX1_step.data.toList.drop 0 = dktX1_step_0 := by decide +kernel
theorem dX1_step_0 : decode cX1_step 0 = .ok (.aload_n 0, 1) := dk_42 (dk_at dksX1_step_0 0 rfl rfl)
theorem dX1_step_1 : decode cX1_step 1 = .ok (.iload_n 1, 1) := dk_27 (dk_at dksX1_step_0 1 rfl rfl)
theorem dX1_step_2 : decode cX1_step 2 = .ok (.invokevirtual 39, 3) := dk_182 0 39 (dk_at dksX1_step_0 2 rfl rfl)
theorem dX1_step_5 : decode cX1_step 5 = .ok (.ifCond .eq 7, 3) := dk_153 0 7 (dk_at dksX1_step_0 5 rfl rfl)
theorem dX1_step_8 : decode cX1_step 8 = .ok (.iconst 1, 1) := dk_4 (dk_at dksX1_step_0 8 rfl rfl)
theorem dX1_step_9 : decode cX1_step 9 = .ok (.goto 4, 3) := dk_167 0 4 (dk_at dksX1_step_0 9 rfl rfl)
theorem dX1_step_12 : decode cX1_step 12 = .ok (.iconst (-1), 1) := dk_2 (dk_at dksX1_step_0 12 rfl rfl)
theorem dX1_step_13 : decode cX1_step 13 = .ok (.ireturn, 1) := dk_172 (dk_at dksX1_step_0 13 rfl rfl)
abbrev cX1_isOpen : ByteArray := prog_4_method_3_code
def yX1_isOpen : MethodName := ⟨RX1, "isOpen", "(I)Z"⟩
def dkwX1_isOpen_1 : List UInt8 := [167, 0, 4, 3, 172]
abbrev dktX1_isOpen_1 : List UInt8 := dkwX1_isOpen_1 ++ []
def dkwX1_isOpen_0 : List UInt8 := [42, 180, 0, 9, 27, 16, 64, 108, 47, 27, 16, 64, 112, 125, 10, 127, 10, 148, 154, 0, 7, 4]
abbrev dktX1_isOpen_0 : List UInt8 := dkwX1_isOpen_0 ++ dktX1_isOpen_1
theorem dksX1_isOpen_0 : cX1_isOpen.data.toList.drop 0 = dktX1_isOpen_0 := by decide +kernel
theorem dksX1_isOpen_1 : cX1_isOpen.data.toList.drop 22 = dktX1_isOpen_1 := dk_seg dksX1_isOpen_0 22 rfl rfl
theorem dX1_isOpen_0 : decode cX1_isOpen 0 = .ok (.aload_n 0, 1) := dk_42 (dk_at dksX1_isOpen_0 0 rfl rfl)
theorem dX1_isOpen_1 : decode cX1_isOpen 1 = .ok (.getfield 9, 3) := dk_180 0 9 (dk_at dksX1_isOpen_0 1 rfl rfl)
theorem dX1_isOpen_4 : decode cX1_isOpen 4 = .ok (.iload_n 1, 1) := dk_27 (dk_at dksX1_isOpen_0 4 rfl rfl)
theorem dX1_isOpen_5 : decode cX1_isOpen 5 = .ok (.bipush 64, 2) := dk_16 64 (dk_at dksX1_isOpen_0 5 rfl rfl)
theorem dX1_isOpen_7 : decode cX1_isOpen 7 = .ok (.idiv, 1) := dk_108 (dk_at dksX1_isOpen_0 7 rfl rfl)
theorem dX1_isOpen_8 : decode cX1_isOpen 8 = .ok (.laload, 1) := dk_47 (dk_at dksX1_isOpen_0 8 rfl rfl)
theorem dX1_isOpen_9 : decode cX1_isOpen 9 = .ok (.iload_n 1, 1) := dk_27 (dk_at dksX1_isOpen_0 9 rfl rfl)
theorem dX1_isOpen_10 : decode cX1_isOpen 10 = .ok (.bipush 64, 2) := dk_16 64 (dk_at dksX1_isOpen_0 10 rfl rfl)
theorem dX1_isOpen_12 : decode cX1_isOpen 12 = .ok (.irem, 1) := dk_112 (dk_at dksX1_isOpen_0 12 rfl rfl)
theorem dX1_isOpen_13 : decode cX1_isOpen 13 = .ok (.lushr, 1) := dk_125 (dk_at dksX1_isOpen_0 13 rfl rfl)
theorem dX1_isOpen_14 : decode cX1_isOpen 14 = .ok (.lconst 1, 1) := dk_10 (dk_at dksX1_isOpen_0 14 rfl rfl)
theorem dX1_isOpen_15 : decode cX1_isOpen 15 = .ok (.land, 1) := dk_127 (dk_at dksX1_isOpen_0 15 rfl rfl)
theorem dX1_isOpen_16 : decode cX1_isOpen 16 = .ok (.lconst 1, 1) := dk_10 (dk_at dksX1_isOpen_0 16 rfl rfl)
theorem dX1_isOpen_17 : decode cX1_isOpen 17 = .ok (.lcmp, 1) := dk_148 (dk_at dksX1_isOpen_0 17 rfl rfl)
theorem dX1_isOpen_18 : decode cX1_isOpen 18 = .ok (.ifCond .ne 7, 3) := dk_154 0 7 (dk_at dksX1_isOpen_0 18 rfl rfl)
theorem dX1_isOpen_21 : decode cX1_isOpen 21 = .ok (.iconst 1, 1) := dk_4 (dk_at dksX1_isOpen_0 21 rfl rfl)
theorem dX1_isOpen_22 : decode cX1_isOpen 22 = .ok (.goto 4, 3) := dk_167 0 4 (dk_at dksX1_isOpen_1 0 rfl rfl)
theorem dX1_isOpen_25 : decode cX1_isOpen 25 = .ok (.iconst 0, 1) := dk_3 (dk_at dksX1_isOpen_1 3 rfl rfl)
theorem dX1_isOpen_26 : decode cX1_isOpen 26 = .ok (.ireturn, 1) := dk_172 (dk_at dksX1_isOpen_1 4 rfl rfl)
abbrev cX1_becomes : ByteArray := prog_4_method_5_code
def yX1_becomes : MethodName := ⟨RX1, "becomes", "(IZ)V"⟩
def dkwX1_becomes_2 : List UInt8 := [80, 177]
abbrev dktX1_becomes_2 : List UInt8 := dkwX1_becomes_2 ++ []
def dkwX1_becomes_1 : List UInt8 := [16, 64, 108, 47, 33, 129, 167, 0, 18, 42, 180, 0, 9, 27, 16, 64, 108, 47, 33, 20, 0, 43, 131, 127]
abbrev dktX1_becomes_1 : List UInt8 := dkwX1_becomes_1 ++ dktX1_becomes_2
def dkwX1_becomes_0 : List UInt8 := [10, 27, 16, 64, 112, 121, 66, 42, 180, 0, 9, 27, 16, 64, 108, 28, 153, 0, 17, 42, 180, 0, 9, 27]
abbrev dktX1_becomes_0 : List UInt8 := dkwX1_becomes_0 ++ dktX1_becomes_1
theorem dksX1_becomes_0 : cX1_becomes.data.toList.drop 0 = dktX1_becomes_0 := by decide +kernel
theorem dksX1_becomes_1 : cX1_becomes.data.toList.drop 24 = dktX1_becomes_1 := dk_seg dksX1_becomes_0 24 rfl rfl
theorem dksX1_becomes_2 : cX1_becomes.data.toList.drop 48 = dktX1_becomes_2 := dk_seg dksX1_becomes_1 24 rfl rfl
theorem dX1_becomes_0 : decode cX1_becomes 0 = .ok (.lconst 1, 1) := dk_10 (dk_at dksX1_becomes_0 0 rfl rfl)
theorem dX1_becomes_1 : decode cX1_becomes 1 = .ok (.iload_n 1, 1) := dk_27 (dk_at dksX1_becomes_0 1 rfl rfl)
theorem dX1_becomes_2 : decode cX1_becomes 2 = .ok (.bipush 64, 2) := dk_16 64 (dk_at dksX1_becomes_0 2 rfl rfl)
theorem dX1_becomes_4 : decode cX1_becomes 4 = .ok (.irem, 1) := dk_112 (dk_at dksX1_becomes_0 4 rfl rfl)
theorem dX1_becomes_5 : decode cX1_becomes 5 = .ok (.lshl, 1) := dk_121 (dk_at dksX1_becomes_0 5 rfl rfl)
theorem dX1_becomes_6 : decode cX1_becomes 6 = .ok (.lstore_n 3, 1) := dk_66 (dk_at dksX1_becomes_0 6 rfl rfl)
theorem dX1_becomes_7 : decode cX1_becomes 7 = .ok (.aload_n 0, 1) := dk_42 (dk_at dksX1_becomes_0 7 rfl rfl)
theorem dX1_becomes_8 : decode cX1_becomes 8 = .ok (.getfield 9, 3) := dk_180 0 9 (dk_at dksX1_becomes_0 8 rfl rfl)
theorem dX1_becomes_11 : decode cX1_becomes 11 = .ok (.iload_n 1, 1) := dk_27 (dk_at dksX1_becomes_0 11 rfl rfl)
theorem dX1_becomes_12 : decode cX1_becomes 12 = .ok (.bipush 64, 2) := dk_16 64 (dk_at dksX1_becomes_0 12 rfl rfl)
theorem dX1_becomes_14 : decode cX1_becomes 14 = .ok (.idiv, 1) := dk_108 (dk_at dksX1_becomes_0 14 rfl rfl)
theorem dX1_becomes_15 : decode cX1_becomes 15 = .ok (.iload_n 2, 1) := dk_28 (dk_at dksX1_becomes_0 15 rfl rfl)
theorem dX1_becomes_16 : decode cX1_becomes 16 = .ok (.ifCond .eq 17, 3) := dk_153 0 17 (dk_at dksX1_becomes_0 16 rfl rfl)
theorem dX1_becomes_19 : decode cX1_becomes 19 = .ok (.aload_n 0, 1) := dk_42 (dk_at dksX1_becomes_0 19 rfl rfl)
theorem dX1_becomes_20 : decode cX1_becomes 20 = .ok (.getfield 9, 3) := dk_180 0 9 (dk_at dksX1_becomes_0 20 rfl rfl)
theorem dX1_becomes_23 : decode cX1_becomes 23 = .ok (.iload_n 1, 1) := dk_27 (dk_at dksX1_becomes_0 23 rfl rfl)
theorem dX1_becomes_24 : decode cX1_becomes 24 = .ok (.bipush 64, 2) := dk_16 64 (dk_at dksX1_becomes_1 0 rfl rfl)
theorem dX1_becomes_26 : decode cX1_becomes 26 = .ok (.idiv, 1) := dk_108 (dk_at dksX1_becomes_1 2 rfl rfl)
theorem dX1_becomes_27 : decode cX1_becomes 27 = .ok (.laload, 1) := dk_47 (dk_at dksX1_becomes_1 3 rfl rfl)
theorem dX1_becomes_28 : decode cX1_becomes 28 = .ok (.lload_n 3, 1) := dk_33 (dk_at dksX1_becomes_1 4 rfl rfl)
theorem dX1_becomes_29 : decode cX1_becomes 29 = .ok (.lor, 1) := dk_129 (dk_at dksX1_becomes_1 5 rfl rfl)
theorem dX1_becomes_30 : decode cX1_becomes 30 = .ok (.goto 18, 3) := dk_167 0 18 (dk_at dksX1_becomes_1 6 rfl rfl)
theorem dX1_becomes_33 : decode cX1_becomes 33 = .ok (.aload_n 0, 1) := dk_42 (dk_at dksX1_becomes_1 9 rfl rfl)
theorem dX1_becomes_34 : decode cX1_becomes 34 = .ok (.getfield 9, 3) := dk_180 0 9 (dk_at dksX1_becomes_1 10 rfl rfl)
theorem dX1_becomes_37 : decode cX1_becomes 37 = .ok (.iload_n 1, 1) := dk_27 (dk_at dksX1_becomes_1 13 rfl rfl)
theorem dX1_becomes_38 : decode cX1_becomes 38 = .ok (.bipush 64, 2) := dk_16 64 (dk_at dksX1_becomes_1 14 rfl rfl)
theorem dX1_becomes_40 : decode cX1_becomes 40 = .ok (.idiv, 1) := dk_108 (dk_at dksX1_becomes_1 16 rfl rfl)
theorem dX1_becomes_41 : decode cX1_becomes 41 = .ok (.laload, 1) := dk_47 (dk_at dksX1_becomes_1 17 rfl rfl)
theorem dX1_becomes_42 : decode cX1_becomes 42 = .ok (.lload_n 3, 1) := dk_33 (dk_at dksX1_becomes_1 18 rfl rfl)
theorem dX1_becomes_43 : decode cX1_becomes 43 = .ok (.ldc2_w 43, 3) := dk_20 0 43 (dk_at dksX1_becomes_1 19 rfl rfl)
theorem dX1_becomes_46 : decode cX1_becomes 46 = .ok (.lxor, 1) := dk_131 (dk_at dksX1_becomes_1 22 rfl rfl)
theorem dX1_becomes_47 : decode cX1_becomes 47 = .ok (.land, 1) := dk_127 (dk_at dksX1_becomes_1 23 rfl rfl)
theorem dX1_becomes_48 : decode cX1_becomes 48 = .ok (.lastore, 1) := dk_80 (dk_at dksX1_becomes_2 0 rfl rfl)
theorem dX1_becomes_49 : decode cX1_becomes 49 = .ok (.return_, 1) := dk_177 (dk_at dksX1_becomes_2 1 rfl rfl)
abbrev cX1_as : ByteArray := prog_4_method_2_code
def yX1_as : MethodName := ⟨RX1, "as", "(LExcessTree$Row;)V"⟩
def dkwX1_as_3 : List UInt8 := [3, 42, 180, 0, 26, 3, 16, 16, 184, 0, 29, 177]
abbrev dktX1_as_3 : List UInt8 := dkwX1_as_3 ++ []
def dkwX1_as_2 : List UInt8 := [16, 16, 184, 0, 29, 43, 180, 0, 23, 3, 42, 180, 0, 23, 3, 16, 16, 184, 0, 29, 43, 180, 0, 26]
abbrev dktX1_as_2 : List UInt8 := dkwX1_as_2 ++ dktX1_as_3
def dkwX1_as_1 : List UInt8 := [180, 0, 15, 3, 42, 180, 0, 15, 3, 16, 64, 184, 0, 29, 43, 180, 0, 19, 3, 42, 180, 0, 19, 3]
abbrev dktX1_as_1 : List UInt8 := dkwX1_as_1 ++ dktX1_as_2
def dkwX1_as_0 : List UInt8 := [43, 180, 0, 9, 3, 42, 180, 0, 9, 3, 5, 184, 0, 29, 42, 43, 180, 0, 35, 181, 0, 35, 43]
abbrev dktX1_as_0 : List UInt8 := dkwX1_as_0 ++ dktX1_as_1
theorem dksX1_as_0 : cX1_as.data.toList.drop 0 = dktX1_as_0 := by decide +kernel
theorem dksX1_as_1 : cX1_as.data.toList.drop 23 = dktX1_as_1 := dk_seg dksX1_as_0 23 rfl rfl
theorem dksX1_as_2 : cX1_as.data.toList.drop 47 = dktX1_as_2 := dk_seg dksX1_as_1 24 rfl rfl
theorem dksX1_as_3 : cX1_as.data.toList.drop 71 = dktX1_as_3 := dk_seg dksX1_as_2 24 rfl rfl
theorem dX1_as_0 : decode cX1_as 0 = .ok (.aload_n 1, 1) := dk_43 (dk_at dksX1_as_0 0 rfl rfl)
theorem dX1_as_1 : decode cX1_as 1 = .ok (.getfield 9, 3) := dk_180 0 9 (dk_at dksX1_as_0 1 rfl rfl)
theorem dX1_as_4 : decode cX1_as 4 = .ok (.iconst 0, 1) := dk_3 (dk_at dksX1_as_0 4 rfl rfl)
theorem dX1_as_5 : decode cX1_as 5 = .ok (.aload_n 0, 1) := dk_42 (dk_at dksX1_as_0 5 rfl rfl)
theorem dX1_as_6 : decode cX1_as 6 = .ok (.getfield 9, 3) := dk_180 0 9 (dk_at dksX1_as_0 6 rfl rfl)
theorem dX1_as_9 : decode cX1_as 9 = .ok (.iconst 0, 1) := dk_3 (dk_at dksX1_as_0 9 rfl rfl)
theorem dX1_as_10 : decode cX1_as 10 = .ok (.iconst 2, 1) := dk_5 (dk_at dksX1_as_0 10 rfl rfl)
theorem dX1_as_11 : decode cX1_as 11 = .ok (.invokestatic 29, 3) := dk_184 0 29 (dk_at dksX1_as_0 11 rfl rfl)
theorem dX1_as_14 : decode cX1_as 14 = .ok (.aload_n 0, 1) := dk_42 (dk_at dksX1_as_0 14 rfl rfl)
theorem dX1_as_15 : decode cX1_as 15 = .ok (.aload_n 1, 1) := dk_43 (dk_at dksX1_as_0 15 rfl rfl)
theorem dX1_as_16 : decode cX1_as 16 = .ok (.getfield 35, 3) := dk_180 0 35 (dk_at dksX1_as_0 16 rfl rfl)
theorem dX1_as_19 : decode cX1_as 19 = .ok (.putfield 35, 3) := dk_181 0 35 (dk_at dksX1_as_0 19 rfl rfl)
theorem dX1_as_22 : decode cX1_as 22 = .ok (.aload_n 1, 1) := dk_43 (dk_at dksX1_as_0 22 rfl rfl)
theorem dX1_as_23 : decode cX1_as 23 = .ok (.getfield 15, 3) := dk_180 0 15 (dk_at dksX1_as_1 0 rfl rfl)
theorem dX1_as_26 : decode cX1_as 26 = .ok (.iconst 0, 1) := dk_3 (dk_at dksX1_as_1 3 rfl rfl)
theorem dX1_as_27 : decode cX1_as 27 = .ok (.aload_n 0, 1) := dk_42 (dk_at dksX1_as_1 4 rfl rfl)
theorem dX1_as_28 : decode cX1_as 28 = .ok (.getfield 15, 3) := dk_180 0 15 (dk_at dksX1_as_1 5 rfl rfl)
theorem dX1_as_31 : decode cX1_as 31 = .ok (.iconst 0, 1) := dk_3 (dk_at dksX1_as_1 8 rfl rfl)
theorem dX1_as_32 : decode cX1_as 32 = .ok (.bipush 64, 2) := dk_16 64 (dk_at dksX1_as_1 9 rfl rfl)
theorem dX1_as_34 : decode cX1_as 34 = .ok (.invokestatic 29, 3) := dk_184 0 29 (dk_at dksX1_as_1 11 rfl rfl)
theorem dX1_as_37 : decode cX1_as 37 = .ok (.aload_n 1, 1) := dk_43 (dk_at dksX1_as_1 14 rfl rfl)
theorem dX1_as_38 : decode cX1_as 38 = .ok (.getfield 19, 3) := dk_180 0 19 (dk_at dksX1_as_1 15 rfl rfl)
theorem dX1_as_41 : decode cX1_as 41 = .ok (.iconst 0, 1) := dk_3 (dk_at dksX1_as_1 18 rfl rfl)
theorem dX1_as_42 : decode cX1_as 42 = .ok (.aload_n 0, 1) := dk_42 (dk_at dksX1_as_1 19 rfl rfl)
theorem dX1_as_43 : decode cX1_as 43 = .ok (.getfield 19, 3) := dk_180 0 19 (dk_at dksX1_as_1 20 rfl rfl)
theorem dX1_as_46 : decode cX1_as 46 = .ok (.iconst 0, 1) := dk_3 (dk_at dksX1_as_1 23 rfl rfl)
theorem dX1_as_47 : decode cX1_as 47 = .ok (.bipush 16, 2) := dk_16 16 (dk_at dksX1_as_2 0 rfl rfl)
theorem dX1_as_49 : decode cX1_as 49 = .ok (.invokestatic 29, 3) := dk_184 0 29 (dk_at dksX1_as_2 2 rfl rfl)
theorem dX1_as_52 : decode cX1_as 52 = .ok (.aload_n 1, 1) := dk_43 (dk_at dksX1_as_2 5 rfl rfl)
theorem dX1_as_53 : decode cX1_as 53 = .ok (.getfield 23, 3) := dk_180 0 23 (dk_at dksX1_as_2 6 rfl rfl)
theorem dX1_as_56 : decode cX1_as 56 = .ok (.iconst 0, 1) := dk_3 (dk_at dksX1_as_2 9 rfl rfl)
theorem dX1_as_57 : decode cX1_as 57 = .ok (.aload_n 0, 1) := dk_42 (dk_at dksX1_as_2 10 rfl rfl)
theorem dX1_as_58 : decode cX1_as 58 = .ok (.getfield 23, 3) := dk_180 0 23 (dk_at dksX1_as_2 11 rfl rfl)
theorem dX1_as_61 : decode cX1_as 61 = .ok (.iconst 0, 1) := dk_3 (dk_at dksX1_as_2 14 rfl rfl)
theorem dX1_as_62 : decode cX1_as 62 = .ok (.bipush 16, 2) := dk_16 16 (dk_at dksX1_as_2 15 rfl rfl)
theorem dX1_as_64 : decode cX1_as 64 = .ok (.invokestatic 29, 3) := dk_184 0 29 (dk_at dksX1_as_2 17 rfl rfl)
theorem dX1_as_67 : decode cX1_as 67 = .ok (.aload_n 1, 1) := dk_43 (dk_at dksX1_as_2 20 rfl rfl)
theorem dX1_as_68 : decode cX1_as 68 = .ok (.getfield 26, 3) := dk_180 0 26 (dk_at dksX1_as_2 21 rfl rfl)
theorem dX1_as_71 : decode cX1_as 71 = .ok (.iconst 0, 1) := dk_3 (dk_at dksX1_as_3 0 rfl rfl)
theorem dX1_as_72 : decode cX1_as 72 = .ok (.aload_n 0, 1) := dk_42 (dk_at dksX1_as_3 1 rfl rfl)
theorem dX1_as_73 : decode cX1_as 73 = .ok (.getfield 26, 3) := dk_180 0 26 (dk_at dksX1_as_3 2 rfl rfl)
theorem dX1_as_76 : decode cX1_as 76 = .ok (.iconst 0, 1) := dk_3 (dk_at dksX1_as_3 5 rfl rfl)
theorem dX1_as_77 : decode cX1_as 77 = .ok (.bipush 16, 2) := dk_16 16 (dk_at dksX1_as_3 6 rfl rfl)
theorem dX1_as_79 : decode cX1_as 79 = .ok (.invokestatic 29, 3) := dk_184 0 29 (dk_at dksX1_as_3 8 rfl rfl)
theorem dX1_as_82 : decode cX1_as 82 = .ok (.return_, 1) := dk_177 (dk_at dksX1_as_3 11 rfl rfl)
abbrev cX1_opens : ByteArray := prog_4_method_6_code
def yX1_opens : MethodName := ⟨RX1, "opens", "(I)I"⟩
def dkwX1_opens_2 : List UInt8 := [42, 180, 0, 9, 29, 47, 22, 5, 127, 184, 0, 54, 96, 61, 132, 3, 1, 167, 255, 195, 28, 172]
abbrev dktX1_opens_2 : List UInt8 := dkwX1_opens_2 ++ []
def dkwX1_opens_1 : List UInt8 := [54, 4, 21, 4, 16, 64, 160, 0, 9, 20, 0, 43, 167, 0, 9, 10, 21, 4, 121, 10, 101, 55, 5, 28]
abbrev dktX1_opens_1 : List UInt8 := dkwX1_opens_1 ++ dktX1_opens_2
def dkwX1_opens_0 : List UInt8 := [3, 61, 3, 62, 29, 5, 162, 0, 62, 3, 16, 64, 27, 16, 64, 29, 104, 100, 184, 0, 45, 184, 0, 51]
abbrev dktX1_opens_0 : List UInt8 := dkwX1_opens_0 ++ dktX1_opens_1
theorem dksX1_opens_0 : cX1_opens.data.toList.drop 0 = dktX1_opens_0 := by decide +kernel
theorem dksX1_opens_1 : cX1_opens.data.toList.drop 24 = dktX1_opens_1 := dk_seg dksX1_opens_0 24 rfl rfl
theorem dksX1_opens_2 : cX1_opens.data.toList.drop 48 = dktX1_opens_2 := dk_seg dksX1_opens_1 24 rfl rfl
theorem dX1_opens_0 : decode cX1_opens 0 = .ok (.iconst 0, 1) := dk_3 (dk_at dksX1_opens_0 0 rfl rfl)
theorem dX1_opens_1 : decode cX1_opens 1 = .ok (.istore_n 2, 1) := dk_61 (dk_at dksX1_opens_0 1 rfl rfl)
theorem dX1_opens_2 : decode cX1_opens 2 = .ok (.iconst 0, 1) := dk_3 (dk_at dksX1_opens_0 2 rfl rfl)
theorem dX1_opens_3 : decode cX1_opens 3 = .ok (.istore_n 3, 1) := dk_62 (dk_at dksX1_opens_0 3 rfl rfl)
theorem dX1_opens_4 : decode cX1_opens 4 = .ok (.iload_n 3, 1) := dk_29 (dk_at dksX1_opens_0 4 rfl rfl)
theorem dX1_opens_5 : decode cX1_opens 5 = .ok (.iconst 2, 1) := dk_5 (dk_at dksX1_opens_0 5 rfl rfl)
theorem dX1_opens_6 : decode cX1_opens 6 = .ok (.if_icmp .ge 62, 3) := dk_162 0 62 (dk_at dksX1_opens_0 6 rfl rfl)
theorem dX1_opens_9 : decode cX1_opens 9 = .ok (.iconst 0, 1) := dk_3 (dk_at dksX1_opens_0 9 rfl rfl)
theorem dX1_opens_10 : decode cX1_opens 10 = .ok (.bipush 64, 2) := dk_16 64 (dk_at dksX1_opens_0 10 rfl rfl)
theorem dX1_opens_12 : decode cX1_opens 12 = .ok (.iload_n 1, 1) := dk_27 (dk_at dksX1_opens_0 12 rfl rfl)
theorem dX1_opens_13 : decode cX1_opens 13 = .ok (.bipush 64, 2) := dk_16 64 (dk_at dksX1_opens_0 13 rfl rfl)
theorem dX1_opens_15 : decode cX1_opens 15 = .ok (.iload_n 3, 1) := dk_29 (dk_at dksX1_opens_0 15 rfl rfl)
theorem dX1_opens_16 : decode cX1_opens 16 = .ok (.imul, 1) := dk_104 (dk_at dksX1_opens_0 16 rfl rfl)
theorem dX1_opens_17 : decode cX1_opens 17 = .ok (.isub, 1) := dk_100 (dk_at dksX1_opens_0 17 rfl rfl)
theorem dX1_opens_18 : decode cX1_opens 18 = .ok (.invokestatic 45, 3) := dk_184 0 45 (dk_at dksX1_opens_0 18 rfl rfl)
theorem dX1_opens_21 : decode cX1_opens 21 = .ok (.invokestatic 51, 3) := dk_184 0 51 (dk_at dksX1_opens_0 21 rfl rfl)
theorem dX1_opens_24 : decode cX1_opens 24 = .ok (.istore 4, 2) := dk_54 4 (dk_at dksX1_opens_1 0 rfl rfl)
theorem dX1_opens_26 : decode cX1_opens 26 = .ok (.iload 4, 2) := dk_21 4 (dk_at dksX1_opens_1 2 rfl rfl)
theorem dX1_opens_28 : decode cX1_opens 28 = .ok (.bipush 64, 2) := dk_16 64 (dk_at dksX1_opens_1 4 rfl rfl)
theorem dX1_opens_30 : decode cX1_opens 30 = .ok (.if_icmp .ne 9, 3) := dk_160 0 9 (dk_at dksX1_opens_1 6 rfl rfl)
theorem dX1_opens_33 : decode cX1_opens 33 = .ok (.ldc2_w 43, 3) := dk_20 0 43 (dk_at dksX1_opens_1 9 rfl rfl)
theorem dX1_opens_36 : decode cX1_opens 36 = .ok (.goto 9, 3) := dk_167 0 9 (dk_at dksX1_opens_1 12 rfl rfl)
theorem dX1_opens_39 : decode cX1_opens 39 = .ok (.lconst 1, 1) := dk_10 (dk_at dksX1_opens_1 15 rfl rfl)
theorem dX1_opens_40 : decode cX1_opens 40 = .ok (.iload 4, 2) := dk_21 4 (dk_at dksX1_opens_1 16 rfl rfl)
theorem dX1_opens_42 : decode cX1_opens 42 = .ok (.lshl, 1) := dk_121 (dk_at dksX1_opens_1 18 rfl rfl)
theorem dX1_opens_43 : decode cX1_opens 43 = .ok (.lconst 1, 1) := dk_10 (dk_at dksX1_opens_1 19 rfl rfl)
theorem dX1_opens_44 : decode cX1_opens 44 = .ok (.lsub, 1) := dk_101 (dk_at dksX1_opens_1 20 rfl rfl)
theorem dX1_opens_45 : decode cX1_opens 45 = .ok (.lstore 5, 2) := dk_55 5 (dk_at dksX1_opens_1 21 rfl rfl)
theorem dX1_opens_47 : decode cX1_opens 47 = .ok (.iload_n 2, 1) := dk_28 (dk_at dksX1_opens_1 23 rfl rfl)
theorem dX1_opens_48 : decode cX1_opens 48 = .ok (.aload_n 0, 1) := dk_42 (dk_at dksX1_opens_2 0 rfl rfl)
theorem dX1_opens_49 : decode cX1_opens 49 = .ok (.getfield 9, 3) := dk_180 0 9 (dk_at dksX1_opens_2 1 rfl rfl)
theorem dX1_opens_52 : decode cX1_opens 52 = .ok (.iload_n 3, 1) := dk_29 (dk_at dksX1_opens_2 4 rfl rfl)
theorem dX1_opens_53 : decode cX1_opens 53 = .ok (.laload, 1) := dk_47 (dk_at dksX1_opens_2 5 rfl rfl)
theorem dX1_opens_54 : decode cX1_opens 54 = .ok (.lload 5, 2) := dk_22 5 (dk_at dksX1_opens_2 6 rfl rfl)
theorem dX1_opens_56 : decode cX1_opens 56 = .ok (.land, 1) := dk_127 (dk_at dksX1_opens_2 8 rfl rfl)
theorem dX1_opens_57 : decode cX1_opens 57 = .ok (.invokestatic 54, 3) := dk_184 0 54 (dk_at dksX1_opens_2 9 rfl rfl)
theorem dX1_opens_60 : decode cX1_opens 60 = .ok (.iadd, 1) := dk_96 (dk_at dksX1_opens_2 12 rfl rfl)
theorem dX1_opens_61 : decode cX1_opens 61 = .ok (.istore_n 2, 1) := dk_61 (dk_at dksX1_opens_2 13 rfl rfl)
theorem dX1_opens_62 : decode cX1_opens 62 = .ok (.iinc 3 1, 3) := dk_132 3 1 (dk_at dksX1_opens_2 14 rfl rfl)
theorem dX1_opens_65 : decode cX1_opens 65 = .ok (.goto (-61), 3) := dk_167 255 195 (dk_at dksX1_opens_2 17 rfl rfl)
theorem dX1_opens_68 : decode cX1_opens 68 = .ok (.iload_n 2, 1) := dk_28 (dk_at dksX1_opens_2 20 rfl rfl)
theorem dX1_opens_69 : decode cX1_opens 69 = .ok (.ireturn, 1) := dk_172 (dk_at dksX1_opens_2 21 rfl rfl)
abbrev cX1_excess : ByteArray := prog_4_method_7_code
def yX1_excess : MethodName := ⟨RX1, "excess", "(I)I"⟩
def dkwX1_excess_0 : List UInt8 := [5, 42, 27, 182, 0, 60, 104, 27, 100, 172]
abbrev dktX1_excess_0 : List UInt8 := dkwX1_excess_0 ++ []
theorem dksX1_excess_0 : cX1_excess.data.toList.drop 0 = dktX1_excess_0 := by decide +kernel
theorem dX1_excess_0 : decode cX1_excess 0 = .ok (.iconst 2, 1) := dk_5 (dk_at dksX1_excess_0 0 rfl rfl)
theorem dX1_excess_1 : decode cX1_excess 1 = .ok (.aload_n 0, 1) := dk_42 (dk_at dksX1_excess_0 1 rfl rfl)
theorem dX1_excess_2 : decode cX1_excess 2 = .ok (.iload_n 1, 1) := dk_27 (dk_at dksX1_excess_0 2 rfl rfl)
theorem dX1_excess_3 : decode cX1_excess 3 = .ok (.invokevirtual 60, 3) := dk_182 0 60 (dk_at dksX1_excess_0 3 rfl rfl)
theorem dX1_excess_6 : decode cX1_excess 6 = .ok (.imul, 1) := dk_104 (dk_at dksX1_excess_0 6 rfl rfl)
theorem dX1_excess_7 : decode cX1_excess 7 = .ok (.iload_n 1, 1) := dk_27 (dk_at dksX1_excess_0 7 rfl rfl)
theorem dX1_excess_8 : decode cX1_excess 8 = .ok (.isub, 1) := dk_100 (dk_at dksX1_excess_0 8 rfl rfl)
theorem dX1_excess_9 : decode cX1_excess 9 = .ok (.ireturn, 1) := dk_172 (dk_at dksX1_excess_0 9 rfl rfl)
abbrev cX1_comesTo : ByteArray := prog_4_method_10_code
def yX1_comesTo : MethodName := ⟨RX1, "comesTo", "(III)Z"⟩
def dkwX1_comesTo_1 : List UInt8 := [4, 167, 0, 4, 3, 172]
abbrev dktX1_comesTo_1 : List UInt8 := dkwX1_comesTo_1 ++ []
def dkwX1_comesTo_0 : List UInt8 := [29, 28, 42, 180, 0, 23, 27, 53, 96, 161, 0, 19, 29, 28, 42, 180, 0, 26, 27, 53, 96, 163, 0, 7]
abbrev dktX1_comesTo_0 : List UInt8 := dkwX1_comesTo_0 ++ dktX1_comesTo_1
theorem dksX1_comesTo_0 : cX1_comesTo.data.toList.drop 0 = dktX1_comesTo_0 := by decide +kernel
theorem dksX1_comesTo_1 : cX1_comesTo.data.toList.drop 24 = dktX1_comesTo_1 := dk_seg dksX1_comesTo_0 24 rfl rfl
theorem dX1_comesTo_0 : decode cX1_comesTo 0 = .ok (.iload_n 3, 1) := dk_29 (dk_at dksX1_comesTo_0 0 rfl rfl)
theorem dX1_comesTo_1 : decode cX1_comesTo 1 = .ok (.iload_n 2, 1) := dk_28 (dk_at dksX1_comesTo_0 1 rfl rfl)
theorem dX1_comesTo_2 : decode cX1_comesTo 2 = .ok (.aload_n 0, 1) := dk_42 (dk_at dksX1_comesTo_0 2 rfl rfl)
theorem dX1_comesTo_3 : decode cX1_comesTo 3 = .ok (.getfield 23, 3) := dk_180 0 23 (dk_at dksX1_comesTo_0 3 rfl rfl)
theorem dX1_comesTo_6 : decode cX1_comesTo 6 = .ok (.iload_n 1, 1) := dk_27 (dk_at dksX1_comesTo_0 6 rfl rfl)
theorem dX1_comesTo_7 : decode cX1_comesTo 7 = .ok (.saload, 1) := dk_53 (dk_at dksX1_comesTo_0 7 rfl rfl)
theorem dX1_comesTo_8 : decode cX1_comesTo 8 = .ok (.iadd, 1) := dk_96 (dk_at dksX1_comesTo_0 8 rfl rfl)
theorem dX1_comesTo_9 : decode cX1_comesTo 9 = .ok (.if_icmp .lt 19, 3) := dk_161 0 19 (dk_at dksX1_comesTo_0 9 rfl rfl)
theorem dX1_comesTo_12 : decode cX1_comesTo 12 = .ok (.iload_n 3, 1) := dk_29 (dk_at dksX1_comesTo_0 12 rfl rfl)
theorem dX1_comesTo_13 : decode cX1_comesTo 13 = .ok (.iload_n 2, 1) := dk_28 (dk_at dksX1_comesTo_0 13 rfl rfl)
theorem dX1_comesTo_14 : decode cX1_comesTo 14 = .ok (.aload_n 0, 1) := dk_42 (dk_at dksX1_comesTo_0 14 rfl rfl)
theorem dX1_comesTo_15 : decode cX1_comesTo 15 = .ok (.getfield 26, 3) := dk_180 0 26 (dk_at dksX1_comesTo_0 15 rfl rfl)
theorem dX1_comesTo_18 : decode cX1_comesTo 18 = .ok (.iload_n 1, 1) := dk_27 (dk_at dksX1_comesTo_0 18 rfl rfl)
theorem dX1_comesTo_19 : decode cX1_comesTo 19 = .ok (.saload, 1) := dk_53 (dk_at dksX1_comesTo_0 19 rfl rfl)
theorem dX1_comesTo_20 : decode cX1_comesTo 20 = .ok (.iadd, 1) := dk_96 (dk_at dksX1_comesTo_0 20 rfl rfl)
theorem dX1_comesTo_21 : decode cX1_comesTo 21 = .ok (.if_icmp .gt 7, 3) := dk_163 0 7 (dk_at dksX1_comesTo_0 21 rfl rfl)
theorem dX1_comesTo_24 : decode cX1_comesTo 24 = .ok (.iconst 1, 1) := dk_4 (dk_at dksX1_comesTo_1 0 rfl rfl)
theorem dX1_comesTo_25 : decode cX1_comesTo 25 = .ok (.goto 4, 3) := dk_167 0 4 (dk_at dksX1_comesTo_1 1 rfl rfl)
theorem dX1_comesTo_28 : decode cX1_comesTo 28 = .ok (.iconst 0, 1) := dk_3 (dk_at dksX1_comesTo_1 4 rfl rfl)
theorem dX1_comesTo_29 : decode cX1_comesTo 29 = .ok (.ireturn, 1) := dk_172 (dk_at dksX1_comesTo_1 5 rfl rfl)
theorem q91 : (Jvm.Cond.initialized "ExcessTree$Row") ∈ lw_all := lw_g (lw_at lw_m1 2 rfl) rfl
theorem q120 : (Jvm.Cond.instantiable "ExcessTree$Row" (6 : Nat)) ∈ lw_all := lw_g (lw_at lw_m1 31 rfl) rfl
theorem q122 : (Jvm.Cond.instanceMethod ({ cls := "ExcessTree$Row", name := "<init>", desc := "()V" } : Jvm.MethodName)) ∈ lw_all := lw_g (lw_at lw_m1 33 rfl) rfl
theorem q123 : (Jvm.Cond.code ({ cls := "ExcessTree$Row", name := "<init>", desc := "()V" } : Jvm.MethodName) prog_4_method_1_code (1 : Nat) (Option.none : Option Jvm.ClassFile.FieldType)) ∈ lw_all := lw_g (lw_at lw_m1 34 rfl) rfl
theorem q124 : (Jvm.Cond.methodLink "ExcessTree$Row" (3 : Nat) ({ cls := "java/lang/Object", name := "<init>", desc := "()V" } : Jvm.MethodName)) ∈ lw_all := lw_g (lw_at lw_m1 35 rfl) rfl
theorem q125 : (Jvm.Cond.fieldLink "ExcessTree$Row" (9 : Nat) "ExcessTree$Row" "words" "[J") ∈ lw_all := lw_g (lw_at lw_m1 36 rfl) rfl
theorem q128 : (Jvm.Cond.fieldLink "ExcessTree$Row" (35 : Nat) "ExcessTree$Row" "places" "I") ∈ lw_all := lw_g (lw_at lw_m1 39 rfl) rfl
theorem q130 : (Jvm.Cond.fieldLink "ExcessTree$Row" (15 : Nat) "ExcessTree$Row" "weight" "[I") ∈ lw_all := lw_g (lw_at lw_m1 41 rfl) rfl
theorem q133 : (Jvm.Cond.fieldLink "ExcessTree$Row" (19 : Nat) "ExcessTree$Row" "gain" "[S") ∈ lw_all := lw_g (lw_at lw_m1 44 rfl) rfl
theorem q135 : (Jvm.Cond.fieldLink "ExcessTree$Row" (23 : Nat) "ExcessTree$Row" "low" "[S") ∈ lw_all := lw_g (lw_at lw_m1 46 rfl) rfl
theorem q137 : (Jvm.Cond.fieldLink "ExcessTree$Row" (26 : Nat) "ExcessTree$Row" "high" "[S") ∈ lw_all := lw_g (lw_at lw_m1 48 rfl) rfl
theorem q139 : (Jvm.Cond.laysFinal "ExcessTree$Row" "ExcessTree$Row" "words" "[J") ∈ lw_all := lw_g (lw_at lw_m1 50 rfl) rfl
theorem q140 : (Jvm.Cond.soleField "ExcessTree$Row" "words") ∈ lw_all := lw_g (lw_at lw_m1 51 rfl) rfl
theorem q141 : (Jvm.Cond.lays "ExcessTree$Row" "ExcessTree$Row" "places" "I") ∈ lw_all := lw_g (lw_at lw_m1 52 rfl) rfl
theorem q142 : (Jvm.Cond.soleField "ExcessTree$Row" "places") ∈ lw_all := lw_g (lw_at lw_m1 53 rfl) rfl
theorem q143 : (Jvm.Cond.laysFinal "ExcessTree$Row" "ExcessTree$Row" "weight" "[I") ∈ lw_all := lw_g (lw_at lw_m1 54 rfl) rfl
theorem q144 : (Jvm.Cond.soleField "ExcessTree$Row" "weight") ∈ lw_all := lw_g (lw_at lw_m1 55 rfl) rfl
theorem q145 : (Jvm.Cond.laysFinal "ExcessTree$Row" "ExcessTree$Row" "gain" "[S") ∈ lw_all := lw_g (lw_at lw_m1 56 rfl) rfl
theorem q146 : (Jvm.Cond.soleField "ExcessTree$Row" "gain") ∈ lw_all := lw_g (lw_at lw_m1 57 rfl) rfl
theorem q147 : (Jvm.Cond.laysFinal "ExcessTree$Row" "ExcessTree$Row" "low" "[S") ∈ lw_all := lw_g (lw_at lw_m1 58 rfl) rfl
theorem q148 : (Jvm.Cond.soleField "ExcessTree$Row" "low") ∈ lw_all := lw_g (lw_at lw_m1 59 rfl) rfl
theorem q149 : (Jvm.Cond.laysFinal "ExcessTree$Row" "ExcessTree$Row" "high" "[S") ∈ lw_all := lw_g (lw_at lw_m1 60 rfl) rfl
theorem q150 : (Jvm.Cond.soleField "ExcessTree$Row" "high") ∈ lw_all := lw_g (lw_at lw_m1 61 rfl) rfl
theorem q151 : (Jvm.Cond.superclass "ExcessTree$Row" "java/lang/Object") ∈ lw_all := lw_g (lw_at lw_m1 62 rfl) rfl
theorem q169 : (Jvm.Cond.instanceMethod ({ cls := "ExcessTree$Row", name := "summariseAll", desc := "()V" } : Jvm.MethodName)) ∈ lw_all := lw_g (lw_at lw_m1 80 rfl) rfl
theorem q170 : (Jvm.Cond.selects "ExcessTree$Row" ({ cls := "ExcessTree$Row", name := "summariseAll", desc := "()V" } : Jvm.MethodName) ({ cls := "ExcessTree$Row", name := "summariseAll", desc := "()V" } : Jvm.MethodName)) ∈ lw_all := lw_g (lw_at lw_m1 81 rfl) rfl
theorem q171 : (Jvm.Cond.code ({ cls := "ExcessTree$Row", name := "summariseAll", desc := "()V" } : Jvm.MethodName) prog_4_method_9_code (2 : Nat) (Option.none : Option Jvm.ClassFile.FieldType)) ∈ lw_all := lw_g (lw_at lw_m1 82 rfl) rfl
theorem q172 : (Jvm.Cond.methodLink "ExcessTree$Row" (67 : Nat) ({ cls := "ExcessTree$Row", name := "summarise", desc := "(I)V" } : Jvm.MethodName)) ∈ lw_all := lw_g (lw_at lw_m1 83 rfl) rfl
theorem q173 : (Jvm.Cond.instanceMethod ({ cls := "ExcessTree$Row", name := "summarise", desc := "(I)V" } : Jvm.MethodName)) ∈ lw_all := lw_g (lw_at lw_m1 84 rfl) rfl
theorem q174 : (Jvm.Cond.selects "ExcessTree$Row" ({ cls := "ExcessTree$Row", name := "summarise", desc := "(I)V" } : Jvm.MethodName) ({ cls := "ExcessTree$Row", name := "summarise", desc := "(I)V" } : Jvm.MethodName)) ∈ lw_all := lw_g (lw_at lw_m1 85 rfl) rfl
theorem q175 : (Jvm.Cond.code ({ cls := "ExcessTree$Row", name := "summarise", desc := "(I)V" } : Jvm.MethodName) prog_4_method_8_code (6 : Nat) (Option.none : Option Jvm.ClassFile.FieldType)) ∈ lw_all := lw_g (lw_at lw_m1 86 rfl) rfl
theorem q176 : (Jvm.Cond.methodLink "ExcessTree$Row" (45 : Nat) ({ cls := "java/lang/Math", name := "min", desc := "(II)I" } : Jvm.MethodName)) ∈ lw_all := lw_g (lw_at lw_m1 87 rfl) rfl
theorem q179 : (Jvm.Cond.methodLink "ExcessTree$Row" (64 : Nat) ({ cls := "ExcessTree$Row", name := "step", desc := "(I)I" } : Jvm.MethodName)) ∈ lw_all := lw_g (lw_at lw_m1 90 rfl) rfl
theorem q180 : (Jvm.Cond.instanceMethod ({ cls := "ExcessTree$Row", name := "step", desc := "(I)I" } : Jvm.MethodName)) ∈ lw_all := lw_g (lw_at lw_m1 91 rfl) rfl
theorem q181 : (Jvm.Cond.selects "ExcessTree$Row" ({ cls := "ExcessTree$Row", name := "step", desc := "(I)I" } : Jvm.MethodName) ({ cls := "ExcessTree$Row", name := "step", desc := "(I)I" } : Jvm.MethodName)) ∈ lw_all := lw_g (lw_at lw_m1 92 rfl) rfl
theorem q182 : (Jvm.Cond.code ({ cls := "ExcessTree$Row", name := "step", desc := "(I)I" } : Jvm.MethodName) prog_4_method_4_code (2 : Nat) (Option.some Jvm.ClassFile.FieldType.int)) ∈ lw_all := lw_g (lw_at lw_m1 93 rfl) rfl
theorem q183 : (Jvm.Cond.methodLink "ExcessTree$Row" (39 : Nat) ({ cls := "ExcessTree$Row", name := "isOpen", desc := "(I)Z" } : Jvm.MethodName)) ∈ lw_all := lw_g (lw_at lw_m1 94 rfl) rfl
theorem q184 : (Jvm.Cond.instanceMethod ({ cls := "ExcessTree$Row", name := "isOpen", desc := "(I)Z" } : Jvm.MethodName)) ∈ lw_all := lw_g (lw_at lw_m1 95 rfl) rfl
theorem q185 : (Jvm.Cond.selects "ExcessTree$Row" ({ cls := "ExcessTree$Row", name := "isOpen", desc := "(I)Z" } : Jvm.MethodName) ({ cls := "ExcessTree$Row", name := "isOpen", desc := "(I)Z" } : Jvm.MethodName)) ∈ lw_all := lw_g (lw_at lw_m1 96 rfl) rfl
theorem q186 : (Jvm.Cond.code ({ cls := "ExcessTree$Row", name := "isOpen", desc := "(I)Z" } : Jvm.MethodName) prog_4_method_3_code (2 : Nat) (Option.some Jvm.ClassFile.FieldType.boolean)) ∈ lw_all := lw_g (lw_at lw_m1 97 rfl) rfl
theorem q187 : (Jvm.Cond.methodLink "ExcessTree$Row" (51 : Nat) ({ cls := "java/lang/Math", name := "max", desc := "(II)I" } : Jvm.MethodName)) ∈ lw_all := lw_g (lw_at lw_m1 98 rfl) rfl
theorem q397 : (Jvm.Cond.instanceMethod ({ cls := "ExcessTree$Row", name := "becomes", desc := "(IZ)V" } : Jvm.MethodName)) ∈ lw_all := lw_g (lw_at lw_m2 68 rfl) rfl
theorem q398 : (Jvm.Cond.selects "ExcessTree$Row" ({ cls := "ExcessTree$Row", name := "becomes", desc := "(IZ)V" } : Jvm.MethodName) ({ cls := "ExcessTree$Row", name := "becomes", desc := "(IZ)V" } : Jvm.MethodName)) ∈ lw_all := lw_g (lw_at lw_m2 69 rfl) rfl
theorem q399 : (Jvm.Cond.code ({ cls := "ExcessTree$Row", name := "becomes", desc := "(IZ)V" } : Jvm.MethodName) prog_4_method_5_code (5 : Nat) (Option.none : Option Jvm.ClassFile.FieldType)) ∈ lw_all := lw_g (lw_at lw_m2 70 rfl) rfl
theorem q400 : (Jvm.Cond.constantLong "ExcessTree$Row" (43 : Nat) (-1 : Int64)) ∈ lw_all := lw_g (lw_at lw_m2 71 rfl) rfl
theorem q407 : (Jvm.Cond.instanceMethod ({ cls := "ExcessTree$Row", name := "as", desc := "(LExcessTree$Row;)V" } : Jvm.MethodName)) ∈ lw_all := lw_g (lw_at lw_m2 78 rfl) rfl
theorem q408 : (Jvm.Cond.selects "ExcessTree$Row" ({ cls := "ExcessTree$Row", name := "as", desc := "(LExcessTree$Row;)V" } : Jvm.MethodName) ({ cls := "ExcessTree$Row", name := "as", desc := "(LExcessTree$Row;)V" } : Jvm.MethodName)) ∈ lw_all := lw_g (lw_at lw_m2 79 rfl) rfl
theorem q409 : (Jvm.Cond.code ({ cls := "ExcessTree$Row", name := "as", desc := "(LExcessTree$Row;)V" } : Jvm.MethodName) prog_4_method_2_code (2 : Nat) (Option.none : Option Jvm.ClassFile.FieldType)) ∈ lw_all := lw_g (lw_at lw_m2 80 rfl) rfl
theorem q410 : (Jvm.Cond.methodLink "ExcessTree$Row" (29 : Nat) ({ cls := "java/lang/System", name := "arraycopy", desc := "(Ljava/lang/Object;ILjava/lang/Object;II)V" } : Jvm.MethodName)) ∈ lw_all := lw_g (lw_at lw_m2 81 rfl) rfl
theorem q430 : (Jvm.Cond.instanceMethod ({ cls := "ExcessTree$Row", name := "opens", desc := "(I)I" } : Jvm.MethodName)) ∈ lw_all := lw_g (lw_at lw_m2 101 rfl) rfl
theorem q431 : (Jvm.Cond.selects "ExcessTree$Row" ({ cls := "ExcessTree$Row", name := "opens", desc := "(I)I" } : Jvm.MethodName) ({ cls := "ExcessTree$Row", name := "opens", desc := "(I)I" } : Jvm.MethodName)) ∈ lw_all := lw_g (lw_at lw_m2 102 rfl) rfl
theorem q432 : (Jvm.Cond.code ({ cls := "ExcessTree$Row", name := "opens", desc := "(I)I" } : Jvm.MethodName) prog_4_method_6_code (7 : Nat) (Option.some Jvm.ClassFile.FieldType.int)) ∈ lw_all := lw_g (lw_at lw_m2 103 rfl) rfl
theorem q433 : (Jvm.Cond.methodLink "ExcessTree$Row" (54 : Nat) ({ cls := "java/lang/Long", name := "bitCount", desc := "(J)I" } : Jvm.MethodName)) ∈ lw_all := lw_g (lw_at lw_m2 104 rfl) rfl
theorem q461 : (Jvm.Cond.instanceMethod ({ cls := "ExcessTree$Row", name := "excess", desc := "(I)I" } : Jvm.MethodName)) ∈ lw_all := lw_g (lw_at lw_m2 132 rfl) rfl
theorem q462 : (Jvm.Cond.selects "ExcessTree$Row" ({ cls := "ExcessTree$Row", name := "excess", desc := "(I)I" } : Jvm.MethodName) ({ cls := "ExcessTree$Row", name := "excess", desc := "(I)I" } : Jvm.MethodName)) ∈ lw_all := lw_g (lw_at lw_m2 133 rfl) rfl
theorem q463 : (Jvm.Cond.code ({ cls := "ExcessTree$Row", name := "excess", desc := "(I)I" } : Jvm.MethodName) prog_4_method_7_code (2 : Nat) (Option.some Jvm.ClassFile.FieldType.int)) ∈ lw_all := lw_g (lw_at lw_m2 134 rfl) rfl
theorem q464 : (Jvm.Cond.methodLink "ExcessTree$Row" (60 : Nat) ({ cls := "ExcessTree$Row", name := "opens", desc := "(I)I" } : Jvm.MethodName)) ∈ lw_all := lw_g (lw_at lw_m2 135 rfl) rfl
theorem q493 : (Jvm.Cond.instanceMethod ({ cls := "ExcessTree$Row", name := "comesTo", desc := "(III)Z" } : Jvm.MethodName)) ∈ lw_all := lw_g (lw_at lw_m2 164 rfl) rfl
theorem q494 : (Jvm.Cond.selects "ExcessTree$Row" ({ cls := "ExcessTree$Row", name := "comesTo", desc := "(III)Z" } : Jvm.MethodName) ({ cls := "ExcessTree$Row", name := "comesTo", desc := "(III)Z" } : Jvm.MethodName)) ∈ lw_all := lw_g (lw_at lw_m2 165 rfl) rfl
theorem q495 : (Jvm.Cond.code ({ cls := "ExcessTree$Row", name := "comesTo", desc := "(III)Z" } : Jvm.MethodName) prog_4_method_10_code (4 : Nat) (Option.some Jvm.ClassFile.FieldType.boolean)) ∈ lw_all := lw_g (lw_at lw_m2 166 rfl) rfl
theorem in_X1 : ∀ w ∈ wsX10, w ∈ lw_all := lw_in wsX10 [139, 141, 143, 145, 147, 149] (by decide +kernel) (by decide +kernel)
/-! ExcessTree$Sheet -/
set_option maxRecDepth 100000
def RX2 : String := "ExcessTree$Sheet"
def TX2 : u_T := fun k => match k with
  | _ => ("ExcessTree$Sheet", "cells", "Ljava/lang/Object;", false)
def tyX2 : Nat → FieldType := fun k => match k with
  | _ => .object "java/lang/Object"
abbrev wsX20 : List Cond := u_ws RX2 TX2 1
theorem nmX2 : ∀ a, a < 1 → ∀ b, b < 1 → a ≠ b → (TX2 a).2.1 ≠ (TX2 b).2.1 := by decide +kernel
theorem tyX2_ok : ∀ k, k < 1 → parseFieldDescriptor (TX2 k).2.2.1 = some (tyX2 k) := by decide +kernel
abbrev cX2_init : ByteArray := prog_5_method_1_code
def yX2_init : MethodName := ⟨RX2, "<init>", "()V"⟩
theorem dX2_init_0 : decode cX2_init 0 = .ok (.aload_n 0, 1) := by decide +kernel
theorem dX2_init_1 : decode cX2_init 1 = .ok (.invokespecial 1, 3) := by decide +kernel
theorem dX2_init_4 : decode cX2_init 4 = .ok (.return_, 1) := by decide +kernel
theorem q92 : (Jvm.Cond.initialized "ExcessTree$Sheet") ∈ lw_all := lw_g (lw_at lw_m1 3 rfl) rfl
theorem q158 : (Jvm.Cond.instantiable "ExcessTree$Sheet" (1 : Nat)) ∈ lw_all := lw_g (lw_at lw_m1 69 rfl) rfl
theorem q160 : (Jvm.Cond.instanceMethod ({ cls := "ExcessTree$Sheet", name := "<init>", desc := "()V" } : Jvm.MethodName)) ∈ lw_all := lw_g (lw_at lw_m1 71 rfl) rfl
theorem q161 : (Jvm.Cond.code ({ cls := "ExcessTree$Sheet", name := "<init>", desc := "()V" } : Jvm.MethodName) prog_5_method_1_code (1 : Nat) (Option.none : Option Jvm.ClassFile.FieldType)) ∈ lw_all := lw_g (lw_at lw_m1 72 rfl) rfl
theorem q162 : (Jvm.Cond.methodLink "ExcessTree$Sheet" (1 : Nat) ({ cls := "java/lang/Object", name := "<init>", desc := "()V" } : Jvm.MethodName)) ∈ lw_all := lw_g (lw_at lw_m1 73 rfl) rfl
theorem q164 : (Jvm.Cond.lays "ExcessTree$Sheet" "ExcessTree$Sheet" "cells" "Ljava/lang/Object;") ∈ lw_all := lw_g (lw_at lw_m1 75 rfl) rfl
theorem q165 : (Jvm.Cond.soleField "ExcessTree$Sheet" "cells") ∈ lw_all := lw_g (lw_at lw_m1 76 rfl) rfl
theorem q166 : (Jvm.Cond.superclass "ExcessTree$Sheet" "java/lang/Object") ∈ lw_all := lw_g (lw_at lw_m1 77 rfl) rfl
theorem in_X2 : ∀ w ∈ wsX20, w ∈ lw_all := lw_in wsX20 [164] (by decide +kernel) (by decide +kernel)
/-! ExcessTree$Fault -/
set_option maxRecDepth 100000
def RX5 : String := "ExcessTree$Fault"
def TX5 : u_T := fun k => match k with
  | 0 => ("java/lang/Throwable", "cause", "Ljava/lang/Throwable;", false)
  | 1 => ("java/lang/Throwable", "stackTrace", "[Ljava/lang/StackTraceElement;", false)
  | 2 => ("java/lang/Throwable", "suppressedExceptions", "Ljava/util/List;", false)
  | 3 => ("java/lang/Throwable", "detailMessage", "Ljava/lang/String;", false)
  | 4 => ("java/lang/Throwable", "backtrace", "Ljava/lang/Object;", false)
  | 5 => ("java/lang/Throwable", "depth", "I", false)
  | 6 => ("ExcessTree$Fault", "code", "I", true)
  | _ => ("ExcessTree$Fault", "place", "I", true)
def tyX5 : Nat → FieldType := fun k => match k with
  | 0 => .object "java/lang/Throwable"
  | 1 => .array (.object "java/lang/StackTraceElement")
  | 2 => .object "java/util/List"
  | 3 => .object "java/lang/String"
  | 4 => .object "java/lang/Object"
  | 5 => .int
  | 6 => .int
  | _ => .int
abbrev wsX50 : List Cond := u_ws RX5 TX5 8
theorem nmX5 : ∀ a, a < 8 → ∀ b, b < 8 → a ≠ b → (TX5 a).2.1 ≠ (TX5 b).2.1 := by decide +kernel
theorem tyX5_ok : ∀ k, k < 8 → parseFieldDescriptor (TX5 k).2.2.1 = some (tyX5 k) := by decide +kernel
abbrev cX5_init : ByteArray := prog_2_method_1_code
def yX5_init : MethodName := ⟨RX5, "<init>", "(II)V"⟩
def dkwX5_init_0 : List UInt8 := [42, 1, 1, 3, 3, 183, 0, 1, 42, 27, 181, 0, 7, 42, 28, 181, 0, 13, 177]
abbrev dktX5_init_0 : List UInt8 := dkwX5_init_0 ++ []
theorem dksX5_init_0 : cX5_init.data.toList.drop 0 = dktX5_init_0 := by decide +kernel
theorem dX5_init_0 : decode cX5_init 0 = .ok (.aload_n 0, 1) := dk_42 (dk_at dksX5_init_0 0 rfl rfl)
theorem dX5_init_1 : decode cX5_init 1 = .ok (.aconst_null, 1) := dk_1 (dk_at dksX5_init_0 1 rfl rfl)
theorem dX5_init_2 : decode cX5_init 2 = .ok (.aconst_null, 1) := dk_1 (dk_at dksX5_init_0 2 rfl rfl)
theorem dX5_init_3 : decode cX5_init 3 = .ok (.iconst 0, 1) := dk_3 (dk_at dksX5_init_0 3 rfl rfl)
theorem dX5_init_4 : decode cX5_init 4 = .ok (.iconst 0, 1) := dk_3 (dk_at dksX5_init_0 4 rfl rfl)
theorem dX5_init_5 : decode cX5_init 5 = .ok (.invokespecial 1, 3) := dk_183 0 1 (dk_at dksX5_init_0 5 rfl rfl)
theorem dX5_init_8 : decode cX5_init 8 = .ok (.aload_n 0, 1) := dk_42 (dk_at dksX5_init_0 8 rfl rfl)
theorem dX5_init_9 : decode cX5_init 9 = .ok (.iload_n 1, 1) := dk_27 (dk_at dksX5_init_0 9 rfl rfl)
theorem dX5_init_10 : decode cX5_init 10 = .ok (.putfield 7, 3) := dk_181 0 7 (dk_at dksX5_init_0 10 rfl rfl)
theorem dX5_init_13 : decode cX5_init 13 = .ok (.aload_n 0, 1) := dk_42 (dk_at dksX5_init_0 13 rfl rfl)
theorem dX5_init_14 : decode cX5_init 14 = .ok (.iload_n 2, 1) := dk_28 (dk_at dksX5_init_0 14 rfl rfl)
theorem dX5_init_15 : decode cX5_init 15 = .ok (.putfield 13, 3) := dk_181 0 13 (dk_at dksX5_init_0 15 rfl rfl)
theorem dX5_init_18 : decode cX5_init 18 = .ok (.return_, 1) := dk_177 (dk_at dksX5_init_0 18 rfl rfl)
theorem q98 : (Jvm.Cond.initialized "ExcessTree$Fault") ∈ lw_all := lw_g (lw_at lw_m1 9 rfl) rfl
theorem q275 : (Jvm.Cond.instantiable "ExcessTree$Fault" (8 : Nat)) ∈ lw_all := lw_g (lw_at lw_m1 186 rfl) rfl
theorem q276 : (Jvm.Cond.castable "ExcessTree$Fault" "ExcessTree$Fault") ∈ lw_tbl := lw_at lw_m1 187 rfl
theorem q281 : (Jvm.Cond.selects "ExcessTree$Fault" ({ cls := "java/lang/Throwable", name := "fillInStackTrace", desc := "(I)Ljava/lang/Throwable;" } : Jvm.MethodName) ({ cls := "java/lang/Throwable", name := "fillInStackTrace", desc := "(I)Ljava/lang/Throwable;" } : Jvm.MethodName)) ∈ lw_all := lw_g (lw_at lw_m1 192 rfl) rfl
theorem q282 : (Jvm.Cond.selects "ExcessTree$Fault" ({ cls := "java/lang/Throwable", name := "fillInStackTrace", desc := "()Ljava/lang/Throwable;" } : Jvm.MethodName) ({ cls := "java/lang/Throwable", name := "fillInStackTrace", desc := "()Ljava/lang/Throwable;" } : Jvm.MethodName)) ∈ lw_all := lw_g (lw_at lw_m1 193 rfl) rfl
theorem q283 : (Jvm.Cond.lays "ExcessTree$Fault" "java/lang/Throwable" "cause" "Ljava/lang/Throwable;") ∈ lw_all := lw_g (lw_at lw_m1 194 rfl) rfl
theorem q285 : (Jvm.Cond.lays "ExcessTree$Fault" "java/lang/Throwable" "stackTrace" "[Ljava/lang/StackTraceElement;") ∈ lw_all := lw_g (lw_at lw_m1 196 rfl) rfl
theorem q287 : (Jvm.Cond.lays "ExcessTree$Fault" "java/lang/Throwable" "suppressedExceptions" "Ljava/util/List;") ∈ lw_all := lw_g (lw_at lw_m1 198 rfl) rfl
theorem q289 : (Jvm.Cond.lays "ExcessTree$Fault" "java/lang/Throwable" "detailMessage" "Ljava/lang/String;") ∈ lw_all := lw_g (lw_at lw_m1 200 rfl) rfl
theorem q291 : (Jvm.Cond.lays "ExcessTree$Fault" "java/lang/Throwable" "backtrace" "Ljava/lang/Object;") ∈ lw_all := lw_g (lw_at lw_m1 202 rfl) rfl
theorem q330 : (Jvm.Cond.instanceMethod ({ cls := "ExcessTree$Fault", name := "<init>", desc := "(II)V" } : Jvm.MethodName)) ∈ lw_all := lw_g (lw_at lw_m2 1 rfl) rfl
theorem q331 : (Jvm.Cond.code ({ cls := "ExcessTree$Fault", name := "<init>", desc := "(II)V" } : Jvm.MethodName) prog_2_method_1_code (3 : Nat) (Option.none : Option Jvm.ClassFile.FieldType)) ∈ lw_all := lw_g (lw_at lw_m2 2 rfl) rfl
theorem q332 : (Jvm.Cond.methodLink "ExcessTree$Fault" (1 : Nat) ({ cls := "java/lang/Exception", name := "<init>", desc := "(Ljava/lang/String;Ljava/lang/Throwable;ZZ)V" } : Jvm.MethodName)) ∈ lw_all := lw_g (lw_at lw_m2 3 rfl) rfl
theorem q338 : (Jvm.Cond.fieldLink "ExcessTree$Fault" (7 : Nat) "ExcessTree$Fault" "code" "I") ∈ lw_all := lw_g (lw_at lw_m2 9 rfl) rfl
theorem q340 : (Jvm.Cond.fieldLink "ExcessTree$Fault" (13 : Nat) "ExcessTree$Fault" "place" "I") ∈ lw_all := lw_g (lw_at lw_m2 11 rfl) rfl
theorem q347 : (Jvm.Cond.laysFinal "ExcessTree$Fault" "ExcessTree$Fault" "code" "I") ∈ lw_all := lw_g (lw_at lw_m2 18 rfl) rfl
theorem q348 : (Jvm.Cond.soleField "ExcessTree$Fault" "code") ∈ lw_all := lw_g (lw_at lw_m2 19 rfl) rfl
theorem q349 : (Jvm.Cond.laysFinal "ExcessTree$Fault" "ExcessTree$Fault" "place" "I") ∈ lw_all := lw_g (lw_at lw_m2 20 rfl) rfl
theorem q350 : (Jvm.Cond.soleField "ExcessTree$Fault" "place") ∈ lw_all := lw_g (lw_at lw_m2 21 rfl) rfl
theorem q355 : (Jvm.Cond.lays "ExcessTree$Fault" "java/lang/Throwable" "depth" "I") ∈ lw_all := lw_g (lw_at lw_m2 26 rfl) rfl
theorem q358 : (Jvm.Cond.superclass "ExcessTree$Fault" "java/lang/Exception") ∈ lw_all := lw_g (lw_at lw_m2 29 rfl) rfl
theorem in_X5 : ∀ w ∈ wsX50, w ∈ lw_all := lw_in wsX50 [283, 285, 287, 289, 291, 355, 347, 349] (by decide +kernel) (by decide +kernel)
/-! ExcessTree$Reader -/
set_option maxRecDepth 100000
def RX4 : String := "ExcessTree$Reader"
def TX4 : u_T := fun k => match k with
  | 0 => ("ExcessTree$Reader", "size", "I", true)
  | 1 => ("ExcessTree$Reader", "made", "LExcessTree$Row;", true)
  | 2 => ("ExcessTree$Reader", "many", "I", false)
  | 3 => ("ExcessTree$Reader", "deep", "I", false)
  | 4 => ("ExcessTree$Reader", "at", "I", false)
  | 5 => ("ExcessTree$Reader", "from", "I", false)
  | 6 => ("ExcessTree$Reader", "sort", "I", false)
  | 7 => ("ExcessTree$Reader", "value", "I", false)
  | _ => ("ExcessTree$Reader", "this$0", "LExcessTree;", true)
def tyX4 : Nat → FieldType := fun k => match k with
  | 0 => .int
  | 1 => .object "ExcessTree$Row"
  | 2 => .int
  | 3 => .int
  | 4 => .int
  | 5 => .int
  | 6 => .int
  | 7 => .int
  | _ => .object "ExcessTree"
abbrev wsX40 : List Cond := u_ws RX4 TX4 9
theorem nmX4 : ∀ a, a < 9 → ∀ b, b < 9 → a ≠ b → (TX4 a).2.1 ≠ (TX4 b).2.1 := by decide +kernel
theorem tyX4_ok : ∀ k, k < 9 → parseFieldDescriptor (TX4 k).2.2.1 = some (tyX4 k) := by decide +kernel
abbrev cX4_init : ByteArray := prog_3_method_1_code
def yX4_init : MethodName := ⟨RX4, "<init>", "(LExcessTree;I)V"⟩
def dkwX4_init_1 : List UInt8 := [181, 0, 22, 42, 182, 0, 26, 177]
abbrev dktX4_init_1 : List UInt8 := dkwX4_init_1 ++ []
def dkwX4_init_0 : List UInt8 := [42, 43, 181, 0, 3, 42, 183, 0, 9, 42, 187, 0, 15, 89, 183, 0, 17, 181, 0, 18, 42, 28]
abbrev dktX4_init_0 : List UInt8 := dkwX4_init_0 ++ dktX4_init_1
theorem dksX4_init_0 : cX4_init.data.toList.drop 0 = dktX4_init_0 := by decide +kernel
theorem dksX4_init_1 : cX4_init.data.toList.drop 22 = dktX4_init_1 := dk_seg dksX4_init_0 22 rfl rfl
theorem dX4_init_0 : decode cX4_init 0 = .ok (.aload_n 0, 1) := dk_42 (dk_at dksX4_init_0 0 rfl rfl)
theorem dX4_init_1 : decode cX4_init 1 = .ok (.aload_n 1, 1) := dk_43 (dk_at dksX4_init_0 1 rfl rfl)
theorem dX4_init_2 : decode cX4_init 2 = .ok (.putfield 3, 3) := dk_181 0 3 (dk_at dksX4_init_0 2 rfl rfl)
theorem dX4_init_5 : decode cX4_init 5 = .ok (.aload_n 0, 1) := dk_42 (dk_at dksX4_init_0 5 rfl rfl)
theorem dX4_init_6 : decode cX4_init 6 = .ok (.invokespecial 9, 3) := dk_183 0 9 (dk_at dksX4_init_0 6 rfl rfl)
theorem dX4_init_9 : decode cX4_init 9 = .ok (.aload_n 0, 1) := dk_42 (dk_at dksX4_init_0 9 rfl rfl)
theorem dX4_init_10 : decode cX4_init 10 = .ok (.new 15, 3) := dk_187 0 15 (dk_at dksX4_init_0 10 rfl rfl)
theorem dX4_init_13 : decode cX4_init 13 = .ok (.dup, 1) := dk_89 (dk_at dksX4_init_0 13 rfl rfl)
theorem dX4_init_14 : decode cX4_init 14 = .ok (.invokespecial 17, 3) := dk_183 0 17 (dk_at dksX4_init_0 14 rfl rfl)
theorem dX4_init_17 : decode cX4_init 17 = .ok (.putfield 18, 3) := dk_181 0 18 (dk_at dksX4_init_0 17 rfl rfl)
theorem dX4_init_20 : decode cX4_init 20 = .ok (.aload_n 0, 1) := dk_42 (dk_at dksX4_init_0 20 rfl rfl)
theorem dX4_init_21 : decode cX4_init 21 = .ok (.iload_n 2, 1) := dk_28 (dk_at dksX4_init_0 21 rfl rfl)
theorem dX4_init_22 : decode cX4_init 22 = .ok (.putfield 22, 3) := dk_181 0 22 (dk_at dksX4_init_1 0 rfl rfl)
theorem dX4_init_25 : decode cX4_init 25 = .ok (.aload_n 0, 1) := dk_42 (dk_at dksX4_init_1 3 rfl rfl)
theorem dX4_init_26 : decode cX4_init 26 = .ok (.invokevirtual 26, 3) := dk_182 0 26 (dk_at dksX4_init_1 4 rfl rfl)
theorem dX4_init_29 : decode cX4_init 29 = .ok (.return_, 1) := dk_177 (dk_at dksX4_init_1 7 rfl rfl)
abbrev cX4_next : ByteArray := prog_3_method_4_code
def yX4_next : MethodName := ⟨RX4, "next", "()V"⟩
def dkwX4_next_9 : List UInt8 := [167, 0, 4, 3, 4, 182, 0, 54, 42, 89, 180, 0, 29, 4, 96, 181, 0, 29, 177]
abbrev dktX4_next_9 : List UInt8 := dkwX4_next_9 ++ []
def dkwX4_next_8 : List UInt8 := [181, 0, 48, 42, 42, 180, 0, 48, 5, 159, 0, 14, 42, 16, 41, 16, 41, 182, 0, 44, 153, 0, 7, 4]
abbrev dktX4_next_8 : List UInt8 := dkwX4_next_8 ++ dktX4_next_9
def dkwX4_next_7 : List UInt8 := [182, 0, 54, 167, 0, 62, 42, 42, 16, 40, 16, 40, 182, 0, 44, 153, 0, 7, 5, 167, 0, 4, 6]
abbrev dktX4_next_7 : List UInt8 := dkwX4_next_7 ++ dktX4_next_8
def dkwX4_next_6 : List UInt8 := [167, 255, 188, 42, 42, 180, 0, 29, 42, 180, 0, 38, 100, 7, 163, 0, 7, 4, 167, 0, 4, 3, 4]
abbrev dktX4_next_6 : List UInt8 := dkwX4_next_6 ++ dktX4_next_7
def dkwX4_next_5 : List UInt8 := [16, 48, 100, 167, 0, 7, 42, 180, 0, 51, 181, 0, 51, 42, 89, 180, 0, 29, 4, 96, 181, 0, 29]
abbrev dktX4_next_5 : List UInt8 := dkwX4_next_5 ++ dktX4_next_6
def dkwX4_next_4 : List UInt8 := [162, 0, 29, 16, 10, 42, 180, 0, 51, 104, 42, 180, 0, 3, 180, 0, 32, 42, 180, 0, 29, 51, 96]
abbrev dktX4_next_4 : List UInt8 := dkwX4_next_4 ++ dktX4_next_5
def dkwX4_next_3 : List UInt8 := [42, 16, 48, 16, 57, 182, 0, 44, 153, 0, 63, 42, 42, 180, 0, 29, 42, 180, 0, 38, 100, 7]
abbrev dktX4_next_3 : List UInt8 := dkwX4_next_3 ++ dktX4_next_4
def dkwX4_next_2 : List UInt8 := [167, 0, 180, 42, 16, 48, 16, 57, 182, 0, 44, 153, 0, 110, 42, 4, 181, 0, 48, 42, 3, 181, 0, 51]
abbrev dktX4_next_2 : List UInt8 := dkwX4_next_2 ++ dktX4_next_3
def dkwX4_next_1 : List UInt8 := [42, 42, 180, 0, 29, 181, 0, 38, 42, 180, 0, 29, 42, 180, 0, 22, 160, 0, 11, 42, 3, 181, 0, 48]
abbrev dktX4_next_1 : List UInt8 := dkwX4_next_1 ++ dktX4_next_2
def dkwX4_next_0 : List UInt8 := [42, 16, 32, 16, 32, 182, 0, 44, 153, 0, 16, 42, 89, 180, 0, 29, 4, 96, 181, 0, 29, 167, 255, 235]
abbrev dktX4_next_0 : List UInt8 := dkwX4_next_0 ++ dktX4_next_1
theorem dksX4_next_0 : cX4_next.data.toList.drop 0 = dktX4_next_0 := by decide +kernel
theorem dksX4_next_1 : cX4_next.data.toList.drop 24 = dktX4_next_1 := dk_seg dksX4_next_0 24 rfl rfl
theorem dksX4_next_2 : cX4_next.data.toList.drop 48 = dktX4_next_2 := dk_seg dksX4_next_1 24 rfl rfl
theorem dksX4_next_3 : cX4_next.data.toList.drop 72 = dktX4_next_3 := dk_seg dksX4_next_2 24 rfl rfl
theorem dksX4_next_4 : cX4_next.data.toList.drop 94 = dktX4_next_4 := dk_seg dksX4_next_3 22 rfl rfl
theorem dksX4_next_5 : cX4_next.data.toList.drop 117 = dktX4_next_5 := dk_seg dksX4_next_4 23 rfl rfl
theorem dksX4_next_6 : cX4_next.data.toList.drop 140 = dktX4_next_6 := dk_seg dksX4_next_5 23 rfl rfl
theorem dksX4_next_7 : cX4_next.data.toList.drop 163 = dktX4_next_7 := dk_seg dksX4_next_6 23 rfl rfl
theorem dksX4_next_8 : cX4_next.data.toList.drop 186 = dktX4_next_8 := dk_seg dksX4_next_7 23 rfl rfl
theorem dksX4_next_9 : cX4_next.data.toList.drop 210 = dktX4_next_9 := dk_seg dksX4_next_8 24 rfl rfl
theorem dX4_next_0 : decode cX4_next 0 = .ok (.aload_n 0, 1) := dk_42 (dk_at dksX4_next_0 0 rfl rfl)
theorem dX4_next_1 : decode cX4_next 1 = .ok (.bipush 32, 2) := dk_16 32 (dk_at dksX4_next_0 1 rfl rfl)
theorem dX4_next_3 : decode cX4_next 3 = .ok (.bipush 32, 2) := dk_16 32 (dk_at dksX4_next_0 3 rfl rfl)
theorem dX4_next_5 : decode cX4_next 5 = .ok (.invokevirtual 44, 3) := dk_182 0 44 (dk_at dksX4_next_0 5 rfl rfl)
theorem dX4_next_8 : decode cX4_next 8 = .ok (.ifCond .eq 16, 3) := dk_153 0 16 (dk_at dksX4_next_0 8 rfl rfl)
theorem dX4_next_11 : decode cX4_next 11 = .ok (.aload_n 0, 1) := dk_42 (dk_at dksX4_next_0 11 rfl rfl)
theorem dX4_next_12 : decode cX4_next 12 = .ok (.dup, 1) := dk_89 (dk_at dksX4_next_0 12 rfl rfl)
theorem dX4_next_13 : decode cX4_next 13 = .ok (.getfield 29, 3) := dk_180 0 29 (dk_at dksX4_next_0 13 rfl rfl)
theorem dX4_next_16 : decode cX4_next 16 = .ok (.iconst 1, 1) := dk_4 (dk_at dksX4_next_0 16 rfl rfl)
theorem dX4_next_17 : decode cX4_next 17 = .ok (.iadd, 1) := dk_96 (dk_at dksX4_next_0 17 rfl rfl)
theorem dX4_next_18 : decode cX4_next 18 = .ok (.putfield 29, 3) := dk_181 0 29 (dk_at dksX4_next_0 18 rfl rfl)
theorem dX4_next_21 : decode cX4_next 21 = .ok (.goto (-21), 3) := dk_167 255 235 (dk_at dksX4_next_0 21 rfl rfl)
theorem dX4_next_24 : decode cX4_next 24 = .ok (.aload_n 0, 1) := dk_42 (dk_at dksX4_next_1 0 rfl rfl)
theorem dX4_next_25 : decode cX4_next 25 = .ok (.aload_n 0, 1) := dk_42 (dk_at dksX4_next_1 1 rfl rfl)
theorem dX4_next_26 : decode cX4_next 26 = .ok (.getfield 29, 3) := dk_180 0 29 (dk_at dksX4_next_1 2 rfl rfl)
theorem dX4_next_29 : decode cX4_next 29 = .ok (.putfield 38, 3) := dk_181 0 38 (dk_at dksX4_next_1 5 rfl rfl)
theorem dX4_next_32 : decode cX4_next 32 = .ok (.aload_n 0, 1) := dk_42 (dk_at dksX4_next_1 8 rfl rfl)
theorem dX4_next_33 : decode cX4_next 33 = .ok (.getfield 29, 3) := dk_180 0 29 (dk_at dksX4_next_1 9 rfl rfl)
theorem dX4_next_36 : decode cX4_next 36 = .ok (.aload_n 0, 1) := dk_42 (dk_at dksX4_next_1 12 rfl rfl)
theorem dX4_next_37 : decode cX4_next 37 = .ok (.getfield 22, 3) := dk_180 0 22 (dk_at dksX4_next_1 13 rfl rfl)
theorem dX4_next_40 : decode cX4_next 40 = .ok (.if_icmp .ne 11, 3) := dk_160 0 11 (dk_at dksX4_next_1 16 rfl rfl)
theorem dX4_next_43 : decode cX4_next 43 = .ok (.aload_n 0, 1) := dk_42 (dk_at dksX4_next_1 19 rfl rfl)
theorem dX4_next_44 : decode cX4_next 44 = .ok (.iconst 0, 1) := dk_3 (dk_at dksX4_next_1 20 rfl rfl)
theorem dX4_next_45 : decode cX4_next 45 = .ok (.putfield 48, 3) := dk_181 0 48 (dk_at dksX4_next_1 21 rfl rfl)
theorem dX4_next_48 : decode cX4_next 48 = .ok (.goto 180, 3) := dk_167 0 180 (dk_at dksX4_next_2 0 rfl rfl)
theorem dX4_next_51 : decode cX4_next 51 = .ok (.aload_n 0, 1) := dk_42 (dk_at dksX4_next_2 3 rfl rfl)
theorem dX4_next_52 : decode cX4_next 52 = .ok (.bipush 48, 2) := dk_16 48 (dk_at dksX4_next_2 4 rfl rfl)
theorem dX4_next_54 : decode cX4_next 54 = .ok (.bipush 57, 2) := dk_16 57 (dk_at dksX4_next_2 6 rfl rfl)
theorem dX4_next_56 : decode cX4_next 56 = .ok (.invokevirtual 44, 3) := dk_182 0 44 (dk_at dksX4_next_2 8 rfl rfl)
theorem dX4_next_59 : decode cX4_next 59 = .ok (.ifCond .eq 110, 3) := dk_153 0 110 (dk_at dksX4_next_2 11 rfl rfl)
theorem dX4_next_62 : decode cX4_next 62 = .ok (.aload_n 0, 1) := dk_42 (dk_at dksX4_next_2 14 rfl rfl)
theorem dX4_next_63 : decode cX4_next 63 = .ok (.iconst 1, 1) := dk_4 (dk_at dksX4_next_2 15 rfl rfl)
theorem dX4_next_64 : decode cX4_next 64 = .ok (.putfield 48, 3) := dk_181 0 48 (dk_at dksX4_next_2 16 rfl rfl)
theorem dX4_next_67 : decode cX4_next 67 = .ok (.aload_n 0, 1) := dk_42 (dk_at dksX4_next_2 19 rfl rfl)
theorem dX4_next_68 : decode cX4_next 68 = .ok (.iconst 0, 1) := dk_3 (dk_at dksX4_next_2 20 rfl rfl)
theorem dX4_next_69 : decode cX4_next 69 = .ok (.putfield 51, 3) := dk_181 0 51 (dk_at dksX4_next_2 21 rfl rfl)
theorem dX4_next_72 : decode cX4_next 72 = .ok (.aload_n 0, 1) := dk_42 (dk_at dksX4_next_3 0 rfl rfl)
theorem dX4_next_73 : decode cX4_next 73 = .ok (.bipush 48, 2) := dk_16 48 (dk_at dksX4_next_3 1 rfl rfl)
theorem dX4_next_75 : decode cX4_next 75 = .ok (.bipush 57, 2) := dk_16 57 (dk_at dksX4_next_3 3 rfl rfl)
theorem dX4_next_77 : decode cX4_next 77 = .ok (.invokevirtual 44, 3) := dk_182 0 44 (dk_at dksX4_next_3 5 rfl rfl)
theorem dX4_next_80 : decode cX4_next 80 = .ok (.ifCond .eq 63, 3) := dk_153 0 63 (dk_at dksX4_next_3 8 rfl rfl)
theorem dX4_next_83 : decode cX4_next 83 = .ok (.aload_n 0, 1) := dk_42 (dk_at dksX4_next_3 11 rfl rfl)
theorem dX4_next_84 : decode cX4_next 84 = .ok (.aload_n 0, 1) := dk_42 (dk_at dksX4_next_3 12 rfl rfl)
theorem dX4_next_85 : decode cX4_next 85 = .ok (.getfield 29, 3) := dk_180 0 29 (dk_at dksX4_next_3 13 rfl rfl)
theorem dX4_next_88 : decode cX4_next 88 = .ok (.aload_n 0, 1) := dk_42 (dk_at dksX4_next_3 16 rfl rfl)
theorem dX4_next_89 : decode cX4_next 89 = .ok (.getfield 38, 3) := dk_180 0 38 (dk_at dksX4_next_3 17 rfl rfl)
theorem dX4_next_92 : decode cX4_next 92 = .ok (.isub, 1) := dk_100 (dk_at dksX4_next_3 20 rfl rfl)
theorem dX4_next_93 : decode cX4_next 93 = .ok (.iconst 4, 1) := dk_7 (dk_at dksX4_next_3 21 rfl rfl)
theorem dX4_next_94 : decode cX4_next 94 = .ok (.if_icmp .ge 29, 3) := dk_162 0 29 (dk_at dksX4_next_4 0 rfl rfl)
theorem dX4_next_97 : decode cX4_next 97 = .ok (.bipush 10, 2) := dk_16 10 (dk_at dksX4_next_4 3 rfl rfl)
theorem dX4_next_99 : decode cX4_next 99 = .ok (.aload_n 0, 1) := dk_42 (dk_at dksX4_next_4 5 rfl rfl)
theorem dX4_next_100 : decode cX4_next 100 = .ok (.getfield 51, 3) := dk_180 0 51 (dk_at dksX4_next_4 6 rfl rfl)
theorem dX4_next_103 : decode cX4_next 103 = .ok (.imul, 1) := dk_104 (dk_at dksX4_next_4 9 rfl rfl)
theorem dX4_next_104 : decode cX4_next 104 = .ok (.aload_n 0, 1) := dk_42 (dk_at dksX4_next_4 10 rfl rfl)
theorem dX4_next_105 : decode cX4_next 105 = .ok (.getfield 3, 3) := dk_180 0 3 (dk_at dksX4_next_4 11 rfl rfl)
theorem dX4_next_108 : decode cX4_next 108 = .ok (.getfield 32, 3) := dk_180 0 32 (dk_at dksX4_next_4 14 rfl rfl)
theorem dX4_next_111 : decode cX4_next 111 = .ok (.aload_n 0, 1) := dk_42 (dk_at dksX4_next_4 17 rfl rfl)
theorem dX4_next_112 : decode cX4_next 112 = .ok (.getfield 29, 3) := dk_180 0 29 (dk_at dksX4_next_4 18 rfl rfl)
theorem dX4_next_115 : decode cX4_next 115 = .ok (.baload, 1) := dk_51 (dk_at dksX4_next_4 21 rfl rfl)
theorem dX4_next_116 : decode cX4_next 116 = .ok (.iadd, 1) := dk_96 (dk_at dksX4_next_4 22 rfl rfl)
theorem dX4_next_117 : decode cX4_next 117 = .ok (.bipush 48, 2) := dk_16 48 (dk_at dksX4_next_5 0 rfl rfl)
theorem dX4_next_119 : decode cX4_next 119 = .ok (.isub, 1) := dk_100 (dk_at dksX4_next_5 2 rfl rfl)
theorem dX4_next_120 : decode cX4_next 120 = .ok (.goto 7, 3) := dk_167 0 7 (dk_at dksX4_next_5 3 rfl rfl)
theorem dX4_next_123 : decode cX4_next 123 = .ok (.aload_n 0, 1) := dk_42 (dk_at dksX4_next_5 6 rfl rfl)
theorem dX4_next_124 : decode cX4_next 124 = .ok (.getfield 51, 3) := dk_180 0 51 (dk_at dksX4_next_5 7 rfl rfl)
theorem dX4_next_127 : decode cX4_next 127 = .ok (.putfield 51, 3) := dk_181 0 51 (dk_at dksX4_next_5 10 rfl rfl)
theorem dX4_next_130 : decode cX4_next 130 = .ok (.aload_n 0, 1) := dk_42 (dk_at dksX4_next_5 13 rfl rfl)
theorem dX4_next_131 : decode cX4_next 131 = .ok (.dup, 1) := dk_89 (dk_at dksX4_next_5 14 rfl rfl)
theorem dX4_next_132 : decode cX4_next 132 = .ok (.getfield 29, 3) := dk_180 0 29 (dk_at dksX4_next_5 15 rfl rfl)
theorem dX4_next_135 : decode cX4_next 135 = .ok (.iconst 1, 1) := dk_4 (dk_at dksX4_next_5 18 rfl rfl)
theorem dX4_next_136 : decode cX4_next 136 = .ok (.iadd, 1) := dk_96 (dk_at dksX4_next_5 19 rfl rfl)
theorem dX4_next_137 : decode cX4_next 137 = .ok (.putfield 29, 3) := dk_181 0 29 (dk_at dksX4_next_5 20 rfl rfl)
theorem dX4_next_140 : decode cX4_next 140 = .ok (.goto (-68), 3) := dk_167 255 188 (dk_at dksX4_next_6 0 rfl rfl)
theorem dX4_next_143 : decode cX4_next 143 = .ok (.aload_n 0, 1) := dk_42 (dk_at dksX4_next_6 3 rfl rfl)
theorem dX4_next_144 : decode cX4_next 144 = .ok (.aload_n 0, 1) := dk_42 (dk_at dksX4_next_6 4 rfl rfl)
theorem dX4_next_145 : decode cX4_next 145 = .ok (.getfield 29, 3) := dk_180 0 29 (dk_at dksX4_next_6 5 rfl rfl)
theorem dX4_next_148 : decode cX4_next 148 = .ok (.aload_n 0, 1) := dk_42 (dk_at dksX4_next_6 8 rfl rfl)
theorem dX4_next_149 : decode cX4_next 149 = .ok (.getfield 38, 3) := dk_180 0 38 (dk_at dksX4_next_6 9 rfl rfl)
theorem dX4_next_152 : decode cX4_next 152 = .ok (.isub, 1) := dk_100 (dk_at dksX4_next_6 12 rfl rfl)
theorem dX4_next_153 : decode cX4_next 153 = .ok (.iconst 4, 1) := dk_7 (dk_at dksX4_next_6 13 rfl rfl)
theorem dX4_next_154 : decode cX4_next 154 = .ok (.if_icmp .gt 7, 3) := dk_163 0 7 (dk_at dksX4_next_6 14 rfl rfl)
theorem dX4_next_157 : decode cX4_next 157 = .ok (.iconst 1, 1) := dk_4 (dk_at dksX4_next_6 17 rfl rfl)
theorem dX4_next_158 : decode cX4_next 158 = .ok (.goto 4, 3) := dk_167 0 4 (dk_at dksX4_next_6 18 rfl rfl)
theorem dX4_next_161 : decode cX4_next 161 = .ok (.iconst 0, 1) := dk_3 (dk_at dksX4_next_6 21 rfl rfl)
theorem dX4_next_162 : decode cX4_next 162 = .ok (.iconst 1, 1) := dk_4 (dk_at dksX4_next_6 22 rfl rfl)
theorem dX4_next_163 : decode cX4_next 163 = .ok (.invokevirtual 54, 3) := dk_182 0 54 (dk_at dksX4_next_7 0 rfl rfl)
theorem dX4_next_166 : decode cX4_next 166 = .ok (.goto 62, 3) := dk_167 0 62 (dk_at dksX4_next_7 3 rfl rfl)
theorem dX4_next_169 : decode cX4_next 169 = .ok (.aload_n 0, 1) := dk_42 (dk_at dksX4_next_7 6 rfl rfl)
theorem dX4_next_170 : decode cX4_next 170 = .ok (.aload_n 0, 1) := dk_42 (dk_at dksX4_next_7 7 rfl rfl)
theorem dX4_next_171 : decode cX4_next 171 = .ok (.bipush 40, 2) := dk_16 40 (dk_at dksX4_next_7 8 rfl rfl)
theorem dX4_next_173 : decode cX4_next 173 = .ok (.bipush 40, 2) := dk_16 40 (dk_at dksX4_next_7 10 rfl rfl)
theorem dX4_next_175 : decode cX4_next 175 = .ok (.invokevirtual 44, 3) := dk_182 0 44 (dk_at dksX4_next_7 12 rfl rfl)
theorem dX4_next_178 : decode cX4_next 178 = .ok (.ifCond .eq 7, 3) := dk_153 0 7 (dk_at dksX4_next_7 15 rfl rfl)
theorem dX4_next_181 : decode cX4_next 181 = .ok (.iconst 2, 1) := dk_5 (dk_at dksX4_next_7 18 rfl rfl)
theorem dX4_next_182 : decode cX4_next 182 = .ok (.goto 4, 3) := dk_167 0 4 (dk_at dksX4_next_7 19 rfl rfl)
theorem dX4_next_185 : decode cX4_next 185 = .ok (.iconst 3, 1) := dk_6 (dk_at dksX4_next_7 22 rfl rfl)
theorem dX4_next_186 : decode cX4_next 186 = .ok (.putfield 48, 3) := dk_181 0 48 (dk_at dksX4_next_8 0 rfl rfl)
theorem dX4_next_189 : decode cX4_next 189 = .ok (.aload_n 0, 1) := dk_42 (dk_at dksX4_next_8 3 rfl rfl)
theorem dX4_next_190 : decode cX4_next 190 = .ok (.aload_n 0, 1) := dk_42 (dk_at dksX4_next_8 4 rfl rfl)
theorem dX4_next_191 : decode cX4_next 191 = .ok (.getfield 48, 3) := dk_180 0 48 (dk_at dksX4_next_8 5 rfl rfl)
theorem dX4_next_194 : decode cX4_next 194 = .ok (.iconst 2, 1) := dk_5 (dk_at dksX4_next_8 8 rfl rfl)
theorem dX4_next_195 : decode cX4_next 195 = .ok (.if_icmp .eq 14, 3) := dk_159 0 14 (dk_at dksX4_next_8 9 rfl rfl)
theorem dX4_next_198 : decode cX4_next 198 = .ok (.aload_n 0, 1) := dk_42 (dk_at dksX4_next_8 12 rfl rfl)
theorem dX4_next_199 : decode cX4_next 199 = .ok (.bipush 41, 2) := dk_16 41 (dk_at dksX4_next_8 13 rfl rfl)
theorem dX4_next_201 : decode cX4_next 201 = .ok (.bipush 41, 2) := dk_16 41 (dk_at dksX4_next_8 15 rfl rfl)
theorem dX4_next_203 : decode cX4_next 203 = .ok (.invokevirtual 44, 3) := dk_182 0 44 (dk_at dksX4_next_8 17 rfl rfl)
theorem dX4_next_206 : decode cX4_next 206 = .ok (.ifCond .eq 7, 3) := dk_153 0 7 (dk_at dksX4_next_8 20 rfl rfl)
theorem dX4_next_209 : decode cX4_next 209 = .ok (.iconst 1, 1) := dk_4 (dk_at dksX4_next_8 23 rfl rfl)
theorem dX4_next_210 : decode cX4_next 210 = .ok (.goto 4, 3) := dk_167 0 4 (dk_at dksX4_next_9 0 rfl rfl)
theorem dX4_next_213 : decode cX4_next 213 = .ok (.iconst 0, 1) := dk_3 (dk_at dksX4_next_9 3 rfl rfl)
theorem dX4_next_214 : decode cX4_next 214 = .ok (.iconst 1, 1) := dk_4 (dk_at dksX4_next_9 4 rfl rfl)
theorem dX4_next_215 : decode cX4_next 215 = .ok (.invokevirtual 54, 3) := dk_182 0 54 (dk_at dksX4_next_9 5 rfl rfl)
theorem dX4_next_218 : decode cX4_next 218 = .ok (.aload_n 0, 1) := dk_42 (dk_at dksX4_next_9 8 rfl rfl)
theorem dX4_next_219 : decode cX4_next 219 = .ok (.dup, 1) := dk_89 (dk_at dksX4_next_9 9 rfl rfl)
theorem dX4_next_220 : decode cX4_next 220 = .ok (.getfield 29, 3) := dk_180 0 29 (dk_at dksX4_next_9 10 rfl rfl)
theorem dX4_next_223 : decode cX4_next 223 = .ok (.iconst 1, 1) := dk_4 (dk_at dksX4_next_9 13 rfl rfl)
theorem dX4_next_224 : decode cX4_next 224 = .ok (.iadd, 1) := dk_96 (dk_at dksX4_next_9 14 rfl rfl)
theorem dX4_next_225 : decode cX4_next 225 = .ok (.putfield 29, 3) := dk_181 0 29 (dk_at dksX4_next_9 15 rfl rfl)
theorem dX4_next_228 : decode cX4_next 228 = .ok (.return_, 1) := dk_177 (dk_at dksX4_next_9 18 rfl rfl)
abbrev cX4_isIn : ByteArray := prog_3_method_2_code
def yX4_isIn : MethodName := ⟨RX4, "isIn", "(CC)Z"⟩
def dkwX4_isIn_2 : List UInt8 := [172]
abbrev dktX4_isIn_2 : List UInt8 := dkwX4_isIn_2 ++ []
def dkwX4_isIn_1 : List UInt8 := [161, 0, 23, 42, 180, 0, 3, 180, 0, 32, 42, 180, 0, 29, 51, 28, 163, 0, 7, 4, 167, 0, 4, 3]
abbrev dktX4_isIn_1 : List UInt8 := dkwX4_isIn_1 ++ dktX4_isIn_2
def dkwX4_isIn_0 : List UInt8 := [42, 180, 0, 29, 42, 180, 0, 22, 162, 0, 39, 42, 180, 0, 3, 180, 0, 32, 42, 180, 0, 29, 51, 27]
abbrev dktX4_isIn_0 : List UInt8 := dkwX4_isIn_0 ++ dktX4_isIn_1
theorem dksX4_isIn_0 : cX4_isIn.data.toList.drop 0 = dktX4_isIn_0 := by decide +kernel
theorem dksX4_isIn_1 : cX4_isIn.data.toList.drop 24 = dktX4_isIn_1 := dk_seg dksX4_isIn_0 24 rfl rfl
theorem dksX4_isIn_2 : cX4_isIn.data.toList.drop 48 = dktX4_isIn_2 := dk_seg dksX4_isIn_1 24 rfl rfl
theorem dX4_isIn_0 : decode cX4_isIn 0 = .ok (.aload_n 0, 1) := dk_42 (dk_at dksX4_isIn_0 0 rfl rfl)
theorem dX4_isIn_1 : decode cX4_isIn 1 = .ok (.getfield 29, 3) := dk_180 0 29 (dk_at dksX4_isIn_0 1 rfl rfl)
theorem dX4_isIn_4 : decode cX4_isIn 4 = .ok (.aload_n 0, 1) := dk_42 (dk_at dksX4_isIn_0 4 rfl rfl)
theorem dX4_isIn_5 : decode cX4_isIn 5 = .ok (.getfield 22, 3) := dk_180 0 22 (dk_at dksX4_isIn_0 5 rfl rfl)
theorem dX4_isIn_8 : decode cX4_isIn 8 = .ok (.if_icmp .ge 39, 3) := dk_162 0 39 (dk_at dksX4_isIn_0 8 rfl rfl)
theorem dX4_isIn_11 : decode cX4_isIn 11 = .ok (.aload_n 0, 1) := dk_42 (dk_at dksX4_isIn_0 11 rfl rfl)
theorem dX4_isIn_12 : decode cX4_isIn 12 = .ok (.getfield 3, 3) := dk_180 0 3 (dk_at dksX4_isIn_0 12 rfl rfl)
theorem dX4_isIn_15 : decode cX4_isIn 15 = .ok (.getfield 32, 3) := dk_180 0 32 (dk_at dksX4_isIn_0 15 rfl rfl)
theorem dX4_isIn_18 : decode cX4_isIn 18 = .ok (.aload_n 0, 1) := dk_42 (dk_at dksX4_isIn_0 18 rfl rfl)
theorem dX4_isIn_19 : decode cX4_isIn 19 = .ok (.getfield 29, 3) := dk_180 0 29 (dk_at dksX4_isIn_0 19 rfl rfl)
theorem dX4_isIn_22 : decode cX4_isIn 22 = .ok (.baload, 1) := dk_51 (dk_at dksX4_isIn_0 22 rfl rfl)
theorem dX4_isIn_23 : decode cX4_isIn 23 = .ok (.iload_n 1, 1) := dk_27 (dk_at dksX4_isIn_0 23 rfl rfl)
theorem dX4_isIn_24 : decode cX4_isIn 24 = .ok (.if_icmp .lt 23, 3) := dk_161 0 23 (dk_at dksX4_isIn_1 0 rfl rfl)
theorem dX4_isIn_27 : decode cX4_isIn 27 = .ok (.aload_n 0, 1) := dk_42 (dk_at dksX4_isIn_1 3 rfl rfl)
theorem dX4_isIn_28 : decode cX4_isIn 28 = .ok (.getfield 3, 3) := dk_180 0 3 (dk_at dksX4_isIn_1 4 rfl rfl)
theorem dX4_isIn_31 : decode cX4_isIn 31 = .ok (.getfield 32, 3) := dk_180 0 32 (dk_at dksX4_isIn_1 7 rfl rfl)
theorem dX4_isIn_34 : decode cX4_isIn 34 = .ok (.aload_n 0, 1) := dk_42 (dk_at dksX4_isIn_1 10 rfl rfl)
theorem dX4_isIn_35 : decode cX4_isIn 35 = .ok (.getfield 29, 3) := dk_180 0 29 (dk_at dksX4_isIn_1 11 rfl rfl)
theorem dX4_isIn_38 : decode cX4_isIn 38 = .ok (.baload, 1) := dk_51 (dk_at dksX4_isIn_1 14 rfl rfl)
theorem dX4_isIn_39 : decode cX4_isIn 39 = .ok (.iload_n 2, 1) := dk_28 (dk_at dksX4_isIn_1 15 rfl rfl)
theorem dX4_isIn_40 : decode cX4_isIn 40 = .ok (.if_icmp .gt 7, 3) := dk_163 0 7 (dk_at dksX4_isIn_1 16 rfl rfl)
theorem dX4_isIn_43 : decode cX4_isIn 43 = .ok (.iconst 1, 1) := dk_4 (dk_at dksX4_isIn_1 19 rfl rfl)
theorem dX4_isIn_44 : decode cX4_isIn 44 = .ok (.goto 4, 3) := dk_167 0 4 (dk_at dksX4_isIn_1 20 rfl rfl)
theorem dX4_isIn_47 : decode cX4_isIn 47 = .ok (.iconst 0, 1) := dk_3 (dk_at dksX4_isIn_1 23 rfl rfl)
theorem dX4_isIn_48 : decode cX4_isIn 48 = .ok (.ireturn, 1) := dk_172 (dk_at dksX4_isIn_2 0 rfl rfl)
abbrev cX4_need : ByteArray := prog_3_method_3_code
def yX4_need : MethodName := ⟨RX4, "need", "(ZI)V"⟩
def dkwX4_need_0 : List UInt8 := [27, 154, 0, 16, 187, 0, 36, 89, 28, 42, 180, 0, 38, 183, 0, 41, 191, 177]
abbrev dktX4_need_0 : List UInt8 := dkwX4_need_0 ++ []
theorem dksX4_need_0 : cX4_need.data.toList.drop 0 = dktX4_need_0 := by decide +kernel
theorem dX4_need_0 : decode cX4_need 0 = .ok (.iload_n 1, 1) := dk_27 (dk_at dksX4_need_0 0 rfl rfl)
theorem dX4_need_1 : decode cX4_need 1 = .ok (.ifCond .ne 16, 3) := dk_154 0 16 (dk_at dksX4_need_0 1 rfl rfl)
theorem dX4_need_4 : decode cX4_need 4 = .ok (.new 36, 3) := dk_187 0 36 (dk_at dksX4_need_0 4 rfl rfl)
theorem dX4_need_7 : decode cX4_need 7 = .ok (.dup, 1) := dk_89 (dk_at dksX4_need_0 7 rfl rfl)
theorem dX4_need_8 : decode cX4_need 8 = .ok (.iload_n 2, 1) := dk_28 (dk_at dksX4_need_0 8 rfl rfl)
theorem dX4_need_9 : decode cX4_need 9 = .ok (.aload_n 0, 1) := dk_42 (dk_at dksX4_need_0 9 rfl rfl)
theorem dX4_need_10 : decode cX4_need 10 = .ok (.getfield 38, 3) := dk_180 0 38 (dk_at dksX4_need_0 10 rfl rfl)
theorem dX4_need_13 : decode cX4_need 13 = .ok (.invokespecial 41, 3) := dk_183 0 41 (dk_at dksX4_need_0 13 rfl rfl)
theorem dX4_need_16 : decode cX4_need 16 = .ok (.athrow, 1) := dk_191 (dk_at dksX4_need_0 16 rfl rfl)
theorem dX4_need_17 : decode cX4_need 17 = .ok (.return_, 1) := dk_177 (dk_at dksX4_need_0 17 rfl rfl)
abbrev cX4_nodes : ByteArray := prog_3_method_7_code
def yX4_nodes : MethodName := ⟨RX4, "nodes", "()I"⟩
def dkwX4_nodes_3 : List UInt8 := [154, 0, 7, 4, 167, 0, 4, 3, 5, 182, 0, 54, 42, 180, 0, 18, 182, 0, 81, 42, 180, 0, 58, 172]
abbrev dktX4_nodes_3 : List UInt8 := dkwX4_nodes_3 ++ []
def dkwX4_nodes_2 : List UInt8 := [42, 182, 0, 75, 167, 0, 7, 42, 182, 0, 78, 42, 180, 0, 68, 157, 255, 200, 42, 42, 180, 0, 48]
abbrev dktX4_nodes_2 : List UInt8 := dkwX4_nodes_2 ++ dktX4_nodes_3
def dkwX4_nodes_1 : List UInt8 := [42, 180, 0, 68, 158, 0, 7, 4, 167, 0, 4, 3, 5, 182, 0, 54, 42, 180, 0, 48, 5, 160, 0, 10]
abbrev dktX4_nodes_1 : List UInt8 := dkwX4_nodes_1 ++ dktX4_nodes_2
def dkwX4_nodes_0 : List UInt8 := [42, 180, 0, 48, 153, 0, 62, 42, 42, 180, 0, 48, 5, 159, 0, 18, 42, 180, 0, 48, 6, 160, 0, 14]
abbrev dktX4_nodes_0 : List UInt8 := dkwX4_nodes_0 ++ dktX4_nodes_1
theorem dksX4_nodes_0 : cX4_nodes.data.toList.drop 0 = dktX4_nodes_0 := by decide +kernel
theorem dksX4_nodes_1 : cX4_nodes.data.toList.drop 24 = dktX4_nodes_1 := dk_seg dksX4_nodes_0 24 rfl rfl
theorem dksX4_nodes_2 : cX4_nodes.data.toList.drop 48 = dktX4_nodes_2 := dk_seg dksX4_nodes_1 24 rfl rfl
theorem dksX4_nodes_3 : cX4_nodes.data.toList.drop 71 = dktX4_nodes_3 := dk_seg dksX4_nodes_2 23 rfl rfl
theorem dX4_nodes_0 : decode cX4_nodes 0 = .ok (.aload_n 0, 1) := dk_42 (dk_at dksX4_nodes_0 0 rfl rfl)
theorem dX4_nodes_1 : decode cX4_nodes 1 = .ok (.getfield 48, 3) := dk_180 0 48 (dk_at dksX4_nodes_0 1 rfl rfl)
theorem dX4_nodes_4 : decode cX4_nodes 4 = .ok (.ifCond .eq 62, 3) := dk_153 0 62 (dk_at dksX4_nodes_0 4 rfl rfl)
theorem dX4_nodes_7 : decode cX4_nodes 7 = .ok (.aload_n 0, 1) := dk_42 (dk_at dksX4_nodes_0 7 rfl rfl)
theorem dX4_nodes_8 : decode cX4_nodes 8 = .ok (.aload_n 0, 1) := dk_42 (dk_at dksX4_nodes_0 8 rfl rfl)
theorem dX4_nodes_9 : decode cX4_nodes 9 = .ok (.getfield 48, 3) := dk_180 0 48 (dk_at dksX4_nodes_0 9 rfl rfl)
theorem dX4_nodes_12 : decode cX4_nodes 12 = .ok (.iconst 2, 1) := dk_5 (dk_at dksX4_nodes_0 12 rfl rfl)
theorem dX4_nodes_13 : decode cX4_nodes 13 = .ok (.if_icmp .eq 18, 3) := dk_159 0 18 (dk_at dksX4_nodes_0 13 rfl rfl)
theorem dX4_nodes_16 : decode cX4_nodes 16 = .ok (.aload_n 0, 1) := dk_42 (dk_at dksX4_nodes_0 16 rfl rfl)
theorem dX4_nodes_17 : decode cX4_nodes 17 = .ok (.getfield 48, 3) := dk_180 0 48 (dk_at dksX4_nodes_0 17 rfl rfl)
theorem dX4_nodes_20 : decode cX4_nodes 20 = .ok (.iconst 3, 1) := dk_6 (dk_at dksX4_nodes_0 20 rfl rfl)
theorem dX4_nodes_21 : decode cX4_nodes 21 = .ok (.if_icmp .ne 14, 3) := dk_160 0 14 (dk_at dksX4_nodes_0 21 rfl rfl)
theorem dX4_nodes_24 : decode cX4_nodes 24 = .ok (.aload_n 0, 1) := dk_42 (dk_at dksX4_nodes_1 0 rfl rfl)
theorem dX4_nodes_25 : decode cX4_nodes 25 = .ok (.getfield 68, 3) := dk_180 0 68 (dk_at dksX4_nodes_1 1 rfl rfl)
theorem dX4_nodes_28 : decode cX4_nodes 28 = .ok (.ifCond .le 7, 3) := dk_158 0 7 (dk_at dksX4_nodes_1 4 rfl rfl)
theorem dX4_nodes_31 : decode cX4_nodes 31 = .ok (.iconst 1, 1) := dk_4 (dk_at dksX4_nodes_1 7 rfl rfl)
theorem dX4_nodes_32 : decode cX4_nodes 32 = .ok (.goto 4, 3) := dk_167 0 4 (dk_at dksX4_nodes_1 8 rfl rfl)
theorem dX4_nodes_35 : decode cX4_nodes 35 = .ok (.iconst 0, 1) := dk_3 (dk_at dksX4_nodes_1 11 rfl rfl)
theorem dX4_nodes_36 : decode cX4_nodes 36 = .ok (.iconst 2, 1) := dk_5 (dk_at dksX4_nodes_1 12 rfl rfl)
theorem dX4_nodes_37 : decode cX4_nodes 37 = .ok (.invokevirtual 54, 3) := dk_182 0 54 (dk_at dksX4_nodes_1 13 rfl rfl)
theorem dX4_nodes_40 : decode cX4_nodes 40 = .ok (.aload_n 0, 1) := dk_42 (dk_at dksX4_nodes_1 16 rfl rfl)
theorem dX4_nodes_41 : decode cX4_nodes 41 = .ok (.getfield 48, 3) := dk_180 0 48 (dk_at dksX4_nodes_1 17 rfl rfl)
theorem dX4_nodes_44 : decode cX4_nodes 44 = .ok (.iconst 2, 1) := dk_5 (dk_at dksX4_nodes_1 20 rfl rfl)
theorem dX4_nodes_45 : decode cX4_nodes 45 = .ok (.if_icmp .ne 10, 3) := dk_160 0 10 (dk_at dksX4_nodes_1 21 rfl rfl)
theorem dX4_nodes_48 : decode cX4_nodes 48 = .ok (.aload_n 0, 1) := dk_42 (dk_at dksX4_nodes_2 0 rfl rfl)
theorem dX4_nodes_49 : decode cX4_nodes 49 = .ok (.invokevirtual 75, 3) := dk_182 0 75 (dk_at dksX4_nodes_2 1 rfl rfl)
theorem dX4_nodes_52 : decode cX4_nodes 52 = .ok (.goto 7, 3) := dk_167 0 7 (dk_at dksX4_nodes_2 4 rfl rfl)
theorem dX4_nodes_55 : decode cX4_nodes 55 = .ok (.aload_n 0, 1) := dk_42 (dk_at dksX4_nodes_2 7 rfl rfl)
theorem dX4_nodes_56 : decode cX4_nodes 56 = .ok (.invokevirtual 78, 3) := dk_182 0 78 (dk_at dksX4_nodes_2 8 rfl rfl)
theorem dX4_nodes_59 : decode cX4_nodes 59 = .ok (.aload_n 0, 1) := dk_42 (dk_at dksX4_nodes_2 11 rfl rfl)
theorem dX4_nodes_60 : decode cX4_nodes 60 = .ok (.getfield 68, 3) := dk_180 0 68 (dk_at dksX4_nodes_2 12 rfl rfl)
theorem dX4_nodes_63 : decode cX4_nodes 63 = .ok (.ifCond .gt (-56), 3) := dk_157 255 200 (dk_at dksX4_nodes_2 15 rfl rfl)
theorem dX4_nodes_66 : decode cX4_nodes 66 = .ok (.aload_n 0, 1) := dk_42 (dk_at dksX4_nodes_2 18 rfl rfl)
theorem dX4_nodes_67 : decode cX4_nodes 67 = .ok (.aload_n 0, 1) := dk_42 (dk_at dksX4_nodes_2 19 rfl rfl)
theorem dX4_nodes_68 : decode cX4_nodes 68 = .ok (.getfield 48, 3) := dk_180 0 48 (dk_at dksX4_nodes_2 20 rfl rfl)
theorem dX4_nodes_71 : decode cX4_nodes 71 = .ok (.ifCond .ne 7, 3) := dk_154 0 7 (dk_at dksX4_nodes_3 0 rfl rfl)
theorem dX4_nodes_74 : decode cX4_nodes 74 = .ok (.iconst 1, 1) := dk_4 (dk_at dksX4_nodes_3 3 rfl rfl)
theorem dX4_nodes_75 : decode cX4_nodes 75 = .ok (.goto 4, 3) := dk_167 0 4 (dk_at dksX4_nodes_3 4 rfl rfl)
theorem dX4_nodes_78 : decode cX4_nodes 78 = .ok (.iconst 0, 1) := dk_3 (dk_at dksX4_nodes_3 7 rfl rfl)
theorem dX4_nodes_79 : decode cX4_nodes 79 = .ok (.iconst 2, 1) := dk_5 (dk_at dksX4_nodes_3 8 rfl rfl)
theorem dX4_nodes_80 : decode cX4_nodes 80 = .ok (.invokevirtual 54, 3) := dk_182 0 54 (dk_at dksX4_nodes_3 9 rfl rfl)
theorem dX4_nodes_83 : decode cX4_nodes 83 = .ok (.aload_n 0, 1) := dk_42 (dk_at dksX4_nodes_3 12 rfl rfl)
theorem dX4_nodes_84 : decode cX4_nodes 84 = .ok (.getfield 18, 3) := dk_180 0 18 (dk_at dksX4_nodes_3 13 rfl rfl)
theorem dX4_nodes_87 : decode cX4_nodes 87 = .ok (.invokevirtual 81, 3) := dk_182 0 81 (dk_at dksX4_nodes_3 16 rfl rfl)
theorem dX4_nodes_90 : decode cX4_nodes 90 = .ok (.aload_n 0, 1) := dk_42 (dk_at dksX4_nodes_3 19 rfl rfl)
theorem dX4_nodes_91 : decode cX4_nodes 91 = .ok (.getfield 58, 3) := dk_180 0 58 (dk_at dksX4_nodes_3 20 rfl rfl)
theorem dX4_nodes_94 : decode cX4_nodes 94 = .ok (.ireturn, 1) := dk_172 (dk_at dksX4_nodes_3 23 rfl rfl)
abbrev cX4_opens : ByteArray := prog_3_method_5_code
def yX4_opens : MethodName := ⟨RX4, "opens", "()V"⟩
def dkwX4_opens_4 : List UInt8 := [79, 42, 182, 0, 26, 177]
abbrev dktX4_opens_4 : List UInt8 := dkwX4_opens_4 ++ []
def dkwX4_opens_3 : List UInt8 := [180, 0, 48, 4, 160, 0, 25, 42, 180, 0, 18, 180, 0, 71, 42, 180, 0, 58, 4, 100, 42, 180, 0, 51]
abbrev dktX4_opens_3 : List UInt8 := dkwX4_opens_3 ++ dktX4_opens_4
def dkwX4_opens_2 : List UInt8 := [89, 180, 0, 58, 4, 96, 181, 0, 58, 42, 89, 180, 0, 68, 4, 96, 181, 0, 68, 42, 182, 0, 26, 42]
abbrev dktX4_opens_2 : List UInt8 := dkwX4_opens_2 ++ dktX4_opens_3
def dkwX4_opens_1 : List UInt8 := [180, 0, 18, 180, 0, 61, 4, 182, 0, 64, 42, 180, 0, 18, 89, 180, 0, 61, 4, 96, 181, 0, 61, 42]
abbrev dktX4_opens_1 : List UInt8 := dkwX4_opens_1 ++ dktX4_opens_2
def dkwX4_opens_0 : List UInt8 := [42, 42, 180, 0, 58, 16, 64, 162, 0, 7, 4, 167, 0, 4, 3, 8, 182, 0, 54, 42, 180, 0, 18, 42]
abbrev dktX4_opens_0 : List UInt8 := dkwX4_opens_0 ++ dktX4_opens_1
theorem dksX4_opens_0 : cX4_opens.data.toList.drop 0 = dktX4_opens_0 := by decide +kernel
theorem dksX4_opens_1 : cX4_opens.data.toList.drop 24 = dktX4_opens_1 := dk_seg dksX4_opens_0 24 rfl rfl
theorem dksX4_opens_2 : cX4_opens.data.toList.drop 48 = dktX4_opens_2 := dk_seg dksX4_opens_1 24 rfl rfl
theorem dksX4_opens_3 : cX4_opens.data.toList.drop 72 = dktX4_opens_3 := dk_seg dksX4_opens_2 24 rfl rfl
theorem dksX4_opens_4 : cX4_opens.data.toList.drop 96 = dktX4_opens_4 := dk_seg dksX4_opens_3 24 rfl rfl
theorem dX4_opens_0 : decode cX4_opens 0 = .ok (.aload_n 0, 1) := dk_42 (dk_at dksX4_opens_0 0 rfl rfl)
theorem dX4_opens_1 : decode cX4_opens 1 = .ok (.aload_n 0, 1) := dk_42 (dk_at dksX4_opens_0 1 rfl rfl)
theorem dX4_opens_2 : decode cX4_opens 2 = .ok (.getfield 58, 3) := dk_180 0 58 (dk_at dksX4_opens_0 2 rfl rfl)
theorem dX4_opens_5 : decode cX4_opens 5 = .ok (.bipush 64, 2) := dk_16 64 (dk_at dksX4_opens_0 5 rfl rfl)
theorem dX4_opens_7 : decode cX4_opens 7 = .ok (.if_icmp .ge 7, 3) := dk_162 0 7 (dk_at dksX4_opens_0 7 rfl rfl)
theorem dX4_opens_10 : decode cX4_opens 10 = .ok (.iconst 1, 1) := dk_4 (dk_at dksX4_opens_0 10 rfl rfl)
theorem dX4_opens_11 : decode cX4_opens 11 = .ok (.goto 4, 3) := dk_167 0 4 (dk_at dksX4_opens_0 11 rfl rfl)
theorem dX4_opens_14 : decode cX4_opens 14 = .ok (.iconst 0, 1) := dk_3 (dk_at dksX4_opens_0 14 rfl rfl)
theorem dX4_opens_15 : decode cX4_opens 15 = .ok (.iconst 5, 1) := dk_8 (dk_at dksX4_opens_0 15 rfl rfl)
theorem dX4_opens_16 : decode cX4_opens 16 = .ok (.invokevirtual 54, 3) := dk_182 0 54 (dk_at dksX4_opens_0 16 rfl rfl)
theorem dX4_opens_19 : decode cX4_opens 19 = .ok (.aload_n 0, 1) := dk_42 (dk_at dksX4_opens_0 19 rfl rfl)
theorem dX4_opens_20 : decode cX4_opens 20 = .ok (.getfield 18, 3) := dk_180 0 18 (dk_at dksX4_opens_0 20 rfl rfl)
theorem dX4_opens_23 : decode cX4_opens 23 = .ok (.aload_n 0, 1) := dk_42 (dk_at dksX4_opens_0 23 rfl rfl)
theorem dX4_opens_24 : decode cX4_opens 24 = .ok (.getfield 18, 3) := dk_180 0 18 (dk_at dksX4_opens_1 0 rfl rfl)
theorem dX4_opens_27 : decode cX4_opens 27 = .ok (.getfield 61, 3) := dk_180 0 61 (dk_at dksX4_opens_1 3 rfl rfl)
theorem dX4_opens_30 : decode cX4_opens 30 = .ok (.iconst 1, 1) := dk_4 (dk_at dksX4_opens_1 6 rfl rfl)
theorem dX4_opens_31 : decode cX4_opens 31 = .ok (.invokevirtual 64, 3) := dk_182 0 64 (dk_at dksX4_opens_1 7 rfl rfl)
theorem dX4_opens_34 : decode cX4_opens 34 = .ok (.aload_n 0, 1) := dk_42 (dk_at dksX4_opens_1 10 rfl rfl)
theorem dX4_opens_35 : decode cX4_opens 35 = .ok (.getfield 18, 3) := dk_180 0 18 (dk_at dksX4_opens_1 11 rfl rfl)
theorem dX4_opens_38 : decode cX4_opens 38 = .ok (.dup, 1) := dk_89 (dk_at dksX4_opens_1 14 rfl rfl)
theorem dX4_opens_39 : decode cX4_opens 39 = .ok (.getfield 61, 3) := dk_180 0 61 (dk_at dksX4_opens_1 15 rfl rfl)
theorem dX4_opens_42 : decode cX4_opens 42 = .ok (.iconst 1, 1) := dk_4 (dk_at dksX4_opens_1 18 rfl rfl)
theorem dX4_opens_43 : decode cX4_opens 43 = .ok (.iadd, 1) := dk_96 (dk_at dksX4_opens_1 19 rfl rfl)
theorem dX4_opens_44 : decode cX4_opens 44 = .ok (.putfield 61, 3) := dk_181 0 61 (dk_at dksX4_opens_1 20 rfl rfl)
theorem dX4_opens_47 : decode cX4_opens 47 = .ok (.aload_n 0, 1) := dk_42 (dk_at dksX4_opens_1 23 rfl rfl)
theorem dX4_opens_48 : decode cX4_opens 48 = .ok (.dup, 1) := dk_89 (dk_at dksX4_opens_2 0 rfl rfl)
theorem dX4_opens_49 : decode cX4_opens 49 = .ok (.getfield 58, 3) := dk_180 0 58 (dk_at dksX4_opens_2 1 rfl rfl)
theorem dX4_opens_52 : decode cX4_opens 52 = .ok (.iconst 1, 1) := dk_4 (dk_at dksX4_opens_2 4 rfl rfl)
theorem dX4_opens_53 : decode cX4_opens 53 = .ok (.iadd, 1) := dk_96 (dk_at dksX4_opens_2 5 rfl rfl)
theorem dX4_opens_54 : decode cX4_opens 54 = .ok (.putfield 58, 3) := dk_181 0 58 (dk_at dksX4_opens_2 6 rfl rfl)
theorem dX4_opens_57 : decode cX4_opens 57 = .ok (.aload_n 0, 1) := dk_42 (dk_at dksX4_opens_2 9 rfl rfl)
theorem dX4_opens_58 : decode cX4_opens 58 = .ok (.dup, 1) := dk_89 (dk_at dksX4_opens_2 10 rfl rfl)
theorem dX4_opens_59 : decode cX4_opens 59 = .ok (.getfield 68, 3) := dk_180 0 68 (dk_at dksX4_opens_2 11 rfl rfl)
theorem dX4_opens_62 : decode cX4_opens 62 = .ok (.iconst 1, 1) := dk_4 (dk_at dksX4_opens_2 14 rfl rfl)
theorem dX4_opens_63 : decode cX4_opens 63 = .ok (.iadd, 1) := dk_96 (dk_at dksX4_opens_2 15 rfl rfl)
theorem dX4_opens_64 : decode cX4_opens 64 = .ok (.putfield 68, 3) := dk_181 0 68 (dk_at dksX4_opens_2 16 rfl rfl)
theorem dX4_opens_67 : decode cX4_opens 67 = .ok (.aload_n 0, 1) := dk_42 (dk_at dksX4_opens_2 19 rfl rfl)
theorem dX4_opens_68 : decode cX4_opens 68 = .ok (.invokevirtual 26, 3) := dk_182 0 26 (dk_at dksX4_opens_2 20 rfl rfl)
theorem dX4_opens_71 : decode cX4_opens 71 = .ok (.aload_n 0, 1) := dk_42 (dk_at dksX4_opens_2 23 rfl rfl)
theorem dX4_opens_72 : decode cX4_opens 72 = .ok (.getfield 48, 3) := dk_180 0 48 (dk_at dksX4_opens_3 0 rfl rfl)
theorem dX4_opens_75 : decode cX4_opens 75 = .ok (.iconst 1, 1) := dk_4 (dk_at dksX4_opens_3 3 rfl rfl)
theorem dX4_opens_76 : decode cX4_opens 76 = .ok (.if_icmp .ne 25, 3) := dk_160 0 25 (dk_at dksX4_opens_3 4 rfl rfl)
theorem dX4_opens_79 : decode cX4_opens 79 = .ok (.aload_n 0, 1) := dk_42 (dk_at dksX4_opens_3 7 rfl rfl)
theorem dX4_opens_80 : decode cX4_opens 80 = .ok (.getfield 18, 3) := dk_180 0 18 (dk_at dksX4_opens_3 8 rfl rfl)
theorem dX4_opens_83 : decode cX4_opens 83 = .ok (.getfield 71, 3) := dk_180 0 71 (dk_at dksX4_opens_3 11 rfl rfl)
theorem dX4_opens_86 : decode cX4_opens 86 = .ok (.aload_n 0, 1) := dk_42 (dk_at dksX4_opens_3 14 rfl rfl)
theorem dX4_opens_87 : decode cX4_opens 87 = .ok (.getfield 58, 3) := dk_180 0 58 (dk_at dksX4_opens_3 15 rfl rfl)
theorem dX4_opens_90 : decode cX4_opens 90 = .ok (.iconst 1, 1) := dk_4 (dk_at dksX4_opens_3 18 rfl rfl)
theorem dX4_opens_91 : decode cX4_opens 91 = .ok (.isub, 1) := dk_100 (dk_at dksX4_opens_3 19 rfl rfl)
theorem dX4_opens_92 : decode cX4_opens 92 = .ok (.aload_n 0, 1) := dk_42 (dk_at dksX4_opens_3 20 rfl rfl)
theorem dX4_opens_93 : decode cX4_opens 93 = .ok (.getfield 51, 3) := dk_180 0 51 (dk_at dksX4_opens_3 21 rfl rfl)
theorem dX4_opens_96 : decode cX4_opens 96 = .ok (.iastore, 1) := dk_79 (dk_at dksX4_opens_4 0 rfl rfl)
theorem dX4_opens_97 : decode cX4_opens 97 = .ok (.aload_n 0, 1) := dk_42 (dk_at dksX4_opens_4 1 rfl rfl)
theorem dX4_opens_98 : decode cX4_opens 98 = .ok (.invokevirtual 26, 3) := dk_182 0 26 (dk_at dksX4_opens_4 2 rfl rfl)
theorem dX4_opens_101 : decode cX4_opens 101 = .ok (.return_, 1) := dk_177 (dk_at dksX4_opens_4 5 rfl rfl)
abbrev cX4_closes : ByteArray := prog_3_method_6_code
def yX4_closes : MethodName := ⟨RX4, "closes", "()V"⟩
def dkwX4_closes_1 : List UInt8 := [96, 181, 0, 61, 42, 89, 180, 0, 68, 4, 100, 181, 0, 68, 42, 182, 0, 26, 177]
abbrev dktX4_closes_1 : List UInt8 := dkwX4_closes_1 ++ []
def dkwX4_closes_0 : List UInt8 := [42, 180, 0, 18, 42, 180, 0, 18, 180, 0, 61, 3, 182, 0, 64, 42, 180, 0, 18, 89, 180, 0, 61, 4]
abbrev dktX4_closes_0 : List UInt8 := dkwX4_closes_0 ++ dktX4_closes_1
theorem dksX4_closes_0 : cX4_closes.data.toList.drop 0 = dktX4_closes_0 := by decide +kernel
theorem dksX4_closes_1 : cX4_closes.data.toList.drop 24 = dktX4_closes_1 := dk_seg dksX4_closes_0 24 rfl rfl
theorem dX4_closes_0 : decode cX4_closes 0 = .ok (.aload_n 0, 1) := dk_42 (dk_at dksX4_closes_0 0 rfl rfl)
theorem dX4_closes_1 : decode cX4_closes 1 = .ok (.getfield 18, 3) := dk_180 0 18 (dk_at dksX4_closes_0 1 rfl rfl)
theorem dX4_closes_4 : decode cX4_closes 4 = .ok (.aload_n 0, 1) := dk_42 (dk_at dksX4_closes_0 4 rfl rfl)
theorem dX4_closes_5 : decode cX4_closes 5 = .ok (.getfield 18, 3) := dk_180 0 18 (dk_at dksX4_closes_0 5 rfl rfl)
theorem dX4_closes_8 : decode cX4_closes 8 = .ok (.getfield 61, 3) := dk_180 0 61 (dk_at dksX4_closes_0 8 rfl rfl)
theorem dX4_closes_11 : decode cX4_closes 11 = .ok (.iconst 0, 1) := dk_3 (dk_at dksX4_closes_0 11 rfl rfl)
theorem dX4_closes_12 : decode cX4_closes 12 = .ok (.invokevirtual 64, 3) := dk_182 0 64 (dk_at dksX4_closes_0 12 rfl rfl)
theorem dX4_closes_15 : decode cX4_closes 15 = .ok (.aload_n 0, 1) := dk_42 (dk_at dksX4_closes_0 15 rfl rfl)
theorem dX4_closes_16 : decode cX4_closes 16 = .ok (.getfield 18, 3) := dk_180 0 18 (dk_at dksX4_closes_0 16 rfl rfl)
theorem dX4_closes_19 : decode cX4_closes 19 = .ok (.dup, 1) := dk_89 (dk_at dksX4_closes_0 19 rfl rfl)
theorem dX4_closes_20 : decode cX4_closes 20 = .ok (.getfield 61, 3) := dk_180 0 61 (dk_at dksX4_closes_0 20 rfl rfl)
theorem dX4_closes_23 : decode cX4_closes 23 = .ok (.iconst 1, 1) := dk_4 (dk_at dksX4_closes_0 23 rfl rfl)
theorem dX4_closes_24 : decode cX4_closes 24 = .ok (.iadd, 1) := dk_96 (dk_at dksX4_closes_1 0 rfl rfl)
theorem dX4_closes_25 : decode cX4_closes 25 = .ok (.putfield 61, 3) := dk_181 0 61 (dk_at dksX4_closes_1 1 rfl rfl)
theorem dX4_closes_28 : decode cX4_closes 28 = .ok (.aload_n 0, 1) := dk_42 (dk_at dksX4_closes_1 4 rfl rfl)
theorem dX4_closes_29 : decode cX4_closes 29 = .ok (.dup, 1) := dk_89 (dk_at dksX4_closes_1 5 rfl rfl)
theorem dX4_closes_30 : decode cX4_closes 30 = .ok (.getfield 68, 3) := dk_180 0 68 (dk_at dksX4_closes_1 6 rfl rfl)
theorem dX4_closes_33 : decode cX4_closes 33 = .ok (.iconst 1, 1) := dk_4 (dk_at dksX4_closes_1 9 rfl rfl)
theorem dX4_closes_34 : decode cX4_closes 34 = .ok (.isub, 1) := dk_100 (dk_at dksX4_closes_1 10 rfl rfl)
theorem dX4_closes_35 : decode cX4_closes 35 = .ok (.putfield 68, 3) := dk_181 0 68 (dk_at dksX4_closes_1 11 rfl rfl)
theorem dX4_closes_38 : decode cX4_closes 38 = .ok (.aload_n 0, 1) := dk_42 (dk_at dksX4_closes_1 14 rfl rfl)
theorem dX4_closes_39 : decode cX4_closes 39 = .ok (.invokevirtual 26, 3) := dk_182 0 26 (dk_at dksX4_closes_1 15 rfl rfl)
theorem dX4_closes_42 : decode cX4_closes 42 = .ok (.return_, 1) := dk_177 (dk_at dksX4_closes_1 18 rfl rfl)
theorem q95 : (Jvm.Cond.initialized "ExcessTree$Reader") ∈ lw_all := lw_g (lw_at lw_m1 6 rfl) rfl
theorem q129 : (Jvm.Cond.fieldLinkNest "ExcessTree$Reader" (61 : Nat) "ExcessTree$Row" "places" "I" "ExcessTree") ∈ lw_tbl := lw_at lw_m1 40 rfl
theorem q131 : (Jvm.Cond.fieldLinkNest "ExcessTree$Reader" (71 : Nat) "ExcessTree$Row" "weight" "[I" "ExcessTree") ∈ lw_tbl := lw_at lw_m1 42 rfl
theorem q198 : (Jvm.Cond.fieldLinkNest "ExcessTree$Reader" (32 : Nat) "ExcessTree" "tape" "[B" "ExcessTree") ∈ lw_tbl := lw_at lw_m1 109 rfl
theorem q255 : (Jvm.Cond.instantiable "ExcessTree$Reader" (9 : Nat)) ∈ lw_all := lw_g (lw_at lw_m1 166 rfl) rfl
theorem q257 : (Jvm.Cond.instanceMethod ({ cls := "ExcessTree$Reader", name := "<init>", desc := "(LExcessTree;I)V" } : Jvm.MethodName)) ∈ lw_all := lw_g (lw_at lw_m1 168 rfl) rfl
theorem q258 : (Jvm.Cond.code ({ cls := "ExcessTree$Reader", name := "<init>", desc := "(LExcessTree;I)V" } : Jvm.MethodName) prog_3_method_1_code (3 : Nat) (Option.none : Option Jvm.ClassFile.FieldType)) ∈ lw_all := lw_g (lw_at lw_m1 169 rfl) rfl
theorem q259 : (Jvm.Cond.methodLink "ExcessTree$Reader" (9 : Nat) ({ cls := "java/lang/Object", name := "<init>", desc := "()V" } : Jvm.MethodName)) ∈ lw_all := lw_g (lw_at lw_m1 170 rfl) rfl
theorem q260 : (Jvm.Cond.classLink "ExcessTree$Reader" (15 : Nat) "ExcessTree$Row") ∈ lw_all := lw_g (lw_at lw_m1 171 rfl) rfl
theorem q261 : (Jvm.Cond.methodLinkNest "ExcessTree$Reader" (17 : Nat) ({ cls := "ExcessTree$Row", name := "<init>", desc := "()V" } : Jvm.MethodName) "ExcessTree") ∈ lw_tbl := lw_at lw_m1 172 rfl
theorem q262 : (Jvm.Cond.methodLink "ExcessTree$Reader" (26 : Nat) ({ cls := "ExcessTree$Reader", name := "next", desc := "()V" } : Jvm.MethodName)) ∈ lw_all := lw_g (lw_at lw_m1 173 rfl) rfl
theorem q263 : (Jvm.Cond.privateMethod ({ cls := "ExcessTree$Reader", name := "next", desc := "()V" } : Jvm.MethodName)) ∈ lw_tbl := lw_at lw_m1 174 rfl
theorem q264 : (Jvm.Cond.instanceMethod ({ cls := "ExcessTree$Reader", name := "next", desc := "()V" } : Jvm.MethodName)) ∈ lw_all := lw_g (lw_at lw_m1 175 rfl) rfl
theorem q265 : (Jvm.Cond.code ({ cls := "ExcessTree$Reader", name := "next", desc := "()V" } : Jvm.MethodName) prog_3_method_4_code (1 : Nat) (Option.none : Option Jvm.ClassFile.FieldType)) ∈ lw_all := lw_g (lw_at lw_m1 176 rfl) rfl
theorem q266 : (Jvm.Cond.methodLink "ExcessTree$Reader" (44 : Nat) ({ cls := "ExcessTree$Reader", name := "isIn", desc := "(CC)Z" } : Jvm.MethodName)) ∈ lw_all := lw_g (lw_at lw_m1 177 rfl) rfl
theorem q267 : (Jvm.Cond.privateMethod ({ cls := "ExcessTree$Reader", name := "isIn", desc := "(CC)Z" } : Jvm.MethodName)) ∈ lw_tbl := lw_at lw_m1 178 rfl
theorem q268 : (Jvm.Cond.instanceMethod ({ cls := "ExcessTree$Reader", name := "isIn", desc := "(CC)Z" } : Jvm.MethodName)) ∈ lw_all := lw_g (lw_at lw_m1 179 rfl) rfl
theorem q269 : (Jvm.Cond.code ({ cls := "ExcessTree$Reader", name := "isIn", desc := "(CC)Z" } : Jvm.MethodName) prog_3_method_2_code (3 : Nat) (Option.some Jvm.ClassFile.FieldType.boolean)) ∈ lw_all := lw_g (lw_at lw_m1 180 rfl) rfl
theorem q270 : (Jvm.Cond.methodLink "ExcessTree$Reader" (54 : Nat) ({ cls := "ExcessTree$Reader", name := "need", desc := "(ZI)V" } : Jvm.MethodName)) ∈ lw_all := lw_g (lw_at lw_m1 181 rfl) rfl
theorem q271 : (Jvm.Cond.privateMethod ({ cls := "ExcessTree$Reader", name := "need", desc := "(ZI)V" } : Jvm.MethodName)) ∈ lw_tbl := lw_at lw_m1 182 rfl
theorem q272 : (Jvm.Cond.instanceMethod ({ cls := "ExcessTree$Reader", name := "need", desc := "(ZI)V" } : Jvm.MethodName)) ∈ lw_all := lw_g (lw_at lw_m1 183 rfl) rfl
theorem q273 : (Jvm.Cond.code ({ cls := "ExcessTree$Reader", name := "need", desc := "(ZI)V" } : Jvm.MethodName) prog_3_method_3_code (3 : Nat) (Option.none : Option Jvm.ClassFile.FieldType)) ∈ lw_all := lw_g (lw_at lw_m1 184 rfl) rfl
theorem q274 : (Jvm.Cond.classLink "ExcessTree$Reader" (36 : Nat) "ExcessTree$Fault") ∈ lw_all := lw_g (lw_at lw_m1 185 rfl) rfl
theorem q329 : (Jvm.Cond.methodLink "ExcessTree$Reader" (41 : Nat) ({ cls := "ExcessTree$Fault", name := "<init>", desc := "(II)V" } : Jvm.MethodName)) ∈ lw_all := lw_g (lw_at lw_m2 0 rfl) rfl
theorem q359 : (Jvm.Cond.fieldLink "ExcessTree$Reader" (22 : Nat) "ExcessTree$Reader" "size" "I") ∈ lw_all := lw_g (lw_at lw_m2 30 rfl) rfl
theorem q360 : (Jvm.Cond.fieldLink "ExcessTree$Reader" (18 : Nat) "ExcessTree$Reader" "made" "LExcessTree$Row;") ∈ lw_all := lw_g (lw_at lw_m2 31 rfl) rfl
theorem q362 : (Jvm.Cond.fieldLink "ExcessTree$Reader" (58 : Nat) "ExcessTree$Reader" "many" "I") ∈ lw_all := lw_g (lw_at lw_m2 33 rfl) rfl
theorem q363 : (Jvm.Cond.fieldLink "ExcessTree$Reader" (68 : Nat) "ExcessTree$Reader" "deep" "I") ∈ lw_all := lw_g (lw_at lw_m2 34 rfl) rfl
theorem q364 : (Jvm.Cond.fieldLink "ExcessTree$Reader" (29 : Nat) "ExcessTree$Reader" "at" "I") ∈ lw_all := lw_g (lw_at lw_m2 35 rfl) rfl
theorem q365 : (Jvm.Cond.fieldLink "ExcessTree$Reader" (38 : Nat) "ExcessTree$Reader" "from" "I") ∈ lw_all := lw_g (lw_at lw_m2 36 rfl) rfl
theorem q366 : (Jvm.Cond.fieldLink "ExcessTree$Reader" (48 : Nat) "ExcessTree$Reader" "sort" "I") ∈ lw_all := lw_g (lw_at lw_m2 37 rfl) rfl
theorem q367 : (Jvm.Cond.fieldLink "ExcessTree$Reader" (51 : Nat) "ExcessTree$Reader" "value" "I") ∈ lw_all := lw_g (lw_at lw_m2 38 rfl) rfl
theorem q368 : (Jvm.Cond.fieldLink "ExcessTree$Reader" (3 : Nat) "ExcessTree$Reader" "this$0" "LExcessTree;") ∈ lw_all := lw_g (lw_at lw_m2 39 rfl) rfl
theorem q369 : (Jvm.Cond.laysFinal "ExcessTree$Reader" "ExcessTree$Reader" "size" "I") ∈ lw_all := lw_g (lw_at lw_m2 40 rfl) rfl
theorem q370 : (Jvm.Cond.soleField "ExcessTree$Reader" "size") ∈ lw_all := lw_g (lw_at lw_m2 41 rfl) rfl
theorem q371 : (Jvm.Cond.laysFinal "ExcessTree$Reader" "ExcessTree$Reader" "made" "LExcessTree$Row;") ∈ lw_all := lw_g (lw_at lw_m2 42 rfl) rfl
theorem q372 : (Jvm.Cond.soleField "ExcessTree$Reader" "made") ∈ lw_all := lw_g (lw_at lw_m2 43 rfl) rfl
theorem q373 : (Jvm.Cond.lays "ExcessTree$Reader" "ExcessTree$Reader" "many" "I") ∈ lw_all := lw_g (lw_at lw_m2 44 rfl) rfl
theorem q374 : (Jvm.Cond.soleField "ExcessTree$Reader" "many") ∈ lw_all := lw_g (lw_at lw_m2 45 rfl) rfl
theorem q375 : (Jvm.Cond.lays "ExcessTree$Reader" "ExcessTree$Reader" "deep" "I") ∈ lw_all := lw_g (lw_at lw_m2 46 rfl) rfl
theorem q376 : (Jvm.Cond.soleField "ExcessTree$Reader" "deep") ∈ lw_all := lw_g (lw_at lw_m2 47 rfl) rfl
theorem q377 : (Jvm.Cond.lays "ExcessTree$Reader" "ExcessTree$Reader" "at" "I") ∈ lw_all := lw_g (lw_at lw_m2 48 rfl) rfl
theorem q378 : (Jvm.Cond.soleField "ExcessTree$Reader" "at") ∈ lw_all := lw_g (lw_at lw_m2 49 rfl) rfl
theorem q379 : (Jvm.Cond.lays "ExcessTree$Reader" "ExcessTree$Reader" "from" "I") ∈ lw_all := lw_g (lw_at lw_m2 50 rfl) rfl
theorem q380 : (Jvm.Cond.soleField "ExcessTree$Reader" "from") ∈ lw_all := lw_g (lw_at lw_m2 51 rfl) rfl
theorem q381 : (Jvm.Cond.lays "ExcessTree$Reader" "ExcessTree$Reader" "sort" "I") ∈ lw_all := lw_g (lw_at lw_m2 52 rfl) rfl
theorem q382 : (Jvm.Cond.soleField "ExcessTree$Reader" "sort") ∈ lw_all := lw_g (lw_at lw_m2 53 rfl) rfl
theorem q383 : (Jvm.Cond.lays "ExcessTree$Reader" "ExcessTree$Reader" "value" "I") ∈ lw_all := lw_g (lw_at lw_m2 54 rfl) rfl
theorem q384 : (Jvm.Cond.soleField "ExcessTree$Reader" "value") ∈ lw_all := lw_g (lw_at lw_m2 55 rfl) rfl
theorem q385 : (Jvm.Cond.laysFinal "ExcessTree$Reader" "ExcessTree$Reader" "this$0" "LExcessTree;") ∈ lw_all := lw_g (lw_at lw_m2 56 rfl) rfl
theorem q386 : (Jvm.Cond.soleField "ExcessTree$Reader" "this$0") ∈ lw_all := lw_g (lw_at lw_m2 57 rfl) rfl
theorem q387 : (Jvm.Cond.superclass "ExcessTree$Reader" "java/lang/Object") ∈ lw_all := lw_g (lw_at lw_m2 58 rfl) rfl
theorem q389 : (Jvm.Cond.instanceMethod ({ cls := "ExcessTree$Reader", name := "nodes", desc := "()I" } : Jvm.MethodName)) ∈ lw_all := lw_g (lw_at lw_m2 60 rfl) rfl
theorem q390 : (Jvm.Cond.selects "ExcessTree$Reader" ({ cls := "ExcessTree$Reader", name := "nodes", desc := "()I" } : Jvm.MethodName) ({ cls := "ExcessTree$Reader", name := "nodes", desc := "()I" } : Jvm.MethodName)) ∈ lw_all := lw_g (lw_at lw_m2 61 rfl) rfl
theorem q391 : (Jvm.Cond.code ({ cls := "ExcessTree$Reader", name := "nodes", desc := "()I" } : Jvm.MethodName) prog_3_method_7_code (1 : Nat) (Option.some Jvm.ClassFile.FieldType.int)) ∈ lw_all := lw_g (lw_at lw_m2 62 rfl) rfl
theorem q392 : (Jvm.Cond.methodLink "ExcessTree$Reader" (75 : Nat) ({ cls := "ExcessTree$Reader", name := "opens", desc := "()V" } : Jvm.MethodName)) ∈ lw_all := lw_g (lw_at lw_m2 63 rfl) rfl
theorem q393 : (Jvm.Cond.privateMethod ({ cls := "ExcessTree$Reader", name := "opens", desc := "()V" } : Jvm.MethodName)) ∈ lw_tbl := lw_at lw_m2 64 rfl
theorem q394 : (Jvm.Cond.instanceMethod ({ cls := "ExcessTree$Reader", name := "opens", desc := "()V" } : Jvm.MethodName)) ∈ lw_all := lw_g (lw_at lw_m2 65 rfl) rfl
theorem q395 : (Jvm.Cond.code ({ cls := "ExcessTree$Reader", name := "opens", desc := "()V" } : Jvm.MethodName) prog_3_method_5_code (1 : Nat) (Option.none : Option Jvm.ClassFile.FieldType)) ∈ lw_all := lw_g (lw_at lw_m2 66 rfl) rfl
theorem q396 : (Jvm.Cond.methodLink "ExcessTree$Reader" (64 : Nat) ({ cls := "ExcessTree$Row", name := "becomes", desc := "(IZ)V" } : Jvm.MethodName)) ∈ lw_all := lw_g (lw_at lw_m2 67 rfl) rfl
theorem q401 : (Jvm.Cond.methodLink "ExcessTree$Reader" (78 : Nat) ({ cls := "ExcessTree$Reader", name := "closes", desc := "()V" } : Jvm.MethodName)) ∈ lw_all := lw_g (lw_at lw_m2 72 rfl) rfl
theorem q402 : (Jvm.Cond.privateMethod ({ cls := "ExcessTree$Reader", name := "closes", desc := "()V" } : Jvm.MethodName)) ∈ lw_tbl := lw_at lw_m2 73 rfl
theorem q403 : (Jvm.Cond.instanceMethod ({ cls := "ExcessTree$Reader", name := "closes", desc := "()V" } : Jvm.MethodName)) ∈ lw_all := lw_g (lw_at lw_m2 74 rfl) rfl
theorem q404 : (Jvm.Cond.code ({ cls := "ExcessTree$Reader", name := "closes", desc := "()V" } : Jvm.MethodName) prog_3_method_6_code (1 : Nat) (Option.none : Option Jvm.ClassFile.FieldType)) ∈ lw_all := lw_g (lw_at lw_m2 75 rfl) rfl
theorem q405 : (Jvm.Cond.methodLink "ExcessTree$Reader" (81 : Nat) ({ cls := "ExcessTree$Row", name := "summariseAll", desc := "()V" } : Jvm.MethodName)) ∈ lw_all := lw_g (lw_at lw_m2 76 rfl) rfl
theorem in_X4 : ∀ w ∈ wsX40, w ∈ lw_all := lw_in wsX40 [369, 371, 373, 375, 377, 379, 381, 383, 385] (by decide +kernel) (by decide +kernel)
