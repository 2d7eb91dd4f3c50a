set_option maxRecDepth 100000
noncomputable def R_L_law (d pc : Nat) (ls : ALs) (st : List Value) (h : AH) : Option (AOut × AH) := aR (exec tTab d) k_L_law (fun _ _ => some none) (pc, ls, st, h)
theorem r_L_law_0 {d : Nat} {l0 l1 l2 l3 l4 l5 l6 : Option Value} {h : AH} : R_L_law d 0 [l0, l1, l2, l3, l4, l5, l6] [] h = R_L_law d 3 [l0, l1, l2, l3, l4, l5, l6] [.ref h.2.1] (hnew h (true, .inr (0, [.null, .null, .null, .null, .null, .null])) 6) := p_new rfl
theorem r_L_law_3 {d : Nat} {b0 : Nat} {l0 l1 l2 l3 l4 l5 l6 : Option Value} {h : AH} : R_L_law d 3 [l0, l1, l2, l3, l4, l5, l6] [.ref b0] h = aK (exec tTab d 26 [.ref b0] h) (fun v h1 => R_L_law d 7 [l0, l1, l2, l3, l4, l5, l6] (v.toList ++ [.ref b0]) h1) (fun E h1 => some (.inr E, h1)) := by
  refine (p_dup rfl rfl).trans ?_
  exact s_callI (y := 26) (n := 0) (b := b0) (rest := [.ref b0]) rfl rfl rfl
theorem r_L_law_7 {d : Nat} {b0 : Nat} {l0 l1 l2 l3 l4 l5 l6 : Option Value} {h : AH} : R_L_law d 7 [l0, l1, l2, l3, l4, l5, l6] [.ref b0] h = R_L_law d 11 [l0, some (.ref b0), l2, l3, l4, l5, l6] [.ref h.2.1] (hnew h (true, .inr (18, [.int 0, .null, .null, .int 0, .null, .null, .int 0, .int 0, .int 0, .int 0, .int 0, .int 0, .int 0, .null, .int 0, .int 0, .int 0, .int 0, .null, .null, .null, .null, .null, .null, .null, .int 0, .int 0, .null, .int 0])) 29) := by
  refine (p_astore rfl rfl rfl).trans ?_
  exact p_new rfl
theorem r_L_law_7N {d : Nat} {l0 l1 l2 l3 l4 l5 l6 : Option Value} {h : AH} : R_L_law d 7 [l0, l1, l2, l3, l4, l5, l6] [.null] h = R_L_law d 11 [l0, some (.null), l2, l3, l4, l5, l6] [.ref h.2.1] (hnew h (true, .inr (18, [.int 0, .null, .null, .int 0, .null, .null, .int 0, .int 0, .int 0, .int 0, .int 0, .int 0, .int 0, .null, .int 0, .int 0, .int 0, .int 0, .null, .null, .null, .null, .null, .null, .null, .int 0, .int 0, .null, .int 0])) 29) := by
  refine (p_astoreN rfl rfl rfl).trans ?_
  exact p_new rfl
theorem r_L_law_11 {d : Nat} {b0 : Nat} {l0 l1 l2 l3 l4 l5 l6 : Option Value} {h : AH} : R_L_law d 11 [l0, l1, l2, l3, l4, l5, l6] [.ref b0] h = aK (exec tTab d 149 [.ref b0] h) (fun v h1 => R_L_law d 15 [l0, l1, l2, l3, l4, l5, l6] (v.toList ++ [.ref b0]) h1) (fun E h1 => some (.inr E, h1)) := by
  refine (p_dup rfl rfl).trans ?_
  exact s_callI (y := 149) (n := 0) (b := b0) (rest := [.ref b0]) rfl rfl rfl
theorem r_L_law_15 {d : Nat} {b0 : Nat} {l0 l1 l2 l3 l4 l5 l6 : Option Value} {h : AH} : R_L_law d 15 [l0, l1, l2, l3, l4, l5, l6] [.ref b0] h = bif hin (nI 1) 65537 then R_L_law d 19 [l0, l1, some (.ref b0), l3, l4, l5, l6] [.ref h.2.1] (hnew h (true, .inl (2, ((nI 1)).toNatClampNeg, (.inr (.inl (fun _ => 0))))) ((nI 1)).toNatClampNeg) else none := by
  refine (p_astore rfl rfl rfl).trans ?_
  refine (p_const rfl).trans ?_
  exact s_newa (t := 2) (z := (.inr (.inl (fun _ => 0)))) rfl
theorem r_L_law_15N {d : Nat} {l0 l1 l2 l3 l4 l5 l6 : Option Value} {h : AH} : R_L_law d 15 [l0, l1, l2, l3, l4, l5, l6] [.null] h = bif hin (nI 1) 65537 then R_L_law d 19 [l0, l1, some (.null), l3, l4, l5, l6] [.ref h.2.1] (hnew h (true, .inl (2, ((nI 1)).toNatClampNeg, (.inr (.inl (fun _ => 0))))) ((nI 1)).toNatClampNeg) else none := by
  refine (p_astoreN rfl rfl rfl).trans ?_
  refine (p_const rfl).trans ?_
  exact s_newa (t := 2) (z := (.inr (.inl (fun _ => 0)))) rfl
theorem r_L_law_19 {d : Nat} {b0 : Nat} {l0 l1 l2 l3 l4 l5 l6 : Option Value} {h : AH} : R_L_law d 19 [l0, l1, l2, l3, l4, l5, l6] [.ref b0] h = R_L_law d 23 [l0, l1, l2, some (.ref b0), some (.int ((nI 0))), l5, l6] [] h := by
  refine (p_astore rfl rfl rfl).trans ?_
  refine (p_const rfl).trans ?_
  refine (p_istore rfl rfl rfl).trans ?_
  exact rfl
theorem r_L_law_19N {d : Nat} {l0 l1 l2 l3 l4 l5 l6 : Option Value} {h : AH} : R_L_law d 19 [l0, l1, l2, l3, l4, l5, l6] [.null] h = R_L_law d 23 [l0, l1, l2, some (.null), some (.int ((nI 0))), l5, l6] [] h := by
  refine (p_astoreN rfl rfl rfl).trans ?_
  refine (p_const rfl).trans ?_
  refine (p_istore rfl rfl rfl).trans ?_
  exact rfl
theorem q_L_law_23 {d : Nat} {x4 : Int32} {a0 : Nat} {l1 l2 l3 l5 l6 : Option Value} {h : AH} : R_L_law d 23 [some (.ref a0), l1, l2, l3, some (.int (x4)), l5, l6] [] h = (hal h a0).bind fun v => R_L_law d 27 [some (.ref a0), l1, l2, l3, some (.int (x4)), l5, l6] [.int (nI v), .int (x4)] h := by
  refine (p_iload rfl rfl).trans ?_
  refine (p_aload rfl rfl).trans ?_
  exact s_alen rfl
theorem r_L_law_27 {d : Nat} {s0 s1 : Int32} {l0 l1 l2 l3 l4 l5 l6 : Option Value} {h : AH} : R_L_law d 27 [l0, l1, l2, l3, l4, l5, l6] [.int (s1), .int (s0)] h = if (s1 - (nI 6)) < s0 then R_L_law d 2156 [l0, l1, l2, l3, l4, l5, l6] [] h else R_L_law d 33 [l0, l1, l2, l3, l4, l5, l6] [] h := by
  refine (p_const rfl).trans ?_
  refine (p_bin rfl).trans ?_
  exact (s_icmp (g := (fun x y => decide (y < x))) (t := 2156) (nx := 33) rfl).trans bif_dec
theorem r_L_law_2156 {d : Nat} {l0 l1 l2 l3 l4 l5 l6 : Option Value} {h : AH} : R_L_law d 2156 [l0, l1, l2, l3, l4, l5, l6] [] h = some (.inl (some (.int ((nI 1)))), h) := by
  refine (p_const rfl).trans ?_
  exact s_iretT rfl rfl
theorem r_L_law_33 {d : Nat} {a0 : Nat} {x4 : Int32} {l1 l2 l3 l5 l6 : Option Value} {h : AH} : R_L_law d 33 [some (.ref a0), l1, l2, l3, some (.int (x4)), l5, l6] [] h = (hai h 0 a0 x4).bind fun v => R_L_law d 37 [some (.ref a0), l1, l2, l3, some (.int (x4)), l5, l6] [.int v] h := by
  refine (p_aload rfl rfl).trans ?_
  refine (p_iload rfl rfl).trans ?_
  exact s_iald rfl
theorem r_L_law_37 {d : Nat} {s0 : Int32} {l0 l1 l2 l3 l4 l5 l6 : Option Value} {h : AH} : R_L_law d 37 [l0, l1, l2, l3, l4, l5, l6] [.int (s0)] h = R_L_law d (if (s0 &&& (nI 63)).toInt < 0 ∨ 35 < (s0 &&& (nI 63)).toInt then 2150 else [200, 273, 298, 342, 386, 399, 467, 587, 655, 711, 767, 835, 903, 978, 1034, 1090, 1158, 1238, 1301, 1357, 1382, 1407, 1420, 1445, 1513, 1581, 1649, 1741, 1785, 1841, 1909, 1965, 2021, 2101, 2112, 2125].getD ((s0 &&& (nI 63)).toInt - 0).toNat 0) [l0, l1, l2, l3, l4, l5, l6] [] h := by
  refine (p_const rfl).trans ?_
  refine (p_bin rfl).trans ?_
  exact p_sw (g := (fun x => if x.toInt < 0 ∨ 35 < x.toInt then 2150 else [200, 273, 298, 342, 386, 399, 467, 587, 655, 711, 767, 835, 903, 978, 1034, 1090, 1158, 1238, 1301, 1357, 1382, 1407, 1420, 1445, 1513, 1581, 1649, 1741, 1785, 1841, 1909, 1965, 2021, 2101, 2112, 2125].getD (x.toInt - 0).toNat 0)) rfl
theorem r_L_law_200 {d : Nat} {a1 a0 : Nat} {x4 : Int32} {l2 l3 l5 l6 : Option Value} {h : AH} : R_L_law d 200 [some (.ref a0), some (.ref a1), l2, l3, some (.int (x4)), l5, l6] [] h = (hai h 0 a0 (x4 + (nI 1))).bind fun v => R_L_law d 207 [some (.ref a0), some (.ref a1), l2, l3, some (.int (x4)), l5, l6] [.int v, .ref a1] h := by
  refine (p_aload rfl rfl).trans ?_
  refine (p_aload rfl rfl).trans ?_
  refine (p_iload rfl rfl).trans ?_
  refine (p_const rfl).trans ?_
  refine (p_bin rfl).trans ?_
  exact s_iald rfl
theorem r_L_law_273 {d : Nat} {a1 a0 : Nat} {x4 : Int32} {l2 l3 l5 l6 : Option Value} {h : AH} : R_L_law d 273 [some (.ref a0), some (.ref a1), l2, l3, some (.int (x4)), l5, l6] [] h = (hai h 0 a0 (x4 + (nI 1))).bind fun v => R_L_law d 280 [some (.ref a0), some (.ref a1), l2, l3, some (.int (x4)), l5, l6] [.int v, .ref a1] h := by
  refine (p_aload rfl rfl).trans ?_
  refine (p_aload rfl rfl).trans ?_
  refine (p_iload rfl rfl).trans ?_
  refine (p_const rfl).trans ?_
  refine (p_bin rfl).trans ?_
  exact s_iald rfl
theorem r_L_law_298 {d : Nat} {a1 a3 : Nat} {l0 l2 l4 l5 l6 : Option Value} {h : AH} : R_L_law d 298 [l0, some (.ref a1), l2, some (.ref a3), l4, l5, l6] [] h = aK (exec tTab d 0 [.ref a1, .ref a3] h) (fun v h1 => R_L_law d 303 [l0, some (.ref a1), l2, some (.ref a3), l4, l5, l6] (v.toList ++ []) h1) (fun E h1 => some (.inr E, h1)) := by
  refine (p_aload rfl rfl).trans ?_
  refine (p_aload rfl rfl).trans ?_
  exact s_callS (y := 0) (n := 2) rfl rfl
theorem r_L_law_342 {d : Nat} {a1 a3 : Nat} {l0 l2 l4 l5 l6 : Option Value} {h : AH} : R_L_law d 342 [l0, some (.ref a1), l2, some (.ref a3), l4, l5, l6] [] h = aK (exec tTab d 1 [.ref a1, .ref a3] h) (fun v h1 => R_L_law d 347 [l0, some (.ref a1), l2, some (.ref a3), l4, l5, l6] (v.toList ++ []) h1) (fun E h1 => some (.inr E, h1)) := by
  refine (p_aload rfl rfl).trans ?_
  refine (p_aload rfl rfl).trans ?_
  exact s_callS (y := 1) (n := 2) rfl rfl
theorem r_L_law_386 {d : Nat} {a1 : Nat} {l0 l2 l3 l4 l5 l6 : Option Value} {h : AH} : R_L_law d 386 [l0, some (.ref a1), l2, l3, l4, l5, l6] [] h = ((hci h a1).bind (lkN [(0, 29)])).bind fun y => aK (exec tTab d y [.ref a1] h) (fun v h1 => R_L_law d 390 [l0, some (.ref a1), l2, l3, l4, l5, l6] (v.toList ++ []) h1) (fun E h1 => some (.inr E, h1)) := by
  refine (p_aload rfl rfl).trans ?_
  exact s_callV (L := [(0, 29)]) (n := 0) (b := a1) (rest := []) rfl rfl rfl
theorem r_L_law_399 {d : Nat} {a1 a0 : Nat} {x4 : Int32} {l2 l3 l5 l6 : Option Value} {h : AH} : R_L_law d 399 [some (.ref a0), some (.ref a1), l2, l3, some (.int (x4)), l5, l6] [] h = (hai h 0 a0 (x4 + (nI 1))).bind fun v => R_L_law d 406 [some (.ref a0), some (.ref a1), l2, l3, some (.int (x4)), l5, l6] [.int v, .ref a1] h := by
  refine (p_aload rfl rfl).trans ?_
  refine (p_aload rfl rfl).trans ?_
  refine (p_iload rfl rfl).trans ?_
  refine (p_const rfl).trans ?_
  refine (p_bin rfl).trans ?_
  exact s_iald rfl
theorem r_L_law_467 {d : Nat} {a1 a0 : Nat} {x4 : Int32} {l2 l3 l5 l6 : Option Value} {h : AH} : R_L_law d 467 [some (.ref a0), some (.ref a1), l2, l3, some (.int (x4)), l5, l6] [] h = (hai h 0 a0 (x4 + (nI 1))).bind fun v => R_L_law d 474 [some (.ref a0), some (.ref a1), l2, l3, some (.int (x4)), l5, l6] [.int v, .ref a1] h := by
  refine (p_aload rfl rfl).trans ?_
  refine (p_aload rfl rfl).trans ?_
  refine (p_iload rfl rfl).trans ?_
  refine (p_const rfl).trans ?_
  refine (p_bin rfl).trans ?_
  exact s_iald rfl
theorem r_L_law_587 {d : Nat} {a1 a0 : Nat} {x4 : Int32} {l2 l3 l5 l6 : Option Value} {h : AH} : R_L_law d 587 [some (.ref a0), some (.ref a1), l2, l3, some (.int (x4)), l5, l6] [] h = (hai h 0 a0 (x4 + (nI 1))).bind fun v => R_L_law d 594 [some (.ref a0), some (.ref a1), l2, l3, some (.int (x4)), l5, l6] [.int v, .ref a1] h := by
  refine (p_aload rfl rfl).trans ?_
  refine (p_aload rfl rfl).trans ?_
  refine (p_iload rfl rfl).trans ?_
  refine (p_const rfl).trans ?_
  refine (p_bin rfl).trans ?_
  exact s_iald rfl
theorem r_L_law_655 {d : Nat} {a1 a0 : Nat} {x4 : Int32} {l2 l3 l5 l6 : Option Value} {h : AH} : R_L_law d 655 [some (.ref a0), some (.ref a1), l2, l3, some (.int (x4)), l5, l6] [] h = (hai h 0 a0 (x4 + (nI 1))).bind fun v => R_L_law d 662 [some (.ref a0), some (.ref a1), l2, l3, some (.int (x4)), l5, l6] [.int v, .ref a1] h := by
  refine (p_aload rfl rfl).trans ?_
  refine (p_aload rfl rfl).trans ?_
  refine (p_iload rfl rfl).trans ?_
  refine (p_const rfl).trans ?_
  refine (p_bin rfl).trans ?_
  exact s_iald rfl
theorem r_L_law_711 {d : Nat} {a1 a0 : Nat} {x4 : Int32} {l2 l3 l5 l6 : Option Value} {h : AH} : R_L_law d 711 [some (.ref a0), some (.ref a1), l2, l3, some (.int (x4)), l5, l6] [] h = (hai h 0 a0 (x4 + (nI 1))).bind fun v => R_L_law d 718 [some (.ref a0), some (.ref a1), l2, l3, some (.int (x4)), l5, l6] [.int v, .ref a1] h := by
  refine (p_aload rfl rfl).trans ?_
  refine (p_aload rfl rfl).trans ?_
  refine (p_iload rfl rfl).trans ?_
  refine (p_const rfl).trans ?_
  refine (p_bin rfl).trans ?_
  exact s_iald rfl
theorem r_L_law_767 {d : Nat} {a1 a0 : Nat} {x4 : Int32} {l2 l3 l5 l6 : Option Value} {h : AH} : R_L_law d 767 [some (.ref a0), some (.ref a1), l2, l3, some (.int (x4)), l5, l6] [] h = (hai h 0 a0 (x4 + (nI 1))).bind fun v => R_L_law d 774 [some (.ref a0), some (.ref a1), l2, l3, some (.int (x4)), l5, l6] [.int v, .ref a1] h := by
  refine (p_aload rfl rfl).trans ?_
  refine (p_aload rfl rfl).trans ?_
  refine (p_iload rfl rfl).trans ?_
  refine (p_const rfl).trans ?_
  refine (p_bin rfl).trans ?_
  exact s_iald rfl
theorem r_L_law_835 {d : Nat} {a1 a0 : Nat} {x4 : Int32} {l2 l3 l5 l6 : Option Value} {h : AH} : R_L_law d 835 [some (.ref a0), some (.ref a1), l2, l3, some (.int (x4)), l5, l6] [] h = (hai h 0 a0 (x4 + (nI 1))).bind fun v => R_L_law d 842 [some (.ref a0), some (.ref a1), l2, l3, some (.int (x4)), l5, l6] [.int v, .ref a1] h := by
  refine (p_aload rfl rfl).trans ?_
  refine (p_aload rfl rfl).trans ?_
  refine (p_iload rfl rfl).trans ?_
  refine (p_const rfl).trans ?_
  refine (p_bin rfl).trans ?_
  exact s_iald rfl
theorem r_L_law_903 {d : Nat} {a1 a0 : Nat} {x4 : Int32} {l2 l3 l5 l6 : Option Value} {h : AH} : R_L_law d 903 [some (.ref a0), some (.ref a1), l2, l3, some (.int (x4)), l5, l6] [] h = (hai h 0 a0 (x4 + (nI 1))).bind fun v => R_L_law d 910 [some (.ref a0), some (.ref a1), l2, l3, some (.int (x4)), l5, l6] [.int v, .ref a1] h := by
  refine (p_aload rfl rfl).trans ?_
  refine (p_aload rfl rfl).trans ?_
  refine (p_iload rfl rfl).trans ?_
  refine (p_const rfl).trans ?_
  refine (p_bin rfl).trans ?_
  exact s_iald rfl
theorem r_L_law_978 {d : Nat} {a1 a0 : Nat} {x4 : Int32} {l2 l3 l5 l6 : Option Value} {h : AH} : R_L_law d 978 [some (.ref a0), some (.ref a1), l2, l3, some (.int (x4)), l5, l6] [] h = (hai h 0 a0 (x4 + (nI 1))).bind fun v => R_L_law d 985 [some (.ref a0), some (.ref a1), l2, l3, some (.int (x4)), l5, l6] [.int v, .ref a1] h := by
  refine (p_aload rfl rfl).trans ?_
  refine (p_aload rfl rfl).trans ?_
  refine (p_iload rfl rfl).trans ?_
  refine (p_const rfl).trans ?_
  refine (p_bin rfl).trans ?_
  exact s_iald rfl
theorem r_L_law_1034 {d : Nat} {a1 a0 : Nat} {x4 : Int32} {l2 l3 l5 l6 : Option Value} {h : AH} : R_L_law d 1034 [some (.ref a0), some (.ref a1), l2, l3, some (.int (x4)), l5, l6] [] h = (hai h 0 a0 (x4 + (nI 1))).bind fun v => R_L_law d 1041 [some (.ref a0), some (.ref a1), l2, l3, some (.int (x4)), l5, l6] [.int v, .ref a1] h := by
  refine (p_aload rfl rfl).trans ?_
  refine (p_aload rfl rfl).trans ?_
  refine (p_iload rfl rfl).trans ?_
  refine (p_const rfl).trans ?_
  refine (p_bin rfl).trans ?_
  exact s_iald rfl
theorem r_L_law_1090 {d : Nat} {a1 a0 : Nat} {x4 : Int32} {l2 l3 l5 l6 : Option Value} {h : AH} : R_L_law d 1090 [some (.ref a0), some (.ref a1), l2, l3, some (.int (x4)), l5, l6] [] h = (hai h 0 a0 (x4 + (nI 1))).bind fun v => R_L_law d 1097 [some (.ref a0), some (.ref a1), l2, l3, some (.int (x4)), l5, l6] [.int v, .ref a1] h := by
  refine (p_aload rfl rfl).trans ?_
  refine (p_aload rfl rfl).trans ?_
  refine (p_iload rfl rfl).trans ?_
  refine (p_const rfl).trans ?_
  refine (p_bin rfl).trans ?_
  exact s_iald rfl
theorem r_L_law_1158 {d : Nat} {a1 a0 : Nat} {x4 : Int32} {l2 l3 l5 l6 : Option Value} {h : AH} : R_L_law d 1158 [some (.ref a0), some (.ref a1), l2, l3, some (.int (x4)), l5, l6] [] h = (hai h 0 a0 (x4 + (nI 1))).bind fun v => R_L_law d 1165 [some (.ref a0), some (.ref a1), l2, l3, some (.int (x4)), l5, l6] [.int v, .ref a1] h := by
  refine (p_aload rfl rfl).trans ?_
  refine (p_aload rfl rfl).trans ?_
  refine (p_iload rfl rfl).trans ?_
  refine (p_const rfl).trans ?_
  refine (p_bin rfl).trans ?_
  exact s_iald rfl
theorem r_L_law_1238 {d : Nat} {a1 a0 : Nat} {x4 : Int32} {l2 l3 l5 l6 : Option Value} {h : AH} : R_L_law d 1238 [some (.ref a0), some (.ref a1), l2, l3, some (.int (x4)), l5, l6] [] h = (hai h 0 a0 (x4 + (nI 1))).bind fun v => R_L_law d 1245 [some (.ref a0), some (.ref a1), l2, l3, some (.int (x4)), l5, l6] [.int v, .ref a1] h := by
  refine (p_aload rfl rfl).trans ?_
  refine (p_aload rfl rfl).trans ?_
  refine (p_iload rfl rfl).trans ?_
  refine (p_const rfl).trans ?_
  refine (p_bin rfl).trans ?_
  exact s_iald rfl
theorem r_L_law_1301 {d : Nat} {a1 a0 : Nat} {x4 : Int32} {l2 l3 l5 l6 : Option Value} {h : AH} : R_L_law d 1301 [some (.ref a0), some (.ref a1), l2, l3, some (.int (x4)), l5, l6] [] h = (hai h 0 a0 (x4 + (nI 1))).bind fun v => R_L_law d 1308 [some (.ref a0), some (.ref a1), l2, l3, some (.int (x4)), l5, l6] [.int v, .ref a1] h := by
  refine (p_aload rfl rfl).trans ?_
  refine (p_aload rfl rfl).trans ?_
  refine (p_iload rfl rfl).trans ?_
  refine (p_const rfl).trans ?_
  refine (p_bin rfl).trans ?_
  exact s_iald rfl
theorem r_L_law_1357 {d : Nat} {a1 a0 : Nat} {x4 : Int32} {l2 l3 l5 l6 : Option Value} {h : AH} : R_L_law d 1357 [some (.ref a0), some (.ref a1), l2, l3, some (.int (x4)), l5, l6] [] h = (hai h 0 a0 (x4 + (nI 1))).bind fun v => R_L_law d 1364 [some (.ref a0), some (.ref a1), l2, l3, some (.int (x4)), l5, l6] [.int v, .ref a1] h := by
  refine (p_aload rfl rfl).trans ?_
  refine (p_aload rfl rfl).trans ?_
  refine (p_iload rfl rfl).trans ?_
  refine (p_const rfl).trans ?_
  refine (p_bin rfl).trans ?_
  exact s_iald rfl
theorem r_L_law_1382 {d : Nat} {a1 a0 : Nat} {x4 : Int32} {l2 l3 l5 l6 : Option Value} {h : AH} : R_L_law d 1382 [some (.ref a0), some (.ref a1), l2, l3, some (.int (x4)), l5, l6] [] h = (hai h 0 a0 (x4 + (nI 1))).bind fun v => R_L_law d 1389 [some (.ref a0), some (.ref a1), l2, l3, some (.int (x4)), l5, l6] [.int v, .ref a1] h := by
  refine (p_aload rfl rfl).trans ?_
  refine (p_aload rfl rfl).trans ?_
  refine (p_iload rfl rfl).trans ?_
  refine (p_const rfl).trans ?_
  refine (p_bin rfl).trans ?_
  exact s_iald rfl
theorem r_L_law_1407 {d : Nat} {a1 : Nat} {l0 l2 l3 l4 l5 l6 : Option Value} {h : AH} : R_L_law d 1407 [l0, some (.ref a1), l2, l3, l4, l5, l6] [] h = ((hci h a1).bind (lkN [(0, 32)])).bind fun y => aK (exec tTab d y [.ref a1] h) (fun v h1 => R_L_law d 1411 [l0, some (.ref a1), l2, l3, l4, l5, l6] (v.toList ++ []) h1) (fun E h1 => some (.inr E, h1)) := by
  refine (p_aload rfl rfl).trans ?_
  exact s_callV (L := [(0, 32)]) (n := 0) (b := a1) (rest := []) rfl rfl rfl
theorem r_L_law_1420 {d : Nat} {a1 a0 : Nat} {x4 : Int32} {l2 l3 l5 l6 : Option Value} {h : AH} : R_L_law d 1420 [some (.ref a0), some (.ref a1), l2, l3, some (.int (x4)), l5, l6] [] h = (hai h 0 a0 (x4 + (nI 1))).bind fun v => R_L_law d 1427 [some (.ref a0), some (.ref a1), l2, l3, some (.int (x4)), l5, l6] [.int v, .ref a1] h := by
  refine (p_aload rfl rfl).trans ?_
  refine (p_aload rfl rfl).trans ?_
  refine (p_iload rfl rfl).trans ?_
  refine (p_const rfl).trans ?_
  refine (p_bin rfl).trans ?_
  exact s_iald rfl
theorem r_L_law_1445 {d : Nat} {a1 a0 : Nat} {x4 : Int32} {l2 l3 l5 l6 : Option Value} {h : AH} : R_L_law d 1445 [some (.ref a0), some (.ref a1), l2, l3, some (.int (x4)), l5, l6] [] h = (hai h 0 a0 (x4 + (nI 1))).bind fun v => R_L_law d 1452 [some (.ref a0), some (.ref a1), l2, l3, some (.int (x4)), l5, l6] [.int v, .ref a1] h := by
  refine (p_aload rfl rfl).trans ?_
  refine (p_aload rfl rfl).trans ?_
  refine (p_iload rfl rfl).trans ?_
  refine (p_const rfl).trans ?_
  refine (p_bin rfl).trans ?_
  exact s_iald rfl
theorem r_L_law_1513 {d : Nat} {a1 a0 : Nat} {x4 : Int32} {l2 l3 l5 l6 : Option Value} {h : AH} : R_L_law d 1513 [some (.ref a0), some (.ref a1), l2, l3, some (.int (x4)), l5, l6] [] h = (hai h 0 a0 (x4 + (nI 1))).bind fun v => R_L_law d 1520 [some (.ref a0), some (.ref a1), l2, l3, some (.int (x4)), l5, l6] [.int v, .ref a1] h := by
  refine (p_aload rfl rfl).trans ?_
  refine (p_aload rfl rfl).trans ?_
  refine (p_iload rfl rfl).trans ?_
  refine (p_const rfl).trans ?_
  refine (p_bin rfl).trans ?_
  exact s_iald rfl
theorem r_L_law_1581 {d : Nat} {a1 a0 : Nat} {x4 : Int32} {l2 l3 l5 l6 : Option Value} {h : AH} : R_L_law d 1581 [some (.ref a0), some (.ref a1), l2, l3, some (.int (x4)), l5, l6] [] h = (hai h 0 a0 (x4 + (nI 1))).bind fun v => R_L_law d 1588 [some (.ref a0), some (.ref a1), l2, l3, some (.int (x4)), l5, l6] [.int v, .ref a1] h := by
  refine (p_aload rfl rfl).trans ?_
  refine (p_aload rfl rfl).trans ?_
  refine (p_iload rfl rfl).trans ?_
  refine (p_const rfl).trans ?_
  refine (p_bin rfl).trans ?_
  exact s_iald rfl
theorem r_L_law_1649 {d : Nat} {a1 a0 : Nat} {x4 : Int32} {l2 l3 l5 l6 : Option Value} {h : AH} : R_L_law d 1649 [some (.ref a0), some (.ref a1), l2, l3, some (.int (x4)), l5, l6] [] h = (hai h 0 a0 (x4 + (nI 1))).bind fun v => R_L_law d 1656 [some (.ref a0), some (.ref a1), l2, l3, some (.int (x4)), l5, l6] [.int v, .ref a1] h := by
  refine (p_aload rfl rfl).trans ?_
  refine (p_aload rfl rfl).trans ?_
  refine (p_iload rfl rfl).trans ?_
  refine (p_const rfl).trans ?_
  refine (p_bin rfl).trans ?_
  exact s_iald rfl
theorem r_L_law_1741 {d : Nat} {a1 a3 : Nat} {l0 l2 l4 l5 l6 : Option Value} {h : AH} : R_L_law d 1741 [l0, some (.ref a1), l2, some (.ref a3), l4, l5, l6] [] h = aK (exec tTab d 20 [.ref a1, .ref a3] h) (fun v h1 => R_L_law d 1746 [l0, some (.ref a1), l2, some (.ref a3), l4, l5, l6] (v.toList ++ []) h1) (fun E h1 => some (.inr E, h1)) := by
  refine (p_aload rfl rfl).trans ?_
  refine (p_aload rfl rfl).trans ?_
  exact s_callS (y := 20) (n := 2) rfl rfl
theorem r_L_law_1785 {d : Nat} {a1 a0 : Nat} {x4 : Int32} {l2 l3 l5 l6 : Option Value} {h : AH} : R_L_law d 1785 [some (.ref a0), some (.ref a1), l2, l3, some (.int (x4)), l5, l6] [] h = (hai h 0 a0 (x4 + (nI 1))).bind fun v => R_L_law d 1792 [some (.ref a0), some (.ref a1), l2, l3, some (.int (x4)), l5, l6] [.int v, .ref a1] h := by
  refine (p_aload rfl rfl).trans ?_
  refine (p_aload rfl rfl).trans ?_
  refine (p_iload rfl rfl).trans ?_
  refine (p_const rfl).trans ?_
  refine (p_bin rfl).trans ?_
  exact s_iald rfl
theorem r_L_law_1841 {d : Nat} {a1 a0 : Nat} {x4 : Int32} {l2 l3 l5 l6 : Option Value} {h : AH} : R_L_law d 1841 [some (.ref a0), some (.ref a1), l2, l3, some (.int (x4)), l5, l6] [] h = (hai h 0 a0 (x4 + (nI 1))).bind fun v => R_L_law d 1848 [some (.ref a0), some (.ref a1), l2, l3, some (.int (x4)), l5, l6] [.int v, .ref a1] h := by
  refine (p_aload rfl rfl).trans ?_
  refine (p_aload rfl rfl).trans ?_
  refine (p_iload rfl rfl).trans ?_
  refine (p_const rfl).trans ?_
  refine (p_bin rfl).trans ?_
  exact s_iald rfl
theorem r_L_law_1909 {d : Nat} {a1 a0 : Nat} {x4 : Int32} {l2 l3 l5 l6 : Option Value} {h : AH} : R_L_law d 1909 [some (.ref a0), some (.ref a1), l2, l3, some (.int (x4)), l5, l6] [] h = (hai h 0 a0 (x4 + (nI 1))).bind fun v => R_L_law d 1916 [some (.ref a0), some (.ref a1), l2, l3, some (.int (x4)), l5, l6] [.int v, .ref a1] h := by
  refine (p_aload rfl rfl).trans ?_
  refine (p_aload rfl rfl).trans ?_
  refine (p_iload rfl rfl).trans ?_
  refine (p_const rfl).trans ?_
  refine (p_bin rfl).trans ?_
  exact s_iald rfl
theorem r_L_law_1965 {d : Nat} {a1 a0 : Nat} {x4 : Int32} {l2 l3 l5 l6 : Option Value} {h : AH} : R_L_law d 1965 [some (.ref a0), some (.ref a1), l2, l3, some (.int (x4)), l5, l6] [] h = (hai h 0 a0 (x4 + (nI 1))).bind fun v => R_L_law d 1972 [some (.ref a0), some (.ref a1), l2, l3, some (.int (x4)), l5, l6] [.int v, .ref a1] h := by
  refine (p_aload rfl rfl).trans ?_
  refine (p_aload rfl rfl).trans ?_
  refine (p_iload rfl rfl).trans ?_
  refine (p_const rfl).trans ?_
  refine (p_bin rfl).trans ?_
  exact s_iald rfl
theorem r_L_law_2021 {d : Nat} {a1 a0 : Nat} {x4 : Int32} {l2 l3 l5 l6 : Option Value} {h : AH} : R_L_law d 2021 [some (.ref a0), some (.ref a1), l2, l3, some (.int (x4)), l5, l6] [] h = (hai h 0 a0 (x4 + (nI 1))).bind fun v => R_L_law d 2028 [some (.ref a0), some (.ref a1), l2, l3, some (.int (x4)), l5, l6] [.int v, .ref a1] h := by
  refine (p_aload rfl rfl).trans ?_
  refine (p_aload rfl rfl).trans ?_
  refine (p_iload rfl rfl).trans ?_
  refine (p_const rfl).trans ?_
  refine (p_bin rfl).trans ?_
  exact s_iald rfl
theorem r_L_law_2101 {d : Nat} {a1 : Nat} {l0 l2 l3 l4 l5 l6 : Option Value} {h : AH} : R_L_law d 2101 [l0, some (.ref a1), l2, l3, l4, l5, l6] [] h = ((hci h a1).bind (lkN [(0, 34)])).bind fun y => aK (exec tTab d y [.ref a1] h) (fun v h1 => R_L_law d 2105 [l0, some (.ref a1), l2, l3, l4, l5, l6] (v.toList ++ []) h1) (fun E h1 => some (.inr E, h1)) := by
  refine (p_aload rfl rfl).trans ?_
  exact s_callV (L := [(0, 34)]) (n := 0) (b := a1) (rest := []) rfl rfl rfl
theorem r_L_law_2112 {d : Nat} {a1 : Nat} {l0 l2 l3 l4 l5 l6 : Option Value} {h : AH} : R_L_law d 2112 [l0, some (.ref a1), l2, l3, l4, l5, l6] [] h = ((hci h a1).bind (lkN [(0, 35)])).bind fun y => aK (exec tTab d y [.ref a1] h) (fun v h1 => R_L_law d 2116 [l0, some (.ref a1), l2, l3, l4, l5, l6] (v.toList ++ []) h1) (fun E h1 => some (.inr E, h1)) := by
  refine (p_aload rfl rfl).trans ?_
  exact s_callV (L := [(0, 35)]) (n := 0) (b := a1) (rest := []) rfl rfl rfl
theorem r_L_law_2125 {d : Nat} {a1 a0 : Nat} {x4 : Int32} {l2 l3 l5 l6 : Option Value} {h : AH} : R_L_law d 2125 [some (.ref a0), some (.ref a1), l2, l3, some (.int (x4)), l5, l6] [] h = (hai h 0 a0 (x4 + (nI 1))).bind fun v => R_L_law d 2132 [some (.ref a0), some (.ref a1), l2, l3, some (.int (x4)), l5, l6] [.int v, .ref a1] h := by
  refine (p_aload rfl rfl).trans ?_
  refine (p_aload rfl rfl).trans ?_
  refine (p_iload rfl rfl).trans ?_
  refine (p_const rfl).trans ?_
  refine (p_bin rfl).trans ?_
  exact s_iald rfl
theorem r_L_law_2150 {d : Nat} {x4 : Int32} {l0 l1 l2 l3 l5 l6 : Option Value} {h : AH} : R_L_law d 2150 [l0, l1, l2, l3, some (.int (x4)), l5, l6] [] h = R_L_law d 23 [l0, l1, l2, l3, some (.int (x4 + (nI 6))), l5, l6] [] h := by
  refine (p_iinc rfl rfl rfl).trans ?_
  refine (p_goto rfl).trans ?_
  exact rfl
theorem r_L_law_207 {d : Nat} {b0 a0 : Nat} {s1 x4 : Int32} {l1 l2 l3 l5 l6 : Option Value} {h : AH} : R_L_law d 207 [some (.ref a0), l1, l2, l3, some (.int (x4)), l5, l6] [.int (s1), .ref b0] h = (hai h 0 a0 (x4 + (nI 2))).bind fun v => R_L_law d 213 [some (.ref a0), l1, l2, l3, some (.int (x4)), l5, l6] [.int v, .int (s1), .ref b0] h := by
  refine (p_aload rfl rfl).trans ?_
  refine (p_iload rfl rfl).trans ?_
  refine (p_const rfl).trans ?_
  refine (p_bin rfl).trans ?_
  exact s_iald rfl
theorem r_L_law_280 {d : Nat} {b0 : Nat} {s1 : Int32} {l0 l1 l2 l3 l4 l5 l6 : Option Value} {h : AH} : R_L_law d 280 [l0, l1, l2, l3, l4, l5, l6] [.int (s1), .ref b0] h = ((hci h b0).bind (lkN [(0, 28)])).bind fun y => aK (exec tTab d y [.ref b0, .int (s1)] h) (fun v h1 => R_L_law d 283 [l0, l1, l2, l3, l4, l5, l6] (v.toList ++ []) h1) (fun E h1 => some (.inr E, h1)) := s_callV (L := [(0, 28)]) (n := 1) (b := b0) (rest := []) rfl rfl rfl
theorem r_L_law_303 {d : Nat} {s0 : Int32} {a2 : Nat} {l0 l1 l3 l4 l5 l6 : Option Value} {h : AH} : R_L_law d 303 [l0, l1, some (.ref a2), l3, l4, l5, l6] [.int (s0)] h = ((hci h a2).bind (lkN [(18, 154)])).bind fun y => aK (exec tTab d y [.ref a2] h) (fun v h1 => R_L_law d 309 [l0, l1, some (.ref a2), l3, l4, some (.int (s0)), l6] (v.toList ++ []) h1) (fun E h1 => some (.inr E, h1)) := by
  refine (p_istore rfl rfl rfl).trans ?_
  refine (p_aload rfl rfl).trans ?_
  exact s_callV (L := [(18, 154)]) (n := 0) (b := a2) (rest := []) rfl rfl rfl
theorem r_L_law_347 {d : Nat} {s0 : Int32} {a2 : Nat} {l0 l1 l3 l4 l5 l6 : Option Value} {h : AH} : R_L_law d 347 [l0, l1, some (.ref a2), l3, l4, l5, l6] [.int (s0)] h = ((hci h a2).bind (lkN [(18, 185)])).bind fun y => aK (exec tTab d y [.ref a2] h) (fun v h1 => R_L_law d 353 [l0, l1, some (.ref a2), l3, l4, some (.int (s0)), l6] (v.toList ++ []) h1) (fun E h1 => some (.inr E, h1)) := by
  refine (p_istore rfl rfl rfl).trans ?_
  refine (p_aload rfl rfl).trans ?_
  exact s_callV (L := [(18, 185)]) (n := 0) (b := a2) (rest := []) rfl rfl rfl
theorem r_L_law_390 {d : Nat} {s0 : Int32} {a2 : Nat} {l0 l1 l3 l4 l5 l6 : Option Value} {h : AH} : R_L_law d 390 [l0, l1, some (.ref a2), l3, l4, l5, l6] [.int (s0)] h = ((hci h a2).bind (lkN [(18, 186)])).bind fun y => aK (exec tTab d y [.ref a2] h) (fun v h1 => R_L_law d 394 [l0, l1, some (.ref a2), l3, l4, l5, l6] (v.toList ++ [.int (s0)]) h1) (fun E h1 => some (.inr E, h1)) := by
  refine (p_aload rfl rfl).trans ?_
  exact s_callV (L := [(18, 186)]) (n := 0) (b := a2) (rest := [.int (s0)]) rfl rfl rfl
theorem r_L_law_406 {d : Nat} {b0 a0 : Nat} {s1 x4 : Int32} {l1 l2 l3 l5 l6 : Option Value} {h : AH} : R_L_law d 406 [some (.ref a0), l1, l2, l3, some (.int (x4)), l5, l6] [.int (s1), .ref b0] h = (hai h 0 a0 (x4 + (nI 2))).bind fun v => R_L_law d 412 [some (.ref a0), l1, l2, l3, some (.int (x4)), l5, l6] [.int v, .int (s1), .ref b0] h := by
  refine (p_aload rfl rfl).trans ?_
  refine (p_iload rfl rfl).trans ?_
  refine (p_const rfl).trans ?_
  refine (p_bin rfl).trans ?_
  exact s_iald rfl
theorem r_L_law_474 {d : Nat} {b0 a0 : Nat} {s1 x4 : Int32} {l1 l2 l3 l5 l6 : Option Value} {h : AH} : R_L_law d 474 [some (.ref a0), l1, l2, l3, some (.int (x4)), l5, l6] [.int (s1), .ref b0] h = (hai h 0 a0 (x4 + (nI 2))).bind fun v => R_L_law d 480 [some (.ref a0), l1, l2, l3, some (.int (x4)), l5, l6] [.int v, .int (s1), .ref b0] h := by
  refine (p_aload rfl rfl).trans ?_
  refine (p_iload rfl rfl).trans ?_
  refine (p_const rfl).trans ?_
  refine (p_bin rfl).trans ?_
  exact s_iald rfl
theorem r_L_law_594 {d : Nat} {b0 a0 : Nat} {s1 x4 : Int32} {l1 l2 l3 l5 l6 : Option Value} {h : AH} : R_L_law d 594 [some (.ref a0), l1, l2, l3, some (.int (x4)), l5, l6] [.int (s1), .ref b0] h = (hai h 0 a0 (x4 + (nI 2))).bind fun v => R_L_law d 600 [some (.ref a0), l1, l2, l3, some (.int (x4)), l5, l6] [.int v, .int (s1), .ref b0] h := by
  refine (p_aload rfl rfl).trans ?_
  refine (p_iload rfl rfl).trans ?_
  refine (p_const rfl).trans ?_
  refine (p_bin rfl).trans ?_
  exact s_iald rfl
theorem r_L_law_662 {d : Nat} {b0 a3 : Nat} {s1 : Int32} {l0 l1 l2 l4 l5 l6 : Option Value} {h : AH} : R_L_law d 662 [l0, l1, l2, some (.ref a3), l4, l5, l6] [.int (s1), .ref b0] h = aK (exec tTab d 5 [.ref b0, .int (s1), .ref a3] h) (fun v h1 => R_L_law d 666 [l0, l1, l2, some (.ref a3), l4, l5, l6] (v.toList ++ []) h1) (fun E h1 => some (.inr E, h1)) := by
  refine (p_aload rfl rfl).trans ?_
  exact s_callS (y := 5) (n := 3) rfl rfl
theorem r_L_law_718 {d : Nat} {b0 a3 : Nat} {s1 : Int32} {l0 l1 l2 l4 l5 l6 : Option Value} {h : AH} : R_L_law d 718 [l0, l1, l2, some (.ref a3), l4, l5, l6] [.int (s1), .ref b0] h = aK (exec tTab d 6 [.ref b0, .int (s1), .ref a3] h) (fun v h1 => R_L_law d 722 [l0, l1, l2, some (.ref a3), l4, l5, l6] (v.toList ++ []) h1) (fun E h1 => some (.inr E, h1)) := by
  refine (p_aload rfl rfl).trans ?_
  exact s_callS (y := 6) (n := 3) rfl rfl
theorem r_L_law_774 {d : Nat} {b0 a0 : Nat} {s1 x4 : Int32} {l1 l2 l3 l5 l6 : Option Value} {h : AH} : R_L_law d 774 [some (.ref a0), l1, l2, l3, some (.int (x4)), l5, l6] [.int (s1), .ref b0] h = (hai h 0 a0 (x4 + (nI 2))).bind fun v => R_L_law d 780 [some (.ref a0), l1, l2, l3, some (.int (x4)), l5, l6] [.int v, .int (s1), .ref b0] h := by
  refine (p_aload rfl rfl).trans ?_
  refine (p_iload rfl rfl).trans ?_
  refine (p_const rfl).trans ?_
  refine (p_bin rfl).trans ?_
  exact s_iald rfl
theorem r_L_law_842 {d : Nat} {b0 a0 : Nat} {s1 x4 : Int32} {l1 l2 l3 l5 l6 : Option Value} {h : AH} : R_L_law d 842 [some (.ref a0), l1, l2, l3, some (.int (x4)), l5, l6] [.int (s1), .ref b0] h = (hai h 0 a0 (x4 + (nI 2))).bind fun v => R_L_law d 848 [some (.ref a0), l1, l2, l3, some (.int (x4)), l5, l6] [.int v, .int (s1), .ref b0] h := by
  refine (p_aload rfl rfl).trans ?_
  refine (p_iload rfl rfl).trans ?_
  refine (p_const rfl).trans ?_
  refine (p_bin rfl).trans ?_
  exact s_iald rfl
theorem r_L_law_910 {d : Nat} {b0 a0 : Nat} {s1 x4 : Int32} {l1 l2 l3 l5 l6 : Option Value} {h : AH} : R_L_law d 910 [some (.ref a0), l1, l2, l3, some (.int (x4)), l5, l6] [.int (s1), .ref b0] h = (hai h 0 a0 (x4 + (nI 2))).bind fun v => R_L_law d 916 [some (.ref a0), l1, l2, l3, some (.int (x4)), l5, l6] [.int v, .int (s1), .ref b0] h := by
  refine (p_aload rfl rfl).trans ?_
  refine (p_iload rfl rfl).trans ?_
  refine (p_const rfl).trans ?_
  refine (p_bin rfl).trans ?_
  exact s_iald rfl
theorem r_L_law_985 {d : Nat} {b0 a3 : Nat} {s1 : Int32} {l0 l1 l2 l4 l5 l6 : Option Value} {h : AH} : R_L_law d 985 [l0, l1, l2, some (.ref a3), l4, l5, l6] [.int (s1), .ref b0] h = aK (exec tTab d 10 [.ref b0, .int (s1), .ref a3] h) (fun v h1 => R_L_law d 989 [l0, l1, l2, some (.ref a3), l4, l5, l6] (v.toList ++ []) h1) (fun E h1 => some (.inr E, h1)) := by
  refine (p_aload rfl rfl).trans ?_
  exact s_callS (y := 10) (n := 3) rfl rfl
theorem r_L_law_1041 {d : Nat} {b0 a3 : Nat} {s1 : Int32} {l0 l1 l2 l4 l5 l6 : Option Value} {h : AH} : R_L_law d 1041 [l0, l1, l2, some (.ref a3), l4, l5, l6] [.int (s1), .ref b0] h = aK (exec tTab d 11 [.ref b0, .int (s1), .ref a3] h) (fun v h1 => R_L_law d 1045 [l0, l1, l2, some (.ref a3), l4, l5, l6] (v.toList ++ []) h1) (fun E h1 => some (.inr E, h1)) := by
  refine (p_aload rfl rfl).trans ?_
  exact s_callS (y := 11) (n := 3) rfl rfl
theorem r_L_law_1097 {d : Nat} {b0 a0 : Nat} {s1 x4 : Int32} {l1 l2 l3 l5 l6 : Option Value} {h : AH} : R_L_law d 1097 [some (.ref a0), l1, l2, l3, some (.int (x4)), l5, l6] [.int (s1), .ref b0] h = (hai h 0 a0 (x4 + (nI 2))).bind fun v => R_L_law d 1103 [some (.ref a0), l1, l2, l3, some (.int (x4)), l5, l6] [.int v, .int (s1), .ref b0] h := by
  refine (p_aload rfl rfl).trans ?_
  refine (p_iload rfl rfl).trans ?_
  refine (p_const rfl).trans ?_
  refine (p_bin rfl).trans ?_
  exact s_iald rfl
theorem r_L_law_1165 {d : Nat} {b0 a0 : Nat} {s1 x4 : Int32} {l1 l2 l3 l5 l6 : Option Value} {h : AH} : R_L_law d 1165 [some (.ref a0), l1, l2, l3, some (.int (x4)), l5, l6] [.int (s1), .ref b0] h = (hai h 0 a0 (x4 + (nI 2))).bind fun v => R_L_law d 1171 [some (.ref a0), l1, l2, l3, some (.int (x4)), l5, l6] [.int v, .int (s1), .ref b0] h := by
  refine (p_aload rfl rfl).trans ?_
  refine (p_iload rfl rfl).trans ?_
  refine (p_const rfl).trans ?_
  refine (p_bin rfl).trans ?_
  exact s_iald rfl
theorem r_L_law_1245 {d : Nat} {b0 a3 : Nat} {s1 : Int32} {l0 l1 l2 l4 l5 l6 : Option Value} {h : AH} : R_L_law d 1245 [l0, l1, l2, some (.ref a3), l4, l5, l6] [.int (s1), .ref b0] h = aK (exec tTab d 14 [.ref b0, .int (s1), .ref a3] h) (fun v h1 => R_L_law d 1249 [l0, l1, l2, some (.ref a3), l4, l5, l6] (v.toList ++ []) h1) (fun E h1 => some (.inr E, h1)) := by
  refine (p_aload rfl rfl).trans ?_
  exact s_callS (y := 14) (n := 3) rfl rfl
theorem r_L_law_1308 {d : Nat} {b0 a3 : Nat} {s1 : Int32} {l0 l1 l2 l4 l5 l6 : Option Value} {h : AH} : R_L_law d 1308 [l0, l1, l2, some (.ref a3), l4, l5, l6] [.int (s1), .ref b0] h = aK (exec tTab d 15 [.ref b0, .int (s1), .ref a3] h) (fun v h1 => R_L_law d 1312 [l0, l1, l2, some (.ref a3), l4, l5, l6] (v.toList ++ []) h1) (fun E h1 => some (.inr E, h1)) := by
  refine (p_aload rfl rfl).trans ?_
  exact s_callS (y := 15) (n := 3) rfl rfl
theorem r_L_law_1364 {d : Nat} {b0 : Nat} {s1 : Int32} {l0 l1 l2 l3 l4 l5 l6 : Option Value} {h : AH} : R_L_law d 1364 [l0, l1, l2, l3, l4, l5, l6] [.int (s1), .ref b0] h = ((hci h b0).bind (lkN [(0, 30)])).bind fun y => aK (exec tTab d y [.ref b0, .int (s1)] h) (fun v h1 => R_L_law d 1367 [l0, l1, l2, l3, l4, l5, l6] (v.toList ++ []) h1) (fun E h1 => some (.inr E, h1)) := s_callV (L := [(0, 30)]) (n := 1) (b := b0) (rest := []) rfl rfl rfl
theorem r_L_law_1389 {d : Nat} {b0 : Nat} {s1 : Int32} {l0 l1 l2 l3 l4 l5 l6 : Option Value} {h : AH} : R_L_law d 1389 [l0, l1, l2, l3, l4, l5, l6] [.int (s1), .ref b0] h = ((hci h b0).bind (lkN [(0, 31)])).bind fun y => aK (exec tTab d y [.ref b0, .int (s1)] h) (fun v h1 => R_L_law d 1392 [l0, l1, l2, l3, l4, l5, l6] (v.toList ++ []) h1) (fun E h1 => some (.inr E, h1)) := s_callV (L := [(0, 31)]) (n := 1) (b := b0) (rest := []) rfl rfl rfl
theorem r_L_law_1411 {d : Nat} {s0 : Int32} {a2 : Nat} {l0 l1 l3 l4 l5 l6 : Option Value} {h : AH} : R_L_law d 1411 [l0, l1, some (.ref a2), l3, l4, l5, l6] [.int (s0)] h = ((hci h a2).bind (lkN [(18, 214)])).bind fun y => aK (exec tTab d y [.ref a2] h) (fun v h1 => R_L_law d 1415 [l0, l1, some (.ref a2), l3, l4, l5, l6] (v.toList ++ [.int (s0)]) h1) (fun E h1 => some (.inr E, h1)) := by
  refine (p_aload rfl rfl).trans ?_
  exact s_callV (L := [(18, 214)]) (n := 0) (b := a2) (rest := [.int (s0)]) rfl rfl rfl
theorem r_L_law_1427 {d : Nat} {b0 : Nat} {s1 : Int32} {l0 l1 l2 l3 l4 l5 l6 : Option Value} {h : AH} : R_L_law d 1427 [l0, l1, l2, l3, l4, l5, l6] [.int (s1), .ref b0] h = ((hci h b0).bind (lkN [(0, 33)])).bind fun y => aK (exec tTab d y [.ref b0, .int (s1)] h) (fun v h1 => R_L_law d 1430 [l0, l1, l2, l3, l4, l5, l6] (v.toList ++ []) h1) (fun E h1 => some (.inr E, h1)) := s_callV (L := [(0, 33)]) (n := 1) (b := b0) (rest := []) rfl rfl rfl
theorem r_L_law_1452 {d : Nat} {b0 a0 : Nat} {s1 x4 : Int32} {l1 l2 l3 l5 l6 : Option Value} {h : AH} : R_L_law d 1452 [some (.ref a0), l1, l2, l3, some (.int (x4)), l5, l6] [.int (s1), .ref b0] h = (hai h 0 a0 (x4 + (nI 2))).bind fun v => R_L_law d 1458 [some (.ref a0), l1, l2, l3, some (.int (x4)), l5, l6] [.int v, .int (s1), .ref b0] h := by
  refine (p_aload rfl rfl).trans ?_
  refine (p_iload rfl rfl).trans ?_
  refine (p_const rfl).trans ?_
  refine (p_bin rfl).trans ?_
  exact s_iald rfl
theorem r_L_law_1520 {d : Nat} {b0 a0 : Nat} {s1 x4 : Int32} {l1 l2 l3 l5 l6 : Option Value} {h : AH} : R_L_law d 1520 [some (.ref a0), l1, l2, l3, some (.int (x4)), l5, l6] [.int (s1), .ref b0] h = (hai h 0 a0 (x4 + (nI 2))).bind fun v => R_L_law d 1526 [some (.ref a0), l1, l2, l3, some (.int (x4)), l5, l6] [.int v, .int (s1), .ref b0] h := by
  refine (p_aload rfl rfl).trans ?_
  refine (p_iload rfl rfl).trans ?_
  refine (p_const rfl).trans ?_
  refine (p_bin rfl).trans ?_
  exact s_iald rfl
theorem r_L_law_1588 {d : Nat} {b0 a0 : Nat} {s1 x4 : Int32} {l1 l2 l3 l5 l6 : Option Value} {h : AH} : R_L_law d 1588 [some (.ref a0), l1, l2, l3, some (.int (x4)), l5, l6] [.int (s1), .ref b0] h = (hai h 0 a0 (x4 + (nI 2))).bind fun v => R_L_law d 1594 [some (.ref a0), l1, l2, l3, some (.int (x4)), l5, l6] [.int v, .int (s1), .ref b0] h := by
  refine (p_aload rfl rfl).trans ?_
  refine (p_iload rfl rfl).trans ?_
  refine (p_const rfl).trans ?_
  refine (p_bin rfl).trans ?_
  exact s_iald rfl
theorem r_L_law_1656 {d : Nat} {b0 a0 : Nat} {s1 x4 : Int32} {l1 l2 l3 l5 l6 : Option Value} {h : AH} : R_L_law d 1656 [some (.ref a0), l1, l2, l3, some (.int (x4)), l5, l6] [.int (s1), .ref b0] h = (hai h 0 a0 (x4 + (nI 2))).bind fun v => R_L_law d 1662 [some (.ref a0), l1, l2, l3, some (.int (x4)), l5, l6] [.int v, .int (s1), .ref b0] h := by
  refine (p_aload rfl rfl).trans ?_
  refine (p_iload rfl rfl).trans ?_
  refine (p_const rfl).trans ?_
  refine (p_bin rfl).trans ?_
  exact s_iald rfl
theorem r_L_law_1746 {d : Nat} {s0 : Int32} {a2 : Nat} {l0 l1 l3 l4 l5 l6 : Option Value} {h : AH} : R_L_law d 1746 [l0, l1, some (.ref a2), l3, l4, l5, l6] [.int (s0)] h = ((hci h a2).bind (lkN [(18, 226)])).bind fun y => aK (exec tTab d y [.ref a2] h) (fun v h1 => R_L_law d 1752 [l0, l1, some (.ref a2), l3, l4, some (.int (s0)), l6] (v.toList ++ []) h1) (fun E h1 => some (.inr E, h1)) := by
  refine (p_istore rfl rfl rfl).trans ?_
  refine (p_aload rfl rfl).trans ?_
  exact s_callV (L := [(18, 226)]) (n := 0) (b := a2) (rest := []) rfl rfl rfl
theorem r_L_law_1792 {d : Nat} {b0 a3 : Nat} {s1 : Int32} {l0 l1 l2 l4 l5 l6 : Option Value} {h : AH} : R_L_law d 1792 [l0, l1, l2, some (.ref a3), l4, l5, l6] [.int (s1), .ref b0] h = aK (exec tTab d 21 [.ref b0, .int (s1), .ref a3] h) (fun v h1 => R_L_law d 1796 [l0, l1, l2, some (.ref a3), l4, l5, l6] (v.toList ++ []) h1) (fun E h1 => some (.inr E, h1)) := by
  refine (p_aload rfl rfl).trans ?_
  exact s_callS (y := 21) (n := 3) rfl rfl
theorem r_L_law_1848 {d : Nat} {b0 a0 : Nat} {s1 x4 : Int32} {l1 l2 l3 l5 l6 : Option Value} {h : AH} : R_L_law d 1848 [some (.ref a0), l1, l2, l3, some (.int (x4)), l5, l6] [.int (s1), .ref b0] h = (hai h 0 a0 (x4 + (nI 2))).bind fun v => R_L_law d 1854 [some (.ref a0), l1, l2, l3, some (.int (x4)), l5, l6] [.int v, .int (s1), .ref b0] h := by
  refine (p_aload rfl rfl).trans ?_
  refine (p_iload rfl rfl).trans ?_
  refine (p_const rfl).trans ?_
  refine (p_bin rfl).trans ?_
  exact s_iald rfl
theorem r_L_law_1916 {d : Nat} {b0 a3 : Nat} {s1 : Int32} {l0 l1 l2 l4 l5 l6 : Option Value} {h : AH} : R_L_law d 1916 [l0, l1, l2, some (.ref a3), l4, l5, l6] [.int (s1), .ref b0] h = aK (exec tTab d 23 [.ref b0, .int (s1), .ref a3] h) (fun v h1 => R_L_law d 1920 [l0, l1, l2, some (.ref a3), l4, l5, l6] (v.toList ++ []) h1) (fun E h1 => some (.inr E, h1)) := by
  refine (p_aload rfl rfl).trans ?_
  exact s_callS (y := 23) (n := 3) rfl rfl
theorem r_L_law_1972 {d : Nat} {b0 a3 : Nat} {s1 : Int32} {l0 l1 l2 l4 l5 l6 : Option Value} {h : AH} : R_L_law d 1972 [l0, l1, l2, some (.ref a3), l4, l5, l6] [.int (s1), .ref b0] h = aK (exec tTab d 24 [.ref b0, .int (s1), .ref a3] h) (fun v h1 => R_L_law d 1976 [l0, l1, l2, some (.ref a3), l4, l5, l6] (v.toList ++ []) h1) (fun E h1 => some (.inr E, h1)) := by
  refine (p_aload rfl rfl).trans ?_
  exact s_callS (y := 24) (n := 3) rfl rfl
theorem r_L_law_2028 {d : Nat} {b0 a0 : Nat} {s1 x4 : Int32} {l1 l2 l3 l5 l6 : Option Value} {h : AH} : R_L_law d 2028 [some (.ref a0), l1, l2, l3, some (.int (x4)), l5, l6] [.int (s1), .ref b0] h = (hai h 0 a0 (x4 + (nI 2))).bind fun v => R_L_law d 2034 [some (.ref a0), l1, l2, l3, some (.int (x4)), l5, l6] [.int v, .int (s1), .ref b0] h := by
  refine (p_aload rfl rfl).trans ?_
  refine (p_iload rfl rfl).trans ?_
  refine (p_const rfl).trans ?_
  refine (p_bin rfl).trans ?_
  exact s_iald rfl
theorem r_L_law_2105 {d : Nat} {a2 : Nat} {l0 l1 l3 l4 l5 l6 : Option Value} {h : AH} : R_L_law d 2105 [l0, l1, some (.ref a2), l3, l4, l5, l6] [] h = ((hci h a2).bind (lkN [(18, 237)])).bind fun y => aK (exec tTab d y [.ref a2] h) (fun v h1 => R_L_law d 2109 [l0, l1, some (.ref a2), l3, l4, l5, l6] (v.toList ++ []) h1) (fun E h1 => some (.inr E, h1)) := by
  refine (p_aload rfl rfl).trans ?_
  exact s_callV (L := [(18, 237)]) (n := 0) (b := a2) (rest := []) rfl rfl rfl
theorem r_L_law_2116 {d : Nat} {s0 : Int32} {a2 : Nat} {l0 l1 l3 l4 l5 l6 : Option Value} {h : AH} : R_L_law d 2116 [l0, l1, some (.ref a2), l3, l4, l5, l6] [.int (s0)] h = ((hci h a2).bind (lkN [(18, 238)])).bind fun y => aK (exec tTab d y [.ref a2] h) (fun v h1 => R_L_law d 2120 [l0, l1, some (.ref a2), l3, l4, l5, l6] (v.toList ++ [.int (s0)]) h1) (fun E h1 => some (.inr E, h1)) := by
  refine (p_aload rfl rfl).trans ?_
  exact s_callV (L := [(18, 238)]) (n := 0) (b := a2) (rest := [.int (s0)]) rfl rfl rfl
theorem r_L_law_2132 {d : Nat} {b0 : Nat} {s1 : Int32} {l0 l1 l2 l3 l4 l5 l6 : Option Value} {h : AH} : R_L_law d 2132 [l0, l1, l2, l3, l4, l5, l6] [.int (s1), .ref b0] h = ((hci h b0).bind (lkN [(0, 36)])).bind fun y => aK (exec tTab d y [.ref b0, .int (s1)] h) (fun v h1 => R_L_law d 2135 [l0, l1, l2, l3, l4, l5, l6] (v.toList ++ []) h1) (fun E h1 => some (.inr E, h1)) := s_callV (L := [(0, 36)]) (n := 1) (b := b0) (rest := []) rfl rfl rfl
theorem r_L_law_213 {d : Nat} {b0 a0 : Nat} {s1 s2 x4 : Int32} {l1 l2 l3 l5 l6 : Option Value} {h : AH} : R_L_law d 213 [some (.ref a0), l1, l2, l3, some (.int (x4)), l5, l6] [.int (s2), .int (s1), .ref b0] h = (hai h 0 a0 (x4 + (nI 3))).bind fun v => R_L_law d 219 [some (.ref a0), l1, l2, l3, some (.int (x4)), l5, l6] [.int v, .int (s2), .int (s1), .ref b0] h := by
  refine (p_aload rfl rfl).trans ?_
  refine (p_iload rfl rfl).trans ?_
  refine (p_const rfl).trans ?_
  refine (p_bin rfl).trans ?_
  exact s_iald rfl
theorem r_L_law_283 {d : Nat} {s0 x4 : Int32} {a2 a0 : Nat} {l1 l3 l5 l6 : Option Value} {h : AH} : R_L_law d 283 [some (.ref a0), l1, some (.ref a2), l3, some (.int (x4)), l5, l6] [.int (s0)] h = (hai h 0 a0 (x4 + (nI 1))).bind fun v => R_L_law d 290 [some (.ref a0), l1, some (.ref a2), l3, some (.int (x4)), l5, l6] [.int v, .ref a2, .int (s0)] h := by
  refine (p_aload rfl rfl).trans ?_
  refine (p_aload rfl rfl).trans ?_
  refine (p_iload rfl rfl).trans ?_
  refine (p_const rfl).trans ?_
  refine (p_bin rfl).trans ?_
  exact s_iald rfl
theorem r_L_law_309 {d : Nat} {s0 : Int32} {a2 : Nat} {l0 l1 l3 l4 l5 l6 : Option Value} {h : AH} : R_L_law d 309 [l0, l1, some (.ref a2), l3, l4, l5, l6] [.int (s0)] h = ((hci h a2).bind (lkN [(18, 150)])).bind fun y => aK (exec tTab d y [.ref a2] h) (fun v h1 => R_L_law d 315 [l0, l1, some (.ref a2), l3, l4, l5, some (.int (s0))] (v.toList ++ []) h1) (fun E h1 => some (.inr E, h1)) := by
  refine (p_istore rfl rfl rfl).trans ?_
  refine (p_aload rfl rfl).trans ?_
  exact s_callV (L := [(18, 150)]) (n := 0) (b := a2) (rest := []) rfl rfl rfl
theorem r_L_law_353 {d : Nat} {s0 : Int32} {a2 : Nat} {l0 l1 l3 l4 l5 l6 : Option Value} {h : AH} : R_L_law d 353 [l0, l1, some (.ref a2), l3, l4, l5, l6] [.int (s0)] h = ((hci h a2).bind (lkN [(18, 150)])).bind fun y => aK (exec tTab d y [.ref a2] h) (fun v h1 => R_L_law d 359 [l0, l1, some (.ref a2), l3, l4, l5, some (.int (s0))] (v.toList ++ []) h1) (fun E h1 => some (.inr E, h1)) := by
  refine (p_istore rfl rfl rfl).trans ?_
  refine (p_aload rfl rfl).trans ?_
  exact s_callV (L := [(18, 150)]) (n := 0) (b := a2) (rest := []) rfl rfl rfl
theorem r_L_law_394 {d : Nat} {s0 s1 : Int32} {l0 l1 l2 l3 l4 l5 l6 : Option Value} {h : AH} : R_L_law d 394 [l0, l1, l2, l3, l4, l5, l6] [.int (s1), .int (s0)] h = if s0 = s1 then R_L_law d 2150 [l0, l1, l2, l3, l4, l5, l6] [] h else R_L_law d 397 [l0, l1, l2, l3, l4, l5, l6] [] h := (s_icmp (g := (fun x y => decide (x = y))) (t := 2150) (nx := 397) rfl).trans bif_dec
theorem r_L_law_412 {d : Nat} {b0 a3 : Nat} {s1 s2 : Int32} {l0 l1 l2 l4 l5 l6 : Option Value} {h : AH} : R_L_law d 412 [l0, l1, l2, some (.ref a3), l4, l5, l6] [.int (s2), .int (s1), .ref b0] h = aK (exec tTab d 2 [.ref b0, .int (s1), .int (s2), .ref a3] h) (fun v h1 => R_L_law d 416 [l0, l1, l2, some (.ref a3), l4, l5, l6] (v.toList ++ []) h1) (fun E h1 => some (.inr E, h1)) := by
  refine (p_aload rfl rfl).trans ?_
  exact s_callS (y := 2) (n := 4) rfl rfl
theorem r_L_law_480 {d : Nat} {b0 a0 : Nat} {s1 s2 x4 : Int32} {l1 l2 l3 l5 l6 : Option Value} {h : AH} : R_L_law d 480 [some (.ref a0), l1, l2, l3, some (.int (x4)), l5, l6] [.int (s2), .int (s1), .ref b0] h = (hai h 0 a0 (x4 + (nI 3))).bind fun v => R_L_law d 486 [some (.ref a0), l1, l2, l3, some (.int (x4)), l5, l6] [.int v, .int (s2), .int (s1), .ref b0] h := by
  refine (p_aload rfl rfl).trans ?_
  refine (p_iload rfl rfl).trans ?_
  refine (p_const rfl).trans ?_
  refine (p_bin rfl).trans ?_
  exact s_iald rfl
theorem r_L_law_600 {d : Nat} {b0 a3 : Nat} {s1 s2 : Int32} {l0 l1 l2 l4 l5 l6 : Option Value} {h : AH} : R_L_law d 600 [l0, l1, l2, some (.ref a3), l4, l5, l6] [.int (s2), .int (s1), .ref b0] h = aK (exec tTab d 4 [.ref b0, .int (s1), .int (s2), .ref a3] h) (fun v h1 => R_L_law d 604 [l0, l1, l2, some (.ref a3), l4, l5, l6] (v.toList ++ []) h1) (fun E h1 => some (.inr E, h1)) := by
  refine (p_aload rfl rfl).trans ?_
  exact s_callS (y := 4) (n := 4) rfl rfl
theorem r_L_law_666 {d : Nat} {s0 x4 : Int32} {a2 a0 : Nat} {l1 l3 l5 l6 : Option Value} {h : AH} : R_L_law d 666 [some (.ref a0), l1, some (.ref a2), l3, some (.int (x4)), l5, l6] [.int (s0)] h = (hai h 0 a0 (x4 + (nI 1))).bind fun v => R_L_law d 675 [some (.ref a0), l1, some (.ref a2), l3, some (.int (x4)), some (.int (s0)), l6] [.int v, .ref a2] h := by
  refine (p_istore rfl rfl rfl).trans ?_
  refine (p_aload rfl rfl).trans ?_
  refine (p_aload rfl rfl).trans ?_
  refine (p_iload rfl rfl).trans ?_
  refine (p_const rfl).trans ?_
  refine (p_bin rfl).trans ?_
  exact s_iald rfl
theorem r_L_law_722 {d : Nat} {s0 x4 : Int32} {a2 a0 : Nat} {l1 l3 l5 l6 : Option Value} {h : AH} : R_L_law d 722 [some (.ref a0), l1, some (.ref a2), l3, some (.int (x4)), l5, l6] [.int (s0)] h = (hai h 0 a0 (x4 + (nI 1))).bind fun v => R_L_law d 731 [some (.ref a0), l1, some (.ref a2), l3, some (.int (x4)), some (.int (s0)), l6] [.int v, .ref a2] h := by
  refine (p_istore rfl rfl rfl).trans ?_
  refine (p_aload rfl rfl).trans ?_
  refine (p_aload rfl rfl).trans ?_
  refine (p_iload rfl rfl).trans ?_
  refine (p_const rfl).trans ?_
  refine (p_bin rfl).trans ?_
  exact s_iald rfl
theorem r_L_law_780 {d : Nat} {b0 a3 : Nat} {s1 s2 : Int32} {l0 l1 l2 l4 l5 l6 : Option Value} {h : AH} : R_L_law d 780 [l0, l1, l2, some (.ref a3), l4, l5, l6] [.int (s2), .int (s1), .ref b0] h = aK (exec tTab d 7 [.ref b0, .int (s1), .int (s2), .ref a3] h) (fun v h1 => R_L_law d 784 [l0, l1, l2, some (.ref a3), l4, l5, l6] (v.toList ++ []) h1) (fun E h1 => some (.inr E, h1)) := by
  refine (p_aload rfl rfl).trans ?_
  exact s_callS (y := 7) (n := 4) rfl rfl
theorem r_L_law_848 {d : Nat} {b0 a3 : Nat} {s1 s2 : Int32} {l0 l1 l2 l4 l5 l6 : Option Value} {h : AH} : R_L_law d 848 [l0, l1, l2, some (.ref a3), l4, l5, l6] [.int (s2), .int (s1), .ref b0] h = aK (exec tTab d 8 [.ref b0, .int (s1), .int (s2), .ref a3] h) (fun v h1 => R_L_law d 852 [l0, l1, l2, some (.ref a3), l4, l5, l6] (v.toList ++ []) h1) (fun E h1 => some (.inr E, h1)) := by
  refine (p_aload rfl rfl).trans ?_
  exact s_callS (y := 8) (n := 4) rfl rfl
theorem r_L_law_916 {d : Nat} {b0 a3 : Nat} {s1 s2 : Int32} {l0 l1 l2 l4 l5 l6 : Option Value} {h : AH} : R_L_law d 916 [l0, l1, l2, some (.ref a3), l4, l5, l6] [.int (s2), .int (s1), .ref b0] h = aK (exec tTab d 9 [.ref b0, .int (s1), .int (s2), .ref a3] h) (fun v h1 => R_L_law d 920 [l0, l1, l2, some (.ref a3), l4, l5, l6] (v.toList ++ []) h1) (fun E h1 => some (.inr E, h1)) := by
  refine (p_aload rfl rfl).trans ?_
  exact s_callS (y := 9) (n := 4) rfl rfl
theorem r_L_law_989 {d : Nat} {s0 x4 : Int32} {a2 a0 : Nat} {l1 l3 l5 l6 : Option Value} {h : AH} : R_L_law d 989 [some (.ref a0), l1, some (.ref a2), l3, some (.int (x4)), l5, l6] [.int (s0)] h = (hai h 0 a0 (x4 + (nI 1))).bind fun v => R_L_law d 998 [some (.ref a0), l1, some (.ref a2), l3, some (.int (x4)), some (.int (s0)), l6] [.int v, .ref a2] h := by
  refine (p_istore rfl rfl rfl).trans ?_
  refine (p_aload rfl rfl).trans ?_
  refine (p_aload rfl rfl).trans ?_
  refine (p_iload rfl rfl).trans ?_
  refine (p_const rfl).trans ?_
  refine (p_bin rfl).trans ?_
  exact s_iald rfl
theorem r_L_law_1045 {d : Nat} {s0 x4 : Int32} {a2 a0 : Nat} {l1 l3 l5 l6 : Option Value} {h : AH} : R_L_law d 1045 [some (.ref a0), l1, some (.ref a2), l3, some (.int (x4)), l5, l6] [.int (s0)] h = (hai h 0 a0 (x4 + (nI 1))).bind fun v => R_L_law d 1054 [some (.ref a0), l1, some (.ref a2), l3, some (.int (x4)), some (.int (s0)), l6] [.int v, .ref a2] h := by
  refine (p_istore rfl rfl rfl).trans ?_
  refine (p_aload rfl rfl).trans ?_
  refine (p_aload rfl rfl).trans ?_
  refine (p_iload rfl rfl).trans ?_
  refine (p_const rfl).trans ?_
  refine (p_bin rfl).trans ?_
  exact s_iald rfl
theorem r_L_law_1103 {d : Nat} {b0 a3 : Nat} {s1 s2 : Int32} {l0 l1 l2 l4 l5 l6 : Option Value} {h : AH} : R_L_law d 1103 [l0, l1, l2, some (.ref a3), l4, l5, l6] [.int (s2), .int (s1), .ref b0] h = aK (exec tTab d 12 [.ref b0, .int (s1), .int (s2), .ref a3] h) (fun v h1 => R_L_law d 1107 [l0, l1, l2, some (.ref a3), l4, l5, l6] (v.toList ++ []) h1) (fun E h1 => some (.inr E, h1)) := by
  refine (p_aload rfl rfl).trans ?_
  exact s_callS (y := 12) (n := 4) rfl rfl
theorem r_L_law_1171 {d : Nat} {b0 a0 : Nat} {s1 s2 x4 : Int32} {l1 l2 l3 l5 l6 : Option Value} {h : AH} : R_L_law d 1171 [some (.ref a0), l1, l2, l3, some (.int (x4)), l5, l6] [.int (s2), .int (s1), .ref b0] h = (hai h 0 a0 (x4 + (nI 3))).bind fun v => R_L_law d 1177 [some (.ref a0), l1, l2, l3, some (.int (x4)), l5, l6] [.int v, .int (s2), .int (s1), .ref b0] h := by
  refine (p_aload rfl rfl).trans ?_
  refine (p_iload rfl rfl).trans ?_
  refine (p_const rfl).trans ?_
  refine (p_bin rfl).trans ?_
  exact s_iald rfl
theorem r_L_law_1249 {d : Nat} {s0 x4 : Int32} {a2 a0 : Nat} {l1 l3 l5 l6 : Option Value} {h : AH} : R_L_law d 1249 [some (.ref a0), l1, some (.ref a2), l3, some (.int (x4)), l5, l6] [.int (s0)] h = (hai h 0 a0 (x4 + (nI 1))).bind fun v => R_L_law d 1258 [some (.ref a0), l1, some (.ref a2), l3, some (.int (x4)), some (.int (s0)), l6] [.int v, .ref a2] h := by
  refine (p_istore rfl rfl rfl).trans ?_
  refine (p_aload rfl rfl).trans ?_
  refine (p_aload rfl rfl).trans ?_
  refine (p_iload rfl rfl).trans ?_
  refine (p_const rfl).trans ?_
  refine (p_bin rfl).trans ?_
  exact s_iald rfl
theorem r_L_law_1312 {d : Nat} {s0 x4 : Int32} {a2 a0 : Nat} {l1 l3 l5 l6 : Option Value} {h : AH} : R_L_law d 1312 [some (.ref a0), l1, some (.ref a2), l3, some (.int (x4)), l5, l6] [.int (s0)] h = (hai h 0 a0 (x4 + (nI 1))).bind fun v => R_L_law d 1321 [some (.ref a0), l1, some (.ref a2), l3, some (.int (x4)), some (.int (s0)), l6] [.int v, .ref a2] h := by
  refine (p_istore rfl rfl rfl).trans ?_
  refine (p_aload rfl rfl).trans ?_
  refine (p_aload rfl rfl).trans ?_
  refine (p_iload rfl rfl).trans ?_
  refine (p_const rfl).trans ?_
  refine (p_bin rfl).trans ?_
  exact s_iald rfl
theorem r_L_law_1367 {d : Nat} {s0 x4 : Int32} {a2 a0 : Nat} {l1 l3 l5 l6 : Option Value} {h : AH} : R_L_law d 1367 [some (.ref a0), l1, some (.ref a2), l3, some (.int (x4)), l5, l6] [.int (s0)] h = (hai h 0 a0 (x4 + (nI 1))).bind fun v => R_L_law d 1374 [some (.ref a0), l1, some (.ref a2), l3, some (.int (x4)), l5, l6] [.int v, .ref a2, .int (s0)] h := by
  refine (p_aload rfl rfl).trans ?_
  refine (p_aload rfl rfl).trans ?_
  refine (p_iload rfl rfl).trans ?_
  refine (p_const rfl).trans ?_
  refine (p_bin rfl).trans ?_
  exact s_iald rfl
theorem r_L_law_1392 {d : Nat} {s0 x4 : Int32} {a2 a0 : Nat} {l1 l3 l5 l6 : Option Value} {h : AH} : R_L_law d 1392 [some (.ref a0), l1, some (.ref a2), l3, some (.int (x4)), l5, l6] [.int (s0)] h = (hai h 0 a0 (x4 + (nI 1))).bind fun v => R_L_law d 1399 [some (.ref a0), l1, some (.ref a2), l3, some (.int (x4)), l5, l6] [.int v, .ref a2, .int (s0)] h := by
  refine (p_aload rfl rfl).trans ?_
  refine (p_aload rfl rfl).trans ?_
  refine (p_iload rfl rfl).trans ?_
  refine (p_const rfl).trans ?_
  refine (p_bin rfl).trans ?_
  exact s_iald rfl
theorem r_L_law_1415 {d : Nat} {s0 s1 : Int32} {l0 l1 l2 l3 l4 l5 l6 : Option Value} {h : AH} : R_L_law d 1415 [l0, l1, l2, l3, l4, l5, l6] [.int (s1), .int (s0)] h = if s0 = s1 then R_L_law d 2150 [l0, l1, l2, l3, l4, l5, l6] [] h else R_L_law d 1418 [l0, l1, l2, l3, l4, l5, l6] [] h := (s_icmp (g := (fun x y => decide (x = y))) (t := 2150) (nx := 1418) rfl).trans bif_dec
theorem r_L_law_1430 {d : Nat} {s0 x4 : Int32} {a2 a0 : Nat} {l1 l3 l5 l6 : Option Value} {h : AH} : R_L_law d 1430 [some (.ref a0), l1, some (.ref a2), l3, some (.int (x4)), l5, l6] [.int (s0)] h = (hai h 0 a0 (x4 + (nI 1))).bind fun v => R_L_law d 1437 [some (.ref a0), l1, some (.ref a2), l3, some (.int (x4)), l5, l6] [.int v, .ref a2, .int (s0)] h := by
  refine (p_aload rfl rfl).trans ?_
  refine (p_aload rfl rfl).trans ?_
  refine (p_iload rfl rfl).trans ?_
  refine (p_const rfl).trans ?_
  refine (p_bin rfl).trans ?_
  exact s_iald rfl
theorem r_L_law_1458 {d : Nat} {b0 a3 : Nat} {s1 s2 : Int32} {l0 l1 l2 l4 l5 l6 : Option Value} {h : AH} : R_L_law d 1458 [l0, l1, l2, some (.ref a3), l4, l5, l6] [.int (s2), .int (s1), .ref b0] h = aK (exec tTab d 16 [.ref b0, .int (s1), .int (s2), .ref a3] h) (fun v h1 => R_L_law d 1462 [l0, l1, l2, some (.ref a3), l4, l5, l6] (v.toList ++ []) h1) (fun E h1 => some (.inr E, h1)) := by
  refine (p_aload rfl rfl).trans ?_
  exact s_callS (y := 16) (n := 4) rfl rfl
theorem r_L_law_1526 {d : Nat} {b0 a3 : Nat} {s1 s2 : Int32} {l0 l1 l2 l4 l5 l6 : Option Value} {h : AH} : R_L_law d 1526 [l0, l1, l2, some (.ref a3), l4, l5, l6] [.int (s2), .int (s1), .ref b0] h = aK (exec tTab d 17 [.ref b0, .int (s1), .int (s2), .ref a3] h) (fun v h1 => R_L_law d 1530 [l0, l1, l2, some (.ref a3), l4, l5, l6] (v.toList ++ []) h1) (fun E h1 => some (.inr E, h1)) := by
  refine (p_aload rfl rfl).trans ?_
  exact s_callS (y := 17) (n := 4) rfl rfl
theorem r_L_law_1594 {d : Nat} {b0 a3 : Nat} {s1 s2 : Int32} {l0 l1 l2 l4 l5 l6 : Option Value} {h : AH} : R_L_law d 1594 [l0, l1, l2, some (.ref a3), l4, l5, l6] [.int (s2), .int (s1), .ref b0] h = aK (exec tTab d 18 [.ref b0, .int (s1), .int (s2), .ref a3] h) (fun v h1 => R_L_law d 1598 [l0, l1, l2, some (.ref a3), l4, l5, l6] (v.toList ++ []) h1) (fun E h1 => some (.inr E, h1)) := by
  refine (p_aload rfl rfl).trans ?_
  exact s_callS (y := 18) (n := 4) rfl rfl
theorem r_L_law_1662 {d : Nat} {b0 a0 : Nat} {s1 s2 x4 : Int32} {l1 l2 l3 l5 l6 : Option Value} {h : AH} : R_L_law d 1662 [some (.ref a0), l1, l2, l3, some (.int (x4)), l5, l6] [.int (s2), .int (s1), .ref b0] h = (hai h 0 a0 (x4 + (nI 3))).bind fun v => R_L_law d 1668 [some (.ref a0), l1, l2, l3, some (.int (x4)), l5, l6] [.int v, .int (s2), .int (s1), .ref b0] h := by
  refine (p_aload rfl rfl).trans ?_
  refine (p_iload rfl rfl).trans ?_
  refine (p_const rfl).trans ?_
  refine (p_bin rfl).trans ?_
  exact s_iald rfl
theorem r_L_law_1752 {d : Nat} {s0 : Int32} {a2 : Nat} {l0 l1 l3 l4 l5 l6 : Option Value} {h : AH} : R_L_law d 1752 [l0, l1, some (.ref a2), l3, l4, l5, l6] [.int (s0)] h = ((hci h a2).bind (lkN [(18, 150)])).bind fun y => aK (exec tTab d y [.ref a2] h) (fun v h1 => R_L_law d 1758 [l0, l1, some (.ref a2), l3, l4, l5, some (.int (s0))] (v.toList ++ []) h1) (fun E h1 => some (.inr E, h1)) := by
  refine (p_istore rfl rfl rfl).trans ?_
  refine (p_aload rfl rfl).trans ?_
  exact s_callV (L := [(18, 150)]) (n := 0) (b := a2) (rest := []) rfl rfl rfl
theorem r_L_law_1796 {d : Nat} {s0 x4 : Int32} {a2 a0 : Nat} {l1 l3 l5 l6 : Option Value} {h : AH} : R_L_law d 1796 [some (.ref a0), l1, some (.ref a2), l3, some (.int (x4)), l5, l6] [.int (s0)] h = (hai h 0 a0 (x4 + (nI 1))).bind fun v => R_L_law d 1805 [some (.ref a0), l1, some (.ref a2), l3, some (.int (x4)), some (.int (s0)), l6] [.int v, .ref a2] h := by
  refine (p_istore rfl rfl rfl).trans ?_
  refine (p_aload rfl rfl).trans ?_
  refine (p_aload rfl rfl).trans ?_
  refine (p_iload rfl rfl).trans ?_
  refine (p_const rfl).trans ?_
  refine (p_bin rfl).trans ?_
  exact s_iald rfl
theorem r_L_law_1854 {d : Nat} {b0 a3 : Nat} {s1 s2 : Int32} {l0 l1 l2 l4 l5 l6 : Option Value} {h : AH} : R_L_law d 1854 [l0, l1, l2, some (.ref a3), l4, l5, l6] [.int (s2), .int (s1), .ref b0] h = aK (exec tTab d 22 [.ref b0, .int (s1), .int (s2), .ref a3] h) (fun v h1 => R_L_law d 1858 [l0, l1, l2, some (.ref a3), l4, l5, l6] (v.toList ++ []) h1) (fun E h1 => some (.inr E, h1)) := by
  refine (p_aload rfl rfl).trans ?_
  exact s_callS (y := 22) (n := 4) rfl rfl
theorem r_L_law_1920 {d : Nat} {s0 x4 : Int32} {a2 a0 : Nat} {l1 l3 l5 l6 : Option Value} {h : AH} : R_L_law d 1920 [some (.ref a0), l1, some (.ref a2), l3, some (.int (x4)), l5, l6] [.int (s0)] h = (hai h 0 a0 (x4 + (nI 1))).bind fun v => R_L_law d 1929 [some (.ref a0), l1, some (.ref a2), l3, some (.int (x4)), some (.int (s0)), l6] [.int v, .ref a2] h := by
  refine (p_istore rfl rfl rfl).trans ?_
  refine (p_aload rfl rfl).trans ?_
  refine (p_aload rfl rfl).trans ?_
  refine (p_iload rfl rfl).trans ?_
  refine (p_const rfl).trans ?_
  refine (p_bin rfl).trans ?_
  exact s_iald rfl
theorem r_L_law_1976 {d : Nat} {s0 x4 : Int32} {a2 a0 : Nat} {l1 l3 l5 l6 : Option Value} {h : AH} : R_L_law d 1976 [some (.ref a0), l1, some (.ref a2), l3, some (.int (x4)), l5, l6] [.int (s0)] h = (hai h 0 a0 (x4 + (nI 1))).bind fun v => R_L_law d 1985 [some (.ref a0), l1, some (.ref a2), l3, some (.int (x4)), some (.int (s0)), l6] [.int v, .ref a2] h := by
  refine (p_istore rfl rfl rfl).trans ?_
  refine (p_aload rfl rfl).trans ?_
  refine (p_aload rfl rfl).trans ?_
  refine (p_iload rfl rfl).trans ?_
  refine (p_const rfl).trans ?_
  refine (p_bin rfl).trans ?_
  exact s_iald rfl
theorem r_L_law_2034 {d : Nat} {b0 a0 : Nat} {s1 s2 x4 : Int32} {l1 l2 l3 l5 l6 : Option Value} {h : AH} : R_L_law d 2034 [some (.ref a0), l1, l2, l3, some (.int (x4)), l5, l6] [.int (s2), .int (s1), .ref b0] h = (hai h 0 a0 (x4 + (nI 3))).bind fun v => R_L_law d 2040 [some (.ref a0), l1, l2, l3, some (.int (x4)), l5, l6] [.int v, .int (s2), .int (s1), .ref b0] h := by
  refine (p_aload rfl rfl).trans ?_
  refine (p_iload rfl rfl).trans ?_
  refine (p_const rfl).trans ?_
  refine (p_bin rfl).trans ?_
  exact s_iald rfl
theorem r_L_law_2109 {d : Nat} {x4 : Int32} {l0 l1 l2 l3 l5 l6 : Option Value} {h : AH} : R_L_law d 2109 [l0, l1, l2, l3, some (.int (x4)), l5, l6] [] h = R_L_law d 23 [l0, l1, l2, l3, some (.int (x4 + (nI 6))), l5, l6] [] h := by
  refine (p_goto rfl).trans ?_
  refine (p_iinc rfl rfl rfl).trans ?_
  refine (p_goto rfl).trans ?_
  exact rfl
theorem r_L_law_2120 {d : Nat} {s0 s1 : Int32} {l0 l1 l2 l3 l4 l5 l6 : Option Value} {h : AH} : R_L_law d 2120 [l0, l1, l2, l3, l4, l5, l6] [.int (s1), .int (s0)] h = if s0 = s1 then R_L_law d 2150 [l0, l1, l2, l3, l4, l5, l6] [] h else R_L_law d 2123 [l0, l1, l2, l3, l4, l5, l6] [] h := (s_icmp (g := (fun x y => decide (x = y))) (t := 2150) (nx := 2123) rfl).trans bif_dec
theorem r_L_law_2135 {d : Nat} {s0 x4 : Int32} {a2 a0 : Nat} {l1 l3 l5 l6 : Option Value} {h : AH} : R_L_law d 2135 [some (.ref a0), l1, some (.ref a2), l3, some (.int (x4)), l5, l6] [.int (s0)] h = (hai h 0 a0 (x4 + (nI 1))).bind fun v => R_L_law d 2142 [some (.ref a0), l1, some (.ref a2), l3, some (.int (x4)), l5, l6] [.int v, .ref a2, .int (s0)] h := by
  refine (p_aload rfl rfl).trans ?_
  refine (p_aload rfl rfl).trans ?_
  refine (p_iload rfl rfl).trans ?_
  refine (p_const rfl).trans ?_
  refine (p_bin rfl).trans ?_
  exact s_iald rfl
theorem r_L_law_219 {d : Nat} {b0 a0 : Nat} {s1 s2 s3 x4 : Int32} {l1 l2 l3 l5 l6 : Option Value} {h : AH} : R_L_law d 219 [some (.ref a0), l1, l2, l3, some (.int (x4)), l5, l6] [.int (s3), .int (s2), .int (s1), .ref b0] h = (hai h 0 a0 (x4 + (nI 4))).bind fun v => R_L_law d 225 [some (.ref a0), l1, l2, l3, some (.int (x4)), l5, l6] [.int v, .int (s3), .int (s2), .int (s1), .ref b0] h := by
  refine (p_aload rfl rfl).trans ?_
  refine (p_iload rfl rfl).trans ?_
  refine (p_const rfl).trans ?_
  refine (p_bin rfl).trans ?_
  exact s_iald rfl
theorem r_L_law_290 {d : Nat} {s0 s2 : Int32} {b1 : Nat} {l0 l1 l2 l3 l4 l5 l6 : Option Value} {h : AH} : R_L_law d 290 [l0, l1, l2, l3, l4, l5, l6] [.int (s2), .ref b1, .int (s0)] h = ((hci h b1).bind (lkN [(18, 152)])).bind fun y => aK (exec tTab d y [.ref b1, .int (s2)] h) (fun v h1 => R_L_law d 293 [l0, l1, l2, l3, l4, l5, l6] (v.toList ++ [.int (s0)]) h1) (fun E h1 => some (.inr E, h1)) := s_callV (L := [(18, 152)]) (n := 1) (b := b1) (rest := [.int (s0)]) rfl rfl rfl
theorem r_L_law_315 {d : Nat} {s0 x5 : Int32} {l0 l1 l2 l3 l4 l6 : Option Value} {h : AH} : R_L_law d 315 [l0, l1, l2, l3, l4, some (.int (x5)), l6] [.int (s0)] h = if s0 = x5 then R_L_law d 322 [l0, l1, l2, l3, l4, some (.int (x5)), l6] [] h else R_L_law d 320 [l0, l1, l2, l3, l4, some (.int (x5)), l6] [] h := by
  refine (p_iload rfl rfl).trans ?_
  exact (s_icmp (g := (fun x y => decide (x = y))) (t := 322) (nx := 320) rfl).trans bif_dec
theorem r_L_law_359 {d : Nat} {s0 x5 : Int32} {l0 l1 l2 l3 l4 l6 : Option Value} {h : AH} : R_L_law d 359 [l0, l1, l2, l3, l4, some (.int (x5)), l6] [.int (s0)] h = if s0 = x5 then R_L_law d 366 [l0, l1, l2, l3, l4, some (.int (x5)), l6] [] h else R_L_law d 364 [l0, l1, l2, l3, l4, some (.int (x5)), l6] [] h := by
  refine (p_iload rfl rfl).trans ?_
  exact (s_icmp (g := (fun x y => decide (x = y))) (t := 366) (nx := 364) rfl).trans bif_dec
theorem r_L_law_397 {d : Nat} {l0 l1 l2 l3 l4 l5 l6 : Option Value} {h : AH} : R_L_law d 397 [l0, l1, l2, l3, l4, l5, l6] [] h = some (.inl (some (.int ((nI 0)))), h) := by
  refine (p_const rfl).trans ?_
  exact s_iretT rfl rfl
theorem r_L_law_416 {d : Nat} {s0 x4 : Int32} {a2 a0 : Nat} {l1 l3 l5 l6 : Option Value} {h : AH} : R_L_law d 416 [some (.ref a0), l1, some (.ref a2), l3, some (.int (x4)), l5, l6] [.int (s0)] h = (hai h 0 a0 (x4 + (nI 1))).bind fun v => R_L_law d 425 [some (.ref a0), l1, some (.ref a2), l3, some (.int (x4)), some (.int (s0)), l6] [.int v, .ref a2] h := by
  refine (p_istore rfl rfl rfl).trans ?_
  refine (p_aload rfl rfl).trans ?_
  refine (p_aload rfl rfl).trans ?_
  refine (p_iload rfl rfl).trans ?_
  refine (p_const rfl).trans ?_
  refine (p_bin rfl).trans ?_
  exact s_iald rfl
theorem r_L_law_486 {d : Nat} {b0 a0 : Nat} {s1 s2 s3 x4 : Int32} {l1 l2 l3 l5 l6 : Option Value} {h : AH} : R_L_law d 486 [some (.ref a0), l1, l2, l3, some (.int (x4)), l5, l6] [.int (s3), .int (s2), .int (s1), .ref b0] h = (hai h 0 a0 (x4 + (nI 4))).bind fun v => R_L_law d 492 [some (.ref a0), l1, l2, l3, some (.int (x4)), l5, l6] [.int v, .int (s3), .int (s2), .int (s1), .ref b0] h := by
  refine (p_aload rfl rfl).trans ?_
  refine (p_iload rfl rfl).trans ?_
  refine (p_const rfl).trans ?_
  refine (p_bin rfl).trans ?_
  exact s_iald rfl
theorem r_L_law_604 {d : Nat} {s0 x4 : Int32} {a2 a0 : Nat} {l1 l3 l5 l6 : Option Value} {h : AH} : R_L_law d 604 [some (.ref a0), l1, some (.ref a2), l3, some (.int (x4)), l5, l6] [.int (s0)] h = (hai h 0 a0 (x4 + (nI 1))).bind fun v => R_L_law d 613 [some (.ref a0), l1, some (.ref a2), l3, some (.int (x4)), some (.int (s0)), l6] [.int v, .ref a2] h := by
  refine (p_istore rfl rfl rfl).trans ?_
  refine (p_aload rfl rfl).trans ?_
  refine (p_aload rfl rfl).trans ?_
  refine (p_iload rfl rfl).trans ?_
  refine (p_const rfl).trans ?_
  refine (p_bin rfl).trans ?_
  exact s_iald rfl
theorem r_L_law_675 {d : Nat} {b0 : Nat} {s1 : Int32} {l0 l1 l2 l3 l4 l5 l6 : Option Value} {h : AH} : R_L_law d 675 [l0, l1, l2, l3, l4, l5, l6] [.int (s1), .ref b0] h = ((hci h b0).bind (lkN [(18, 192)])).bind fun y => aK (exec tTab d y [.ref b0, .int (s1)] h) (fun v h1 => R_L_law d 678 [l0, l1, l2, l3, l4, l5, l6] (v.toList ++ []) h1) (fun E h1 => some (.inr E, h1)) := s_callV (L := [(18, 192)]) (n := 1) (b := b0) (rest := []) rfl rfl rfl
theorem r_L_law_731 {d : Nat} {b0 : Nat} {s1 : Int32} {l0 l1 l2 l3 l4 l5 l6 : Option Value} {h : AH} : R_L_law d 731 [l0, l1, l2, l3, l4, l5, l6] [.int (s1), .ref b0] h = ((hci h b0).bind (lkN [(18, 193)])).bind fun y => aK (exec tTab d y [.ref b0, .int (s1)] h) (fun v h1 => R_L_law d 734 [l0, l1, l2, l3, l4, l5, l6] (v.toList ++ []) h1) (fun E h1 => some (.inr E, h1)) := s_callV (L := [(18, 193)]) (n := 1) (b := b0) (rest := []) rfl rfl rfl
theorem r_L_law_784 {d : Nat} {s0 x4 : Int32} {a2 a0 : Nat} {l1 l3 l5 l6 : Option Value} {h : AH} : R_L_law d 784 [some (.ref a0), l1, some (.ref a2), l3, some (.int (x4)), l5, l6] [.int (s0)] h = (hai h 0 a0 (x4 + (nI 1))).bind fun v => R_L_law d 793 [some (.ref a0), l1, some (.ref a2), l3, some (.int (x4)), some (.int (s0)), l6] [.int v, .ref a2] h := by
  refine (p_istore rfl rfl rfl).trans ?_
  refine (p_aload rfl rfl).trans ?_
  refine (p_aload rfl rfl).trans ?_
  refine (p_iload rfl rfl).trans ?_
  refine (p_const rfl).trans ?_
  refine (p_bin rfl).trans ?_
  exact s_iald rfl
theorem r_L_law_852 {d : Nat} {s0 x4 : Int32} {a2 a0 : Nat} {l1 l3 l5 l6 : Option Value} {h : AH} : R_L_law d 852 [some (.ref a0), l1, some (.ref a2), l3, some (.int (x4)), l5, l6] [.int (s0)] h = (hai h 0 a0 (x4 + (nI 1))).bind fun v => R_L_law d 861 [some (.ref a0), l1, some (.ref a2), l3, some (.int (x4)), some (.int (s0)), l6] [.int v, .ref a2] h := by
  refine (p_istore rfl rfl rfl).trans ?_
  refine (p_aload rfl rfl).trans ?_
  refine (p_aload rfl rfl).trans ?_
  refine (p_iload rfl rfl).trans ?_
  refine (p_const rfl).trans ?_
  refine (p_bin rfl).trans ?_
  exact s_iald rfl
theorem r_L_law_920 {d : Nat} {s0 x4 : Int32} {a2 a0 : Nat} {l1 l3 l5 l6 : Option Value} {h : AH} : R_L_law d 920 [some (.ref a0), l1, some (.ref a2), l3, some (.int (x4)), l5, l6] [.int (s0)] h = (hai h 0 a0 (x4 + (nI 1))).bind fun v => R_L_law d 929 [some (.ref a0), l1, some (.ref a2), l3, some (.int (x4)), some (.int (s0)), l6] [.int v, .ref a2] h := by
  refine (p_istore rfl rfl rfl).trans ?_
  refine (p_aload rfl rfl).trans ?_
  refine (p_aload rfl rfl).trans ?_
  refine (p_iload rfl rfl).trans ?_
  refine (p_const rfl).trans ?_
  refine (p_bin rfl).trans ?_
  exact s_iald rfl
theorem r_L_law_998 {d : Nat} {b0 : Nat} {s1 : Int32} {l0 l1 l2 l3 l4 l5 l6 : Option Value} {h : AH} : R_L_law d 998 [l0, l1, l2, l3, l4, l5, l6] [.int (s1), .ref b0] h = ((hci h b0).bind (lkN [(18, 197)])).bind fun y => aK (exec tTab d y [.ref b0, .int (s1)] h) (fun v h1 => R_L_law d 1001 [l0, l1, l2, l3, l4, l5, l6] (v.toList ++ []) h1) (fun E h1 => some (.inr E, h1)) := s_callV (L := [(18, 197)]) (n := 1) (b := b0) (rest := []) rfl rfl rfl
theorem r_L_law_1054 {d : Nat} {b0 : Nat} {s1 : Int32} {l0 l1 l2 l3 l4 l5 l6 : Option Value} {h : AH} : R_L_law d 1054 [l0, l1, l2, l3, l4, l5, l6] [.int (s1), .ref b0] h = ((hci h b0).bind (lkN [(18, 198)])).bind fun y => aK (exec tTab d y [.ref b0, .int (s1)] h) (fun v h1 => R_L_law d 1057 [l0, l1, l2, l3, l4, l5, l6] (v.toList ++ []) h1) (fun E h1 => some (.inr E, h1)) := s_callV (L := [(18, 198)]) (n := 1) (b := b0) (rest := []) rfl rfl rfl
theorem r_L_law_1107 {d : Nat} {s0 x4 : Int32} {a2 a0 : Nat} {l1 l3 l5 l6 : Option Value} {h : AH} : R_L_law d 1107 [some (.ref a0), l1, some (.ref a2), l3, some (.int (x4)), l5, l6] [.int (s0)] h = (hai h 0 a0 (x4 + (nI 1))).bind fun v => R_L_law d 1116 [some (.ref a0), l1, some (.ref a2), l3, some (.int (x4)), some (.int (s0)), l6] [.int v, .ref a2] h := by
  refine (p_istore rfl rfl rfl).trans ?_
  refine (p_aload rfl rfl).trans ?_
  refine (p_aload rfl rfl).trans ?_
  refine (p_iload rfl rfl).trans ?_
  refine (p_const rfl).trans ?_
  refine (p_bin rfl).trans ?_
  exact s_iald rfl
theorem r_L_law_1177 {d : Nat} {b0 a3 : Nat} {s1 s2 s3 : Int32} {l0 l1 l2 l4 l5 l6 : Option Value} {h : AH} : R_L_law d 1177 [l0, l1, l2, some (.ref a3), l4, l5, l6] [.int (s3), .int (s2), .int (s1), .ref b0] h = aK (exec tTab d 13 [.ref b0, .int (s1), .int (s2), .int (s3), .ref a3] h) (fun v h1 => R_L_law d 1181 [l0, l1, l2, some (.ref a3), l4, l5, l6] (v.toList ++ []) h1) (fun E h1 => some (.inr E, h1)) := by
  refine (p_aload rfl rfl).trans ?_
  exact s_callS (y := 13) (n := 5) rfl rfl
theorem r_L_law_1258 {d : Nat} {b0 : Nat} {s1 : Int32} {l0 l1 l2 l3 l4 l5 l6 : Option Value} {h : AH} : R_L_law d 1258 [l0, l1, l2, l3, l4, l5, l6] [.int (s1), .ref b0] h = ((hci h b0).bind (lkN [(18, 204)])).bind fun y => aK (exec tTab d y [.ref b0, .int (s1)] h) (fun v h1 => R_L_law d 1261 [l0, l1, l2, l3, l4, l5, l6] (v.toList ++ []) h1) (fun E h1 => some (.inr E, h1)) := s_callV (L := [(18, 204)]) (n := 1) (b := b0) (rest := []) rfl rfl rfl
theorem r_L_law_1321 {d : Nat} {b0 : Nat} {s1 : Int32} {l0 l1 l2 l3 l4 l5 l6 : Option Value} {h : AH} : R_L_law d 1321 [l0, l1, l2, l3, l4, l5, l6] [.int (s1), .ref b0] h = ((hci h b0).bind (lkN [(18, 208)])).bind fun y => aK (exec tTab d y [.ref b0, .int (s1)] h) (fun v h1 => R_L_law d 1324 [l0, l1, l2, l3, l4, l5, l6] (v.toList ++ []) h1) (fun E h1 => some (.inr E, h1)) := s_callV (L := [(18, 208)]) (n := 1) (b := b0) (rest := []) rfl rfl rfl
theorem r_L_law_1374 {d : Nat} {s0 s2 : Int32} {b1 : Nat} {l0 l1 l2 l3 l4 l5 l6 : Option Value} {h : AH} : R_L_law d 1374 [l0, l1, l2, l3, l4, l5, l6] [.int (s2), .ref b1, .int (s0)] h = ((hci h b1).bind (lkN [(18, 210)])).bind fun y => aK (exec tTab d y [.ref b1, .int (s2)] h) (fun v h1 => R_L_law d 1377 [l0, l1, l2, l3, l4, l5, l6] (v.toList ++ [.int (s0)]) h1) (fun E h1 => some (.inr E, h1)) := s_callV (L := [(18, 210)]) (n := 1) (b := b1) (rest := [.int (s0)]) rfl rfl rfl
theorem r_L_law_1399 {d : Nat} {s0 s2 : Int32} {b1 : Nat} {l0 l1 l2 l3 l4 l5 l6 : Option Value} {h : AH} : R_L_law d 1399 [l0, l1, l2, l3, l4, l5, l6] [.int (s2), .ref b1, .int (s0)] h = ((hci h b1).bind (lkN [(18, 213)])).bind fun y => aK (exec tTab d y [.ref b1, .int (s2)] h) (fun v h1 => R_L_law d 1402 [l0, l1, l2, l3, l4, l5, l6] (v.toList ++ [.int (s0)]) h1) (fun E h1 => some (.inr E, h1)) := s_callV (L := [(18, 213)]) (n := 1) (b := b1) (rest := [.int (s0)]) rfl rfl rfl
theorem r_L_law_1418 {d : Nat} {l0 l1 l2 l3 l4 l5 l6 : Option Value} {h : AH} : R_L_law d 1418 [l0, l1, l2, l3, l4, l5, l6] [] h = some (.inl (some (.int ((nI 0)))), h) := by
  refine (p_const rfl).trans ?_
  exact s_iretT rfl rfl
theorem r_L_law_1437 {d : Nat} {s0 s2 : Int32} {b1 : Nat} {l0 l1 l2 l3 l4 l5 l6 : Option Value} {h : AH} : R_L_law d 1437 [l0, l1, l2, l3, l4, l5, l6] [.int (s2), .ref b1, .int (s0)] h = ((hci h b1).bind (lkN [(18, 216)])).bind fun y => aK (exec tTab d y [.ref b1, .int (s2)] h) (fun v h1 => R_L_law d 1440 [l0, l1, l2, l3, l4, l5, l6] (v.toList ++ [.int (s0)]) h1) (fun E h1 => some (.inr E, h1)) := s_callV (L := [(18, 216)]) (n := 1) (b := b1) (rest := [.int (s0)]) rfl rfl rfl
theorem r_L_law_1462 {d : Nat} {s0 x4 : Int32} {a2 a0 : Nat} {l1 l3 l5 l6 : Option Value} {h : AH} : R_L_law d 1462 [some (.ref a0), l1, some (.ref a2), l3, some (.int (x4)), l5, l6] [.int (s0)] h = (hai h 0 a0 (x4 + (nI 1))).bind fun v => R_L_law d 1471 [some (.ref a0), l1, some (.ref a2), l3, some (.int (x4)), some (.int (s0)), l6] [.int v, .ref a2] h := by
  refine (p_istore rfl rfl rfl).trans ?_
  refine (p_aload rfl rfl).trans ?_
  refine (p_aload rfl rfl).trans ?_
  refine (p_iload rfl rfl).trans ?_
  refine (p_const rfl).trans ?_
  refine (p_bin rfl).trans ?_
  exact s_iald rfl
theorem r_L_law_1530 {d : Nat} {s0 x4 : Int32} {a2 a0 : Nat} {l1 l3 l5 l6 : Option Value} {h : AH} : R_L_law d 1530 [some (.ref a0), l1, some (.ref a2), l3, some (.int (x4)), l5, l6] [.int (s0)] h = (hai h 0 a0 (x4 + (nI 1))).bind fun v => R_L_law d 1539 [some (.ref a0), l1, some (.ref a2), l3, some (.int (x4)), some (.int (s0)), l6] [.int v, .ref a2] h := by
  refine (p_istore rfl rfl rfl).trans ?_
  refine (p_aload rfl rfl).trans ?_
  refine (p_aload rfl rfl).trans ?_
  refine (p_iload rfl rfl).trans ?_
  refine (p_const rfl).trans ?_
  refine (p_bin rfl).trans ?_
  exact s_iald rfl
theorem r_L_law_1598 {d : Nat} {s0 x4 : Int32} {a2 a0 : Nat} {l1 l3 l5 l6 : Option Value} {h : AH} : R_L_law d 1598 [some (.ref a0), l1, some (.ref a2), l3, some (.int (x4)), l5, l6] [.int (s0)] h = (hai h 0 a0 (x4 + (nI 1))).bind fun v => R_L_law d 1607 [some (.ref a0), l1, some (.ref a2), l3, some (.int (x4)), some (.int (s0)), l6] [.int v, .ref a2] h := by
  refine (p_istore rfl rfl rfl).trans ?_
  refine (p_aload rfl rfl).trans ?_
  refine (p_aload rfl rfl).trans ?_
  refine (p_iload rfl rfl).trans ?_
  refine (p_const rfl).trans ?_
  refine (p_bin rfl).trans ?_
  exact s_iald rfl
theorem r_L_law_1668 {d : Nat} {b0 a0 : Nat} {s1 s2 s3 x4 : Int32} {l1 l2 l3 l5 l6 : Option Value} {h : AH} : R_L_law d 1668 [some (.ref a0), l1, l2, l3, some (.int (x4)), l5, l6] [.int (s3), .int (s2), .int (s1), .ref b0] h = (hai h 0 a0 (x4 + (nI 4))).bind fun v => R_L_law d 1674 [some (.ref a0), l1, l2, l3, some (.int (x4)), l5, l6] [.int v, .int (s3), .int (s2), .int (s1), .ref b0] h := by
  refine (p_aload rfl rfl).trans ?_
  refine (p_iload rfl rfl).trans ?_
  refine (p_const rfl).trans ?_
  refine (p_bin rfl).trans ?_
  exact s_iald rfl
theorem r_L_law_1758 {d : Nat} {s0 x5 : Int32} {l0 l1 l2 l3 l4 l6 : Option Value} {h : AH} : R_L_law d 1758 [l0, l1, l2, l3, l4, some (.int (x5)), l6] [.int (s0)] h = if s0 = x5 then R_L_law d 1765 [l0, l1, l2, l3, l4, some (.int (x5)), l6] [] h else R_L_law d 1763 [l0, l1, l2, l3, l4, some (.int (x5)), l6] [] h := by
  refine (p_iload rfl rfl).trans ?_
  exact (s_icmp (g := (fun x y => decide (x = y))) (t := 1765) (nx := 1763) rfl).trans bif_dec
theorem r_L_law_1805 {d : Nat} {b0 : Nat} {s1 : Int32} {l0 l1 l2 l3 l4 l5 l6 : Option Value} {h : AH} : R_L_law d 1805 [l0, l1, l2, l3, l4, l5, l6] [.int (s1), .ref b0] h = ((hci h b0).bind (lkN [(18, 227)])).bind fun y => aK (exec tTab d y [.ref b0, .int (s1)] h) (fun v h1 => R_L_law d 1808 [l0, l1, l2, l3, l4, l5, l6] (v.toList ++ []) h1) (fun E h1 => some (.inr E, h1)) := s_callV (L := [(18, 227)]) (n := 1) (b := b0) (rest := []) rfl rfl rfl
theorem r_L_law_1858 {d : Nat} {s0 x4 : Int32} {a2 a0 : Nat} {l1 l3 l5 l6 : Option Value} {h : AH} : R_L_law d 1858 [some (.ref a0), l1, some (.ref a2), l3, some (.int (x4)), l5, l6] [.int (s0)] h = (hai h 0 a0 (x4 + (nI 1))).bind fun v => R_L_law d 1867 [some (.ref a0), l1, some (.ref a2), l3, some (.int (x4)), some (.int (s0)), l6] [.int v, .ref a2] h := by
  refine (p_istore rfl rfl rfl).trans ?_
  refine (p_aload rfl rfl).trans ?_
  refine (p_aload rfl rfl).trans ?_
  refine (p_iload rfl rfl).trans ?_
  refine (p_const rfl).trans ?_
  refine (p_bin rfl).trans ?_
  exact s_iald rfl
theorem r_L_law_1929 {d : Nat} {b0 : Nat} {s1 : Int32} {l0 l1 l2 l3 l4 l5 l6 : Option Value} {h : AH} : R_L_law d 1929 [l0, l1, l2, l3, l4, l5, l6] [.int (s1), .ref b0] h = ((hci h b0).bind (lkN [(18, 233)])).bind fun y => aK (exec tTab d y [.ref b0, .int (s1)] h) (fun v h1 => R_L_law d 1932 [l0, l1, l2, l3, l4, l5, l6] (v.toList ++ []) h1) (fun E h1 => some (.inr E, h1)) := s_callV (L := [(18, 233)]) (n := 1) (b := b0) (rest := []) rfl rfl rfl
theorem r_L_law_1985 {d : Nat} {b0 : Nat} {s1 : Int32} {l0 l1 l2 l3 l4 l5 l6 : Option Value} {h : AH} : R_L_law d 1985 [l0, l1, l2, l3, l4, l5, l6] [.int (s1), .ref b0] h = ((hci h b0).bind (lkN [(18, 234)])).bind fun y => aK (exec tTab d y [.ref b0, .int (s1)] h) (fun v h1 => R_L_law d 1988 [l0, l1, l2, l3, l4, l5, l6] (v.toList ++ []) h1) (fun E h1 => some (.inr E, h1)) := s_callV (L := [(18, 234)]) (n := 1) (b := b0) (rest := []) rfl rfl rfl
theorem r_L_law_2040 {d : Nat} {b0 a3 : Nat} {s1 s2 s3 : Int32} {l0 l1 l2 l4 l5 l6 : Option Value} {h : AH} : R_L_law d 2040 [l0, l1, l2, some (.ref a3), l4, l5, l6] [.int (s3), .int (s2), .int (s1), .ref b0] h = aK (exec tTab d 25 [.ref b0, .int (s1), .int (s2), .int (s3), .ref a3] h) (fun v h1 => R_L_law d 2044 [l0, l1, l2, some (.ref a3), l4, l5, l6] (v.toList ++ []) h1) (fun E h1 => some (.inr E, h1)) := by
  refine (p_aload rfl rfl).trans ?_
  exact s_callS (y := 25) (n := 5) rfl rfl
theorem r_L_law_2123 {d : Nat} {l0 l1 l2 l3 l4 l5 l6 : Option Value} {h : AH} : R_L_law d 2123 [l0, l1, l2, l3, l4, l5, l6] [] h = some (.inl (some (.int ((nI 0)))), h) := by
  refine (p_const rfl).trans ?_
  exact s_iretT rfl rfl
theorem r_L_law_2142 {d : Nat} {s0 s2 : Int32} {b1 : Nat} {l0 l1 l2 l3 l4 l5 l6 : Option Value} {h : AH} : R_L_law d 2142 [l0, l1, l2, l3, l4, l5, l6] [.int (s2), .ref b1, .int (s0)] h = ((hci h b1).bind (lkN [(18, 239)])).bind fun y => aK (exec tTab d y [.ref b1, .int (s2)] h) (fun v h1 => R_L_law d 2145 [l0, l1, l2, l3, l4, l5, l6] (v.toList ++ [.int (s0)]) h1) (fun E h1 => some (.inr E, h1)) := s_callV (L := [(18, 239)]) (n := 1) (b := b1) (rest := [.int (s0)]) rfl rfl rfl
theorem r_L_law_225 {d : Nat} {b0 a0 : Nat} {s1 s2 s3 s4 x4 : Int32} {l1 l2 l3 l5 l6 : Option Value} {h : AH} : R_L_law d 225 [some (.ref a0), l1, l2, l3, some (.int (x4)), l5, l6] [.int (s4), .int (s3), .int (s2), .int (s1), .ref b0] h = (hai h 0 a0 (x4 + (nI 5))).bind fun v => R_L_law d 231 [some (.ref a0), l1, l2, l3, some (.int (x4)), l5, l6] [.int v, .int (s4), .int (s3), .int (s2), .int (s1), .ref b0] h := by
  refine (p_aload rfl rfl).trans ?_
  refine (p_iload rfl rfl).trans ?_
  refine (p_const rfl).trans ?_
  refine (p_bin rfl).trans ?_
  exact s_iald rfl
theorem r_L_law_293 {d : Nat} {s0 s1 : Int32} {l0 l1 l2 l3 l4 l5 l6 : Option Value} {h : AH} : R_L_law d 293 [l0, l1, l2, l3, l4, l5, l6] [.int (s1), .int (s0)] h = if s0 = s1 then R_L_law d 2150 [l0, l1, l2, l3, l4, l5, l6] [] h else R_L_law d 296 [l0, l1, l2, l3, l4, l5, l6] [] h := (s_icmp (g := (fun x y => decide (x = y))) (t := 2150) (nx := 296) rfl).trans bif_dec
theorem r_L_law_322 {d : Nat} {x5 : Int32} {l0 l1 l2 l3 l4 l6 : Option Value} {h : AH} : R_L_law d 322 [l0, l1, l2, l3, l4, some (.int (x5)), l6] [] h = if ¬ x5 = 0 then R_L_law d 339 [l0, l1, l2, l3, l4, some (.int (x5)), l6] [] h else R_L_law d 327 [l0, l1, l2, l3, l4, some (.int (x5)), l6] [] h := by
  refine (p_iload rfl rfl).trans ?_
  exact (s_if (g := (fun x => decide (¬ x = 0))) (t := 339) (nx := 327) rfl).trans bif_dec
theorem r_L_law_320 {d : Nat} {l0 l1 l2 l3 l4 l5 l6 : Option Value} {h : AH} : R_L_law d 320 [l0, l1, l2, l3, l4, l5, l6] [] h = some (.inl (some (.int ((nI 0)))), h) := by
  refine (p_const rfl).trans ?_
  exact s_iretT rfl rfl
theorem r_L_law_366 {d : Nat} {x5 : Int32} {l0 l1 l2 l3 l4 l6 : Option Value} {h : AH} : R_L_law d 366 [l0, l1, l2, l3, l4, some (.int (x5)), l6] [] h = if ¬ x5 = 0 then R_L_law d 383 [l0, l1, l2, l3, l4, some (.int (x5)), l6] [] h else R_L_law d 371 [l0, l1, l2, l3, l4, some (.int (x5)), l6] [] h := by
  refine (p_iload rfl rfl).trans ?_
  exact (s_if (g := (fun x => decide (¬ x = 0))) (t := 383) (nx := 371) rfl).trans bif_dec
theorem r_L_law_364 {d : Nat} {l0 l1 l2 l3 l4 l5 l6 : Option Value} {h : AH} : R_L_law d 364 [l0, l1, l2, l3, l4, l5, l6] [] h = some (.inl (some (.int ((nI 0)))), h) := by
  refine (p_const rfl).trans ?_
  exact s_iretT rfl rfl
theorem r_L_law_425 {d : Nat} {b0 a0 : Nat} {s1 x4 : Int32} {l1 l2 l3 l5 l6 : Option Value} {h : AH} : R_L_law d 425 [some (.ref a0), l1, l2, l3, some (.int (x4)), l5, l6] [.int (s1), .ref b0] h = (hai h 0 a0 (x4 + (nI 2))).bind fun v => R_L_law d 431 [some (.ref a0), l1, l2, l3, some (.int (x4)), l5, l6] [.int v, .int (s1), .ref b0] h := by
  refine (p_aload rfl rfl).trans ?_
  refine (p_iload rfl rfl).trans ?_
  refine (p_const rfl).trans ?_
  refine (p_bin rfl).trans ?_
  exact s_iald rfl
theorem r_L_law_492 {d : Nat} {b0 a0 : Nat} {s1 s2 s3 s4 x4 : Int32} {l1 l2 l3 l5 l6 : Option Value} {h : AH} : R_L_law d 492 [some (.ref a0), l1, l2, l3, some (.int (x4)), l5, l6] [.int (s4), .int (s3), .int (s2), .int (s1), .ref b0] h = (hai h 0 a0 (x4 + (nI 5))).bind fun v => R_L_law d 498 [some (.ref a0), l1, l2, l3, some (.int (x4)), l5, l6] [.int v, .int (s4), .int (s3), .int (s2), .int (s1), .ref b0] h := by
  refine (p_aload rfl rfl).trans ?_
  refine (p_iload rfl rfl).trans ?_
  refine (p_const rfl).trans ?_
  refine (p_bin rfl).trans ?_
  exact s_iald rfl
theorem r_L_law_613 {d : Nat} {b0 a0 : Nat} {s1 x4 : Int32} {l1 l2 l3 l5 l6 : Option Value} {h : AH} : R_L_law d 613 [some (.ref a0), l1, l2, l3, some (.int (x4)), l5, l6] [.int (s1), .ref b0] h = (hai h 0 a0 (x4 + (nI 2))).bind fun v => R_L_law d 619 [some (.ref a0), l1, l2, l3, some (.int (x4)), l5, l6] [.int v, .int (s1), .ref b0] h := by
  refine (p_aload rfl rfl).trans ?_
  refine (p_iload rfl rfl).trans ?_
  refine (p_const rfl).trans ?_
  refine (p_bin rfl).trans ?_
  exact s_iald rfl
theorem r_L_law_678 {d : Nat} {s0 : Int32} {a2 : Nat} {l0 l1 l3 l4 l5 l6 : Option Value} {h : AH} : R_L_law d 678 [l0, l1, some (.ref a2), l3, l4, l5, l6] [.int (s0)] h = ((hci h a2).bind (lkN [(18, 150)])).bind fun y => aK (exec tTab d y [.ref a2] h) (fun v h1 => R_L_law d 684 [l0, l1, some (.ref a2), l3, l4, l5, some (.int (s0))] (v.toList ++ []) h1) (fun E h1 => some (.inr E, h1)) := by
  refine (p_istore rfl rfl rfl).trans ?_
  refine (p_aload rfl rfl).trans ?_
  exact s_callV (L := [(18, 150)]) (n := 0) (b := a2) (rest := []) rfl rfl rfl
theorem r_L_law_734 {d : Nat} {s0 : Int32} {a2 : Nat} {l0 l1 l3 l4 l5 l6 : Option Value} {h : AH} : R_L_law d 734 [l0, l1, some (.ref a2), l3, l4, l5, l6] [.int (s0)] h = ((hci h a2).bind (lkN [(18, 150)])).bind fun y => aK (exec tTab d y [.ref a2] h) (fun v h1 => R_L_law d 740 [l0, l1, some (.ref a2), l3, l4, l5, some (.int (s0))] (v.toList ++ []) h1) (fun E h1 => some (.inr E, h1)) := by
  refine (p_istore rfl rfl rfl).trans ?_
  refine (p_aload rfl rfl).trans ?_
  exact s_callV (L := [(18, 150)]) (n := 0) (b := a2) (rest := []) rfl rfl rfl
theorem r_L_law_793 {d : Nat} {b0 a0 : Nat} {s1 x4 : Int32} {l1 l2 l3 l5 l6 : Option Value} {h : AH} : R_L_law d 793 [some (.ref a0), l1, l2, l3, some (.int (x4)), l5, l6] [.int (s1), .ref b0] h = (hai h 0 a0 (x4 + (nI 2))).bind fun v => R_L_law d 799 [some (.ref a0), l1, l2, l3, some (.int (x4)), l5, l6] [.int v, .int (s1), .ref b0] h := by
  refine (p_aload rfl rfl).trans ?_
  refine (p_iload rfl rfl).trans ?_
  refine (p_const rfl).trans ?_
  refine (p_bin rfl).trans ?_
  exact s_iald rfl
theorem r_L_law_861 {d : Nat} {b0 a0 : Nat} {s1 x4 : Int32} {l1 l2 l3 l5 l6 : Option Value} {h : AH} : R_L_law d 861 [some (.ref a0), l1, l2, l3, some (.int (x4)), l5, l6] [.int (s1), .ref b0] h = (hai h 0 a0 (x4 + (nI 2))).bind fun v => R_L_law d 867 [some (.ref a0), l1, l2, l3, some (.int (x4)), l5, l6] [.int v, .int (s1), .ref b0] h := by
  refine (p_aload rfl rfl).trans ?_
  refine (p_iload rfl rfl).trans ?_
  refine (p_const rfl).trans ?_
  refine (p_bin rfl).trans ?_
  exact s_iald rfl
theorem r_L_law_929 {d : Nat} {b0 a0 : Nat} {s1 x4 : Int32} {l1 l2 l3 l5 l6 : Option Value} {h : AH} : R_L_law d 929 [some (.ref a0), l1, l2, l3, some (.int (x4)), l5, l6] [.int (s1), .ref b0] h = (hai h 0 a0 (x4 + (nI 2))).bind fun v => R_L_law d 935 [some (.ref a0), l1, l2, l3, some (.int (x4)), l5, l6] [.int v, .int (s1), .ref b0] h := by
  refine (p_aload rfl rfl).trans ?_
  refine (p_iload rfl rfl).trans ?_
  refine (p_const rfl).trans ?_
  refine (p_bin rfl).trans ?_
  exact s_iald rfl
theorem r_L_law_1001 {d : Nat} {s0 : Int32} {a2 : Nat} {l0 l1 l3 l4 l5 l6 : Option Value} {h : AH} : R_L_law d 1001 [l0, l1, some (.ref a2), l3, l4, l5, l6] [.int (s0)] h = ((hci h a2).bind (lkN [(18, 150)])).bind fun y => aK (exec tTab d y [.ref a2] h) (fun v h1 => R_L_law d 1007 [l0, l1, some (.ref a2), l3, l4, l5, some (.int (s0))] (v.toList ++ []) h1) (fun E h1 => some (.inr E, h1)) := by
  refine (p_istore rfl rfl rfl).trans ?_
  refine (p_aload rfl rfl).trans ?_
  exact s_callV (L := [(18, 150)]) (n := 0) (b := a2) (rest := []) rfl rfl rfl
theorem r_L_law_1057 {d : Nat} {s0 : Int32} {a2 : Nat} {l0 l1 l3 l4 l5 l6 : Option Value} {h : AH} : R_L_law d 1057 [l0, l1, some (.ref a2), l3, l4, l5, l6] [.int (s0)] h = ((hci h a2).bind (lkN [(18, 150)])).bind fun y => aK (exec tTab d y [.ref a2] h) (fun v h1 => R_L_law d 1063 [l0, l1, some (.ref a2), l3, l4, l5, some (.int (s0))] (v.toList ++ []) h1) (fun E h1 => some (.inr E, h1)) := by
  refine (p_istore rfl rfl rfl).trans ?_
  refine (p_aload rfl rfl).trans ?_
  exact s_callV (L := [(18, 150)]) (n := 0) (b := a2) (rest := []) rfl rfl rfl
theorem r_L_law_1116 {d : Nat} {b0 a0 : Nat} {s1 x4 : Int32} {l1 l2 l3 l5 l6 : Option Value} {h : AH} : R_L_law d 1116 [some (.ref a0), l1, l2, l3, some (.int (x4)), l5, l6] [.int (s1), .ref b0] h = (hai h 0 a0 (x4 + (nI 2))).bind fun v => R_L_law d 1122 [some (.ref a0), l1, l2, l3, some (.int (x4)), l5, l6] [.int v, .int (s1), .ref b0] h := by
  refine (p_aload rfl rfl).trans ?_
  refine (p_iload rfl rfl).trans ?_
  refine (p_const rfl).trans ?_
  refine (p_bin rfl).trans ?_
  exact s_iald rfl
theorem r_L_law_1181 {d : Nat} {s0 x4 : Int32} {a2 a0 : Nat} {l1 l3 l5 l6 : Option Value} {h : AH} : R_L_law d 1181 [some (.ref a0), l1, some (.ref a2), l3, some (.int (x4)), l5, l6] [.int (s0)] h = (hai h 0 a0 (x4 + (nI 1))).bind fun v => R_L_law d 1190 [some (.ref a0), l1, some (.ref a2), l3, some (.int (x4)), some (.int (s0)), l6] [.int v, .ref a2] h := by
  refine (p_istore rfl rfl rfl).trans ?_
  refine (p_aload rfl rfl).trans ?_
  refine (p_aload rfl rfl).trans ?_
  refine (p_iload rfl rfl).trans ?_
  refine (p_const rfl).trans ?_
  refine (p_bin rfl).trans ?_
  exact s_iald rfl
theorem r_L_law_1261 {d : Nat} {s0 : Int32} {a2 : Nat} {l0 l1 l3 l4 l5 l6 : Option Value} {h : AH} : R_L_law d 1261 [l0, l1, some (.ref a2), l3, l4, l5, l6] [.int (s0)] h = ((hci h a2).bind (lkN [(18, 150)])).bind fun y => aK (exec tTab d y [.ref a2] h) (fun v h1 => R_L_law d 1267 [l0, l1, some (.ref a2), l3, l4, l5, some (.int (s0))] (v.toList ++ []) h1) (fun E h1 => some (.inr E, h1)) := by
  refine (p_istore rfl rfl rfl).trans ?_
  refine (p_aload rfl rfl).trans ?_
  exact s_callV (L := [(18, 150)]) (n := 0) (b := a2) (rest := []) rfl rfl rfl
theorem r_L_law_1324 {d : Nat} {s0 : Int32} {a2 : Nat} {l0 l1 l3 l4 l5 l6 : Option Value} {h : AH} : R_L_law d 1324 [l0, l1, some (.ref a2), l3, l4, l5, l6] [.int (s0)] h = ((hci h a2).bind (lkN [(18, 150)])).bind fun y => aK (exec tTab d y [.ref a2] h) (fun v h1 => R_L_law d 1330 [l0, l1, some (.ref a2), l3, l4, l5, some (.int (s0))] (v.toList ++ []) h1) (fun E h1 => some (.inr E, h1)) := by
  refine (p_istore rfl rfl rfl).trans ?_
  refine (p_aload rfl rfl).trans ?_
  exact s_callV (L := [(18, 150)]) (n := 0) (b := a2) (rest := []) rfl rfl rfl
theorem r_L_law_1377 {d : Nat} {s0 s1 : Int32} {l0 l1 l2 l3 l4 l5 l6 : Option Value} {h : AH} : R_L_law d 1377 [l0, l1, l2, l3, l4, l5, l6] [.int (s1), .int (s0)] h = if s0 = s1 then R_L_law d 2150 [l0, l1, l2, l3, l4, l5, l6] [] h else R_L_law d 1380 [l0, l1, l2, l3, l4, l5, l6] [] h := (s_icmp (g := (fun x y => decide (x = y))) (t := 2150) (nx := 1380) rfl).trans bif_dec
theorem r_L_law_1402 {d : Nat} {s0 s1 : Int32} {l0 l1 l2 l3 l4 l5 l6 : Option Value} {h : AH} : R_L_law d 1402 [l0, l1, l2, l3, l4, l5, l6] [.int (s1), .int (s0)] h = if s0 = s1 then R_L_law d 2150 [l0, l1, l2, l3, l4, l5, l6] [] h else R_L_law d 1405 [l0, l1, l2, l3, l4, l5, l6] [] h := (s_icmp (g := (fun x y => decide (x = y))) (t := 2150) (nx := 1405) rfl).trans bif_dec
theorem r_L_law_1440 {d : Nat} {s0 s1 : Int32} {l0 l1 l2 l3 l4 l5 l6 : Option Value} {h : AH} : R_L_law d 1440 [l0, l1, l2, l3, l4, l5, l6] [.int (s1), .int (s0)] h = if s0 = s1 then R_L_law d 2150 [l0, l1, l2, l3, l4, l5, l6] [] h else R_L_law d 1443 [l0, l1, l2, l3, l4, l5, l6] [] h := (s_icmp (g := (fun x y => decide (x = y))) (t := 2150) (nx := 1443) rfl).trans bif_dec
theorem r_L_law_1471 {d : Nat} {b0 a0 : Nat} {s1 x4 : Int32} {l1 l2 l3 l5 l6 : Option Value} {h : AH} : R_L_law d 1471 [some (.ref a0), l1, l2, l3, some (.int (x4)), l5, l6] [.int (s1), .ref b0] h = (hai h 0 a0 (x4 + (nI 2))).bind fun v => R_L_law d 1477 [some (.ref a0), l1, l2, l3, some (.int (x4)), l5, l6] [.int v, .int (s1), .ref b0] h := by
  refine (p_aload rfl rfl).trans ?_
  refine (p_iload rfl rfl).trans ?_
  refine (p_const rfl).trans ?_
  refine (p_bin rfl).trans ?_
  exact s_iald rfl
theorem r_L_law_1539 {d : Nat} {b0 a0 : Nat} {s1 x4 : Int32} {l1 l2 l3 l5 l6 : Option Value} {h : AH} : R_L_law d 1539 [some (.ref a0), l1, l2, l3, some (.int (x4)), l5, l6] [.int (s1), .ref b0] h = (hai h 0 a0 (x4 + (nI 2))).bind fun v => R_L_law d 1545 [some (.ref a0), l1, l2, l3, some (.int (x4)), l5, l6] [.int v, .int (s1), .ref b0] h := by
  refine (p_aload rfl rfl).trans ?_
  refine (p_iload rfl rfl).trans ?_
  refine (p_const rfl).trans ?_
  refine (p_bin rfl).trans ?_
  exact s_iald rfl
theorem r_L_law_1607 {d : Nat} {b0 a0 : Nat} {s1 x4 : Int32} {l1 l2 l3 l5 l6 : Option Value} {h : AH} : R_L_law d 1607 [some (.ref a0), l1, l2, l3, some (.int (x4)), l5, l6] [.int (s1), .ref b0] h = (hai h 0 a0 (x4 + (nI 2))).bind fun v => R_L_law d 1613 [some (.ref a0), l1, l2, l3, some (.int (x4)), l5, l6] [.int v, .int (s1), .ref b0] h := by
  refine (p_aload rfl rfl).trans ?_
  refine (p_iload rfl rfl).trans ?_
  refine (p_const rfl).trans ?_
  refine (p_bin rfl).trans ?_
  exact s_iald rfl
theorem r_L_law_1674 {d : Nat} {b0 a3 : Nat} {s1 s2 s3 s4 : Int32} {l0 l1 l2 l4 l5 l6 : Option Value} {h : AH} : R_L_law d 1674 [l0, l1, l2, some (.ref a3), l4, l5, l6] [.int (s4), .int (s3), .int (s2), .int (s1), .ref b0] h = aK (exec tTab d 19 [.ref b0, .int (s1), .int (s2), .int (s3), .int (s4), .ref a3] h) (fun v h1 => R_L_law d 1678 [l0, l1, l2, some (.ref a3), l4, l5, l6] (v.toList ++ []) h1) (fun E h1 => some (.inr E, h1)) := by
  refine (p_aload rfl rfl).trans ?_
  exact s_callS (y := 19) (n := 6) rfl rfl
theorem r_L_law_1765 {d : Nat} {x5 : Int32} {l0 l1 l2 l3 l4 l6 : Option Value} {h : AH} : R_L_law d 1765 [l0, l1, l2, l3, l4, some (.int (x5)), l6] [] h = if ¬ x5 = 0 then R_L_law d 1782 [l0, l1, l2, l3, l4, some (.int (x5)), l6] [] h else R_L_law d 1770 [l0, l1, l2, l3, l4, some (.int (x5)), l6] [] h := by
  refine (p_iload rfl rfl).trans ?_
  exact (s_if (g := (fun x => decide (¬ x = 0))) (t := 1782) (nx := 1770) rfl).trans bif_dec
theorem r_L_law_1763 {d : Nat} {l0 l1 l2 l3 l4 l5 l6 : Option Value} {h : AH} : R_L_law d 1763 [l0, l1, l2, l3, l4, l5, l6] [] h = some (.inl (some (.int ((nI 0)))), h) := by
  refine (p_const rfl).trans ?_
  exact s_iretT rfl rfl
theorem r_L_law_1808 {d : Nat} {s0 : Int32} {a2 : Nat} {l0 l1 l3 l4 l5 l6 : Option Value} {h : AH} : R_L_law d 1808 [l0, l1, some (.ref a2), l3, l4, l5, l6] [.int (s0)] h = ((hci h a2).bind (lkN [(18, 150)])).bind fun y => aK (exec tTab d y [.ref a2] h) (fun v h1 => R_L_law d 1814 [l0, l1, some (.ref a2), l3, l4, l5, some (.int (s0))] (v.toList ++ []) h1) (fun E h1 => some (.inr E, h1)) := by
  refine (p_istore rfl rfl rfl).trans ?_
  refine (p_aload rfl rfl).trans ?_
  exact s_callV (L := [(18, 150)]) (n := 0) (b := a2) (rest := []) rfl rfl rfl
theorem r_L_law_1867 {d : Nat} {b0 a0 : Nat} {s1 x4 : Int32} {l1 l2 l3 l5 l6 : Option Value} {h : AH} : R_L_law d 1867 [some (.ref a0), l1, l2, l3, some (.int (x4)), l5, l6] [.int (s1), .ref b0] h = (hai h 0 a0 (x4 + (nI 2))).bind fun v => R_L_law d 1873 [some (.ref a0), l1, l2, l3, some (.int (x4)), l5, l6] [.int v, .int (s1), .ref b0] h := by
  refine (p_aload rfl rfl).trans ?_
  refine (p_iload rfl rfl).trans ?_
  refine (p_const rfl).trans ?_
  refine (p_bin rfl).trans ?_
  exact s_iald rfl
theorem r_L_law_1932 {d : Nat} {s0 : Int32} {a2 : Nat} {l0 l1 l3 l4 l5 l6 : Option Value} {h : AH} : R_L_law d 1932 [l0, l1, some (.ref a2), l3, l4, l5, l6] [.int (s0)] h = ((hci h a2).bind (lkN [(18, 150)])).bind fun y => aK (exec tTab d y [.ref a2] h) (fun v h1 => R_L_law d 1938 [l0, l1, some (.ref a2), l3, l4, l5, some (.int (s0))] (v.toList ++ []) h1) (fun E h1 => some (.inr E, h1)) := by
  refine (p_istore rfl rfl rfl).trans ?_
  refine (p_aload rfl rfl).trans ?_
  exact s_callV (L := [(18, 150)]) (n := 0) (b := a2) (rest := []) rfl rfl rfl
theorem r_L_law_1988 {d : Nat} {s0 : Int32} {a2 : Nat} {l0 l1 l3 l4 l5 l6 : Option Value} {h : AH} : R_L_law d 1988 [l0, l1, some (.ref a2), l3, l4, l5, l6] [.int (s0)] h = ((hci h a2).bind (lkN [(18, 150)])).bind fun y => aK (exec tTab d y [.ref a2] h) (fun v h1 => R_L_law d 1994 [l0, l1, some (.ref a2), l3, l4, l5, some (.int (s0))] (v.toList ++ []) h1) (fun E h1 => some (.inr E, h1)) := by
  refine (p_istore rfl rfl rfl).trans ?_
  refine (p_aload rfl rfl).trans ?_
  exact s_callV (L := [(18, 150)]) (n := 0) (b := a2) (rest := []) rfl rfl rfl
theorem r_L_law_2044 {d : Nat} {s0 x4 : Int32} {a2 a0 : Nat} {l1 l3 l5 l6 : Option Value} {h : AH} : R_L_law d 2044 [some (.ref a0), l1, some (.ref a2), l3, some (.int (x4)), l5, l6] [.int (s0)] h = (hai h 0 a0 (x4 + (nI 1))).bind fun v => R_L_law d 2053 [some (.ref a0), l1, some (.ref a2), l3, some (.int (x4)), some (.int (s0)), l6] [.int v, .ref a2] h := by
  refine (p_istore rfl rfl rfl).trans ?_
  refine (p_aload rfl rfl).trans ?_
  refine (p_aload rfl rfl).trans ?_
  refine (p_iload rfl rfl).trans ?_
  refine (p_const rfl).trans ?_
  refine (p_bin rfl).trans ?_
  exact s_iald rfl
theorem r_L_law_2145 {d : Nat} {s0 s1 : Int32} {l0 l1 l2 l3 l4 l5 l6 : Option Value} {h : AH} : R_L_law d 2145 [l0, l1, l2, l3, l4, l5, l6] [.int (s1), .int (s0)] h = if s0 = s1 then R_L_law d 2150 [l0, l1, l2, l3, l4, l5, l6] [] h else R_L_law d 2148 [l0, l1, l2, l3, l4, l5, l6] [] h := (s_icmp (g := (fun x y => decide (x = y))) (t := 2150) (nx := 2148) rfl).trans bif_dec
theorem r_L_law_231 {d : Nat} {b0 : Nat} {s1 s2 s3 s4 s5 : Int32} {l0 l1 l2 l3 l4 l5 l6 : Option Value} {h : AH} : R_L_law d 231 [l0, l1, l2, l3, l4, l5, l6] [.int (s5), .int (s4), .int (s3), .int (s2), .int (s1), .ref b0] h = ((hci h b0).bind (lkN [(0, 27)])).bind fun y => aK (exec tTab d y [.ref b0, .int (s1), .int (s2), .int (s3), .int (s4), .int (s5)] h) (fun v h1 => R_L_law d 234 [l0, l1, l2, l3, l4, l5, l6] (v.toList ++ []) h1) (fun E h1 => some (.inr E, h1)) := s_callV (L := [(0, 27)]) (n := 5) (b := b0) (rest := []) rfl rfl rfl
theorem r_L_law_296 {d : Nat} {l0 l1 l2 l3 l4 l5 l6 : Option Value} {h : AH} : R_L_law d 296 [l0, l1, l2, l3, l4, l5, l6] [] h = some (.inl (some (.int ((nI 0)))), h) := by
  refine (p_const rfl).trans ?_
  exact s_iretT rfl rfl
theorem r_L_law_339 {d : Nat} {x4 : Int32} {l0 l1 l2 l3 l5 l6 : Option Value} {h : AH} : R_L_law d 339 [l0, l1, l2, l3, some (.int (x4)), l5, l6] [] h = R_L_law d 23 [l0, l1, l2, l3, some (.int (x4 + (nI 6))), l5, l6] [] h := by
  refine (p_goto rfl).trans ?_
  refine (p_iinc rfl rfl rfl).trans ?_
  refine (p_goto rfl).trans ?_
  exact rfl
theorem r_L_law_327 {d : Nat} {a3 : Nat} {l0 l1 l2 l4 l5 l6 : Option Value} {h : AH} : R_L_law d 327 [l0, l1, l2, some (.ref a3), l4, l5, l6] [] h = (haj h 2 a3 (nI 0)).bind fun v => R_L_law d 330 [l0, l1, l2, some (.ref a3), l4, l5, l6] [.long v] h := by
  refine (p_aload rfl rfl).trans ?_
  refine (p_const rfl).trans ?_
  exact s_lald rfl
theorem r_L_law_383 {d : Nat} {x4 : Int32} {l0 l1 l2 l3 l5 l6 : Option Value} {h : AH} : R_L_law d 383 [l0, l1, l2, l3, some (.int (x4)), l5, l6] [] h = R_L_law d 23 [l0, l1, l2, l3, some (.int (x4 + (nI 6))), l5, l6] [] h := by
  refine (p_goto rfl).trans ?_
  refine (p_iinc rfl rfl rfl).trans ?_
  refine (p_goto rfl).trans ?_
  exact rfl
theorem r_L_law_371 {d : Nat} {a3 : Nat} {l0 l1 l2 l4 l5 l6 : Option Value} {h : AH} : R_L_law d 371 [l0, l1, l2, some (.ref a3), l4, l5, l6] [] h = (haj h 2 a3 (nI 0)).bind fun v => R_L_law d 374 [l0, l1, l2, some (.ref a3), l4, l5, l6] [.long v] h := by
  refine (p_aload rfl rfl).trans ?_
  refine (p_const rfl).trans ?_
  exact s_lald rfl
theorem r_L_law_431 {d : Nat} {b0 : Nat} {s1 s2 : Int32} {l0 l1 l2 l3 l4 l5 l6 : Option Value} {h : AH} : R_L_law d 431 [l0, l1, l2, l3, l4, l5, l6] [.int (s2), .int (s1), .ref b0] h = ((hci h b0).bind (lkN [(18, 187)])).bind fun y => aK (exec tTab d y [.ref b0, .int (s1), .int (s2)] h) (fun v h1 => R_L_law d 434 [l0, l1, l2, l3, l4, l5, l6] (v.toList ++ []) h1) (fun E h1 => some (.inr E, h1)) := s_callV (L := [(18, 187)]) (n := 2) (b := b0) (rest := []) rfl rfl rfl
theorem r_L_law_498 {d : Nat} {b0 : Nat} {s1 s2 s3 s4 s5 : Int32} {l0 l1 l2 l3 l4 l5 l6 : Option Value} {h : AH} : R_L_law d 498 [l0, l1, l2, l3, l4, l5, l6] [.int (s5), .int (s4), .int (s3), .int (s2), .int (s1), .ref b0] h = if s5 = 0 then R_L_law d 505 [l0, l1, l2, l3, l4, l5, l6] [.int (s4), .int (s3), .int (s2), .int (s1), .ref b0] h else R_L_law d 501 [l0, l1, l2, l3, l4, l5, l6] [.int (s4), .int (s3), .int (s2), .int (s1), .ref b0] h := (s_if (g := (fun x => decide (x = 0))) (t := 505) (nx := 501) rfl).trans bif_dec
theorem r_L_law_619 {d : Nat} {b0 : Nat} {s1 s2 : Int32} {l0 l1 l2 l3 l4 l5 l6 : Option Value} {h : AH} : R_L_law d 619 [l0, l1, l2, l3, l4, l5, l6] [.int (s2), .int (s1), .ref b0] h = ((hci h b0).bind (lkN [(18, 190)])).bind fun y => aK (exec tTab d y [.ref b0, .int (s1), .int (s2)] h) (fun v h1 => R_L_law d 622 [l0, l1, l2, l3, l4, l5, l6] (v.toList ++ []) h1) (fun E h1 => some (.inr E, h1)) := s_callV (L := [(18, 190)]) (n := 2) (b := b0) (rest := []) rfl rfl rfl
theorem r_L_law_684 {d : Nat} {s0 x5 : Int32} {l0 l1 l2 l3 l4 l6 : Option Value} {h : AH} : R_L_law d 684 [l0, l1, l2, l3, l4, some (.int (x5)), l6] [.int (s0)] h = if s0 = x5 then R_L_law d 691 [l0, l1, l2, l3, l4, some (.int (x5)), l6] [] h else R_L_law d 689 [l0, l1, l2, l3, l4, some (.int (x5)), l6] [] h := by
  refine (p_iload rfl rfl).trans ?_
  exact (s_icmp (g := (fun x y => decide (x = y))) (t := 691) (nx := 689) rfl).trans bif_dec
theorem r_L_law_740 {d : Nat} {s0 x5 : Int32} {l0 l1 l2 l3 l4 l6 : Option Value} {h : AH} : R_L_law d 740 [l0, l1, l2, l3, l4, some (.int (x5)), l6] [.int (s0)] h = if s0 = x5 then R_L_law d 747 [l0, l1, l2, l3, l4, some (.int (x5)), l6] [] h else R_L_law d 745 [l0, l1, l2, l3, l4, some (.int (x5)), l6] [] h := by
  refine (p_iload rfl rfl).trans ?_
  exact (s_icmp (g := (fun x y => decide (x = y))) (t := 747) (nx := 745) rfl).trans bif_dec
theorem r_L_law_799 {d : Nat} {b0 : Nat} {s1 s2 : Int32} {l0 l1 l2 l3 l4 l5 l6 : Option Value} {h : AH} : R_L_law d 799 [l0, l1, l2, l3, l4, l5, l6] [.int (s2), .int (s1), .ref b0] h = ((hci h b0).bind (lkN [(18, 194)])).bind fun y => aK (exec tTab d y [.ref b0, .int (s1), .int (s2)] h) (fun v h1 => R_L_law d 802 [l0, l1, l2, l3, l4, l5, l6] (v.toList ++ []) h1) (fun E h1 => some (.inr E, h1)) := s_callV (L := [(18, 194)]) (n := 2) (b := b0) (rest := []) rfl rfl rfl
theorem r_L_law_867 {d : Nat} {b0 : Nat} {s1 s2 : Int32} {l0 l1 l2 l3 l4 l5 l6 : Option Value} {h : AH} : R_L_law d 867 [l0, l1, l2, l3, l4, l5, l6] [.int (s2), .int (s1), .ref b0] h = ((hci h b0).bind (lkN [(18, 195)])).bind fun y => aK (exec tTab d y [.ref b0, .int (s1), .int (s2)] h) (fun v h1 => R_L_law d 870 [l0, l1, l2, l3, l4, l5, l6] (v.toList ++ []) h1) (fun E h1 => some (.inr E, h1)) := s_callV (L := [(18, 195)]) (n := 2) (b := b0) (rest := []) rfl rfl rfl
theorem r_L_law_935 {d : Nat} {b0 : Nat} {s1 s2 : Int32} {l0 l1 l2 l3 l4 l5 l6 : Option Value} {h : AH} : R_L_law d 935 [l0, l1, l2, l3, l4, l5, l6] [.int (s2), .int (s1), .ref b0] h = ((hci h b0).bind (lkN [(18, 196)])).bind fun y => aK (exec tTab d y [.ref b0, .int (s1), .int (s2)] h) (fun v h1 => R_L_law d 938 [l0, l1, l2, l3, l4, l5, l6] (v.toList ++ []) h1) (fun E h1 => some (.inr E, h1)) := s_callV (L := [(18, 196)]) (n := 2) (b := b0) (rest := []) rfl rfl rfl
theorem r_L_law_1007 {d : Nat} {s0 x5 : Int32} {l0 l1 l2 l3 l4 l6 : Option Value} {h : AH} : R_L_law d 1007 [l0, l1, l2, l3, l4, some (.int (x5)), l6] [.int (s0)] h = if s0 = x5 then R_L_law d 1014 [l0, l1, l2, l3, l4, some (.int (x5)), l6] [] h else R_L_law d 1012 [l0, l1, l2, l3, l4, some (.int (x5)), l6] [] h := by
  refine (p_iload rfl rfl).trans ?_
  exact (s_icmp (g := (fun x y => decide (x = y))) (t := 1014) (nx := 1012) rfl).trans bif_dec
theorem r_L_law_1063 {d : Nat} {s0 x5 : Int32} {l0 l1 l2 l3 l4 l6 : Option Value} {h : AH} : R_L_law d 1063 [l0, l1, l2, l3, l4, some (.int (x5)), l6] [.int (s0)] h = if s0 = x5 then R_L_law d 1070 [l0, l1, l2, l3, l4, some (.int (x5)), l6] [] h else R_L_law d 1068 [l0, l1, l2, l3, l4, some (.int (x5)), l6] [] h := by
  refine (p_iload rfl rfl).trans ?_
  exact (s_icmp (g := (fun x y => decide (x = y))) (t := 1070) (nx := 1068) rfl).trans bif_dec
theorem r_L_law_1122 {d : Nat} {b0 : Nat} {s1 s2 : Int32} {l0 l1 l2 l3 l4 l5 l6 : Option Value} {h : AH} : R_L_law d 1122 [l0, l1, l2, l3, l4, l5, l6] [.int (s2), .int (s1), .ref b0] h = ((hci h b0).bind (lkN [(18, 199)])).bind fun y => aK (exec tTab d y [.ref b0, .int (s1), .int (s2)] h) (fun v h1 => R_L_law d 1125 [l0, l1, l2, l3, l4, l5, l6] (v.toList ++ []) h1) (fun E h1 => some (.inr E, h1)) := s_callV (L := [(18, 199)]) (n := 2) (b := b0) (rest := []) rfl rfl rfl
theorem r_L_law_1190 {d : Nat} {b0 a0 : Nat} {s1 x4 : Int32} {l1 l2 l3 l5 l6 : Option Value} {h : AH} : R_L_law d 1190 [some (.ref a0), l1, l2, l3, some (.int (x4)), l5, l6] [.int (s1), .ref b0] h = (hai h 0 a0 (x4 + (nI 2))).bind fun v => R_L_law d 1196 [some (.ref a0), l1, l2, l3, some (.int (x4)), l5, l6] [.int v, .int (s1), .ref b0] h := by
  refine (p_aload rfl rfl).trans ?_
  refine (p_iload rfl rfl).trans ?_
  refine (p_const rfl).trans ?_
  refine (p_bin rfl).trans ?_
  exact s_iald rfl
theorem r_L_law_1267 {d : Nat} {s0 x5 : Int32} {l0 l1 l2 l3 l4 l6 : Option Value} {h : AH} : R_L_law d 1267 [l0, l1, l2, l3, l4, some (.int (x5)), l6] [.int (s0)] h = if s0 = x5 then R_L_law d 1274 [l0, l1, l2, l3, l4, some (.int (x5)), l6] [] h else R_L_law d 1272 [l0, l1, l2, l3, l4, some (.int (x5)), l6] [] h := by
  refine (p_iload rfl rfl).trans ?_
  exact (s_icmp (g := (fun x y => decide (x = y))) (t := 1274) (nx := 1272) rfl).trans bif_dec
theorem r_L_law_1330 {d : Nat} {s0 x5 : Int32} {l0 l1 l2 l3 l4 l6 : Option Value} {h : AH} : R_L_law d 1330 [l0, l1, l2, l3, l4, some (.int (x5)), l6] [.int (s0)] h = if s0 = x5 then R_L_law d 1337 [l0, l1, l2, l3, l4, some (.int (x5)), l6] [] h else R_L_law d 1335 [l0, l1, l2, l3, l4, some (.int (x5)), l6] [] h := by
  refine (p_iload rfl rfl).trans ?_
  exact (s_icmp (g := (fun x y => decide (x = y))) (t := 1337) (nx := 1335) rfl).trans bif_dec
theorem r_L_law_1380 {d : Nat} {l0 l1 l2 l3 l4 l5 l6 : Option Value} {h : AH} : R_L_law d 1380 [l0, l1, l2, l3, l4, l5, l6] [] h = some (.inl (some (.int ((nI 0)))), h) := by
  refine (p_const rfl).trans ?_
  exact s_iretT rfl rfl
theorem r_L_law_1405 {d : Nat} {l0 l1 l2 l3 l4 l5 l6 : Option Value} {h : AH} : R_L_law d 1405 [l0, l1, l2, l3, l4, l5, l6] [] h = some (.inl (some (.int ((nI 0)))), h) := by
  refine (p_const rfl).trans ?_
  exact s_iretT rfl rfl
theorem r_L_law_1443 {d : Nat} {l0 l1 l2 l3 l4 l5 l6 : Option Value} {h : AH} : R_L_law d 1443 [l0, l1, l2, l3, l4, l5, l6] [] h = some (.inl (some (.int ((nI 0)))), h) := by
  refine (p_const rfl).trans ?_
  exact s_iretT rfl rfl
theorem r_L_law_1477 {d : Nat} {b0 : Nat} {s1 s2 : Int32} {l0 l1 l2 l3 l4 l5 l6 : Option Value} {h : AH} : R_L_law d 1477 [l0, l1, l2, l3, l4, l5, l6] [.int (s2), .int (s1), .ref b0] h = ((hci h b0).bind (lkN [(18, 217)])).bind fun y => aK (exec tTab d y [.ref b0, .int (s1), .int (s2)] h) (fun v h1 => R_L_law d 1480 [l0, l1, l2, l3, l4, l5, l6] (v.toList ++ []) h1) (fun E h1 => some (.inr E, h1)) := s_callV (L := [(18, 217)]) (n := 2) (b := b0) (rest := []) rfl rfl rfl
theorem r_L_law_1545 {d : Nat} {b0 : Nat} {s1 s2 : Int32} {l0 l1 l2 l3 l4 l5 l6 : Option Value} {h : AH} : R_L_law d 1545 [l0, l1, l2, l3, l4, l5, l6] [.int (s2), .int (s1), .ref b0] h = ((hci h b0).bind (lkN [(18, 220)])).bind fun y => aK (exec tTab d y [.ref b0, .int (s1), .int (s2)] h) (fun v h1 => R_L_law d 1548 [l0, l1, l2, l3, l4, l5, l6] (v.toList ++ []) h1) (fun E h1 => some (.inr E, h1)) := s_callV (L := [(18, 220)]) (n := 2) (b := b0) (rest := []) rfl rfl rfl
theorem r_L_law_1613 {d : Nat} {b0 : Nat} {s1 s2 : Int32} {l0 l1 l2 l3 l4 l5 l6 : Option Value} {h : AH} : R_L_law d 1613 [l0, l1, l2, l3, l4, l5, l6] [.int (s2), .int (s1), .ref b0] h = ((hci h b0).bind (lkN [(18, 224)])).bind fun y => aK (exec tTab d y [.ref b0, .int (s1), .int (s2)] h) (fun v h1 => R_L_law d 1616 [l0, l1, l2, l3, l4, l5, l6] (v.toList ++ []) h1) (fun E h1 => some (.inr E, h1)) := s_callV (L := [(18, 224)]) (n := 2) (b := b0) (rest := []) rfl rfl rfl
theorem r_L_law_1678 {d : Nat} {s0 x4 : Int32} {a2 a0 : Nat} {l1 l3 l5 l6 : Option Value} {h : AH} : R_L_law d 1678 [some (.ref a0), l1, some (.ref a2), l3, some (.int (x4)), l5, l6] [.int (s0)] h = (hai h 0 a0 (x4 + (nI 1))).bind fun v => R_L_law d 1687 [some (.ref a0), l1, some (.ref a2), l3, some (.int (x4)), some (.int (s0)), l6] [.int v, .ref a2] h := by
  refine (p_istore rfl rfl rfl).trans ?_
  refine (p_aload rfl rfl).trans ?_
  refine (p_aload rfl rfl).trans ?_
  refine (p_iload rfl rfl).trans ?_
  refine (p_const rfl).trans ?_
  refine (p_bin rfl).trans ?_
  exact s_iald rfl
theorem r_L_law_1782 {d : Nat} {x4 : Int32} {l0 l1 l2 l3 l5 l6 : Option Value} {h : AH} : R_L_law d 1782 [l0, l1, l2, l3, some (.int (x4)), l5, l6] [] h = R_L_law d 23 [l0, l1, l2, l3, some (.int (x4 + (nI 6))), l5, l6] [] h := by
  refine (p_goto rfl).trans ?_
  refine (p_iinc rfl rfl rfl).trans ?_
  refine (p_goto rfl).trans ?_
  exact rfl
theorem r_L_law_1770 {d : Nat} {a3 : Nat} {l0 l1 l2 l4 l5 l6 : Option Value} {h : AH} : R_L_law d 1770 [l0, l1, l2, some (.ref a3), l4, l5, l6] [] h = (haj h 2 a3 (nI 0)).bind fun v => R_L_law d 1773 [l0, l1, l2, some (.ref a3), l4, l5, l6] [.long v] h := by
  refine (p_aload rfl rfl).trans ?_
  refine (p_const rfl).trans ?_
  exact s_lald rfl
theorem r_L_law_1814 {d : Nat} {s0 x5 : Int32} {l0 l1 l2 l3 l4 l6 : Option Value} {h : AH} : R_L_law d 1814 [l0, l1, l2, l3, l4, some (.int (x5)), l6] [.int (s0)] h = if s0 = x5 then R_L_law d 1821 [l0, l1, l2, l3, l4, some (.int (x5)), l6] [] h else R_L_law d 1819 [l0, l1, l2, l3, l4, some (.int (x5)), l6] [] h := by
  refine (p_iload rfl rfl).trans ?_
  exact (s_icmp (g := (fun x y => decide (x = y))) (t := 1821) (nx := 1819) rfl).trans bif_dec
theorem r_L_law_1873 {d : Nat} {b0 : Nat} {s1 s2 : Int32} {l0 l1 l2 l3 l4 l5 l6 : Option Value} {h : AH} : R_L_law d 1873 [l0, l1, l2, l3, l4, l5, l6] [.int (s2), .int (s1), .ref b0] h = ((hci h b0).bind (lkN [(18, 231)])).bind fun y => aK (exec tTab d y [.ref b0, .int (s1), .int (s2)] h) (fun v h1 => R_L_law d 1876 [l0, l1, l2, l3, l4, l5, l6] (v.toList ++ []) h1) (fun E h1 => some (.inr E, h1)) := s_callV (L := [(18, 231)]) (n := 2) (b := b0) (rest := []) rfl rfl rfl
theorem r_L_law_1938 {d : Nat} {s0 x5 : Int32} {l0 l1 l2 l3 l4 l6 : Option Value} {h : AH} : R_L_law d 1938 [l0, l1, l2, l3, l4, some (.int (x5)), l6] [.int (s0)] h = if s0 = x5 then R_L_law d 1945 [l0, l1, l2, l3, l4, some (.int (x5)), l6] [] h else R_L_law d 1943 [l0, l1, l2, l3, l4, some (.int (x5)), l6] [] h := by
  refine (p_iload rfl rfl).trans ?_
  exact (s_icmp (g := (fun x y => decide (x = y))) (t := 1945) (nx := 1943) rfl).trans bif_dec
theorem r_L_law_1994 {d : Nat} {s0 x5 : Int32} {l0 l1 l2 l3 l4 l6 : Option Value} {h : AH} : R_L_law d 1994 [l0, l1, l2, l3, l4, some (.int (x5)), l6] [.int (s0)] h = if s0 = x5 then R_L_law d 2001 [l0, l1, l2, l3, l4, some (.int (x5)), l6] [] h else R_L_law d 1999 [l0, l1, l2, l3, l4, some (.int (x5)), l6] [] h := by
  refine (p_iload rfl rfl).trans ?_
  exact (s_icmp (g := (fun x y => decide (x = y))) (t := 2001) (nx := 1999) rfl).trans bif_dec
theorem r_L_law_2053 {d : Nat} {b0 a0 : Nat} {s1 x4 : Int32} {l1 l2 l3 l5 l6 : Option Value} {h : AH} : R_L_law d 2053 [some (.ref a0), l1, l2, l3, some (.int (x4)), l5, l6] [.int (s1), .ref b0] h = (hai h 0 a0 (x4 + (nI 2))).bind fun v => R_L_law d 2059 [some (.ref a0), l1, l2, l3, some (.int (x4)), l5, l6] [.int v, .int (s1), .ref b0] h := by
  refine (p_aload rfl rfl).trans ?_
  refine (p_iload rfl rfl).trans ?_
  refine (p_const rfl).trans ?_
  refine (p_bin rfl).trans ?_
  exact s_iald rfl
theorem r_L_law_2148 {d : Nat} {l0 l1 l2 l3 l4 l5 l6 : Option Value} {h : AH} : R_L_law d 2148 [l0, l1, l2, l3, l4, l5, l6] [] h = some (.inl (some (.int ((nI 0)))), h) := by
  refine (p_const rfl).trans ?_
  exact s_iretT rfl rfl
theorem r_L_law_234 {d : Nat} {s0 x4 : Int32} {a2 a0 : Nat} {l1 l3 l5 l6 : Option Value} {h : AH} : R_L_law d 234 [some (.ref a0), l1, some (.ref a2), l3, some (.int (x4)), l5, l6] [.int (s0)] h = (hai h 0 a0 (x4 + (nI 1))).bind fun v => R_L_law d 241 [some (.ref a0), l1, some (.ref a2), l3, some (.int (x4)), l5, l6] [.int v, .ref a2, .int (s0)] h := by
  refine (p_aload rfl rfl).trans ?_
  refine (p_aload rfl rfl).trans ?_
  refine (p_iload rfl rfl).trans ?_
  refine (p_const rfl).trans ?_
  refine (p_bin rfl).trans ?_
  exact s_iald rfl
theorem r_L_law_330 {d : Nat} {j0 : Int64} {x6 : Int32} {l0 l1 l2 l3 l4 l5 : Option Value} {h : AH} : R_L_law d 330 [l0, l1, l2, l3, l4, l5, some (.int (x6))] [.long (j0)] h = if (lg_cmp j0 x6.toInt64) = 0 then R_L_law d 339 [l0, l1, l2, l3, l4, l5, some (.int (x6))] [] h else R_L_law d 337 [l0, l1, l2, l3, l4, l5, some (.int (x6))] [] h := by
  refine (p_iload rfl rfl).trans ?_
  refine (p_i2l rfl).trans ?_
  refine (p_lcmp rfl).trans ?_
  exact (s_if (g := (fun x => decide (x = 0))) (t := 339) (nx := 337) rfl).trans bif_dec
theorem r_L_law_374 {d : Nat} {j0 : Int64} {x6 : Int32} {l0 l1 l2 l3 l4 l5 : Option Value} {h : AH} : R_L_law d 374 [l0, l1, l2, l3, l4, l5, some (.int (x6))] [.long (j0)] h = if (lg_cmp j0 x6.toInt64) = 0 then R_L_law d 383 [l0, l1, l2, l3, l4, l5, some (.int (x6))] [] h else R_L_law d 381 [l0, l1, l2, l3, l4, l5, some (.int (x6))] [] h := by
  refine (p_iload rfl rfl).trans ?_
  refine (p_i2l rfl).trans ?_
  refine (p_lcmp rfl).trans ?_
  exact (s_if (g := (fun x => decide (x = 0))) (t := 383) (nx := 381) rfl).trans bif_dec
theorem r_L_law_434 {d : Nat} {s0 : Int32} {a2 : Nat} {l0 l1 l3 l4 l5 l6 : Option Value} {h : AH} : R_L_law d 434 [l0, l1, some (.ref a2), l3, l4, l5, l6] [.int (s0)] h = ((hci h a2).bind (lkN [(18, 150)])).bind fun y => aK (exec tTab d y [.ref a2] h) (fun v h1 => R_L_law d 440 [l0, l1, some (.ref a2), l3, l4, l5, some (.int (s0))] (v.toList ++ []) h1) (fun E h1 => some (.inr E, h1)) := by
  refine (p_istore rfl rfl rfl).trans ?_
  refine (p_aload rfl rfl).trans ?_
  exact s_callV (L := [(18, 150)]) (n := 0) (b := a2) (rest := []) rfl rfl rfl
theorem r_L_law_505 {d : Nat} {b0 a3 : Nat} {s1 s2 s3 s4 : Int32} {l0 l1 l2 l4 l5 l6 : Option Value} {h : AH} : R_L_law d 505 [l0, l1, l2, some (.ref a3), l4, l5, l6] [.int (s4), .int (s3), .int (s2), .int (s1), .ref b0] h = aK (exec tTab d 3 [.ref b0, .int (s1), .int (s2), .int (s3), .int (s4), .int ((nI 0)), .ref a3] h) (fun v h1 => R_L_law d 510 [l0, l1, l2, some (.ref a3), l4, l5, l6] (v.toList ++ []) h1) (fun E h1 => some (.inr E, h1)) := by
  refine (p_const rfl).trans ?_
  refine (p_aload rfl rfl).trans ?_
  exact s_callS (y := 3) (n := 7) rfl rfl
theorem r_L_law_501 {d : Nat} {b0 a3 : Nat} {s1 s2 s3 s4 : Int32} {l0 l1 l2 l4 l5 l6 : Option Value} {h : AH} : R_L_law d 501 [l0, l1, l2, some (.ref a3), l4, l5, l6] [.int (s4), .int (s3), .int (s2), .int (s1), .ref b0] h = aK (exec tTab d 3 [.ref b0, .int (s1), .int (s2), .int (s3), .int (s4), .int ((nI 1)), .ref a3] h) (fun v h1 => R_L_law d 510 [l0, l1, l2, some (.ref a3), l4, l5, l6] (v.toList ++ []) h1) (fun E h1 => some (.inr E, h1)) := by
  refine (p_const rfl).trans ?_
  refine (p_goto rfl).trans ?_
  refine (p_aload rfl rfl).trans ?_
  exact s_callS (y := 3) (n := 7) rfl rfl
theorem r_L_law_622 {d : Nat} {s0 : Int32} {a2 : Nat} {l0 l1 l3 l4 l5 l6 : Option Value} {h : AH} : R_L_law d 622 [l0, l1, some (.ref a2), l3, l4, l5, l6] [.int (s0)] h = ((hci h a2).bind (lkN [(18, 150)])).bind fun y => aK (exec tTab d y [.ref a2] h) (fun v h1 => R_L_law d 628 [l0, l1, some (.ref a2), l3, l4, l5, some (.int (s0))] (v.toList ++ []) h1) (fun E h1 => some (.inr E, h1)) := by
  refine (p_istore rfl rfl rfl).trans ?_
  refine (p_aload rfl rfl).trans ?_
  exact s_callV (L := [(18, 150)]) (n := 0) (b := a2) (rest := []) rfl rfl rfl
theorem r_L_law_691 {d : Nat} {x5 : Int32} {l0 l1 l2 l3 l4 l6 : Option Value} {h : AH} : R_L_law d 691 [l0, l1, l2, l3, l4, some (.int (x5)), l6] [] h = if ¬ x5 = 0 then R_L_law d 708 [l0, l1, l2, l3, l4, some (.int (x5)), l6] [] h else R_L_law d 696 [l0, l1, l2, l3, l4, some (.int (x5)), l6] [] h := by
  refine (p_iload rfl rfl).trans ?_
  exact (s_if (g := (fun x => decide (¬ x = 0))) (t := 708) (nx := 696) rfl).trans bif_dec
theorem r_L_law_689 {d : Nat} {l0 l1 l2 l3 l4 l5 l6 : Option Value} {h : AH} : R_L_law d 689 [l0, l1, l2, l3, l4, l5, l6] [] h = some (.inl (some (.int ((nI 0)))), h) := by
  refine (p_const rfl).trans ?_
  exact s_iretT rfl rfl
theorem r_L_law_747 {d : Nat} {x5 : Int32} {l0 l1 l2 l3 l4 l6 : Option Value} {h : AH} : R_L_law d 747 [l0, l1, l2, l3, l4, some (.int (x5)), l6] [] h = if ¬ x5 = 0 then R_L_law d 764 [l0, l1, l2, l3, l4, some (.int (x5)), l6] [] h else R_L_law d 752 [l0, l1, l2, l3, l4, some (.int (x5)), l6] [] h := by
  refine (p_iload rfl rfl).trans ?_
  exact (s_if (g := (fun x => decide (¬ x = 0))) (t := 764) (nx := 752) rfl).trans bif_dec
theorem r_L_law_745 {d : Nat} {l0 l1 l2 l3 l4 l5 l6 : Option Value} {h : AH} : R_L_law d 745 [l0, l1, l2, l3, l4, l5, l6] [] h = some (.inl (some (.int ((nI 0)))), h) := by
  refine (p_const rfl).trans ?_
  exact s_iretT rfl rfl
theorem r_L_law_802 {d : Nat} {s0 : Int32} {a2 : Nat} {l0 l1 l3 l4 l5 l6 : Option Value} {h : AH} : R_L_law d 802 [l0, l1, some (.ref a2), l3, l4, l5, l6] [.int (s0)] h = ((hci h a2).bind (lkN [(18, 150)])).bind fun y => aK (exec tTab d y [.ref a2] h) (fun v h1 => R_L_law d 808 [l0, l1, some (.ref a2), l3, l4, l5, some (.int (s0))] (v.toList ++ []) h1) (fun E h1 => some (.inr E, h1)) := by
  refine (p_istore rfl rfl rfl).trans ?_
  refine (p_aload rfl rfl).trans ?_
  exact s_callV (L := [(18, 150)]) (n := 0) (b := a2) (rest := []) rfl rfl rfl
theorem r_L_law_870 {d : Nat} {s0 : Int32} {a2 : Nat} {l0 l1 l3 l4 l5 l6 : Option Value} {h : AH} : R_L_law d 870 [l0, l1, some (.ref a2), l3, l4, l5, l6] [.int (s0)] h = ((hci h a2).bind (lkN [(18, 150)])).bind fun y => aK (exec tTab d y [.ref a2] h) (fun v h1 => R_L_law d 876 [l0, l1, some (.ref a2), l3, l4, l5, some (.int (s0))] (v.toList ++ []) h1) (fun E h1 => some (.inr E, h1)) := by
  refine (p_istore rfl rfl rfl).trans ?_
  refine (p_aload rfl rfl).trans ?_
  exact s_callV (L := [(18, 150)]) (n := 0) (b := a2) (rest := []) rfl rfl rfl
theorem r_L_law_938 {d : Nat} {s0 : Int32} {a2 : Nat} {l0 l1 l3 l4 l5 l6 : Option Value} {h : AH} : R_L_law d 938 [l0, l1, some (.ref a2), l3, l4, l5, l6] [.int (s0)] h = ((hci h a2).bind (lkN [(18, 150)])).bind fun y => aK (exec tTab d y [.ref a2] h) (fun v h1 => R_L_law d 944 [l0, l1, some (.ref a2), l3, l4, l5, some (.int (s0))] (v.toList ++ []) h1) (fun E h1 => some (.inr E, h1)) := by
  refine (p_istore rfl rfl rfl).trans ?_
  refine (p_aload rfl rfl).trans ?_
  exact s_callV (L := [(18, 150)]) (n := 0) (b := a2) (rest := []) rfl rfl rfl
theorem r_L_law_1014 {d : Nat} {x5 : Int32} {l0 l1 l2 l3 l4 l6 : Option Value} {h : AH} : R_L_law d 1014 [l0, l1, l2, l3, l4, some (.int (x5)), l6] [] h = if ¬ x5 = 0 then R_L_law d 1031 [l0, l1, l2, l3, l4, some (.int (x5)), l6] [] h else R_L_law d 1019 [l0, l1, l2, l3, l4, some (.int (x5)), l6] [] h := by
  refine (p_iload rfl rfl).trans ?_
  exact (s_if (g := (fun x => decide (¬ x = 0))) (t := 1031) (nx := 1019) rfl).trans bif_dec
theorem r_L_law_1012 {d : Nat} {l0 l1 l2 l3 l4 l5 l6 : Option Value} {h : AH} : R_L_law d 1012 [l0, l1, l2, l3, l4, l5, l6] [] h = some (.inl (some (.int ((nI 0)))), h) := by
  refine (p_const rfl).trans ?_
  exact s_iretT rfl rfl
theorem r_L_law_1070 {d : Nat} {x5 : Int32} {l0 l1 l2 l3 l4 l6 : Option Value} {h : AH} : R_L_law d 1070 [l0, l1, l2, l3, l4, some (.int (x5)), l6] [] h = if ¬ x5 = 0 then R_L_law d 1087 [l0, l1, l2, l3, l4, some (.int (x5)), l6] [] h else R_L_law d 1075 [l0, l1, l2, l3, l4, some (.int (x5)), l6] [] h := by
  refine (p_iload rfl rfl).trans ?_
  exact (s_if (g := (fun x => decide (¬ x = 0))) (t := 1087) (nx := 1075) rfl).trans bif_dec
theorem r_L_law_1068 {d : Nat} {l0 l1 l2 l3 l4 l5 l6 : Option Value} {h : AH} : R_L_law d 1068 [l0, l1, l2, l3, l4, l5, l6] [] h = some (.inl (some (.int ((nI 0)))), h) := by
  refine (p_const rfl).trans ?_
  exact s_iretT rfl rfl
theorem r_L_law_1125 {d : Nat} {s0 : Int32} {a2 : Nat} {l0 l1 l3 l4 l5 l6 : Option Value} {h : AH} : R_L_law d 1125 [l0, l1, some (.ref a2), l3, l4, l5, l6] [.int (s0)] h = ((hci h a2).bind (lkN [(18, 150)])).bind fun y => aK (exec tTab d y [.ref a2] h) (fun v h1 => R_L_law d 1131 [l0, l1, some (.ref a2), l3, l4, l5, some (.int (s0))] (v.toList ++ []) h1) (fun E h1 => some (.inr E, h1)) := by
  refine (p_istore rfl rfl rfl).trans ?_
  refine (p_aload rfl rfl).trans ?_
  exact s_callV (L := [(18, 150)]) (n := 0) (b := a2) (rest := []) rfl rfl rfl
theorem r_L_law_1196 {d : Nat} {b0 a0 : Nat} {s1 s2 x4 : Int32} {l1 l2 l3 l5 l6 : Option Value} {h : AH} : R_L_law d 1196 [some (.ref a0), l1, l2, l3, some (.int (x4)), l5, l6] [.int (s2), .int (s1), .ref b0] h = (hai h 0 a0 (x4 + (nI 3))).bind fun v => R_L_law d 1202 [some (.ref a0), l1, l2, l3, some (.int (x4)), l5, l6] [.int v, .int (s2), .int (s1), .ref b0] h := by
  refine (p_aload rfl rfl).trans ?_
  refine (p_iload rfl rfl).trans ?_
  refine (p_const rfl).trans ?_
  refine (p_bin rfl).trans ?_
  exact s_iald rfl
theorem r_L_law_1274 {d : Nat} {x5 : Int32} {l0 l1 l2 l3 l4 l6 : Option Value} {h : AH} : R_L_law d 1274 [l0, l1, l2, l3, l4, some (.int (x5)), l6] [] h = if ¬ x5 = 0 then R_L_law d 1298 [l0, l1, l2, l3, l4, some (.int (x5)), l6] [] h else R_L_law d 1279 [l0, l1, l2, l3, l4, some (.int (x5)), l6] [] h := by
  refine (p_iload rfl rfl).trans ?_
  exact (s_if (g := (fun x => decide (¬ x = 0))) (t := 1298) (nx := 1279) rfl).trans bif_dec
theorem r_L_law_1272 {d : Nat} {l0 l1 l2 l3 l4 l5 l6 : Option Value} {h : AH} : R_L_law d 1272 [l0, l1, l2, l3, l4, l5, l6] [] h = some (.inl (some (.int ((nI 0)))), h) := by
  refine (p_const rfl).trans ?_
  exact s_iretT rfl rfl
theorem r_L_law_1337 {d : Nat} {x5 : Int32} {l0 l1 l2 l3 l4 l6 : Option Value} {h : AH} : R_L_law d 1337 [l0, l1, l2, l3, l4, some (.int (x5)), l6] [] h = if ¬ x5 = 0 then R_L_law d 1354 [l0, l1, l2, l3, l4, some (.int (x5)), l6] [] h else R_L_law d 1342 [l0, l1, l2, l3, l4, some (.int (x5)), l6] [] h := by
  refine (p_iload rfl rfl).trans ?_
  exact (s_if (g := (fun x => decide (¬ x = 0))) (t := 1354) (nx := 1342) rfl).trans bif_dec
theorem r_L_law_1335 {d : Nat} {l0 l1 l2 l3 l4 l5 l6 : Option Value} {h : AH} : R_L_law d 1335 [l0, l1, l2, l3, l4, l5, l6] [] h = some (.inl (some (.int ((nI 0)))), h) := by
  refine (p_const rfl).trans ?_
  exact s_iretT rfl rfl
theorem r_L_law_1480 {d : Nat} {s0 : Int32} {a2 : Nat} {l0 l1 l3 l4 l5 l6 : Option Value} {h : AH} : R_L_law d 1480 [l0, l1, some (.ref a2), l3, l4, l5, l6] [.int (s0)] h = ((hci h a2).bind (lkN [(18, 150)])).bind fun y => aK (exec tTab d y [.ref a2] h) (fun v h1 => R_L_law d 1486 [l0, l1, some (.ref a2), l3, l4, l5, some (.int (s0))] (v.toList ++ []) h1) (fun E h1 => some (.inr E, h1)) := by
  refine (p_istore rfl rfl rfl).trans ?_
  refine (p_aload rfl rfl).trans ?_
  exact s_callV (L := [(18, 150)]) (n := 0) (b := a2) (rest := []) rfl rfl rfl
theorem r_L_law_1548 {d : Nat} {s0 : Int32} {a2 : Nat} {l0 l1 l3 l4 l5 l6 : Option Value} {h : AH} : R_L_law d 1548 [l0, l1, some (.ref a2), l3, l4, l5, l6] [.int (s0)] h = ((hci h a2).bind (lkN [(18, 150)])).bind fun y => aK (exec tTab d y [.ref a2] h) (fun v h1 => R_L_law d 1554 [l0, l1, some (.ref a2), l3, l4, l5, some (.int (s0))] (v.toList ++ []) h1) (fun E h1 => some (.inr E, h1)) := by
  refine (p_istore rfl rfl rfl).trans ?_
  refine (p_aload rfl rfl).trans ?_
  exact s_callV (L := [(18, 150)]) (n := 0) (b := a2) (rest := []) rfl rfl rfl
theorem r_L_law_1616 {d : Nat} {s0 : Int32} {a2 : Nat} {l0 l1 l3 l4 l5 l6 : Option Value} {h : AH} : R_L_law d 1616 [l0, l1, some (.ref a2), l3, l4, l5, l6] [.int (s0)] h = ((hci h a2).bind (lkN [(18, 150)])).bind fun y => aK (exec tTab d y [.ref a2] h) (fun v h1 => R_L_law d 1622 [l0, l1, some (.ref a2), l3, l4, l5, some (.int (s0))] (v.toList ++ []) h1) (fun E h1 => some (.inr E, h1)) := by
  refine (p_istore rfl rfl rfl).trans ?_
  refine (p_aload rfl rfl).trans ?_
  exact s_callV (L := [(18, 150)]) (n := 0) (b := a2) (rest := []) rfl rfl rfl
theorem r_L_law_1687 {d : Nat} {b0 a0 : Nat} {s1 x4 : Int32} {l1 l2 l3 l5 l6 : Option Value} {h : AH} : R_L_law d 1687 [some (.ref a0), l1, l2, l3, some (.int (x4)), l5, l6] [.int (s1), .ref b0] h = (hai h 0 a0 (x4 + (nI 2))).bind fun v => R_L_law d 1693 [some (.ref a0), l1, l2, l3, some (.int (x4)), l5, l6] [.int v, .int (s1), .ref b0] h := by
  refine (p_aload rfl rfl).trans ?_
  refine (p_iload rfl rfl).trans ?_
  refine (p_const rfl).trans ?_
  refine (p_bin rfl).trans ?_
  exact s_iald rfl
theorem r_L_law_1773 {d : Nat} {j0 : Int64} {x6 : Int32} {l0 l1 l2 l3 l4 l5 : Option Value} {h : AH} : R_L_law d 1773 [l0, l1, l2, l3, l4, l5, some (.int (x6))] [.long (j0)] h = if (lg_cmp j0 x6.toInt64) = 0 then R_L_law d 1782 [l0, l1, l2, l3, l4, l5, some (.int (x6))] [] h else R_L_law d 1780 [l0, l1, l2, l3, l4, l5, some (.int (x6))] [] h := by
  refine (p_iload rfl rfl).trans ?_
  refine (p_i2l rfl).trans ?_
  refine (p_lcmp rfl).trans ?_
  exact (s_if (g := (fun x => decide (x = 0))) (t := 1782) (nx := 1780) rfl).trans bif_dec
theorem r_L_law_1821 {d : Nat} {x5 : Int32} {l0 l1 l2 l3 l4 l6 : Option Value} {h : AH} : R_L_law d 1821 [l0, l1, l2, l3, l4, some (.int (x5)), l6] [] h = if ¬ x5 = 0 then R_L_law d 1838 [l0, l1, l2, l3, l4, some (.int (x5)), l6] [] h else R_L_law d 1826 [l0, l1, l2, l3, l4, some (.int (x5)), l6] [] h := by
  refine (p_iload rfl rfl).trans ?_
  exact (s_if (g := (fun x => decide (¬ x = 0))) (t := 1838) (nx := 1826) rfl).trans bif_dec
theorem r_L_law_1819 {d : Nat} {l0 l1 l2 l3 l4 l5 l6 : Option Value} {h : AH} : R_L_law d 1819 [l0, l1, l2, l3, l4, l5, l6] [] h = some (.inl (some (.int ((nI 0)))), h) := by
  refine (p_const rfl).trans ?_
  exact s_iretT rfl rfl
theorem r_L_law_1876 {d : Nat} {s0 : Int32} {a2 : Nat} {l0 l1 l3 l4 l5 l6 : Option Value} {h : AH} : R_L_law d 1876 [l0, l1, some (.ref a2), l3, l4, l5, l6] [.int (s0)] h = ((hci h a2).bind (lkN [(18, 150)])).bind fun y => aK (exec tTab d y [.ref a2] h) (fun v h1 => R_L_law d 1882 [l0, l1, some (.ref a2), l3, l4, l5, some (.int (s0))] (v.toList ++ []) h1) (fun E h1 => some (.inr E, h1)) := by
  refine (p_istore rfl rfl rfl).trans ?_
  refine (p_aload rfl rfl).trans ?_
  exact s_callV (L := [(18, 150)]) (n := 0) (b := a2) (rest := []) rfl rfl rfl
theorem r_L_law_1945 {d : Nat} {x5 : Int32} {l0 l1 l2 l3 l4 l6 : Option Value} {h : AH} : R_L_law d 1945 [l0, l1, l2, l3, l4, some (.int (x5)), l6] [] h = if ¬ x5 = 0 then R_L_law d 1962 [l0, l1, l2, l3, l4, some (.int (x5)), l6] [] h else R_L_law d 1950 [l0, l1, l2, l3, l4, some (.int (x5)), l6] [] h := by
  refine (p_iload rfl rfl).trans ?_
  exact (s_if (g := (fun x => decide (¬ x = 0))) (t := 1962) (nx := 1950) rfl).trans bif_dec
theorem r_L_law_1943 {d : Nat} {l0 l1 l2 l3 l4 l5 l6 : Option Value} {h : AH} : R_L_law d 1943 [l0, l1, l2, l3, l4, l5, l6] [] h = some (.inl (some (.int ((nI 0)))), h) := by
  refine (p_const rfl).trans ?_
  exact s_iretT rfl rfl
theorem r_L_law_2001 {d : Nat} {x5 : Int32} {l0 l1 l2 l3 l4 l6 : Option Value} {h : AH} : R_L_law d 2001 [l0, l1, l2, l3, l4, some (.int (x5)), l6] [] h = if ¬ x5 = 0 then R_L_law d 2018 [l0, l1, l2, l3, l4, some (.int (x5)), l6] [] h else R_L_law d 2006 [l0, l1, l2, l3, l4, some (.int (x5)), l6] [] h := by
  refine (p_iload rfl rfl).trans ?_
  exact (s_if (g := (fun x => decide (¬ x = 0))) (t := 2018) (nx := 2006) rfl).trans bif_dec
theorem r_L_law_1999 {d : Nat} {l0 l1 l2 l3 l4 l5 l6 : Option Value} {h : AH} : R_L_law d 1999 [l0, l1, l2, l3, l4, l5, l6] [] h = some (.inl (some (.int ((nI 0)))), h) := by
  refine (p_const rfl).trans ?_
  exact s_iretT rfl rfl
theorem r_L_law_2059 {d : Nat} {b0 a0 : Nat} {s1 s2 x4 : Int32} {l1 l2 l3 l5 l6 : Option Value} {h : AH} : R_L_law d 2059 [some (.ref a0), l1, l2, l3, some (.int (x4)), l5, l6] [.int (s2), .int (s1), .ref b0] h = (hai h 0 a0 (x4 + (nI 3))).bind fun v => R_L_law d 2065 [some (.ref a0), l1, l2, l3, some (.int (x4)), l5, l6] [.int v, .int (s2), .int (s1), .ref b0] h := by
  refine (p_aload rfl rfl).trans ?_
  refine (p_iload rfl rfl).trans ?_
  refine (p_const rfl).trans ?_
  refine (p_bin rfl).trans ?_
  exact s_iald rfl
theorem r_L_law_241 {d : Nat} {s0 s2 x4 : Int32} {b1 a0 : Nat} {l1 l2 l3 l5 l6 : Option Value} {h : AH} : R_L_law d 241 [some (.ref a0), l1, l2, l3, some (.int (x4)), l5, l6] [.int (s2), .ref b1, .int (s0)] h = (hai h 0 a0 (x4 + (nI 2))).bind fun v => R_L_law d 247 [some (.ref a0), l1, l2, l3, some (.int (x4)), l5, l6] [.int v, .int (s2), .ref b1, .int (s0)] h := by
  refine (p_aload rfl rfl).trans ?_
  refine (p_iload rfl rfl).trans ?_
  refine (p_const rfl).trans ?_
  refine (p_bin rfl).trans ?_
  exact s_iald rfl
theorem r_L_law_337 {d : Nat} {l0 l1 l2 l3 l4 l5 l6 : Option Value} {h : AH} : R_L_law d 337 [l0, l1, l2, l3, l4, l5, l6] [] h = some (.inl (some (.int ((nI 0)))), h) := by
  refine (p_const rfl).trans ?_
  exact s_iretT rfl rfl
theorem r_L_law_381 {d : Nat} {l0 l1 l2 l3 l4 l5 l6 : Option Value} {h : AH} : R_L_law d 381 [l0, l1, l2, l3, l4, l5, l6] [] h = some (.inl (some (.int ((nI 0)))), h) := by
  refine (p_const rfl).trans ?_
  exact s_iretT rfl rfl
theorem r_L_law_440 {d : Nat} {s0 x5 : Int32} {l0 l1 l2 l3 l4 l6 : Option Value} {h : AH} : R_L_law d 440 [l0, l1, l2, l3, l4, some (.int (x5)), l6] [.int (s0)] h = if s0 = x5 then R_L_law d 447 [l0, l1, l2, l3, l4, some (.int (x5)), l6] [] h else R_L_law d 445 [l0, l1, l2, l3, l4, some (.int (x5)), l6] [] h := by
  refine (p_iload rfl rfl).trans ?_
  exact (s_icmp (g := (fun x y => decide (x = y))) (t := 447) (nx := 445) rfl).trans bif_dec
theorem r_L_law_510 {d : Nat} {s0 x4 : Int32} {a2 a0 : Nat} {l1 l3 l5 l6 : Option Value} {h : AH} : R_L_law d 510 [some (.ref a0), l1, some (.ref a2), l3, some (.int (x4)), l5, l6] [.int (s0)] h = (hai h 0 a0 (x4 + (nI 1))).bind fun v => R_L_law d 519 [some (.ref a0), l1, some (.ref a2), l3, some (.int (x4)), some (.int (s0)), l6] [.int v, .ref a2] h := by
  refine (p_istore rfl rfl rfl).trans ?_
  refine (p_aload rfl rfl).trans ?_
  refine (p_aload rfl rfl).trans ?_
  refine (p_iload rfl rfl).trans ?_
  refine (p_const rfl).trans ?_
  refine (p_bin rfl).trans ?_
  exact s_iald rfl
theorem r_L_law_628 {d : Nat} {s0 x5 : Int32} {l0 l1 l2 l3 l4 l6 : Option Value} {h : AH} : R_L_law d 628 [l0, l1, l2, l3, l4, some (.int (x5)), l6] [.int (s0)] h = if s0 = x5 then R_L_law d 635 [l0, l1, l2, l3, l4, some (.int (x5)), l6] [] h else R_L_law d 633 [l0, l1, l2, l3, l4, some (.int (x5)), l6] [] h := by
  refine (p_iload rfl rfl).trans ?_
  exact (s_icmp (g := (fun x y => decide (x = y))) (t := 635) (nx := 633) rfl).trans bif_dec
theorem r_L_law_708 {d : Nat} {x4 : Int32} {l0 l1 l2 l3 l5 l6 : Option Value} {h : AH} : R_L_law d 708 [l0, l1, l2, l3, some (.int (x4)), l5, l6] [] h = R_L_law d 23 [l0, l1, l2, l3, some (.int (x4 + (nI 6))), l5, l6] [] h := by
  refine (p_goto rfl).trans ?_
  refine (p_iinc rfl rfl rfl).trans ?_
  refine (p_goto rfl).trans ?_
  exact rfl
theorem r_L_law_696 {d : Nat} {a3 : Nat} {l0 l1 l2 l4 l5 l6 : Option Value} {h : AH} : R_L_law d 696 [l0, l1, l2, some (.ref a3), l4, l5, l6] [] h = (haj h 2 a3 (nI 0)).bind fun v => R_L_law d 699 [l0, l1, l2, some (.ref a3), l4, l5, l6] [.long v] h := by
  refine (p_aload rfl rfl).trans ?_
  refine (p_const rfl).trans ?_
  exact s_lald rfl
theorem r_L_law_764 {d : Nat} {x4 : Int32} {l0 l1 l2 l3 l5 l6 : Option Value} {h : AH} : R_L_law d 764 [l0, l1, l2, l3, some (.int (x4)), l5, l6] [] h = R_L_law d 23 [l0, l1, l2, l3, some (.int (x4 + (nI 6))), l5, l6] [] h := by
  refine (p_goto rfl).trans ?_
  refine (p_iinc rfl rfl rfl).trans ?_
  refine (p_goto rfl).trans ?_
  exact rfl
theorem r_L_law_752 {d : Nat} {a3 : Nat} {l0 l1 l2 l4 l5 l6 : Option Value} {h : AH} : R_L_law d 752 [l0, l1, l2, some (.ref a3), l4, l5, l6] [] h = (haj h 2 a3 (nI 0)).bind fun v => R_L_law d 755 [l0, l1, l2, some (.ref a3), l4, l5, l6] [.long v] h := by
  refine (p_aload rfl rfl).trans ?_
  refine (p_const rfl).trans ?_
  exact s_lald rfl
theorem r_L_law_808 {d : Nat} {s0 x5 : Int32} {l0 l1 l2 l3 l4 l6 : Option Value} {h : AH} : R_L_law d 808 [l0, l1, l2, l3, l4, some (.int (x5)), l6] [.int (s0)] h = if s0 = x5 then R_L_law d 815 [l0, l1, l2, l3, l4, some (.int (x5)), l6] [] h else R_L_law d 813 [l0, l1, l2, l3, l4, some (.int (x5)), l6] [] h := by
  refine (p_iload rfl rfl).trans ?_
  exact (s_icmp (g := (fun x y => decide (x = y))) (t := 815) (nx := 813) rfl).trans bif_dec
theorem r_L_law_876 {d : Nat} {s0 x5 : Int32} {l0 l1 l2 l3 l4 l6 : Option Value} {h : AH} : R_L_law d 876 [l0, l1, l2, l3, l4, some (.int (x5)), l6] [.int (s0)] h = if s0 = x5 then R_L_law d 883 [l0, l1, l2, l3, l4, some (.int (x5)), l6] [] h else R_L_law d 881 [l0, l1, l2, l3, l4, some (.int (x5)), l6] [] h := by
  refine (p_iload rfl rfl).trans ?_
  exact (s_icmp (g := (fun x y => decide (x = y))) (t := 883) (nx := 881) rfl).trans bif_dec
theorem r_L_law_944 {d : Nat} {s0 x5 : Int32} {l0 l1 l2 l3 l4 l6 : Option Value} {h : AH} : R_L_law d 944 [l0, l1, l2, l3, l4, some (.int (x5)), l6] [.int (s0)] h = if s0 = x5 then R_L_law d 951 [l0, l1, l2, l3, l4, some (.int (x5)), l6] [] h else R_L_law d 949 [l0, l1, l2, l3, l4, some (.int (x5)), l6] [] h := by
  refine (p_iload rfl rfl).trans ?_
  exact (s_icmp (g := (fun x y => decide (x = y))) (t := 951) (nx := 949) rfl).trans bif_dec
theorem r_L_law_1031 {d : Nat} {x4 : Int32} {l0 l1 l2 l3 l5 l6 : Option Value} {h : AH} : R_L_law d 1031 [l0, l1, l2, l3, some (.int (x4)), l5, l6] [] h = R_L_law d 23 [l0, l1, l2, l3, some (.int (x4 + (nI 6))), l5, l6] [] h := by
  refine (p_goto rfl).trans ?_
  refine (p_iinc rfl rfl rfl).trans ?_
  refine (p_goto rfl).trans ?_
  exact rfl
theorem r_L_law_1019 {d : Nat} {a3 : Nat} {l0 l1 l2 l4 l5 l6 : Option Value} {h : AH} : R_L_law d 1019 [l0, l1, l2, some (.ref a3), l4, l5, l6] [] h = (haj h 2 a3 (nI 0)).bind fun v => R_L_law d 1022 [l0, l1, l2, some (.ref a3), l4, l5, l6] [.long v] h := by
  refine (p_aload rfl rfl).trans ?_
  refine (p_const rfl).trans ?_
  exact s_lald rfl
theorem r_L_law_1087 {d : Nat} {x4 : Int32} {l0 l1 l2 l3 l5 l6 : Option Value} {h : AH} : R_L_law d 1087 [l0, l1, l2, l3, some (.int (x4)), l5, l6] [] h = R_L_law d 23 [l0, l1, l2, l3, some (.int (x4 + (nI 6))), l5, l6] [] h := by
  refine (p_goto rfl).trans ?_
  refine (p_iinc rfl rfl rfl).trans ?_
  refine (p_goto rfl).trans ?_
  exact rfl
theorem r_L_law_1075 {d : Nat} {a3 : Nat} {l0 l1 l2 l4 l5 l6 : Option Value} {h : AH} : R_L_law d 1075 [l0, l1, l2, some (.ref a3), l4, l5, l6] [] h = (haj h 2 a3 (nI 0)).bind fun v => R_L_law d 1078 [l0, l1, l2, some (.ref a3), l4, l5, l6] [.long v] h := by
  refine (p_aload rfl rfl).trans ?_
  refine (p_const rfl).trans ?_
  exact s_lald rfl
theorem r_L_law_1131 {d : Nat} {s0 x5 : Int32} {l0 l1 l2 l3 l4 l6 : Option Value} {h : AH} : R_L_law d 1131 [l0, l1, l2, l3, l4, some (.int (x5)), l6] [.int (s0)] h = if s0 = x5 then R_L_law d 1138 [l0, l1, l2, l3, l4, some (.int (x5)), l6] [] h else R_L_law d 1136 [l0, l1, l2, l3, l4, some (.int (x5)), l6] [] h := by
  refine (p_iload rfl rfl).trans ?_
  exact (s_icmp (g := (fun x y => decide (x = y))) (t := 1138) (nx := 1136) rfl).trans bif_dec
theorem r_L_law_1202 {d : Nat} {b0 : Nat} {s1 s2 s3 : Int32} {l0 l1 l2 l3 l4 l5 l6 : Option Value} {h : AH} : R_L_law d 1202 [l0, l1, l2, l3, l4, l5, l6] [.int (s3), .int (s2), .int (s1), .ref b0] h = ((hci h b0).bind (lkN [(18, 201)])).bind fun y => aK (exec tTab d y [.ref b0, .int (s1), .int (s2), .int (s3)] h) (fun v h1 => R_L_law d 1205 [l0, l1, l2, l3, l4, l5, l6] (v.toList ++ []) h1) (fun E h1 => some (.inr E, h1)) := s_callV (L := [(18, 201)]) (n := 3) (b := b0) (rest := []) rfl rfl rfl
theorem r_L_law_1298 {d : Nat} {x4 : Int32} {l0 l1 l2 l3 l5 l6 : Option Value} {h : AH} : R_L_law d 1298 [l0, l1, l2, l3, some (.int (x4)), l5, l6] [] h = R_L_law d 23 [l0, l1, l2, l3, some (.int (x4 + (nI 6))), l5, l6] [] h := by
  refine (p_goto rfl).trans ?_
  refine (p_iinc rfl rfl rfl).trans ?_
  refine (p_goto rfl).trans ?_
  exact rfl
theorem r_L_law_1279 {d : Nat} {a3 : Nat} {l0 l1 l2 l4 l5 l6 : Option Value} {h : AH} : R_L_law d 1279 [l0, l1, l2, some (.ref a3), l4, l5, l6] [] h = (haj h 2 a3 (nI 0)).bind fun v => R_L_law d 1282 [l0, l1, l2, some (.ref a3), l4, l5, l6] [.long v] h := by
  refine (p_aload rfl rfl).trans ?_
  refine (p_const rfl).trans ?_
  exact s_lald rfl
theorem r_L_law_1354 {d : Nat} {x4 : Int32} {l0 l1 l2 l3 l5 l6 : Option Value} {h : AH} : R_L_law d 1354 [l0, l1, l2, l3, some (.int (x4)), l5, l6] [] h = R_L_law d 23 [l0, l1, l2, l3, some (.int (x4 + (nI 6))), l5, l6] [] h := by
  refine (p_goto rfl).trans ?_
  refine (p_iinc rfl rfl rfl).trans ?_
  refine (p_goto rfl).trans ?_
  exact rfl
theorem r_L_law_1342 {d : Nat} {a3 : Nat} {l0 l1 l2 l4 l5 l6 : Option Value} {h : AH} : R_L_law d 1342 [l0, l1, l2, some (.ref a3), l4, l5, l6] [] h = (haj h 2 a3 (nI 0)).bind fun v => R_L_law d 1345 [l0, l1, l2, some (.ref a3), l4, l5, l6] [.long v] h := by
  refine (p_aload rfl rfl).trans ?_
  refine (p_const rfl).trans ?_
  exact s_lald rfl
theorem r_L_law_1486 {d : Nat} {s0 x5 : Int32} {l0 l1 l2 l3 l4 l6 : Option Value} {h : AH} : R_L_law d 1486 [l0, l1, l2, l3, l4, some (.int (x5)), l6] [.int (s0)] h = if s0 = x5 then R_L_law d 1493 [l0, l1, l2, l3, l4, some (.int (x5)), l6] [] h else R_L_law d 1491 [l0, l1, l2, l3, l4, some (.int (x5)), l6] [] h := by
  refine (p_iload rfl rfl).trans ?_
  exact (s_icmp (g := (fun x y => decide (x = y))) (t := 1493) (nx := 1491) rfl).trans bif_dec
theorem r_L_law_1554 {d : Nat} {s0 x5 : Int32} {l0 l1 l2 l3 l4 l6 : Option Value} {h : AH} : R_L_law d 1554 [l0, l1, l2, l3, l4, some (.int (x5)), l6] [.int (s0)] h = if s0 = x5 then R_L_law d 1561 [l0, l1, l2, l3, l4, some (.int (x5)), l6] [] h else R_L_law d 1559 [l0, l1, l2, l3, l4, some (.int (x5)), l6] [] h := by
  refine (p_iload rfl rfl).trans ?_
  exact (s_icmp (g := (fun x y => decide (x = y))) (t := 1561) (nx := 1559) rfl).trans bif_dec
theorem r_L_law_1622 {d : Nat} {s0 x5 : Int32} {l0 l1 l2 l3 l4 l6 : Option Value} {h : AH} : R_L_law d 1622 [l0, l1, l2, l3, l4, some (.int (x5)), l6] [.int (s0)] h = if s0 = x5 then R_L_law d 1629 [l0, l1, l2, l3, l4, some (.int (x5)), l6] [] h else R_L_law d 1627 [l0, l1, l2, l3, l4, some (.int (x5)), l6] [] h := by
  refine (p_iload rfl rfl).trans ?_
  exact (s_icmp (g := (fun x y => decide (x = y))) (t := 1629) (nx := 1627) rfl).trans bif_dec
theorem r_L_law_1693 {d : Nat} {b0 a0 : Nat} {s1 s2 x4 : Int32} {l1 l2 l3 l5 l6 : Option Value} {h : AH} : R_L_law d 1693 [some (.ref a0), l1, l2, l3, some (.int (x4)), l5, l6] [.int (s2), .int (s1), .ref b0] h = (hai h 0 a0 (x4 + (nI 3))).bind fun v => R_L_law d 1699 [some (.ref a0), l1, l2, l3, some (.int (x4)), l5, l6] [.int v, .int (s2), .int (s1), .ref b0] h := by
  refine (p_aload rfl rfl).trans ?_
  refine (p_iload rfl rfl).trans ?_
  refine (p_const rfl).trans ?_
  refine (p_bin rfl).trans ?_
  exact s_iald rfl
theorem r_L_law_1780 {d : Nat} {l0 l1 l2 l3 l4 l5 l6 : Option Value} {h : AH} : R_L_law d 1780 [l0, l1, l2, l3, l4, l5, l6] [] h = some (.inl (some (.int ((nI 0)))), h) := by
  refine (p_const rfl).trans ?_
  exact s_iretT rfl rfl
theorem r_L_law_1838 {d : Nat} {x4 : Int32} {l0 l1 l2 l3 l5 l6 : Option Value} {h : AH} : R_L_law d 1838 [l0, l1, l2, l3, some (.int (x4)), l5, l6] [] h = R_L_law d 23 [l0, l1, l2, l3, some (.int (x4 + (nI 6))), l5, l6] [] h := by
  refine (p_goto rfl).trans ?_
  refine (p_iinc rfl rfl rfl).trans ?_
  refine (p_goto rfl).trans ?_
  exact rfl
theorem r_L_law_1826 {d : Nat} {a3 : Nat} {l0 l1 l2 l4 l5 l6 : Option Value} {h : AH} : R_L_law d 1826 [l0, l1, l2, some (.ref a3), l4, l5, l6] [] h = (haj h 2 a3 (nI 0)).bind fun v => R_L_law d 1829 [l0, l1, l2, some (.ref a3), l4, l5, l6] [.long v] h := by
  refine (p_aload rfl rfl).trans ?_
  refine (p_const rfl).trans ?_
  exact s_lald rfl
theorem r_L_law_1882 {d : Nat} {s0 x5 : Int32} {l0 l1 l2 l3 l4 l6 : Option Value} {h : AH} : R_L_law d 1882 [l0, l1, l2, l3, l4, some (.int (x5)), l6] [.int (s0)] h = if s0 = x5 then R_L_law d 1889 [l0, l1, l2, l3, l4, some (.int (x5)), l6] [] h else R_L_law d 1887 [l0, l1, l2, l3, l4, some (.int (x5)), l6] [] h := by
  refine (p_iload rfl rfl).trans ?_
  exact (s_icmp (g := (fun x y => decide (x = y))) (t := 1889) (nx := 1887) rfl).trans bif_dec
theorem r_L_law_1962 {d : Nat} {x4 : Int32} {l0 l1 l2 l3 l5 l6 : Option Value} {h : AH} : R_L_law d 1962 [l0, l1, l2, l3, some (.int (x4)), l5, l6] [] h = R_L_law d 23 [l0, l1, l2, l3, some (.int (x4 + (nI 6))), l5, l6] [] h := by
  refine (p_goto rfl).trans ?_
  refine (p_iinc rfl rfl rfl).trans ?_
  refine (p_goto rfl).trans ?_
  exact rfl
theorem r_L_law_1950 {d : Nat} {a3 : Nat} {l0 l1 l2 l4 l5 l6 : Option Value} {h : AH} : R_L_law d 1950 [l0, l1, l2, some (.ref a3), l4, l5, l6] [] h = (haj h 2 a3 (nI 0)).bind fun v => R_L_law d 1953 [l0, l1, l2, some (.ref a3), l4, l5, l6] [.long v] h := by
  refine (p_aload rfl rfl).trans ?_
  refine (p_const rfl).trans ?_
  exact s_lald rfl
theorem r_L_law_2018 {d : Nat} {x4 : Int32} {l0 l1 l2 l3 l5 l6 : Option Value} {h : AH} : R_L_law d 2018 [l0, l1, l2, l3, some (.int (x4)), l5, l6] [] h = R_L_law d 23 [l0, l1, l2, l3, some (.int (x4 + (nI 6))), l5, l6] [] h := by
  refine (p_goto rfl).trans ?_
  refine (p_iinc rfl rfl rfl).trans ?_
  refine (p_goto rfl).trans ?_
  exact rfl
theorem r_L_law_2006 {d : Nat} {a3 : Nat} {l0 l1 l2 l4 l5 l6 : Option Value} {h : AH} : R_L_law d 2006 [l0, l1, l2, some (.ref a3), l4, l5, l6] [] h = (haj h 2 a3 (nI 0)).bind fun v => R_L_law d 2009 [l0, l1, l2, some (.ref a3), l4, l5, l6] [.long v] h := by
  refine (p_aload rfl rfl).trans ?_
  refine (p_const rfl).trans ?_
  exact s_lald rfl
theorem r_L_law_2065 {d : Nat} {b0 : Nat} {s1 s2 s3 : Int32} {l0 l1 l2 l3 l4 l5 l6 : Option Value} {h : AH} : R_L_law d 2065 [l0, l1, l2, l3, l4, l5, l6] [.int (s3), .int (s2), .int (s1), .ref b0] h = ((hci h b0).bind (lkN [(18, 235)])).bind fun y => aK (exec tTab d y [.ref b0, .int (s1), .int (s2), .int (s3)] h) (fun v h1 => R_L_law d 2068 [l0, l1, l2, l3, l4, l5, l6] (v.toList ++ []) h1) (fun E h1 => some (.inr E, h1)) := s_callV (L := [(18, 235)]) (n := 3) (b := b0) (rest := []) rfl rfl rfl
theorem r_L_law_247 {d : Nat} {s0 s2 s3 x4 : Int32} {b1 a0 : Nat} {l1 l2 l3 l5 l6 : Option Value} {h : AH} : R_L_law d 247 [some (.ref a0), l1, l2, l3, some (.int (x4)), l5, l6] [.int (s3), .int (s2), .ref b1, .int (s0)] h = (hai h 0 a0 (x4 + (nI 3))).bind fun v => R_L_law d 253 [some (.ref a0), l1, l2, l3, some (.int (x4)), l5, l6] [.int v, .int (s3), .int (s2), .ref b1, .int (s0)] h := by
  refine (p_aload rfl rfl).trans ?_
  refine (p_iload rfl rfl).trans ?_
  refine (p_const rfl).trans ?_
  refine (p_bin rfl).trans ?_
  exact s_iald rfl
theorem r_L_law_447 {d : Nat} {x5 : Int32} {l0 l1 l2 l3 l4 l6 : Option Value} {h : AH} : R_L_law d 447 [l0, l1, l2, l3, l4, some (.int (x5)), l6] [] h = if ¬ x5 = 0 then R_L_law d 464 [l0, l1, l2, l3, l4, some (.int (x5)), l6] [] h else R_L_law d 452 [l0, l1, l2, l3, l4, some (.int (x5)), l6] [] h := by
  refine (p_iload rfl rfl).trans ?_
  exact (s_if (g := (fun x => decide (¬ x = 0))) (t := 464) (nx := 452) rfl).trans bif_dec
theorem r_L_law_445 {d : Nat} {l0 l1 l2 l3 l4 l5 l6 : Option Value} {h : AH} : R_L_law d 445 [l0, l1, l2, l3, l4, l5, l6] [] h = some (.inl (some (.int ((nI 0)))), h) := by
  refine (p_const rfl).trans ?_
  exact s_iretT rfl rfl
theorem r_L_law_519 {d : Nat} {b0 a0 : Nat} {s1 x4 : Int32} {l1 l2 l3 l5 l6 : Option Value} {h : AH} : R_L_law d 519 [some (.ref a0), l1, l2, l3, some (.int (x4)), l5, l6] [.int (s1), .ref b0] h = (hai h 0 a0 (x4 + (nI 2))).bind fun v => R_L_law d 525 [some (.ref a0), l1, l2, l3, some (.int (x4)), l5, l6] [.int v, .int (s1), .ref b0] h := by
  refine (p_aload rfl rfl).trans ?_
  refine (p_iload rfl rfl).trans ?_
  refine (p_const rfl).trans ?_
  refine (p_bin rfl).trans ?_
  exact s_iald rfl
theorem r_L_law_635 {d : Nat} {x5 : Int32} {l0 l1 l2 l3 l4 l6 : Option Value} {h : AH} : R_L_law d 635 [l0, l1, l2, l3, l4, some (.int (x5)), l6] [] h = if ¬ x5 = 0 then R_L_law d 652 [l0, l1, l2, l3, l4, some (.int (x5)), l6] [] h else R_L_law d 640 [l0, l1, l2, l3, l4, some (.int (x5)), l6] [] h := by
  refine (p_iload rfl rfl).trans ?_
  exact (s_if (g := (fun x => decide (¬ x = 0))) (t := 652) (nx := 640) rfl).trans bif_dec
theorem r_L_law_633 {d : Nat} {l0 l1 l2 l3 l4 l5 l6 : Option Value} {h : AH} : R_L_law d 633 [l0, l1, l2, l3, l4, l5, l6] [] h = some (.inl (some (.int ((nI 0)))), h) := by
  refine (p_const rfl).trans ?_
  exact s_iretT rfl rfl
theorem r_L_law_699 {d : Nat} {j0 : Int64} {x6 : Int32} {l0 l1 l2 l3 l4 l5 : Option Value} {h : AH} : R_L_law d 699 [l0, l1, l2, l3, l4, l5, some (.int (x6))] [.long (j0)] h = if (lg_cmp j0 x6.toInt64) = 0 then R_L_law d 708 [l0, l1, l2, l3, l4, l5, some (.int (x6))] [] h else R_L_law d 706 [l0, l1, l2, l3, l4, l5, some (.int (x6))] [] h := by
  refine (p_iload rfl rfl).trans ?_
  refine (p_i2l rfl).trans ?_
  refine (p_lcmp rfl).trans ?_
  exact (s_if (g := (fun x => decide (x = 0))) (t := 708) (nx := 706) rfl).trans bif_dec
theorem r_L_law_755 {d : Nat} {j0 : Int64} {x6 : Int32} {l0 l1 l2 l3 l4 l5 : Option Value} {h : AH} : R_L_law d 755 [l0, l1, l2, l3, l4, l5, some (.int (x6))] [.long (j0)] h = if (lg_cmp j0 x6.toInt64) = 0 then R_L_law d 764 [l0, l1, l2, l3, l4, l5, some (.int (x6))] [] h else R_L_law d 762 [l0, l1, l2, l3, l4, l5, some (.int (x6))] [] h := by
  refine (p_iload rfl rfl).trans ?_
  refine (p_i2l rfl).trans ?_
  refine (p_lcmp rfl).trans ?_
  exact (s_if (g := (fun x => decide (x = 0))) (t := 764) (nx := 762) rfl).trans bif_dec
theorem r_L_law_815 {d : Nat} {x5 : Int32} {l0 l1 l2 l3 l4 l6 : Option Value} {h : AH} : R_L_law d 815 [l0, l1, l2, l3, l4, some (.int (x5)), l6] [] h = if ¬ x5 = 0 then R_L_law d 832 [l0, l1, l2, l3, l4, some (.int (x5)), l6] [] h else R_L_law d 820 [l0, l1, l2, l3, l4, some (.int (x5)), l6] [] h := by
  refine (p_iload rfl rfl).trans ?_
  exact (s_if (g := (fun x => decide (¬ x = 0))) (t := 832) (nx := 820) rfl).trans bif_dec
theorem r_L_law_813 {d : Nat} {l0 l1 l2 l3 l4 l5 l6 : Option Value} {h : AH} : R_L_law d 813 [l0, l1, l2, l3, l4, l5, l6] [] h = some (.inl (some (.int ((nI 0)))), h) := by
  refine (p_const rfl).trans ?_
  exact s_iretT rfl rfl
theorem r_L_law_883 {d : Nat} {x5 : Int32} {l0 l1 l2 l3 l4 l6 : Option Value} {h : AH} : R_L_law d 883 [l0, l1, l2, l3, l4, some (.int (x5)), l6] [] h = if ¬ x5 = 0 then R_L_law d 900 [l0, l1, l2, l3, l4, some (.int (x5)), l6] [] h else R_L_law d 888 [l0, l1, l2, l3, l4, some (.int (x5)), l6] [] h := by
  refine (p_iload rfl rfl).trans ?_
  exact (s_if (g := (fun x => decide (¬ x = 0))) (t := 900) (nx := 888) rfl).trans bif_dec
theorem r_L_law_881 {d : Nat} {l0 l1 l2 l3 l4 l5 l6 : Option Value} {h : AH} : R_L_law d 881 [l0, l1, l2, l3, l4, l5, l6] [] h = some (.inl (some (.int ((nI 0)))), h) := by
  refine (p_const rfl).trans ?_
  exact s_iretT rfl rfl
theorem r_L_law_951 {d : Nat} {x5 : Int32} {l0 l1 l2 l3 l4 l6 : Option Value} {h : AH} : R_L_law d 951 [l0, l1, l2, l3, l4, some (.int (x5)), l6] [] h = if ¬ x5 = 0 then R_L_law d 975 [l0, l1, l2, l3, l4, some (.int (x5)), l6] [] h else R_L_law d 956 [l0, l1, l2, l3, l4, some (.int (x5)), l6] [] h := by
  refine (p_iload rfl rfl).trans ?_
  exact (s_if (g := (fun x => decide (¬ x = 0))) (t := 975) (nx := 956) rfl).trans bif_dec
theorem r_L_law_949 {d : Nat} {l0 l1 l2 l3 l4 l5 l6 : Option Value} {h : AH} : R_L_law d 949 [l0, l1, l2, l3, l4, l5, l6] [] h = some (.inl (some (.int ((nI 0)))), h) := by
  refine (p_const rfl).trans ?_
  exact s_iretT rfl rfl
theorem r_L_law_1022 {d : Nat} {j0 : Int64} {x6 : Int32} {l0 l1 l2 l3 l4 l5 : Option Value} {h : AH} : R_L_law d 1022 [l0, l1, l2, l3, l4, l5, some (.int (x6))] [.long (j0)] h = if (lg_cmp j0 x6.toInt64) = 0 then R_L_law d 1031 [l0, l1, l2, l3, l4, l5, some (.int (x6))] [] h else R_L_law d 1029 [l0, l1, l2, l3, l4, l5, some (.int (x6))] [] h := by
  refine (p_iload rfl rfl).trans ?_
  refine (p_i2l rfl).trans ?_
  refine (p_lcmp rfl).trans ?_
  exact (s_if (g := (fun x => decide (x = 0))) (t := 1031) (nx := 1029) rfl).trans bif_dec
theorem r_L_law_1078 {d : Nat} {j0 : Int64} {x6 : Int32} {l0 l1 l2 l3 l4 l5 : Option Value} {h : AH} : R_L_law d 1078 [l0, l1, l2, l3, l4, l5, some (.int (x6))] [.long (j0)] h = if (lg_cmp j0 x6.toInt64) = 0 then R_L_law d 1087 [l0, l1, l2, l3, l4, l5, some (.int (x6))] [] h else R_L_law d 1085 [l0, l1, l2, l3, l4, l5, some (.int (x6))] [] h := by
  refine (p_iload rfl rfl).trans ?_
  refine (p_i2l rfl).trans ?_
  refine (p_lcmp rfl).trans ?_
  exact (s_if (g := (fun x => decide (x = 0))) (t := 1087) (nx := 1085) rfl).trans bif_dec
theorem r_L_law_1138 {d : Nat} {x5 : Int32} {l0 l1 l2 l3 l4 l6 : Option Value} {h : AH} : R_L_law d 1138 [l0, l1, l2, l3, l4, some (.int (x5)), l6] [] h = if ¬ x5 = 0 then R_L_law d 1155 [l0, l1, l2, l3, l4, some (.int (x5)), l6] [] h else R_L_law d 1143 [l0, l1, l2, l3, l4, some (.int (x5)), l6] [] h := by
  refine (p_iload rfl rfl).trans ?_
  exact (s_if (g := (fun x => decide (¬ x = 0))) (t := 1155) (nx := 1143) rfl).trans bif_dec
theorem r_L_law_1136 {d : Nat} {l0 l1 l2 l3 l4 l5 l6 : Option Value} {h : AH} : R_L_law d 1136 [l0, l1, l2, l3, l4, l5, l6] [] h = some (.inl (some (.int ((nI 0)))), h) := by
  refine (p_const rfl).trans ?_
  exact s_iretT rfl rfl
theorem r_L_law_1205 {d : Nat} {s0 : Int32} {a2 : Nat} {l0 l1 l3 l4 l5 l6 : Option Value} {h : AH} : R_L_law d 1205 [l0, l1, some (.ref a2), l3, l4, l5, l6] [.int (s0)] h = ((hci h a2).bind (lkN [(18, 150)])).bind fun y => aK (exec tTab d y [.ref a2] h) (fun v h1 => R_L_law d 1211 [l0, l1, some (.ref a2), l3, l4, l5, some (.int (s0))] (v.toList ++ []) h1) (fun E h1 => some (.inr E, h1)) := by
  refine (p_istore rfl rfl rfl).trans ?_
  refine (p_aload rfl rfl).trans ?_
  exact s_callV (L := [(18, 150)]) (n := 0) (b := a2) (rest := []) rfl rfl rfl
theorem r_L_law_1282 {d : Nat} {j0 : Int64} {x6 : Int32} {l0 l1 l2 l3 l4 l5 : Option Value} {h : AH} : R_L_law d 1282 [l0, l1, l2, l3, l4, l5, some (.int (x6))] [.long (j0)] h = if x6 = 0 then R_L_law d 1291 [l0, l1, l2, l3, l4, l5, some (.int (x6))] [.long (j0)] h else R_L_law d 1287 [l0, l1, l2, l3, l4, l5, some (.int (x6))] [.long (j0)] h := by
  refine (p_iload rfl rfl).trans ?_
  exact (s_if (g := (fun x => decide (x = 0))) (t := 1291) (nx := 1287) rfl).trans bif_dec
theorem r_L_law_1345 {d : Nat} {j0 : Int64} {x6 : Int32} {l0 l1 l2 l3 l4 l5 : Option Value} {h : AH} : R_L_law d 1345 [l0, l1, l2, l3, l4, l5, some (.int (x6))] [.long (j0)] h = if (lg_cmp j0 x6.toInt64) = 0 then R_L_law d 1354 [l0, l1, l2, l3, l4, l5, some (.int (x6))] [] h else R_L_law d 1352 [l0, l1, l2, l3, l4, l5, some (.int (x6))] [] h := by
  refine (p_iload rfl rfl).trans ?_
  refine (p_i2l rfl).trans ?_
  refine (p_lcmp rfl).trans ?_
  exact (s_if (g := (fun x => decide (x = 0))) (t := 1354) (nx := 1352) rfl).trans bif_dec
theorem r_L_law_1493 {d : Nat} {x5 : Int32} {l0 l1 l2 l3 l4 l6 : Option Value} {h : AH} : R_L_law d 1493 [l0, l1, l2, l3, l4, some (.int (x5)), l6] [] h = if ¬ x5 = 0 then R_L_law d 1510 [l0, l1, l2, l3, l4, some (.int (x5)), l6] [] h else R_L_law d 1498 [l0, l1, l2, l3, l4, some (.int (x5)), l6] [] h := by
  refine (p_iload rfl rfl).trans ?_
  exact (s_if (g := (fun x => decide (¬ x = 0))) (t := 1510) (nx := 1498) rfl).trans bif_dec
theorem r_L_law_1491 {d : Nat} {l0 l1 l2 l3 l4 l5 l6 : Option Value} {h : AH} : R_L_law d 1491 [l0, l1, l2, l3, l4, l5, l6] [] h = some (.inl (some (.int ((nI 0)))), h) := by
  refine (p_const rfl).trans ?_
  exact s_iretT rfl rfl
theorem r_L_law_1561 {d : Nat} {x5 : Int32} {l0 l1 l2 l3 l4 l6 : Option Value} {h : AH} : R_L_law d 1561 [l0, l1, l2, l3, l4, some (.int (x5)), l6] [] h = if ¬ x5 = 0 then R_L_law d 1578 [l0, l1, l2, l3, l4, some (.int (x5)), l6] [] h else R_L_law d 1566 [l0, l1, l2, l3, l4, some (.int (x5)), l6] [] h := by
  refine (p_iload rfl rfl).trans ?_
  exact (s_if (g := (fun x => decide (¬ x = 0))) (t := 1578) (nx := 1566) rfl).trans bif_dec
theorem r_L_law_1559 {d : Nat} {l0 l1 l2 l3 l4 l5 l6 : Option Value} {h : AH} : R_L_law d 1559 [l0, l1, l2, l3, l4, l5, l6] [] h = some (.inl (some (.int ((nI 0)))), h) := by
  refine (p_const rfl).trans ?_
  exact s_iretT rfl rfl
theorem r_L_law_1629 {d : Nat} {x5 : Int32} {l0 l1 l2 l3 l4 l6 : Option Value} {h : AH} : R_L_law d 1629 [l0, l1, l2, l3, l4, some (.int (x5)), l6] [] h = if ¬ x5 = 0 then R_L_law d 1646 [l0, l1, l2, l3, l4, some (.int (x5)), l6] [] h else R_L_law d 1634 [l0, l1, l2, l3, l4, some (.int (x5)), l6] [] h := by
  refine (p_iload rfl rfl).trans ?_
  exact (s_if (g := (fun x => decide (¬ x = 0))) (t := 1646) (nx := 1634) rfl).trans bif_dec
theorem r_L_law_1627 {d : Nat} {l0 l1 l2 l3 l4 l5 l6 : Option Value} {h : AH} : R_L_law d 1627 [l0, l1, l2, l3, l4, l5, l6] [] h = some (.inl (some (.int ((nI 0)))), h) := by
  refine (p_const rfl).trans ?_
  exact s_iretT rfl rfl
theorem r_L_law_1699 {d : Nat} {b0 a0 : Nat} {s1 s2 s3 x4 : Int32} {l1 l2 l3 l5 l6 : Option Value} {h : AH} : R_L_law d 1699 [some (.ref a0), l1, l2, l3, some (.int (x4)), l5, l6] [.int (s3), .int (s2), .int (s1), .ref b0] h = (hai h 0 a0 (x4 + (nI 4))).bind fun v => R_L_law d 1705 [some (.ref a0), l1, l2, l3, some (.int (x4)), l5, l6] [.int v, .int (s3), .int (s2), .int (s1), .ref b0] h := by
  refine (p_aload rfl rfl).trans ?_
  refine (p_iload rfl rfl).trans ?_
  refine (p_const rfl).trans ?_
  refine (p_bin rfl).trans ?_
  exact s_iald rfl
theorem r_L_law_1829 {d : Nat} {j0 : Int64} {x6 : Int32} {l0 l1 l2 l3 l4 l5 : Option Value} {h : AH} : R_L_law d 1829 [l0, l1, l2, l3, l4, l5, some (.int (x6))] [.long (j0)] h = if (lg_cmp j0 x6.toInt64) = 0 then R_L_law d 1838 [l0, l1, l2, l3, l4, l5, some (.int (x6))] [] h else R_L_law d 1836 [l0, l1, l2, l3, l4, l5, some (.int (x6))] [] h := by
  refine (p_iload rfl rfl).trans ?_
  refine (p_i2l rfl).trans ?_
  refine (p_lcmp rfl).trans ?_
  exact (s_if (g := (fun x => decide (x = 0))) (t := 1838) (nx := 1836) rfl).trans bif_dec
theorem r_L_law_1889 {d : Nat} {x5 : Int32} {l0 l1 l2 l3 l4 l6 : Option Value} {h : AH} : R_L_law d 1889 [l0, l1, l2, l3, l4, some (.int (x5)), l6] [] h = if ¬ x5 = 0 then R_L_law d 1906 [l0, l1, l2, l3, l4, some (.int (x5)), l6] [] h else R_L_law d 1894 [l0, l1, l2, l3, l4, some (.int (x5)), l6] [] h := by
  refine (p_iload rfl rfl).trans ?_
  exact (s_if (g := (fun x => decide (¬ x = 0))) (t := 1906) (nx := 1894) rfl).trans bif_dec
theorem r_L_law_1887 {d : Nat} {l0 l1 l2 l3 l4 l5 l6 : Option Value} {h : AH} : R_L_law d 1887 [l0, l1, l2, l3, l4, l5, l6] [] h = some (.inl (some (.int ((nI 0)))), h) := by
  refine (p_const rfl).trans ?_
  exact s_iretT rfl rfl
theorem r_L_law_1953 {d : Nat} {j0 : Int64} {x6 : Int32} {l0 l1 l2 l3 l4 l5 : Option Value} {h : AH} : R_L_law d 1953 [l0, l1, l2, l3, l4, l5, some (.int (x6))] [.long (j0)] h = if (lg_cmp j0 x6.toInt64) = 0 then R_L_law d 1962 [l0, l1, l2, l3, l4, l5, some (.int (x6))] [] h else R_L_law d 1960 [l0, l1, l2, l3, l4, l5, some (.int (x6))] [] h := by
  refine (p_iload rfl rfl).trans ?_
  refine (p_i2l rfl).trans ?_
  refine (p_lcmp rfl).trans ?_
  exact (s_if (g := (fun x => decide (x = 0))) (t := 1962) (nx := 1960) rfl).trans bif_dec
theorem r_L_law_2009 {d : Nat} {j0 : Int64} {x6 : Int32} {l0 l1 l2 l3 l4 l5 : Option Value} {h : AH} : R_L_law d 2009 [l0, l1, l2, l3, l4, l5, some (.int (x6))] [.long (j0)] h = if (lg_cmp j0 x6.toInt64) = 0 then R_L_law d 2018 [l0, l1, l2, l3, l4, l5, some (.int (x6))] [] h else R_L_law d 2016 [l0, l1, l2, l3, l4, l5, some (.int (x6))] [] h := by
  refine (p_iload rfl rfl).trans ?_
  refine (p_i2l rfl).trans ?_
  refine (p_lcmp rfl).trans ?_
  exact (s_if (g := (fun x => decide (x = 0))) (t := 2018) (nx := 2016) rfl).trans bif_dec
theorem r_L_law_2068 {d : Nat} {s0 : Int32} {a2 : Nat} {l0 l1 l3 l4 l5 l6 : Option Value} {h : AH} : R_L_law d 2068 [l0, l1, some (.ref a2), l3, l4, l5, l6] [.int (s0)] h = ((hci h a2).bind (lkN [(18, 150)])).bind fun y => aK (exec tTab d y [.ref a2] h) (fun v h1 => R_L_law d 2074 [l0, l1, some (.ref a2), l3, l4, l5, some (.int (s0))] (v.toList ++ []) h1) (fun E h1 => some (.inr E, h1)) := by
  refine (p_istore rfl rfl rfl).trans ?_
  refine (p_aload rfl rfl).trans ?_
  exact s_callV (L := [(18, 150)]) (n := 0) (b := a2) (rest := []) rfl rfl rfl
theorem r_L_law_253 {d : Nat} {s0 s2 s3 s4 x4 : Int32} {b1 a0 : Nat} {l1 l2 l3 l5 l6 : Option Value} {h : AH} : R_L_law d 253 [some (.ref a0), l1, l2, l3, some (.int (x4)), l5, l6] [.int (s4), .int (s3), .int (s2), .ref b1, .int (s0)] h = (hai h 0 a0 (x4 + (nI 4))).bind fun v => R_L_law d 259 [some (.ref a0), l1, l2, l3, some (.int (x4)), l5, l6] [.int v, .int (s4), .int (s3), .int (s2), .ref b1, .int (s0)] h := by
  refine (p_aload rfl rfl).trans ?_
  refine (p_iload rfl rfl).trans ?_
  refine (p_const rfl).trans ?_
  refine (p_bin rfl).trans ?_
  exact s_iald rfl
theorem r_L_law_464 {d : Nat} {x4 : Int32} {l0 l1 l2 l3 l5 l6 : Option Value} {h : AH} : R_L_law d 464 [l0, l1, l2, l3, some (.int (x4)), l5, l6] [] h = R_L_law d 23 [l0, l1, l2, l3, some (.int (x4 + (nI 6))), l5, l6] [] h := by
  refine (p_goto rfl).trans ?_
  refine (p_iinc rfl rfl rfl).trans ?_
  refine (p_goto rfl).trans ?_
  exact rfl
theorem r_L_law_452 {d : Nat} {a3 : Nat} {l0 l1 l2 l4 l5 l6 : Option Value} {h : AH} : R_L_law d 452 [l0, l1, l2, some (.ref a3), l4, l5, l6] [] h = (haj h 2 a3 (nI 0)).bind fun v => R_L_law d 455 [l0, l1, l2, some (.ref a3), l4, l5, l6] [.long v] h := by
  refine (p_aload rfl rfl).trans ?_
  refine (p_const rfl).trans ?_
  exact s_lald rfl
theorem r_L_law_525 {d : Nat} {b0 a0 : Nat} {s1 s2 x4 : Int32} {l1 l2 l3 l5 l6 : Option Value} {h : AH} : R_L_law d 525 [some (.ref a0), l1, l2, l3, some (.int (x4)), l5, l6] [.int (s2), .int (s1), .ref b0] h = (hai h 0 a0 (x4 + (nI 3))).bind fun v => R_L_law d 531 [some (.ref a0), l1, l2, l3, some (.int (x4)), l5, l6] [.int v, .int (s2), .int (s1), .ref b0] h := by
  refine (p_aload rfl rfl).trans ?_
  refine (p_iload rfl rfl).trans ?_
  refine (p_const rfl).trans ?_
  refine (p_bin rfl).trans ?_
  exact s_iald rfl
theorem r_L_law_652 {d : Nat} {x4 : Int32} {l0 l1 l2 l3 l5 l6 : Option Value} {h : AH} : R_L_law d 652 [l0, l1, l2, l3, some (.int (x4)), l5, l6] [] h = R_L_law d 23 [l0, l1, l2, l3, some (.int (x4 + (nI 6))), l5, l6] [] h := by
  refine (p_goto rfl).trans ?_
  refine (p_iinc rfl rfl rfl).trans ?_
  refine (p_goto rfl).trans ?_
  exact rfl
theorem r_L_law_640 {d : Nat} {a3 : Nat} {l0 l1 l2 l4 l5 l6 : Option Value} {h : AH} : R_L_law d 640 [l0, l1, l2, some (.ref a3), l4, l5, l6] [] h = (haj h 2 a3 (nI 0)).bind fun v => R_L_law d 643 [l0, l1, l2, some (.ref a3), l4, l5, l6] [.long v] h := by
  refine (p_aload rfl rfl).trans ?_
  refine (p_const rfl).trans ?_
  exact s_lald rfl
theorem r_L_law_706 {d : Nat} {l0 l1 l2 l3 l4 l5 l6 : Option Value} {h : AH} : R_L_law d 706 [l0, l1, l2, l3, l4, l5, l6] [] h = some (.inl (some (.int ((nI 0)))), h) := by
  refine (p_const rfl).trans ?_
  exact s_iretT rfl rfl
theorem r_L_law_762 {d : Nat} {l0 l1 l2 l3 l4 l5 l6 : Option Value} {h : AH} : R_L_law d 762 [l0, l1, l2, l3, l4, l5, l6] [] h = some (.inl (some (.int ((nI 0)))), h) := by
  refine (p_const rfl).trans ?_
  exact s_iretT rfl rfl
theorem r_L_law_832 {d : Nat} {x4 : Int32} {l0 l1 l2 l3 l5 l6 : Option Value} {h : AH} : R_L_law d 832 [l0, l1, l2, l3, some (.int (x4)), l5, l6] [] h = R_L_law d 23 [l0, l1, l2, l3, some (.int (x4 + (nI 6))), l5, l6] [] h := by
  refine (p_goto rfl).trans ?_
  refine (p_iinc rfl rfl rfl).trans ?_
  refine (p_goto rfl).trans ?_
  exact rfl
theorem r_L_law_820 {d : Nat} {a3 : Nat} {l0 l1 l2 l4 l5 l6 : Option Value} {h : AH} : R_L_law d 820 [l0, l1, l2, some (.ref a3), l4, l5, l6] [] h = (haj h 2 a3 (nI 0)).bind fun v => R_L_law d 823 [l0, l1, l2, some (.ref a3), l4, l5, l6] [.long v] h := by
  refine (p_aload rfl rfl).trans ?_
  refine (p_const rfl).trans ?_
  exact s_lald rfl
theorem r_L_law_900 {d : Nat} {x4 : Int32} {l0 l1 l2 l3 l5 l6 : Option Value} {h : AH} : R_L_law d 900 [l0, l1, l2, l3, some (.int (x4)), l5, l6] [] h = R_L_law d 23 [l0, l1, l2, l3, some (.int (x4 + (nI 6))), l5, l6] [] h := by
  refine (p_goto rfl).trans ?_
  refine (p_iinc rfl rfl rfl).trans ?_
  refine (p_goto rfl).trans ?_
  exact rfl
theorem r_L_law_888 {d : Nat} {a3 : Nat} {l0 l1 l2 l4 l5 l6 : Option Value} {h : AH} : R_L_law d 888 [l0, l1, l2, some (.ref a3), l4, l5, l6] [] h = (haj h 2 a3 (nI 0)).bind fun v => R_L_law d 891 [l0, l1, l2, some (.ref a3), l4, l5, l6] [.long v] h := by
  refine (p_aload rfl rfl).trans ?_
  refine (p_const rfl).trans ?_
  exact s_lald rfl
theorem r_L_law_975 {d : Nat} {x4 : Int32} {l0 l1 l2 l3 l5 l6 : Option Value} {h : AH} : R_L_law d 975 [l0, l1, l2, l3, some (.int (x4)), l5, l6] [] h = R_L_law d 23 [l0, l1, l2, l3, some (.int (x4 + (nI 6))), l5, l6] [] h := by
  refine (p_goto rfl).trans ?_
  refine (p_iinc rfl rfl rfl).trans ?_
  refine (p_goto rfl).trans ?_
  exact rfl
theorem r_L_law_956 {d : Nat} {a3 : Nat} {l0 l1 l2 l4 l5 l6 : Option Value} {h : AH} : R_L_law d 956 [l0, l1, l2, some (.ref a3), l4, l5, l6] [] h = (haj h 2 a3 (nI 0)).bind fun v => R_L_law d 959 [l0, l1, l2, some (.ref a3), l4, l5, l6] [.long v] h := by
  refine (p_aload rfl rfl).trans ?_
  refine (p_const rfl).trans ?_
  exact s_lald rfl
theorem r_L_law_1029 {d : Nat} {l0 l1 l2 l3 l4 l5 l6 : Option Value} {h : AH} : R_L_law d 1029 [l0, l1, l2, l3, l4, l5, l6] [] h = some (.inl (some (.int ((nI 0)))), h) := by
  refine (p_const rfl).trans ?_
  exact s_iretT rfl rfl
theorem r_L_law_1085 {d : Nat} {l0 l1 l2 l3 l4 l5 l6 : Option Value} {h : AH} : R_L_law d 1085 [l0, l1, l2, l3, l4, l5, l6] [] h = some (.inl (some (.int ((nI 0)))), h) := by
  refine (p_const rfl).trans ?_
  exact s_iretT rfl rfl
theorem r_L_law_1155 {d : Nat} {x4 : Int32} {l0 l1 l2 l3 l5 l6 : Option Value} {h : AH} : R_L_law d 1155 [l0, l1, l2, l3, some (.int (x4)), l5, l6] [] h = R_L_law d 23 [l0, l1, l2, l3, some (.int (x4 + (nI 6))), l5, l6] [] h := by
  refine (p_goto rfl).trans ?_
  refine (p_iinc rfl rfl rfl).trans ?_
  refine (p_goto rfl).trans ?_
  exact rfl
theorem r_L_law_1143 {d : Nat} {a3 : Nat} {l0 l1 l2 l4 l5 l6 : Option Value} {h : AH} : R_L_law d 1143 [l0, l1, l2, some (.ref a3), l4, l5, l6] [] h = (haj h 2 a3 (nI 0)).bind fun v => R_L_law d 1146 [l0, l1, l2, some (.ref a3), l4, l5, l6] [.long v] h := by
  refine (p_aload rfl rfl).trans ?_
  refine (p_const rfl).trans ?_
  exact s_lald rfl
theorem r_L_law_1211 {d : Nat} {s0 x5 : Int32} {l0 l1 l2 l3 l4 l6 : Option Value} {h : AH} : R_L_law d 1211 [l0, l1, l2, l3, l4, some (.int (x5)), l6] [.int (s0)] h = if s0 = x5 then R_L_law d 1218 [l0, l1, l2, l3, l4, some (.int (x5)), l6] [] h else R_L_law d 1216 [l0, l1, l2, l3, l4, some (.int (x5)), l6] [] h := by
  refine (p_iload rfl rfl).trans ?_
  exact (s_icmp (g := (fun x y => decide (x = y))) (t := 1218) (nx := 1216) rfl).trans bif_dec
theorem r_L_law_1291 {d : Nat} {j0 : Int64} {l0 l1 l2 l3 l4 l5 l6 : Option Value} {h : AH} : R_L_law d 1291 [l0, l1, l2, l3, l4, l5, l6] [.long (j0)] h = if (lg_cmp j0 0) = 0 then R_L_law d 1298 [l0, l1, l2, l3, l4, l5, l6] [] h else R_L_law d 1296 [l0, l1, l2, l3, l4, l5, l6] [] h := by
  refine (p_const rfl).trans ?_
  refine (p_lcmp rfl).trans ?_
  exact (s_if (g := (fun x => decide (x = 0))) (t := 1298) (nx := 1296) rfl).trans bif_dec
theorem r_L_law_1287 {d : Nat} {j0 : Int64} {l0 l1 l2 l3 l4 l5 l6 : Option Value} {h : AH} : R_L_law d 1287 [l0, l1, l2, l3, l4, l5, l6] [.long (j0)] h = if (lg_cmp j0 1) = 0 then R_L_law d 1298 [l0, l1, l2, l3, l4, l5, l6] [] h else R_L_law d 1296 [l0, l1, l2, l3, l4, l5, l6] [] h := by
  refine (p_const rfl).trans ?_
  refine (p_goto rfl).trans ?_
  refine (p_lcmp rfl).trans ?_
  exact (s_if (g := (fun x => decide (x = 0))) (t := 1298) (nx := 1296) rfl).trans bif_dec
theorem r_L_law_1352 {d : Nat} {l0 l1 l2 l3 l4 l5 l6 : Option Value} {h : AH} : R_L_law d 1352 [l0, l1, l2, l3, l4, l5, l6] [] h = some (.inl (some (.int ((nI 0)))), h) := by
  refine (p_const rfl).trans ?_
  exact s_iretT rfl rfl
theorem r_L_law_1510 {d : Nat} {x4 : Int32} {l0 l1 l2 l3 l5 l6 : Option Value} {h : AH} : R_L_law d 1510 [l0, l1, l2, l3, some (.int (x4)), l5, l6] [] h = R_L_law d 23 [l0, l1, l2, l3, some (.int (x4 + (nI 6))), l5, l6] [] h := by
  refine (p_goto rfl).trans ?_
  refine (p_iinc rfl rfl rfl).trans ?_
  refine (p_goto rfl).trans ?_
  exact rfl
theorem r_L_law_1498 {d : Nat} {a3 : Nat} {l0 l1 l2 l4 l5 l6 : Option Value} {h : AH} : R_L_law d 1498 [l0, l1, l2, some (.ref a3), l4, l5, l6] [] h = (haj h 2 a3 (nI 0)).bind fun v => R_L_law d 1501 [l0, l1, l2, some (.ref a3), l4, l5, l6] [.long v] h := by
  refine (p_aload rfl rfl).trans ?_
  refine (p_const rfl).trans ?_
  exact s_lald rfl
theorem r_L_law_1578 {d : Nat} {x4 : Int32} {l0 l1 l2 l3 l5 l6 : Option Value} {h : AH} : R_L_law d 1578 [l0, l1, l2, l3, some (.int (x4)), l5, l6] [] h = R_L_law d 23 [l0, l1, l2, l3, some (.int (x4 + (nI 6))), l5, l6] [] h := by
  refine (p_goto rfl).trans ?_
  refine (p_iinc rfl rfl rfl).trans ?_
  refine (p_goto rfl).trans ?_
  exact rfl
theorem r_L_law_1566 {d : Nat} {a3 : Nat} {l0 l1 l2 l4 l5 l6 : Option Value} {h : AH} : R_L_law d 1566 [l0, l1, l2, some (.ref a3), l4, l5, l6] [] h = (haj h 2 a3 (nI 0)).bind fun v => R_L_law d 1569 [l0, l1, l2, some (.ref a3), l4, l5, l6] [.long v] h := by
  refine (p_aload rfl rfl).trans ?_
  refine (p_const rfl).trans ?_
  exact s_lald rfl
theorem r_L_law_1646 {d : Nat} {x4 : Int32} {l0 l1 l2 l3 l5 l6 : Option Value} {h : AH} : R_L_law d 1646 [l0, l1, l2, l3, some (.int (x4)), l5, l6] [] h = R_L_law d 23 [l0, l1, l2, l3, some (.int (x4 + (nI 6))), l5, l6] [] h := by
  refine (p_goto rfl).trans ?_
  refine (p_iinc rfl rfl rfl).trans ?_
  refine (p_goto rfl).trans ?_
  exact rfl
theorem r_L_law_1634 {d : Nat} {a3 : Nat} {l0 l1 l2 l4 l5 l6 : Option Value} {h : AH} : R_L_law d 1634 [l0, l1, l2, some (.ref a3), l4, l5, l6] [] h = (haj h 2 a3 (nI 0)).bind fun v => R_L_law d 1637 [l0, l1, l2, some (.ref a3), l4, l5, l6] [.long v] h := by
  refine (p_aload rfl rfl).trans ?_
  refine (p_const rfl).trans ?_
  exact s_lald rfl
theorem r_L_law_1705 {d : Nat} {b0 : Nat} {s1 s2 s3 s4 : Int32} {l0 l1 l2 l3 l4 l5 l6 : Option Value} {h : AH} : R_L_law d 1705 [l0, l1, l2, l3, l4, l5, l6] [.int (s4), .int (s3), .int (s2), .int (s1), .ref b0] h = ((hci h b0).bind (lkN [(18, 225)])).bind fun y => aK (exec tTab d y [.ref b0, .int (s1), .int (s2), .int (s3), .int (s4)] h) (fun v h1 => R_L_law d 1708 [l0, l1, l2, l3, l4, l5, l6] (v.toList ++ []) h1) (fun E h1 => some (.inr E, h1)) := s_callV (L := [(18, 225)]) (n := 4) (b := b0) (rest := []) rfl rfl rfl
theorem r_L_law_1836 {d : Nat} {l0 l1 l2 l3 l4 l5 l6 : Option Value} {h : AH} : R_L_law d 1836 [l0, l1, l2, l3, l4, l5, l6] [] h = some (.inl (some (.int ((nI 0)))), h) := by
  refine (p_const rfl).trans ?_
  exact s_iretT rfl rfl
theorem r_L_law_1906 {d : Nat} {x4 : Int32} {l0 l1 l2 l3 l5 l6 : Option Value} {h : AH} : R_L_law d 1906 [l0, l1, l2, l3, some (.int (x4)), l5, l6] [] h = R_L_law d 23 [l0, l1, l2, l3, some (.int (x4 + (nI 6))), l5, l6] [] h := by
  refine (p_goto rfl).trans ?_
  refine (p_iinc rfl rfl rfl).trans ?_
  refine (p_goto rfl).trans ?_
  exact rfl
theorem r_L_law_1894 {d : Nat} {a3 : Nat} {l0 l1 l2 l4 l5 l6 : Option Value} {h : AH} : R_L_law d 1894 [l0, l1, l2, some (.ref a3), l4, l5, l6] [] h = (haj h 2 a3 (nI 0)).bind fun v => R_L_law d 1897 [l0, l1, l2, some (.ref a3), l4, l5, l6] [.long v] h := by
  refine (p_aload rfl rfl).trans ?_
  refine (p_const rfl).trans ?_
  exact s_lald rfl
theorem r_L_law_1960 {d : Nat} {l0 l1 l2 l3 l4 l5 l6 : Option Value} {h : AH} : R_L_law d 1960 [l0, l1, l2, l3, l4, l5, l6] [] h = some (.inl (some (.int ((nI 0)))), h) := by
  refine (p_const rfl).trans ?_
  exact s_iretT rfl rfl
theorem r_L_law_2016 {d : Nat} {l0 l1 l2 l3 l4 l5 l6 : Option Value} {h : AH} : R_L_law d 2016 [l0, l1, l2, l3, l4, l5, l6] [] h = some (.inl (some (.int ((nI 0)))), h) := by
  refine (p_const rfl).trans ?_
  exact s_iretT rfl rfl
theorem r_L_law_2074 {d : Nat} {s0 x5 : Int32} {l0 l1 l2 l3 l4 l6 : Option Value} {h : AH} : R_L_law d 2074 [l0, l1, l2, l3, l4, some (.int (x5)), l6] [.int (s0)] h = if s0 = x5 then R_L_law d 2081 [l0, l1, l2, l3, l4, some (.int (x5)), l6] [] h else R_L_law d 2079 [l0, l1, l2, l3, l4, some (.int (x5)), l6] [] h := by
  refine (p_iload rfl rfl).trans ?_
  exact (s_icmp (g := (fun x y => decide (x = y))) (t := 2081) (nx := 2079) rfl).trans bif_dec
theorem r_L_law_259 {d : Nat} {s0 s2 s3 s4 s5 x4 : Int32} {b1 a0 : Nat} {l1 l2 l3 l5 l6 : Option Value} {h : AH} : R_L_law d 259 [some (.ref a0), l1, l2, l3, some (.int (x4)), l5, l6] [.int (s5), .int (s4), .int (s3), .int (s2), .ref b1, .int (s0)] h = (hai h 0 a0 (x4 + (nI 5))).bind fun v => R_L_law d 265 [some (.ref a0), l1, l2, l3, some (.int (x4)), l5, l6] [.int v, .int (s5), .int (s4), .int (s3), .int (s2), .ref b1, .int (s0)] h := by
  refine (p_aload rfl rfl).trans ?_
  refine (p_iload rfl rfl).trans ?_
  refine (p_const rfl).trans ?_
  refine (p_bin rfl).trans ?_
  exact s_iald rfl
theorem r_L_law_455 {d : Nat} {j0 : Int64} {x6 : Int32} {l0 l1 l2 l3 l4 l5 : Option Value} {h : AH} : R_L_law d 455 [l0, l1, l2, l3, l4, l5, some (.int (x6))] [.long (j0)] h = if (lg_cmp j0 x6.toInt64) = 0 then R_L_law d 464 [l0, l1, l2, l3, l4, l5, some (.int (x6))] [] h else R_L_law d 462 [l0, l1, l2, l3, l4, l5, some (.int (x6))] [] h := by
  refine (p_iload rfl rfl).trans ?_
  refine (p_i2l rfl).trans ?_
  refine (p_lcmp rfl).trans ?_
  exact (s_if (g := (fun x => decide (x = 0))) (t := 464) (nx := 462) rfl).trans bif_dec
theorem r_L_law_531 {d : Nat} {b0 a0 : Nat} {s1 s2 s3 x4 : Int32} {l1 l2 l3 l5 l6 : Option Value} {h : AH} : R_L_law d 531 [some (.ref a0), l1, l2, l3, some (.int (x4)), l5, l6] [.int (s3), .int (s2), .int (s1), .ref b0] h = (hai h 0 a0 (x4 + (nI 4))).bind fun v => R_L_law d 537 [some (.ref a0), l1, l2, l3, some (.int (x4)), l5, l6] [.int v, .int (s3), .int (s2), .int (s1), .ref b0] h := by
  refine (p_aload rfl rfl).trans ?_
  refine (p_iload rfl rfl).trans ?_
  refine (p_const rfl).trans ?_
  refine (p_bin rfl).trans ?_
  exact s_iald rfl
theorem r_L_law_643 {d : Nat} {j0 : Int64} {x6 : Int32} {l0 l1 l2 l3 l4 l5 : Option Value} {h : AH} : R_L_law d 643 [l0, l1, l2, l3, l4, l5, some (.int (x6))] [.long (j0)] h = if (lg_cmp j0 x6.toInt64) = 0 then R_L_law d 652 [l0, l1, l2, l3, l4, l5, some (.int (x6))] [] h else R_L_law d 650 [l0, l1, l2, l3, l4, l5, some (.int (x6))] [] h := by
  refine (p_iload rfl rfl).trans ?_
  refine (p_i2l rfl).trans ?_
  refine (p_lcmp rfl).trans ?_
  exact (s_if (g := (fun x => decide (x = 0))) (t := 652) (nx := 650) rfl).trans bif_dec
theorem r_L_law_823 {d : Nat} {j0 : Int64} {x6 : Int32} {l0 l1 l2 l3 l4 l5 : Option Value} {h : AH} : R_L_law d 823 [l0, l1, l2, l3, l4, l5, some (.int (x6))] [.long (j0)] h = if (lg_cmp j0 x6.toInt64) = 0 then R_L_law d 832 [l0, l1, l2, l3, l4, l5, some (.int (x6))] [] h else R_L_law d 830 [l0, l1, l2, l3, l4, l5, some (.int (x6))] [] h := by
  refine (p_iload rfl rfl).trans ?_
  refine (p_i2l rfl).trans ?_
  refine (p_lcmp rfl).trans ?_
  exact (s_if (g := (fun x => decide (x = 0))) (t := 832) (nx := 830) rfl).trans bif_dec
theorem r_L_law_891 {d : Nat} {j0 : Int64} {x6 : Int32} {l0 l1 l2 l3 l4 l5 : Option Value} {h : AH} : R_L_law d 891 [l0, l1, l2, l3, l4, l5, some (.int (x6))] [.long (j0)] h = if (lg_cmp j0 x6.toInt64) = 0 then R_L_law d 900 [l0, l1, l2, l3, l4, l5, some (.int (x6))] [] h else R_L_law d 898 [l0, l1, l2, l3, l4, l5, some (.int (x6))] [] h := by
  refine (p_iload rfl rfl).trans ?_
  refine (p_i2l rfl).trans ?_
  refine (p_lcmp rfl).trans ?_
  exact (s_if (g := (fun x => decide (x = 0))) (t := 900) (nx := 898) rfl).trans bif_dec
theorem r_L_law_959 {d : Nat} {j0 : Int64} {x6 : Int32} {l0 l1 l2 l3 l4 l5 : Option Value} {h : AH} : R_L_law d 959 [l0, l1, l2, l3, l4, l5, some (.int (x6))] [.long (j0)] h = if x6 = 0 then R_L_law d 968 [l0, l1, l2, l3, l4, l5, some (.int (x6))] [.long (j0)] h else R_L_law d 964 [l0, l1, l2, l3, l4, l5, some (.int (x6))] [.long (j0)] h := by
  refine (p_iload rfl rfl).trans ?_
  exact (s_if (g := (fun x => decide (x = 0))) (t := 968) (nx := 964) rfl).trans bif_dec
theorem r_L_law_1146 {d : Nat} {j0 : Int64} {x6 : Int32} {l0 l1 l2 l3 l4 l5 : Option Value} {h : AH} : R_L_law d 1146 [l0, l1, l2, l3, l4, l5, some (.int (x6))] [.long (j0)] h = if (lg_cmp j0 x6.toInt64) = 0 then R_L_law d 1155 [l0, l1, l2, l3, l4, l5, some (.int (x6))] [] h else R_L_law d 1153 [l0, l1, l2, l3, l4, l5, some (.int (x6))] [] h := by
  refine (p_iload rfl rfl).trans ?_
  refine (p_i2l rfl).trans ?_
  refine (p_lcmp rfl).trans ?_
  exact (s_if (g := (fun x => decide (x = 0))) (t := 1155) (nx := 1153) rfl).trans bif_dec
theorem r_L_law_1218 {d : Nat} {x5 : Int32} {l0 l1 l2 l3 l4 l6 : Option Value} {h : AH} : R_L_law d 1218 [l0, l1, l2, l3, l4, some (.int (x5)), l6] [] h = if ¬ x5 = 0 then R_L_law d 1235 [l0, l1, l2, l3, l4, some (.int (x5)), l6] [] h else R_L_law d 1223 [l0, l1, l2, l3, l4, some (.int (x5)), l6] [] h := by
  refine (p_iload rfl rfl).trans ?_
  exact (s_if (g := (fun x => decide (¬ x = 0))) (t := 1235) (nx := 1223) rfl).trans bif_dec
theorem r_L_law_1216 {d : Nat} {l0 l1 l2 l3 l4 l5 l6 : Option Value} {h : AH} : R_L_law d 1216 [l0, l1, l2, l3, l4, l5, l6] [] h = some (.inl (some (.int ((nI 0)))), h) := by
  refine (p_const rfl).trans ?_
  exact s_iretT rfl rfl
theorem r_L_law_1296 {d : Nat} {l0 l1 l2 l3 l4 l5 l6 : Option Value} {h : AH} : R_L_law d 1296 [l0, l1, l2, l3, l4, l5, l6] [] h = some (.inl (some (.int ((nI 0)))), h) := by
  refine (p_const rfl).trans ?_
  exact s_iretT rfl rfl
theorem r_L_law_1501 {d : Nat} {j0 : Int64} {x6 : Int32} {l0 l1 l2 l3 l4 l5 : Option Value} {h : AH} : R_L_law d 1501 [l0, l1, l2, l3, l4, l5, some (.int (x6))] [.long (j0)] h = if (lg_cmp j0 x6.toInt64) = 0 then R_L_law d 1510 [l0, l1, l2, l3, l4, l5, some (.int (x6))] [] h else R_L_law d 1508 [l0, l1, l2, l3, l4, l5, some (.int (x6))] [] h := by
  refine (p_iload rfl rfl).trans ?_
  refine (p_i2l rfl).trans ?_
  refine (p_lcmp rfl).trans ?_
  exact (s_if (g := (fun x => decide (x = 0))) (t := 1510) (nx := 1508) rfl).trans bif_dec
theorem r_L_law_1569 {d : Nat} {j0 : Int64} {x6 : Int32} {l0 l1 l2 l3 l4 l5 : Option Value} {h : AH} : R_L_law d 1569 [l0, l1, l2, l3, l4, l5, some (.int (x6))] [.long (j0)] h = if (lg_cmp j0 x6.toInt64) = 0 then R_L_law d 1578 [l0, l1, l2, l3, l4, l5, some (.int (x6))] [] h else R_L_law d 1576 [l0, l1, l2, l3, l4, l5, some (.int (x6))] [] h := by
  refine (p_iload rfl rfl).trans ?_
  refine (p_i2l rfl).trans ?_
  refine (p_lcmp rfl).trans ?_
  exact (s_if (g := (fun x => decide (x = 0))) (t := 1578) (nx := 1576) rfl).trans bif_dec
theorem r_L_law_1637 {d : Nat} {j0 : Int64} {x6 : Int32} {l0 l1 l2 l3 l4 l5 : Option Value} {h : AH} : R_L_law d 1637 [l0, l1, l2, l3, l4, l5, some (.int (x6))] [.long (j0)] h = if (lg_cmp j0 x6.toInt64) = 0 then R_L_law d 1646 [l0, l1, l2, l3, l4, l5, some (.int (x6))] [] h else R_L_law d 1644 [l0, l1, l2, l3, l4, l5, some (.int (x6))] [] h := by
  refine (p_iload rfl rfl).trans ?_
  refine (p_i2l rfl).trans ?_
  refine (p_lcmp rfl).trans ?_
  exact (s_if (g := (fun x => decide (x = 0))) (t := 1646) (nx := 1644) rfl).trans bif_dec
theorem r_L_law_1708 {d : Nat} {s0 : Int32} {a2 : Nat} {l0 l1 l3 l4 l5 l6 : Option Value} {h : AH} : R_L_law d 1708 [l0, l1, some (.ref a2), l3, l4, l5, l6] [.int (s0)] h = ((hci h a2).bind (lkN [(18, 150)])).bind fun y => aK (exec tTab d y [.ref a2] h) (fun v h1 => R_L_law d 1714 [l0, l1, some (.ref a2), l3, l4, l5, some (.int (s0))] (v.toList ++ []) h1) (fun E h1 => some (.inr E, h1)) := by
  refine (p_istore rfl rfl rfl).trans ?_
  refine (p_aload rfl rfl).trans ?_
  exact s_callV (L := [(18, 150)]) (n := 0) (b := a2) (rest := []) rfl rfl rfl
theorem r_L_law_1897 {d : Nat} {j0 : Int64} {x6 : Int32} {l0 l1 l2 l3 l4 l5 : Option Value} {h : AH} : R_L_law d 1897 [l0, l1, l2, l3, l4, l5, some (.int (x6))] [.long (j0)] h = if (lg_cmp j0 x6.toInt64) = 0 then R_L_law d 1906 [l0, l1, l2, l3, l4, l5, some (.int (x6))] [] h else R_L_law d 1904 [l0, l1, l2, l3, l4, l5, some (.int (x6))] [] h := by
  refine (p_iload rfl rfl).trans ?_
  refine (p_i2l rfl).trans ?_
  refine (p_lcmp rfl).trans ?_
  exact (s_if (g := (fun x => decide (x = 0))) (t := 1906) (nx := 1904) rfl).trans bif_dec
theorem r_L_law_2081 {d : Nat} {x5 : Int32} {l0 l1 l2 l3 l4 l6 : Option Value} {h : AH} : R_L_law d 2081 [l0, l1, l2, l3, l4, some (.int (x5)), l6] [] h = if ¬ x5 = 0 then R_L_law d 2098 [l0, l1, l2, l3, l4, some (.int (x5)), l6] [] h else R_L_law d 2086 [l0, l1, l2, l3, l4, some (.int (x5)), l6] [] h := by
  refine (p_iload rfl rfl).trans ?_
  exact (s_if (g := (fun x => decide (¬ x = 0))) (t := 2098) (nx := 2086) rfl).trans bif_dec
theorem r_L_law_2079 {d : Nat} {l0 l1 l2 l3 l4 l5 l6 : Option Value} {h : AH} : R_L_law d 2079 [l0, l1, l2, l3, l4, l5, l6] [] h = some (.inl (some (.int ((nI 0)))), h) := by
  refine (p_const rfl).trans ?_
  exact s_iretT rfl rfl
theorem r_L_law_265 {d : Nat} {s0 s2 s3 s4 s5 s6 : Int32} {b1 : Nat} {l0 l1 l2 l3 l4 l5 l6 : Option Value} {h : AH} : R_L_law d 265 [l0, l1, l2, l3, l4, l5, l6] [.int (s6), .int (s5), .int (s4), .int (s3), .int (s2), .ref b1, .int (s0)] h = ((hci h b1).bind (lkN [(18, 151)])).bind fun y => aK (exec tTab d y [.ref b1, .int (s2), .int (s3), .int (s4), .int (s5), .int (s6)] h) (fun v h1 => R_L_law d 268 [l0, l1, l2, l3, l4, l5, l6] (v.toList ++ [.int (s0)]) h1) (fun E h1 => some (.inr E, h1)) := s_callV (L := [(18, 151)]) (n := 5) (b := b1) (rest := [.int (s0)]) rfl rfl rfl
theorem r_L_law_462 {d : Nat} {l0 l1 l2 l3 l4 l5 l6 : Option Value} {h : AH} : R_L_law d 462 [l0, l1, l2, l3, l4, l5, l6] [] h = some (.inl (some (.int ((nI 0)))), h) := by
  refine (p_const rfl).trans ?_
  exact s_iretT rfl rfl
theorem r_L_law_537 {d : Nat} {b0 a0 : Nat} {s1 s2 s3 s4 x4 : Int32} {l1 l2 l3 l5 l6 : Option Value} {h : AH} : R_L_law d 537 [some (.ref a0), l1, l2, l3, some (.int (x4)), l5, l6] [.int (s4), .int (s3), .int (s2), .int (s1), .ref b0] h = (hai h 0 a0 (x4 + (nI 5))).bind fun v => R_L_law d 543 [some (.ref a0), l1, l2, l3, some (.int (x4)), l5, l6] [.int v, .int (s4), .int (s3), .int (s2), .int (s1), .ref b0] h := by
  refine (p_aload rfl rfl).trans ?_
  refine (p_iload rfl rfl).trans ?_
  refine (p_const rfl).trans ?_
  refine (p_bin rfl).trans ?_
  exact s_iald rfl
theorem r_L_law_650 {d : Nat} {l0 l1 l2 l3 l4 l5 l6 : Option Value} {h : AH} : R_L_law d 650 [l0, l1, l2, l3, l4, l5, l6] [] h = some (.inl (some (.int ((nI 0)))), h) := by
  refine (p_const rfl).trans ?_
  exact s_iretT rfl rfl
theorem r_L_law_830 {d : Nat} {l0 l1 l2 l3 l4 l5 l6 : Option Value} {h : AH} : R_L_law d 830 [l0, l1, l2, l3, l4, l5, l6] [] h = some (.inl (some (.int ((nI 0)))), h) := by
  refine (p_const rfl).trans ?_
  exact s_iretT rfl rfl
theorem r_L_law_898 {d : Nat} {l0 l1 l2 l3 l4 l5 l6 : Option Value} {h : AH} : R_L_law d 898 [l0, l1, l2, l3, l4, l5, l6] [] h = some (.inl (some (.int ((nI 0)))), h) := by
  refine (p_const rfl).trans ?_
  exact s_iretT rfl rfl
theorem r_L_law_968 {d : Nat} {j0 : Int64} {l0 l1 l2 l3 l4 l5 l6 : Option Value} {h : AH} : R_L_law d 968 [l0, l1, l2, l3, l4, l5, l6] [.long (j0)] h = if (lg_cmp j0 0) = 0 then R_L_law d 975 [l0, l1, l2, l3, l4, l5, l6] [] h else R_L_law d 973 [l0, l1, l2, l3, l4, l5, l6] [] h := by
  refine (p_const rfl).trans ?_
  refine (p_lcmp rfl).trans ?_
  exact (s_if (g := (fun x => decide (x = 0))) (t := 975) (nx := 973) rfl).trans bif_dec
theorem r_L_law_964 {d : Nat} {j0 : Int64} {l0 l1 l2 l3 l4 l5 l6 : Option Value} {h : AH} : R_L_law d 964 [l0, l1, l2, l3, l4, l5, l6] [.long (j0)] h = if (lg_cmp j0 1) = 0 then R_L_law d 975 [l0, l1, l2, l3, l4, l5, l6] [] h else R_L_law d 973 [l0, l1, l2, l3, l4, l5, l6] [] h := by
  refine (p_const rfl).trans ?_
  refine (p_goto rfl).trans ?_
  refine (p_lcmp rfl).trans ?_
  exact (s_if (g := (fun x => decide (x = 0))) (t := 975) (nx := 973) rfl).trans bif_dec
theorem r_L_law_1153 {d : Nat} {l0 l1 l2 l3 l4 l5 l6 : Option Value} {h : AH} : R_L_law d 1153 [l0, l1, l2, l3, l4, l5, l6] [] h = some (.inl (some (.int ((nI 0)))), h) := by
  refine (p_const rfl).trans ?_
  exact s_iretT rfl rfl
theorem r_L_law_1235 {d : Nat} {x4 : Int32} {l0 l1 l2 l3 l5 l6 : Option Value} {h : AH} : R_L_law d 1235 [l0, l1, l2, l3, some (.int (x4)), l5, l6] [] h = R_L_law d 23 [l0, l1, l2, l3, some (.int (x4 + (nI 6))), l5, l6] [] h := by
  refine (p_goto rfl).trans ?_
  refine (p_iinc rfl rfl rfl).trans ?_
  refine (p_goto rfl).trans ?_
  exact rfl
theorem r_L_law_1223 {d : Nat} {a3 : Nat} {l0 l1 l2 l4 l5 l6 : Option Value} {h : AH} : R_L_law d 1223 [l0, l1, l2, some (.ref a3), l4, l5, l6] [] h = (haj h 2 a3 (nI 0)).bind fun v => R_L_law d 1226 [l0, l1, l2, some (.ref a3), l4, l5, l6] [.long v] h := by
  refine (p_aload rfl rfl).trans ?_
  refine (p_const rfl).trans ?_
  exact s_lald rfl
theorem r_L_law_1508 {d : Nat} {l0 l1 l2 l3 l4 l5 l6 : Option Value} {h : AH} : R_L_law d 1508 [l0, l1, l2, l3, l4, l5, l6] [] h = some (.inl (some (.int ((nI 0)))), h) := by
  refine (p_const rfl).trans ?_
  exact s_iretT rfl rfl
theorem r_L_law_1576 {d : Nat} {l0 l1 l2 l3 l4 l5 l6 : Option Value} {h : AH} : R_L_law d 1576 [l0, l1, l2, l3, l4, l5, l6] [] h = some (.inl (some (.int ((nI 0)))), h) := by
  refine (p_const rfl).trans ?_
  exact s_iretT rfl rfl
theorem r_L_law_1644 {d : Nat} {l0 l1 l2 l3 l4 l5 l6 : Option Value} {h : AH} : R_L_law d 1644 [l0, l1, l2, l3, l4, l5, l6] [] h = some (.inl (some (.int ((nI 0)))), h) := by
  refine (p_const rfl).trans ?_
  exact s_iretT rfl rfl
theorem r_L_law_1714 {d : Nat} {s0 x5 : Int32} {l0 l1 l2 l3 l4 l6 : Option Value} {h : AH} : R_L_law d 1714 [l0, l1, l2, l3, l4, some (.int (x5)), l6] [.int (s0)] h = if s0 = x5 then R_L_law d 1721 [l0, l1, l2, l3, l4, some (.int (x5)), l6] [] h else R_L_law d 1719 [l0, l1, l2, l3, l4, some (.int (x5)), l6] [] h := by
  refine (p_iload rfl rfl).trans ?_
  exact (s_icmp (g := (fun x y => decide (x = y))) (t := 1721) (nx := 1719) rfl).trans bif_dec
theorem r_L_law_1904 {d : Nat} {l0 l1 l2 l3 l4 l5 l6 : Option Value} {h : AH} : R_L_law d 1904 [l0, l1, l2, l3, l4, l5, l6] [] h = some (.inl (some (.int ((nI 0)))), h) := by
  refine (p_const rfl).trans ?_
  exact s_iretT rfl rfl
theorem r_L_law_2098 {d : Nat} {x4 : Int32} {l0 l1 l2 l3 l5 l6 : Option Value} {h : AH} : R_L_law d 2098 [l0, l1, l2, l3, some (.int (x4)), l5, l6] [] h = R_L_law d 23 [l0, l1, l2, l3, some (.int (x4 + (nI 6))), l5, l6] [] h := by
  refine (p_goto rfl).trans ?_
  refine (p_iinc rfl rfl rfl).trans ?_
  refine (p_goto rfl).trans ?_
  exact rfl
theorem r_L_law_2086 {d : Nat} {a3 : Nat} {l0 l1 l2 l4 l5 l6 : Option Value} {h : AH} : R_L_law d 2086 [l0, l1, l2, some (.ref a3), l4, l5, l6] [] h = (haj h 2 a3 (nI 0)).bind fun v => R_L_law d 2089 [l0, l1, l2, some (.ref a3), l4, l5, l6] [.long v] h := by
  refine (p_aload rfl rfl).trans ?_
  refine (p_const rfl).trans ?_
  exact s_lald rfl
theorem r_L_law_268 {d : Nat} {s0 s1 : Int32} {l0 l1 l2 l3 l4 l5 l6 : Option Value} {h : AH} : R_L_law d 268 [l0, l1, l2, l3, l4, l5, l6] [.int (s1), .int (s0)] h = if s0 = s1 then R_L_law d 2150 [l0, l1, l2, l3, l4, l5, l6] [] h else R_L_law d 271 [l0, l1, l2, l3, l4, l5, l6] [] h := (s_icmp (g := (fun x y => decide (x = y))) (t := 2150) (nx := 271) rfl).trans bif_dec
theorem r_L_law_543 {d : Nat} {b0 : Nat} {s1 s2 s3 s4 s5 : Int32} {l0 l1 l2 l3 l4 l5 l6 : Option Value} {h : AH} : R_L_law d 543 [l0, l1, l2, l3, l4, l5, l6] [.int (s5), .int (s4), .int (s3), .int (s2), .int (s1), .ref b0] h = if s5 = 0 then R_L_law d 550 [l0, l1, l2, l3, l4, l5, l6] [.int (s4), .int (s3), .int (s2), .int (s1), .ref b0] h else R_L_law d 546 [l0, l1, l2, l3, l4, l5, l6] [.int (s4), .int (s3), .int (s2), .int (s1), .ref b0] h := (s_if (g := (fun x => decide (x = 0))) (t := 550) (nx := 546) rfl).trans bif_dec
theorem r_L_law_973 {d : Nat} {l0 l1 l2 l3 l4 l5 l6 : Option Value} {h : AH} : R_L_law d 973 [l0, l1, l2, l3, l4, l5, l6] [] h = some (.inl (some (.int ((nI 0)))), h) := by
  refine (p_const rfl).trans ?_
  exact s_iretT rfl rfl
theorem r_L_law_1226 {d : Nat} {j0 : Int64} {x6 : Int32} {l0 l1 l2 l3 l4 l5 : Option Value} {h : AH} : R_L_law d 1226 [l0, l1, l2, l3, l4, l5, some (.int (x6))] [.long (j0)] h = if (lg_cmp j0 x6.toInt64) = 0 then R_L_law d 1235 [l0, l1, l2, l3, l4, l5, some (.int (x6))] [] h else R_L_law d 1233 [l0, l1, l2, l3, l4, l5, some (.int (x6))] [] h := by
  refine (p_iload rfl rfl).trans ?_
  refine (p_i2l rfl).trans ?_
  refine (p_lcmp rfl).trans ?_
  exact (s_if (g := (fun x => decide (x = 0))) (t := 1235) (nx := 1233) rfl).trans bif_dec
theorem r_L_law_1721 {d : Nat} {x5 : Int32} {l0 l1 l2 l3 l4 l6 : Option Value} {h : AH} : R_L_law d 1721 [l0, l1, l2, l3, l4, some (.int (x5)), l6] [] h = if ¬ x5 = 0 then R_L_law d 1738 [l0, l1, l2, l3, l4, some (.int (x5)), l6] [] h else R_L_law d 1726 [l0, l1, l2, l3, l4, some (.int (x5)), l6] [] h := by
  refine (p_iload rfl rfl).trans ?_
  exact (s_if (g := (fun x => decide (¬ x = 0))) (t := 1738) (nx := 1726) rfl).trans bif_dec
theorem r_L_law_1719 {d : Nat} {l0 l1 l2 l3 l4 l5 l6 : Option Value} {h : AH} : R_L_law d 1719 [l0, l1, l2, l3, l4, l5, l6] [] h = some (.inl (some (.int ((nI 0)))), h) := by
  refine (p_const rfl).trans ?_
  exact s_iretT rfl rfl
theorem r_L_law_2089 {d : Nat} {j0 : Int64} {x6 : Int32} {l0 l1 l2 l3 l4 l5 : Option Value} {h : AH} : R_L_law d 2089 [l0, l1, l2, l3, l4, l5, some (.int (x6))] [.long (j0)] h = if (lg_cmp j0 x6.toInt64) = 0 then R_L_law d 2098 [l0, l1, l2, l3, l4, l5, some (.int (x6))] [] h else R_L_law d 2096 [l0, l1, l2, l3, l4, l5, some (.int (x6))] [] h := by
  refine (p_iload rfl rfl).trans ?_
  refine (p_i2l rfl).trans ?_
  refine (p_lcmp rfl).trans ?_
  exact (s_if (g := (fun x => decide (x = 0))) (t := 2098) (nx := 2096) rfl).trans bif_dec
theorem r_L_law_271 {d : Nat} {l0 l1 l2 l3 l4 l5 l6 : Option Value} {h : AH} : R_L_law d 271 [l0, l1, l2, l3, l4, l5, l6] [] h = some (.inl (some (.int ((nI 0)))), h) := by
  refine (p_const rfl).trans ?_
  exact s_iretT rfl rfl
theorem r_L_law_550 {d : Nat} {b0 : Nat} {s1 s2 s3 s4 : Int32} {l0 l1 l2 l3 l4 l5 l6 : Option Value} {h : AH} : R_L_law d 550 [l0, l1, l2, l3, l4, l5, l6] [.int (s4), .int (s3), .int (s2), .int (s1), .ref b0] h = ((hci h b0).bind (lkN [(18, 189)])).bind fun y => aK (exec tTab d y [.ref b0, .int (s1), .int (s2), .int (s3), .int (s4), .int ((nI 0))] h) (fun v h1 => R_L_law d 554 [l0, l1, l2, l3, l4, l5, l6] (v.toList ++ []) h1) (fun E h1 => some (.inr E, h1)) := by
  refine (p_const rfl).trans ?_
  exact s_callV (L := [(18, 189)]) (n := 5) (b := b0) (rest := []) rfl rfl rfl
theorem r_L_law_546 {d : Nat} {b0 : Nat} {s1 s2 s3 s4 : Int32} {l0 l1 l2 l3 l4 l5 l6 : Option Value} {h : AH} : R_L_law d 546 [l0, l1, l2, l3, l4, l5, l6] [.int (s4), .int (s3), .int (s2), .int (s1), .ref b0] h = ((hci h b0).bind (lkN [(18, 189)])).bind fun y => aK (exec tTab d y [.ref b0, .int (s1), .int (s2), .int (s3), .int (s4), .int ((nI 1))] h) (fun v h1 => R_L_law d 554 [l0, l1, l2, l3, l4, l5, l6] (v.toList ++ []) h1) (fun E h1 => some (.inr E, h1)) := by
  refine (p_const rfl).trans ?_
  refine (p_goto rfl).trans ?_
  exact s_callV (L := [(18, 189)]) (n := 5) (b := b0) (rest := []) rfl rfl rfl
theorem r_L_law_1233 {d : Nat} {l0 l1 l2 l3 l4 l5 l6 : Option Value} {h : AH} : R_L_law d 1233 [l0, l1, l2, l3, l4, l5, l6] [] h = some (.inl (some (.int ((nI 0)))), h) := by
  refine (p_const rfl).trans ?_
  exact s_iretT rfl rfl
theorem r_L_law_1738 {d : Nat} {x4 : Int32} {l0 l1 l2 l3 l5 l6 : Option Value} {h : AH} : R_L_law d 1738 [l0, l1, l2, l3, some (.int (x4)), l5, l6] [] h = R_L_law d 23 [l0, l1, l2, l3, some (.int (x4 + (nI 6))), l5, l6] [] h := by
  refine (p_goto rfl).trans ?_
  refine (p_iinc rfl rfl rfl).trans ?_
  refine (p_goto rfl).trans ?_
  exact rfl
theorem r_L_law_1726 {d : Nat} {a3 : Nat} {l0 l1 l2 l4 l5 l6 : Option Value} {h : AH} : R_L_law d 1726 [l0, l1, l2, some (.ref a3), l4, l5, l6] [] h = (haj h 2 a3 (nI 0)).bind fun v => R_L_law d 1729 [l0, l1, l2, some (.ref a3), l4, l5, l6] [.long v] h := by
  refine (p_aload rfl rfl).trans ?_
  refine (p_const rfl).trans ?_
  exact s_lald rfl
theorem r_L_law_2096 {d : Nat} {l0 l1 l2 l3 l4 l5 l6 : Option Value} {h : AH} : R_L_law d 2096 [l0, l1, l2, l3, l4, l5, l6] [] h = some (.inl (some (.int ((nI 0)))), h) := by
  refine (p_const rfl).trans ?_
  exact s_iretT rfl rfl
theorem r_L_law_554 {d : Nat} {s0 : Int32} {a2 : Nat} {l0 l1 l3 l4 l5 l6 : Option Value} {h : AH} : R_L_law d 554 [l0, l1, some (.ref a2), l3, l4, l5, l6] [.int (s0)] h = ((hci h a2).bind (lkN [(18, 150)])).bind fun y => aK (exec tTab d y [.ref a2] h) (fun v h1 => R_L_law d 560 [l0, l1, some (.ref a2), l3, l4, l5, some (.int (s0))] (v.toList ++ []) h1) (fun E h1 => some (.inr E, h1)) := by
  refine (p_istore rfl rfl rfl).trans ?_
  refine (p_aload rfl rfl).trans ?_
  exact s_callV (L := [(18, 150)]) (n := 0) (b := a2) (rest := []) rfl rfl rfl
theorem r_L_law_1729 {d : Nat} {j0 : Int64} {x6 : Int32} {l0 l1 l2 l3 l4 l5 : Option Value} {h : AH} : R_L_law d 1729 [l0, l1, l2, l3, l4, l5, some (.int (x6))] [.long (j0)] h = if (lg_cmp j0 x6.toInt64) = 0 then R_L_law d 1738 [l0, l1, l2, l3, l4, l5, some (.int (x6))] [] h else R_L_law d 1736 [l0, l1, l2, l3, l4, l5, some (.int (x6))] [] h := by
  refine (p_iload rfl rfl).trans ?_
  refine (p_i2l rfl).trans ?_
  refine (p_lcmp rfl).trans ?_
  exact (s_if (g := (fun x => decide (x = 0))) (t := 1738) (nx := 1736) rfl).trans bif_dec
theorem r_L_law_560 {d : Nat} {s0 x5 : Int32} {l0 l1 l2 l3 l4 l6 : Option Value} {h : AH} : R_L_law d 560 [l0, l1, l2, l3, l4, some (.int (x5)), l6] [.int (s0)] h = if s0 = x5 then R_L_law d 567 [l0, l1, l2, l3, l4, some (.int (x5)), l6] [] h else R_L_law d 565 [l0, l1, l2, l3, l4, some (.int (x5)), l6] [] h := by
  refine (p_iload rfl rfl).trans ?_
  exact (s_icmp (g := (fun x y => decide (x = y))) (t := 567) (nx := 565) rfl).trans bif_dec
theorem r_L_law_1736 {d : Nat} {l0 l1 l2 l3 l4 l5 l6 : Option Value} {h : AH} : R_L_law d 1736 [l0, l1, l2, l3, l4, l5, l6] [] h = some (.inl (some (.int ((nI 0)))), h) := by
  refine (p_const rfl).trans ?_
  exact s_iretT rfl rfl
theorem r_L_law_567 {d : Nat} {x5 : Int32} {l0 l1 l2 l3 l4 l6 : Option Value} {h : AH} : R_L_law d 567 [l0, l1, l2, l3, l4, some (.int (x5)), l6] [] h = if ¬ x5 = 0 then R_L_law d 584 [l0, l1, l2, l3, l4, some (.int (x5)), l6] [] h else R_L_law d 572 [l0, l1, l2, l3, l4, some (.int (x5)), l6] [] h := by
  refine (p_iload rfl rfl).trans ?_
  exact (s_if (g := (fun x => decide (¬ x = 0))) (t := 584) (nx := 572) rfl).trans bif_dec
theorem r_L_law_565 {d : Nat} {l0 l1 l2 l3 l4 l5 l6 : Option Value} {h : AH} : R_L_law d 565 [l0, l1, l2, l3, l4, l5, l6] [] h = some (.inl (some (.int ((nI 0)))), h) := by
  refine (p_const rfl).trans ?_
  exact s_iretT rfl rfl
theorem r_L_law_584 {d : Nat} {x4 : Int32} {l0 l1 l2 l3 l5 l6 : Option Value} {h : AH} : R_L_law d 584 [l0, l1, l2, l3, some (.int (x4)), l5, l6] [] h = R_L_law d 23 [l0, l1, l2, l3, some (.int (x4 + (nI 6))), l5, l6] [] h := by
  refine (p_goto rfl).trans ?_
  refine (p_iinc rfl rfl rfl).trans ?_
  refine (p_goto rfl).trans ?_
  exact rfl
theorem r_L_law_572 {d : Nat} {a3 : Nat} {l0 l1 l2 l4 l5 l6 : Option Value} {h : AH} : R_L_law d 572 [l0, l1, l2, some (.ref a3), l4, l5, l6] [] h = (haj h 2 a3 (nI 0)).bind fun v => R_L_law d 575 [l0, l1, l2, some (.ref a3), l4, l5, l6] [.long v] h := by
  refine (p_aload rfl rfl).trans ?_
  refine (p_const rfl).trans ?_
  exact s_lald rfl
theorem r_L_law_575 {d : Nat} {j0 : Int64} {x6 : Int32} {l0 l1 l2 l3 l4 l5 : Option Value} {h : AH} : R_L_law d 575 [l0, l1, l2, l3, l4, l5, some (.int (x6))] [.long (j0)] h = if (lg_cmp j0 x6.toInt64) = 0 then R_L_law d 584 [l0, l1, l2, l3, l4, l5, some (.int (x6))] [] h else R_L_law d 582 [l0, l1, l2, l3, l4, l5, some (.int (x6))] [] h := by
  refine (p_iload rfl rfl).trans ?_
  refine (p_i2l rfl).trans ?_
  refine (p_lcmp rfl).trans ?_
  exact (s_if (g := (fun x => decide (x = 0))) (t := 584) (nx := 582) rfl).trans bif_dec
theorem r_L_law_582 {d : Nat} {l0 l1 l2 l3 l4 l5 l6 : Option Value} {h : AH} : R_L_law d 582 [l0, l1, l2, l3, l4, l5, l6] [] h = some (.inl (some (.int ((nI 0)))), h) := by
  refine (p_const rfl).trans ?_
  exact s_iretT rfl rfl
