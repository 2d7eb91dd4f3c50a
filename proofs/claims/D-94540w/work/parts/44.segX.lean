set_option maxRecDepth 100000
/-- FavourTown$World.<init>()V -/
abbrev K_X2_init : Nat := 89
noncomputable def R_X2_init (d pc : Nat) (ls : ALs) (st : List Value) (h : AH) : Option (AOut × AH) := aR (exec tTab d) k_X2_init (fun _ _ => some none) (pc, ls, st, h)
theorem r_X2_init_0 {d : Nat} {a0 : Nat} {h : AH} : R_X2_init d 0 [some (.ref a0)] [] h = (hpf h [1] a0 2 (.int ((nI 10)))).bind fun h1 => R_X2_init d 10 [some (.ref a0)] [] h1 := by
  refine (p_aload rfl rfl).trans ?_
  refine (s_objI rfl rfl).trans ?_
  refine (p_aload rfl rfl).trans ?_
  refine (p_const rfl).trans ?_
  exact s_putT rfl rfl
theorem r_X2_init_10 {d : Nat} {a0 : Nat} {h : AH} : R_X2_init d 10 [some (.ref a0)] [] h = bif hin (nI 12) 65537 then R_X2_init d 15 [some (.ref a0)] [.ref h.2.1, .ref a0] (hnew h (true, .inl (0, ((nI 12)).toNatClampNeg, (.inl (fun _ => 0)))) ((nI 12)).toNatClampNeg) else none := by
  refine (p_aload rfl rfl).trans ?_
  refine (p_const rfl).trans ?_
  exact s_newa (t := 0) (z := (.inl (fun _ => 0))) rfl
theorem r_X2_init_15 {d : Nat} {b0 b1 : Nat} {l0 : Option Value} {h : AH} : R_X2_init d 15 [l0] [.ref b1, .ref b0] h = (hpf h [1] b0 5 (.ref b1)).bind fun h1 => R_X2_init d 18 [l0] [] h1 := s_putT rfl rfl
theorem r_X2_init_15N {d : Nat} {b0 : Nat} {l0 : Option Value} {h : AH} : R_X2_init d 15 [l0] [.null, .ref b0] h = (hpf h [1] b0 5 (.null)).bind fun h1 => R_X2_init d 18 [l0] [] h1 := s_putT rfl rfl
theorem r_X2_init_18 {d : Nat} {a0 : Nat} {h : AH} : R_X2_init d 18 [some (.ref a0)] [] h = bif hin (nI 12) 65537 then R_X2_init d 23 [some (.ref a0)] [.ref h.2.1, .ref a0] (hnew h (true, .inl (0, ((nI 12)).toNatClampNeg, (.inl (fun _ => 0)))) ((nI 12)).toNatClampNeg) else none := by
  refine (p_aload rfl rfl).trans ?_
  refine (p_const rfl).trans ?_
  exact s_newa (t := 0) (z := (.inl (fun _ => 0))) rfl
theorem r_X2_init_23 {d : Nat} {b0 b1 : Nat} {l0 : Option Value} {h : AH} : R_X2_init d 23 [l0] [.ref b1, .ref b0] h = (hpf h [1] b0 6 (.ref b1)).bind fun h1 => R_X2_init d 26 [l0] [] h1 := s_putT rfl rfl
theorem r_X2_init_23N {d : Nat} {b0 : Nat} {l0 : Option Value} {h : AH} : R_X2_init d 23 [l0] [.null, .ref b0] h = (hpf h [1] b0 6 (.null)).bind fun h1 => R_X2_init d 26 [l0] [] h1 := s_putT rfl rfl
theorem r_X2_init_26 {d : Nat} {a0 : Nat} {h : AH} : R_X2_init d 26 [some (.ref a0)] [] h = bif hin (nI 12) 65537 then R_X2_init d 31 [some (.ref a0)] [.ref h.2.1, .ref a0] (hnew h (true, .inl (0, ((nI 12)).toNatClampNeg, (.inl (fun _ => 0)))) ((nI 12)).toNatClampNeg) else none := by
  refine (p_aload rfl rfl).trans ?_
  refine (p_const rfl).trans ?_
  exact s_newa (t := 0) (z := (.inl (fun _ => 0))) rfl
theorem r_X2_init_31 {d : Nat} {b0 b1 : Nat} {l0 : Option Value} {h : AH} : R_X2_init d 31 [l0] [.ref b1, .ref b0] h = (hpf h [1] b0 7 (.ref b1)).bind fun h1 => R_X2_init d 34 [l0] [] h1 := s_putT rfl rfl
theorem r_X2_init_31N {d : Nat} {b0 : Nat} {l0 : Option Value} {h : AH} : R_X2_init d 31 [l0] [.null, .ref b0] h = (hpf h [1] b0 7 (.null)).bind fun h1 => R_X2_init d 34 [l0] [] h1 := s_putT rfl rfl
theorem r_X2_init_34 {d : Nat} {a0 : Nat} {h : AH} : R_X2_init d 34 [some (.ref a0)] [] h = bif hin (nI 12) 1025 && hin (nI 12) 1025 then R_X2_init d 43 [some (.ref a0)] [.ref h.2.1, .ref a0] (mnewC h ((nI 12)).toNatClampNeg ((nI 12)).toNatClampNeg) else none := by
  refine (p_aload rfl rfl).trans ?_
  refine (p_const rfl).trans ?_
  refine (p_const rfl).trans ?_
  exact s_mnew rfl
theorem r_X2_init_43 {d : Nat} {b0 b1 : Nat} {l0 : Option Value} {h : AH} : R_X2_init d 43 [l0] [.ref b1, .ref b0] h = (hpf h [1] b0 8 (.ref b1)).bind fun h1 => R_X2_init d 46 [l0] [] h1 := s_putT rfl rfl
theorem r_X2_init_43N {d : Nat} {b0 : Nat} {l0 : Option Value} {h : AH} : R_X2_init d 43 [l0] [.null, .ref b0] h = (hpf h [1] b0 8 (.null)).bind fun h1 => R_X2_init d 46 [l0] [] h1 := s_putT rfl rfl
theorem r_X2_init_46 {d : Nat} {a0 : Nat} {h : AH} : R_X2_init d 46 [some (.ref a0)] [] h = R_X2_init d 50 [some (.ref a0)] [.ref h.2.1, .ref a0] (hnew h (true, .inr (19, [.int 0, .null, .int 0])) 3) := by
  refine (p_aload rfl rfl).trans ?_
  exact p_new rfl
theorem r_X2_init_50 {d : Nat} {b0 b1 : Nat} {l0 : Option Value} {h : AH} : R_X2_init d 50 [l0] [.ref b1, .ref b0] h = aK (exec tTab d 112 [.ref b1] h) (fun v h1 => R_X2_init d 54 [l0] (v.toList ++ [.ref b1, .ref b0]) h1) (fun E h1 => some (.inr E, h1)) := by
  refine (p_dup rfl rfl).trans ?_
  exact s_callI (y := 112) (n := 0) (b := b1) (rest := [.ref b1, .ref b0]) rfl rfl rfl
theorem r_X2_init_54 {d : Nat} {b0 b1 : Nat} {l0 : Option Value} {h : AH} : R_X2_init d 54 [l0] [.ref b1, .ref b0] h = (hpf h [1] b0 9 (.ref b1)).bind fun h1 => R_X2_init d 57 [l0] [] h1 := s_putT rfl rfl
theorem r_X2_init_54N {d : Nat} {b0 : Nat} {l0 : Option Value} {h : AH} : R_X2_init d 54 [l0] [.null, .ref b0] h = (hpf h [1] b0 9 (.null)).bind fun h1 => R_X2_init d 57 [l0] [] h1 := s_putT rfl rfl
theorem r_X2_init_57 {d : Nat} {a0 : Nat} {h : AH} : R_X2_init d 57 [some (.ref a0)] [] h = R_X2_init d 61 [some (.ref a0)] [.ref h.2.1, .ref a0] (hnew h (true, .inr (19, [.int 0, .null, .int 0])) 3) := by
  refine (p_aload rfl rfl).trans ?_
  exact p_new rfl
theorem r_X2_init_61 {d : Nat} {b0 b1 : Nat} {l0 : Option Value} {h : AH} : R_X2_init d 61 [l0] [.ref b1, .ref b0] h = aK (exec tTab d 112 [.ref b1] h) (fun v h1 => R_X2_init d 65 [l0] (v.toList ++ [.ref b1, .ref b0]) h1) (fun E h1 => some (.inr E, h1)) := by
  refine (p_dup rfl rfl).trans ?_
  exact s_callI (y := 112) (n := 0) (b := b1) (rest := [.ref b1, .ref b0]) rfl rfl rfl
theorem r_X2_init_65 {d : Nat} {b0 b1 : Nat} {l0 : Option Value} {h : AH} : R_X2_init d 65 [l0] [.ref b1, .ref b0] h = (hpf h [1] b0 10 (.ref b1)).bind fun h1 => R_X2_init d 68 [l0] [] h1 := s_putT rfl rfl
theorem r_X2_init_65N {d : Nat} {b0 : Nat} {l0 : Option Value} {h : AH} : R_X2_init d 65 [l0] [.null, .ref b0] h = (hpf h [1] b0 10 (.null)).bind fun h1 => R_X2_init d 68 [l0] [] h1 := s_putT rfl rfl
theorem r_X2_init_68 {d : Nat} {a0 : Nat} {h : AH} : R_X2_init d 68 [some (.ref a0)] [] h = R_X2_init d 72 [some (.ref a0)] [.ref h.2.1, .ref a0] (hnew h (true, .inr (19, [.int 0, .null, .int 0])) 3) := by
  refine (p_aload rfl rfl).trans ?_
  exact p_new rfl
theorem r_X2_init_72 {d : Nat} {b0 b1 : Nat} {l0 : Option Value} {h : AH} : R_X2_init d 72 [l0] [.ref b1, .ref b0] h = aK (exec tTab d 112 [.ref b1] h) (fun v h1 => R_X2_init d 76 [l0] (v.toList ++ [.ref b1, .ref b0]) h1) (fun E h1 => some (.inr E, h1)) := by
  refine (p_dup rfl rfl).trans ?_
  exact s_callI (y := 112) (n := 0) (b := b1) (rest := [.ref b1, .ref b0]) rfl rfl rfl
theorem r_X2_init_76 {d : Nat} {b0 b1 : Nat} {l0 : Option Value} {h : AH} : R_X2_init d 76 [l0] [.ref b1, .ref b0] h = (hpf h [1] b0 11 (.ref b1)).bind fun h1 => R_X2_init d 79 [l0] [] h1 := s_putT rfl rfl
theorem r_X2_init_76N {d : Nat} {b0 : Nat} {l0 : Option Value} {h : AH} : R_X2_init d 76 [l0] [.null, .ref b0] h = (hpf h [1] b0 11 (.null)).bind fun h1 => R_X2_init d 79 [l0] [] h1 := s_putT rfl rfl
theorem r_X2_init_79 {d : Nat} {a0 : Nat} {h : AH} : R_X2_init d 79 [some (.ref a0)] [] h = R_X2_init d 83 [some (.ref a0)] [.ref h.2.1, .ref a0] (hnew h (true, .inr (19, [.int 0, .null, .int 0])) 3) := by
  refine (p_aload rfl rfl).trans ?_
  exact p_new rfl
theorem r_X2_init_83 {d : Nat} {b0 b1 : Nat} {l0 : Option Value} {h : AH} : R_X2_init d 83 [l0] [.ref b1, .ref b0] h = aK (exec tTab d 112 [.ref b1] h) (fun v h1 => R_X2_init d 87 [l0] (v.toList ++ [.ref b1, .ref b0]) h1) (fun E h1 => some (.inr E, h1)) := by
  refine (p_dup rfl rfl).trans ?_
  exact s_callI (y := 112) (n := 0) (b := b1) (rest := [.ref b1, .ref b0]) rfl rfl rfl
theorem r_X2_init_87 {d : Nat} {b0 b1 : Nat} {l0 : Option Value} {h : AH} : R_X2_init d 87 [l0] [.ref b1, .ref b0] h = (hpf h [1] b0 12 (.ref b1)).bind fun h1 => R_X2_init d 90 [l0] [] h1 := s_putT rfl rfl
theorem r_X2_init_87N {d : Nat} {b0 : Nat} {l0 : Option Value} {h : AH} : R_X2_init d 87 [l0] [.null, .ref b0] h = (hpf h [1] b0 12 (.null)).bind fun h1 => R_X2_init d 90 [l0] [] h1 := s_putT rfl rfl
theorem r_X2_init_90 {d : Nat} {a0 : Nat} {h : AH} : R_X2_init d 90 [some (.ref a0)] [] h = R_X2_init d 94 [some (.ref a0)] [.ref h.2.1, .ref a0] (hnew h (true, .inr (8, [.int 0, .int 0, .int 0, .int 0, .int 0, .int 0, .int 0, .int 0, .int 0])) 9) := by
  refine (p_aload rfl rfl).trans ?_
  exact p_new rfl
theorem r_X2_init_94 {d : Nat} {b0 b1 : Nat} {l0 : Option Value} {h : AH} : R_X2_init d 94 [l0] [.ref b1, .ref b0] h = aK (exec tTab d 122 [.ref b1] h) (fun v h1 => R_X2_init d 98 [l0] (v.toList ++ [.ref b1, .ref b0]) h1) (fun E h1 => some (.inr E, h1)) := by
  refine (p_dup rfl rfl).trans ?_
  exact s_callI (y := 122) (n := 0) (b := b1) (rest := [.ref b1, .ref b0]) rfl rfl rfl
theorem r_X2_init_98 {d : Nat} {b0 b1 : Nat} {l0 : Option Value} {h : AH} : R_X2_init d 98 [l0] [.ref b1, .ref b0] h = (hpf h [1] b0 13 (.ref b1)).bind fun h1 => R_X2_init d 101 [l0] [] h1 := s_putT rfl rfl
theorem r_X2_init_98N {d : Nat} {b0 : Nat} {l0 : Option Value} {h : AH} : R_X2_init d 98 [l0] [.null, .ref b0] h = (hpf h [1] b0 13 (.null)).bind fun h1 => R_X2_init d 101 [l0] [] h1 := s_putT rfl rfl
theorem r_X2_init_101 {d : Nat} {l0 : Option Value} {h : AH} : R_X2_init d 101 [l0] [] h = some (.inl none, h) := s_vret rfl
theorem e_X2_init {d : Nat} {a0 : Nat} {h : AH} : exec tTab (d + 1) K_X2_init [.ref a0] h = R_X2_init d 0 [some (.ref a0)] [] h := exec_eq (cd := k_X2_init) (hd := (fun _ _ => some none)) (L := 1) rfl rfl rfl
/-- FavourTown$World.unmet(I)I -/
abbrev K_X2_unmet : Nat := 90
noncomputable def R_X2_unmet (d pc : Nat) (ls : ALs) (st : List Value) (h : AH) : Option (AOut × AH) := aR (exec tTab d) k_X2_unmet (fun _ _ => some none) (pc, ls, st, h)
theorem r_X2_unmet_0 {d : Nat} {a0 : Nat} {x1 : Int32} {l2 l3 : Option Value} {h : AH} : R_X2_unmet d 0 [some (.ref a0), some (.int (x1)), l2, l3] [] h = (hpf h [1] a0 4 (.int (x1))).bind fun h1 => R_X2_unmet d 5 [some (.ref a0), some (.int (x1)), l2, l3] [] h1 := by
  refine (p_aload rfl rfl).trans ?_
  refine (p_iload rfl rfl).trans ?_
  exact s_putT rfl rfl
theorem r_X2_unmet_5 {d : Nat} {a0 : Nat} {l1 l2 l3 : Option Value} {h : AH} : R_X2_unmet d 5 [some (.ref a0), l1, l2, l3] [] h = (hgf h [1] a0 10).bind fun v => R_X2_unmet d 11 [some (.ref a0), l1, some (.int ((-1))), l3] [v] h := by
  refine (p_const rfl).trans ?_
  refine (p_istore rfl rfl rfl).trans ?_
  refine (p_aload rfl rfl).trans ?_
  exact s_getf rfl
theorem r_X2_unmet_11 {d : Nat} {b0 : Nat} {l0 l1 l2 l3 : Option Value} {h : AH} : R_X2_unmet d 11 [l0, l1, l2, l3] [.ref b0] h = ((hci h b0).bind (lkN [(19, 113)])).bind fun y => aK (exec tTab d y [.ref b0] h) (fun v h1 => R_X2_unmet d 14 [l0, l1, l2, l3] (v.toList ++ []) h1) (fun E h1 => some (.inr E, h1)) := s_callV (L := [(19, 113)]) (n := 0) (b := b0) (rest := []) rfl rfl rfl
theorem r_X2_unmet_14 {d : Nat} {s0 : Int32} {l0 l1 l2 l3 : Option Value} {h : AH} : R_X2_unmet d 14 [l0, l1, l2, l3] [.int (s0)] h = R_X2_unmet d 17 [l0, l1, l2, some (.int (s0 - (nI 1)))] [] h := by
  refine (p_const rfl).trans ?_
  refine (p_bin rfl).trans ?_
  refine (p_istore rfl rfl rfl).trans ?_
  exact rfl
theorem q_X2_unmet_17 {d : Nat} {x3 : Int32} {l0 l1 l2 : Option Value} {h : AH} : R_X2_unmet d 17 [l0, l1, l2, some (.int (x3))] [] h = if x3 < 0 then R_X2_unmet d 78 [l0, l1, l2, some (.int (x3))] [] h else R_X2_unmet d 21 [l0, l1, l2, some (.int (x3))] [] h := by
  refine (p_iload rfl rfl).trans ?_
  exact (s_if (g := (fun x => decide (x < 0))) (t := 78) (nx := 21) rfl).trans bif_dec
theorem r_X2_unmet_78 {d : Nat} {a0 : Nat} {l1 l2 l3 : Option Value} {h : AH} : R_X2_unmet d 78 [some (.ref a0), l1, l2, l3] [] h = (hpf h [1] a0 4 (.int ((nI 0)))).bind fun h1 => R_X2_unmet d 83 [some (.ref a0), l1, l2, l3] [] h1 := by
  refine (p_aload rfl rfl).trans ?_
  refine (p_const rfl).trans ?_
  exact s_putT rfl rfl
theorem r_X2_unmet_21 {d : Nat} {a0 : Nat} {l1 l2 l3 : Option Value} {h : AH} : R_X2_unmet d 21 [some (.ref a0), l1, l2, l3] [] h = (hgf h [1] a0 10).bind fun v => R_X2_unmet d 26 [some (.ref a0), l1, l2, l3] [v, .ref a0] h := by
  refine (p_aload rfl rfl).trans ?_
  refine (p_aload rfl rfl).trans ?_
  exact s_getf rfl
theorem r_X2_unmet_83 {d : Nat} {x2 : Int32} {l0 l1 l3 : Option Value} {h : AH} : R_X2_unmet d 83 [l0, l1, some (.int (x2)), l3] [] h = some (.inl (some (.int (x2))), h) := by
  refine (p_iload rfl rfl).trans ?_
  exact s_iretT rfl rfl
theorem r_X2_unmet_26 {d : Nat} {b0 b1 : Nat} {x3 : Int32} {l0 l1 l2 : Option Value} {h : AH} : R_X2_unmet d 26 [l0, l1, l2, some (.int (x3))] [.ref b1, .ref b0] h = ((hci h b1).bind (lkN [(19, 114)])).bind fun y => aK (exec tTab d y [.ref b1, .int (x3)] h) (fun v h1 => R_X2_unmet d 30 [l0, l1, l2, some (.int (x3))] (v.toList ++ [.ref b0]) h1) (fun E h1 => some (.inr E, h1)) := by
  refine (p_iload rfl rfl).trans ?_
  exact s_callV (L := [(19, 114)]) (n := 1) (b := b1) (rest := [.ref b0]) rfl rfl rfl
theorem r_X2_unmet_30 {d : Nat} {b0 b1 : Nat} {l0 l1 l2 l3 : Option Value} {h : AH} : R_X2_unmet d 30 [l0, l1, l2, l3] [.ref b1, .ref b0] h = bif hck h [7] [] b1 then R_X2_unmet d 33 [l0, l1, l2, l3] [.ref b1, .ref b0] h else none := s_cast rfl
theorem r_X2_unmet_33 {d : Nat} {b0 b1 : Nat} {l0 l1 l2 l3 : Option Value} {h : AH} : R_X2_unmet d 33 [l0, l1, l2, l3] [.ref b1, .ref b0] h = (hgf h [7] b1 0).bind fun v => R_X2_unmet d 36 [l0, l1, l2, l3] [v, .ref b0] h := s_getf rfl
theorem r_X2_unmet_36 {d : Nat} {b0 a0 : Nat} {s1 : Int32} {l1 l2 l3 : Option Value} {h : AH} : R_X2_unmet d 36 [some (.ref a0), l1, l2, l3] [.int (s1), .ref b0] h = (hgf h [1] a0 10).bind fun v => R_X2_unmet d 40 [some (.ref a0), l1, l2, l3] [v, .int (s1), .ref b0] h := by
  refine (p_aload rfl rfl).trans ?_
  exact s_getf rfl
theorem r_X2_unmet_40 {d : Nat} {b0 b2 : Nat} {s1 x3 : Int32} {l0 l1 l2 : Option Value} {h : AH} : R_X2_unmet d 40 [l0, l1, l2, some (.int (x3))] [.ref b2, .int (s1), .ref b0] h = ((hci h b2).bind (lkN [(19, 114)])).bind fun y => aK (exec tTab d y [.ref b2, .int (x3)] h) (fun v h1 => R_X2_unmet d 44 [l0, l1, l2, some (.int (x3))] (v.toList ++ [.int (s1), .ref b0]) h1) (fun E h1 => some (.inr E, h1)) := by
  refine (p_iload rfl rfl).trans ?_
  exact s_callV (L := [(19, 114)]) (n := 1) (b := b2) (rest := [.int (s1), .ref b0]) rfl rfl rfl
theorem r_X2_unmet_44 {d : Nat} {b0 b2 : Nat} {s1 : Int32} {l0 l1 l2 l3 : Option Value} {h : AH} : R_X2_unmet d 44 [l0, l1, l2, l3] [.ref b2, .int (s1), .ref b0] h = bif hck h [7] [] b2 then R_X2_unmet d 47 [l0, l1, l2, l3] [.ref b2, .int (s1), .ref b0] h else none := s_cast rfl
theorem r_X2_unmet_47 {d : Nat} {b0 b2 : Nat} {s1 : Int32} {l0 l1 l2 l3 : Option Value} {h : AH} : R_X2_unmet d 47 [l0, l1, l2, l3] [.ref b2, .int (s1), .ref b0] h = (hgf h [7] b2 1).bind fun v => R_X2_unmet d 50 [l0, l1, l2, l3] [v, .int (s1), .ref b0] h := s_getf rfl
theorem r_X2_unmet_50 {d : Nat} {b0 a0 : Nat} {s1 s2 : Int32} {l1 l2 l3 : Option Value} {h : AH} : R_X2_unmet d 50 [some (.ref a0), l1, l2, l3] [.int (s2), .int (s1), .ref b0] h = (hgf h [1] a0 10).bind fun v => R_X2_unmet d 54 [some (.ref a0), l1, l2, l3] [v, .int (s2), .int (s1), .ref b0] h := by
  refine (p_aload rfl rfl).trans ?_
  exact s_getf rfl
theorem r_X2_unmet_54 {d : Nat} {b0 b3 : Nat} {s1 s2 x3 : Int32} {l0 l1 l2 : Option Value} {h : AH} : R_X2_unmet d 54 [l0, l1, l2, some (.int (x3))] [.ref b3, .int (s2), .int (s1), .ref b0] h = ((hci h b3).bind (lkN [(19, 114)])).bind fun y => aK (exec tTab d y [.ref b3, .int (x3)] h) (fun v h1 => R_X2_unmet d 58 [l0, l1, l2, some (.int (x3))] (v.toList ++ [.int (s2), .int (s1), .ref b0]) h1) (fun E h1 => some (.inr E, h1)) := by
  refine (p_iload rfl rfl).trans ?_
  exact s_callV (L := [(19, 114)]) (n := 1) (b := b3) (rest := [.int (s2), .int (s1), .ref b0]) rfl rfl rfl
theorem r_X2_unmet_58 {d : Nat} {b0 b3 : Nat} {s1 s2 : Int32} {l0 l1 l2 l3 : Option Value} {h : AH} : R_X2_unmet d 58 [l0, l1, l2, l3] [.ref b3, .int (s2), .int (s1), .ref b0] h = bif hck h [7] [] b3 then R_X2_unmet d 61 [l0, l1, l2, l3] [.ref b3, .int (s2), .int (s1), .ref b0] h else none := s_cast rfl
theorem r_X2_unmet_61 {d : Nat} {b0 b3 : Nat} {s1 s2 : Int32} {l0 l1 l2 l3 : Option Value} {h : AH} : R_X2_unmet d 61 [l0, l1, l2, l3] [.ref b3, .int (s2), .int (s1), .ref b0] h = (hgf h [7] b3 2).bind fun v => R_X2_unmet d 64 [l0, l1, l2, l3] [v, .int (s2), .int (s1), .ref b0] h := s_getf rfl
theorem r_X2_unmet_64 {d : Nat} {b0 : Nat} {s1 s2 s3 : Int32} {l0 l1 l2 l3 : Option Value} {h : AH} : R_X2_unmet d 64 [l0, l1, l2, l3] [.int (s3), .int (s2), .int (s1), .ref b0] h = ((hci h b0).bind (lkN [(1, 91)])).bind fun y => aK (exec tTab d y [.ref b0, .int (s1), .int (s2), .int (s3)] h) (fun v h1 => R_X2_unmet d 67 [l0, l1, l2, l3] (v.toList ++ []) h1) (fun E h1 => some (.inr E, h1)) := s_callV (L := [(1, 91)]) (n := 3) (b := b0) (rest := []) rfl rfl rfl
theorem r_X2_unmet_67 {d : Nat} {s0 : Int32} {l0 l1 l2 l3 : Option Value} {h : AH} : R_X2_unmet d 67 [l0, l1, l2, l3] [.int (s0)] h = if ¬ s0 = 0 then R_X2_unmet d 72 [l0, l1, l2, l3] [] h else R_X2_unmet d 70 [l0, l1, l2, l3] [] h := (s_if (g := (fun x => decide (¬ x = 0))) (t := 72) (nx := 70) rfl).trans bif_dec
theorem r_X2_unmet_72 {d : Nat} {x3 : Int32} {l0 l1 l2 : Option Value} {h : AH} : R_X2_unmet d 72 [l0, l1, l2, some (.int (x3))] [] h = R_X2_unmet d 17 [l0, l1, l2, some (.int (x3 + (-1)))] [] h := by
  refine (p_iinc rfl rfl rfl).trans ?_
  refine (p_goto rfl).trans ?_
  exact rfl
theorem r_X2_unmet_70 {d : Nat} {x3 : Int32} {l0 l1 l2 : Option Value} {h : AH} : R_X2_unmet d 70 [l0, l1, l2, some (.int (x3))] [] h = R_X2_unmet d 17 [l0, l1, some (.int (x3)), some (.int (x3 + (-1)))] [] h := by
  refine (p_iload rfl rfl).trans ?_
  refine (p_istore rfl rfl rfl).trans ?_
  refine (p_iinc rfl rfl rfl).trans ?_
  refine (p_goto rfl).trans ?_
  exact rfl
theorem e_X2_unmet {d : Nat} {a0 : Nat} {x1 : Int32} {h : AH} : exec tTab (d + 1) K_X2_unmet [.ref a0, .int x1] h = R_X2_unmet d 0 [some (.ref a0), some (.int x1), none, none] [] h := exec_eq (cd := k_X2_unmet) (hd := (fun _ _ => some none)) (L := 4) rfl rfl rfl
/-- FavourTown$World.isMet(III)Z -/
abbrev K_X2_isMet : Nat := 91
noncomputable def R_X2_isMet (d pc : Nat) (ls : ALs) (st : List Value) (h : AH) : Option (AOut × AH) := aR (exec tTab d) k_X2_isMet (fun _ _ => some none) (pc, ls, st, h)
theorem r_X2_isMet_0 {d : Nat} {a0 : Nat} {x1 x2 x3 : Int32} {h : AH} : R_X2_isMet d 0 [some (.ref a0), some (.int (x1)), some (.int (x2)), some (.int (x3))] [] h = ((hci h a0).bind (lkN [(1, 92)])).bind fun y => aK (exec tTab d y [.ref a0, .int (x1), .int (x2), .int (x3)] h) (fun v h1 => R_X2_isMet d 7 [some (.ref a0), some (.int (x1)), some (.int (x2)), some (.int (x3))] (v.toList ++ []) h1) (fun E h1 => some (.inr E, h1)) := by
  refine (p_aload rfl rfl).trans ?_
  refine (p_iload rfl rfl).trans ?_
  refine (p_iload rfl rfl).trans ?_
  refine (p_iload rfl rfl).trans ?_
  exact s_callV (L := [(1, 92)]) (n := 3) (b := a0) (rest := []) rfl rfl rfl
theorem r_X2_isMet_7 {d : Nat} {s0 : Int32} {l0 l1 l2 l3 : Option Value} {h : AH} : R_X2_isMet d 7 [l0, l1, l2, l3] [.int (s0)] h = if ¬ s0 = (-1) then R_X2_isMet d 23 [l0, l1, l2, l3] [] h else R_X2_isMet d 11 [l0, l1, l2, l3] [] h := by
  refine (p_const rfl).trans ?_
  exact (s_icmp (g := (fun x y => decide (¬ x = y))) (t := 23) (nx := 11) rfl).trans bif_dec
theorem r_X2_isMet_23 {d : Nat} {l0 l1 l2 l3 : Option Value} {h : AH} : R_X2_isMet d 23 [l0, l1, l2, l3] [] h = some (.inl (some (.int ((nI 1)))), h) := by
  refine (p_const rfl).trans ?_
  refine (p_goto rfl).trans ?_
  exact s_iretT rfl rfl
theorem r_X2_isMet_11 {d : Nat} {a0 : Nat} {x1 x2 x3 : Int32} {h : AH} : R_X2_isMet d 11 [some (.ref a0), some (.int (x1)), some (.int (x2)), some (.int (x3))] [] h = ((hci h a0).bind (lkN [(1, 100)])).bind fun y => aK (exec tTab d y [.ref a0, .int (x1), .int (x2), .int (x3), .int ((-1)), .int ((nI 0))] h) (fun v h1 => R_X2_isMet d 20 [some (.ref a0), some (.int (x1)), some (.int (x2)), some (.int (x3))] (v.toList ++ []) h1) (fun E h1 => some (.inr E, h1)) := by
  refine (p_aload rfl rfl).trans ?_
  refine (p_iload rfl rfl).trans ?_
  refine (p_iload rfl rfl).trans ?_
  refine (p_iload rfl rfl).trans ?_
  refine (p_const rfl).trans ?_
  refine (p_const rfl).trans ?_
  exact s_callV (L := [(1, 100)]) (n := 5) (b := a0) (rest := []) rfl rfl rfl
theorem r_X2_isMet_20 {d : Nat} {s0 : Int32} {l0 l1 l2 l3 : Option Value} {h : AH} : R_X2_isMet d 20 [l0, l1, l2, l3] [.int (s0)] h = if s0 = 0 then R_X2_isMet d 27 [l0, l1, l2, l3] [] h else R_X2_isMet d 23 [l0, l1, l2, l3] [] h := (s_if (g := (fun x => decide (x = 0))) (t := 27) (nx := 23) rfl).trans bif_dec
theorem r_X2_isMet_27 {d : Nat} {l0 l1 l2 l3 : Option Value} {h : AH} : R_X2_isMet d 27 [l0, l1, l2, l3] [] h = some (.inl (some (.int ((nI 0)))), h) := by
  refine (p_const rfl).trans ?_
  exact s_iretT rfl rfl
theorem e_X2_isMet {d : Nat} {a0 : Nat} {x1 x2 x3 : Int32} {h : AH} : exec tTab (d + 1) K_X2_isMet [.ref a0, .int x1, .int x2, .int x3] h = R_X2_isMet d 0 [some (.ref a0), some (.int x1), some (.int x2), some (.int x3)] [] h := exec_eq (cd := k_X2_isMet) (hd := (fun _ _ => some none)) (L := 4) rfl rfl rfl
/-- FavourTown$World.pays(III)I -/
abbrev K_X2_pays : Nat := 92
noncomputable def R_X2_pays (d pc : Nat) (ls : ALs) (st : List Value) (h : AH) : Option (AOut × AH) := aR (exec tTab d) k_X2_pays (fun _ _ => some none) (pc, ls, st, h)
theorem r_X2_pays_0 {d : Nat} {l0 l1 l2 l3 l4 l5 l6 l7 : Option Value} {h : AH} : R_X2_pays d 0 [l0, l1, l2, l3, l4, l5, l6, l7] [] h = R_X2_pays d 6 [l0, l1, l2, l3, some (.int ((-1))), some (.int ((nI 0))), l6, l7] [] h := by
  refine (p_const rfl).trans ?_
  refine (p_istore rfl rfl rfl).trans ?_
  refine (p_const rfl).trans ?_
  refine (p_istore rfl rfl rfl).trans ?_
  exact rfl
theorem q_X2_pays_6 {d : Nat} {x5 : Int32} {a0 : Nat} {l1 l2 l3 l4 l6 l7 : Option Value} {h : AH} : R_X2_pays d 6 [some (.ref a0), l1, l2, l3, l4, some (.int (x5)), l6, l7] [] h = (hgf h [1] a0 9).bind fun v => R_X2_pays d 12 [some (.ref a0), l1, l2, l3, l4, some (.int (x5)), l6, l7] [v, .int (x5)] h := by
  refine (p_iload rfl rfl).trans ?_
  refine (p_aload rfl rfl).trans ?_
  exact s_getf rfl
theorem r_X2_pays_12 {d : Nat} {s0 : Int32} {b1 : Nat} {l0 l1 l2 l3 l4 l5 l6 l7 : Option Value} {h : AH} : R_X2_pays d 12 [l0, l1, l2, l3, l4, l5, l6, l7] [.ref b1, .int (s0)] h = ((hci h b1).bind (lkN [(19, 113)])).bind fun y => aK (exec tTab d y [.ref b1] h) (fun v h1 => R_X2_pays d 15 [l0, l1, l2, l3, l4, l5, l6, l7] (v.toList ++ [.int (s0)]) h1) (fun E h1 => some (.inr E, h1)) := s_callV (L := [(19, 113)]) (n := 0) (b := b1) (rest := [.int (s0)]) rfl rfl rfl
theorem r_X2_pays_15 {d : Nat} {s0 s1 : Int32} {l0 l1 l2 l3 l4 l5 l6 l7 : Option Value} {h : AH} : R_X2_pays d 15 [l0, l1, l2, l3, l4, l5, l6, l7] [.int (s1), .int (s0)] h = if s1 ≤ s0 then R_X2_pays d 117 [l0, l1, l2, l3, l4, l5, l6, l7] [] h else R_X2_pays d 18 [l0, l1, l2, l3, l4, l5, l6, l7] [] h := (s_icmp (g := (fun x y => decide (y ≤ x))) (t := 117) (nx := 18) rfl).trans bif_dec
theorem r_X2_pays_117 {d : Nat} {x4 : Int32} {l0 l1 l2 l3 l5 l6 l7 : Option Value} {h : AH} : R_X2_pays d 117 [l0, l1, l2, l3, some (.int (x4)), l5, l6, l7] [] h = some (.inl (some (.int (x4))), h) := by
  refine (p_iload rfl rfl).trans ?_
  exact s_iretT rfl rfl
theorem r_X2_pays_18 {d : Nat} {a0 : Nat} {l1 l2 l3 l4 l5 l6 l7 : Option Value} {h : AH} : R_X2_pays d 18 [some (.ref a0), l1, l2, l3, l4, l5, l6, l7] [] h = (hgf h [1] a0 9).bind fun v => R_X2_pays d 22 [some (.ref a0), l1, l2, l3, l4, l5, l6, l7] [v] h := by
  refine (p_aload rfl rfl).trans ?_
  exact s_getf rfl
theorem r_X2_pays_22 {d : Nat} {b0 : Nat} {x5 : Int32} {l0 l1 l2 l3 l4 l6 l7 : Option Value} {h : AH} : R_X2_pays d 22 [l0, l1, l2, l3, l4, some (.int (x5)), l6, l7] [.ref b0] h = ((hci h b0).bind (lkN [(19, 114)])).bind fun y => aK (exec tTab d y [.ref b0, .int (x5)] h) (fun v h1 => R_X2_pays d 27 [l0, l1, l2, l3, l4, some (.int (x5)), l6, l7] (v.toList ++ []) h1) (fun E h1 => some (.inr E, h1)) := by
  refine (p_iload rfl rfl).trans ?_
  exact s_callV (L := [(19, 114)]) (n := 1) (b := b0) (rest := []) rfl rfl rfl
theorem r_X2_pays_27 {d : Nat} {b0 : Nat} {l0 l1 l2 l3 l4 l5 l6 l7 : Option Value} {h : AH} : R_X2_pays d 27 [l0, l1, l2, l3, l4, l5, l6, l7] [.ref b0] h = bif hck h [5, 6] [] b0 then R_X2_pays d 30 [l0, l1, l2, l3, l4, l5, l6, l7] [.ref b0] h else none := s_cast rfl
theorem r_X2_pays_30 {d : Nat} {b0 : Nat} {l0 l1 l2 l3 l4 l5 l6 l7 : Option Value} {h : AH} : R_X2_pays d 30 [l0, l1, l2, l3, l4, l5, l6, l7] [.ref b0] h = (hgf h [5, 6] b0 4).bind fun v => R_X2_pays d 37 [l0, l1, l2, l3, l4, l5, some (.ref b0), l7] [v] h := by
  refine (p_astore rfl rfl rfl).trans ?_
  refine (p_aload rfl rfl).trans ?_
  exact s_getf rfl
theorem r_X2_pays_37 {d : Nat} {s0 x1 : Int32} {l0 l2 l3 l4 l5 l6 l7 : Option Value} {h : AH} : R_X2_pays d 37 [l0, some (.int (x1)), l2, l3, l4, l5, l6, l7] [.int (s0)] h = if ¬ s0 = x1 then R_X2_pays d 111 [l0, some (.int (x1)), l2, l3, l4, l5, l6, l7] [] h else R_X2_pays d 41 [l0, some (.int (x1)), l2, l3, l4, l5, l6, l7] [] h := by
  refine (p_iload rfl rfl).trans ?_
  exact (s_icmp (g := (fun x y => decide (¬ x = y))) (t := 111) (nx := 41) rfl).trans bif_dec
theorem r_X2_pays_111 {d : Nat} {x5 : Int32} {l0 l1 l2 l3 l4 l6 l7 : Option Value} {h : AH} : R_X2_pays d 111 [l0, l1, l2, l3, l4, some (.int (x5)), l6, l7] [] h = R_X2_pays d 6 [l0, l1, l2, l3, l4, some (.int (x5 + (nI 1))), l6, l7] [] h := by
  refine (p_iinc rfl rfl rfl).trans ?_
  refine (p_goto rfl).trans ?_
  exact rfl
theorem r_X2_pays_41 {d : Nat} {a6 : Nat} {l0 l1 l2 l3 l4 l5 l7 : Option Value} {h : AH} : R_X2_pays d 41 [l0, l1, l2, l3, l4, l5, some (.ref a6), l7] [] h = (hgf h [5, 6] a6 0).bind fun v => R_X2_pays d 46 [l0, l1, l2, l3, l4, l5, some (.ref a6), l7] [v] h := by
  refine (p_aload rfl rfl).trans ?_
  exact s_getf rfl
theorem r_X2_pays_46 {d : Nat} {s0 x2 : Int32} {l0 l1 l3 l4 l5 l6 l7 : Option Value} {h : AH} : R_X2_pays d 46 [l0, l1, some (.int (x2)), l3, l4, l5, l6, l7] [.int (s0)] h = if s0 = x2 then R_X2_pays d 111 [l0, l1, some (.int (x2)), l3, l4, l5, l6, l7] [] h else R_X2_pays d 50 [l0, l1, some (.int (x2)), l3, l4, l5, l6, l7] [] h := by
  refine (p_iload rfl rfl).trans ?_
  exact (s_icmp (g := (fun x y => decide (x = y))) (t := 111) (nx := 50) rfl).trans bif_dec
theorem r_X2_pays_50 {d : Nat} {a0 a6 : Nat} {x2 : Int32} {l1 l3 l4 l5 l7 : Option Value} {h : AH} : R_X2_pays d 50 [some (.ref a0), l1, some (.int (x2)), l3, l4, l5, some (.ref a6), l7] [] h = ((hci h a0).bind (lkN [(1, 93)])).bind fun y => aK (exec tTab d y [.ref a0, .ref a6, .int (x2)] h) (fun v h1 => R_X2_pays d 57 [some (.ref a0), l1, some (.int (x2)), l3, l4, l5, some (.ref a6), l7] (v.toList ++ []) h1) (fun E h1 => some (.inr E, h1)) := by
  refine (p_aload rfl rfl).trans ?_
  refine (p_aload rfl rfl).trans ?_
  refine (p_iload rfl rfl).trans ?_
  exact s_callV (L := [(1, 93)]) (n := 2) (b := a0) (rest := []) rfl rfl rfl
theorem r_X2_pays_57 {d : Nat} {s0 : Int32} {l0 l1 l2 l3 l4 l5 l6 l7 : Option Value} {h : AH} : R_X2_pays d 57 [l0, l1, l2, l3, l4, l5, l6, l7] [.int (s0)] h = if ¬ s0 = 0 then R_X2_pays d 63 [l0, l1, l2, l3, l4, l5, l6, l7] [] h else R_X2_pays d 60 [l0, l1, l2, l3, l4, l5, l6, l7] [] h := (s_if (g := (fun x => decide (¬ x = 0))) (t := 63) (nx := 60) rfl).trans bif_dec
theorem r_X2_pays_63 {d : Nat} {a6 : Nat} {l0 l1 l2 l3 l4 l5 l7 : Option Value} {h : AH} : R_X2_pays d 63 [l0, l1, l2, l3, l4, l5, some (.ref a6), l7] [] h = (hgf h [5, 6] a6 5).bind fun v => R_X2_pays d 70 [l0, l1, l2, l3, l4, l5, some (.ref a6), l7] [v, .ref a6] h := by
  refine (p_aload rfl rfl).trans ?_
  refine (p_aload rfl rfl).trans ?_
  exact s_getf rfl
theorem r_X2_pays_60 {d : Nat} {x5 : Int32} {l0 l1 l2 l3 l4 l6 l7 : Option Value} {h : AH} : R_X2_pays d 60 [l0, l1, l2, l3, l4, some (.int (x5)), l6, l7] [] h = R_X2_pays d 6 [l0, l1, l2, l3, l4, some (.int (x5 + (nI 1))), l6, l7] [] h := by
  refine (p_goto rfl).trans ?_
  refine (p_iinc rfl rfl rfl).trans ?_
  refine (p_goto rfl).trans ?_
  exact rfl
theorem r_X2_pays_70 {d : Nat} {b0 : Nat} {s1 : Int32} {l0 l1 l2 l3 l4 l5 l6 l7 : Option Value} {h : AH} : R_X2_pays d 70 [l0, l1, l2, l3, l4, l5, l6, l7] [.int (s1), .ref b0] h = ((hci h b0).bind (lkN [(5, 243), (6, 243)])).bind fun y => aK (exec tTab d y [.ref b0, .int (s1 + (nI 1))] h) (fun v h1 => R_X2_pays d 75 [l0, l1, l2, l3, l4, l5, l6, l7] (v.toList ++ []) h1) (fun E h1 => some (.inr E, h1)) := by
  refine (p_const rfl).trans ?_
  refine (p_bin rfl).trans ?_
  exact s_callV (L := [(5, 243), (6, 243)]) (n := 1) (b := b0) (rest := []) rfl rfl rfl
theorem r_X2_pays_75 {d : Nat} {s0 x3 : Int32} {l0 l1 l2 l4 l5 l6 l7 : Option Value} {h : AH} : R_X2_pays d 75 [l0, l1, l2, some (.int (x3)), l4, l5, l6, l7] [.int (s0)] h = if s0 < (x3 * (nI 1024)) then R_X2_pays d 111 [l0, l1, l2, some (.int (x3)), l4, l5, l6, some (.int (s0))] [] h else R_X2_pays d 87 [l0, l1, l2, some (.int (x3)), l4, l5, l6, some (.int (s0))] [] h := by
  refine (p_istore rfl rfl rfl).trans ?_
  refine (p_iload rfl rfl).trans ?_
  refine (p_iload rfl rfl).trans ?_
  refine (p_const rfl).trans ?_
  refine (p_bin rfl).trans ?_
  exact (s_icmp (g := (fun x y => decide (x < y))) (t := 111) (nx := 87) rfl).trans bif_dec
theorem r_X2_pays_87 {d : Nat} {x4 : Int32} {l0 l1 l2 l3 l5 l6 l7 : Option Value} {h : AH} : R_X2_pays d 87 [l0, l1, l2, l3, some (.int (x4)), l5, l6, l7] [] h = if x4 = (-1) then R_X2_pays d 107 [l0, l1, l2, l3, some (.int (x4)), l5, l6, l7] [] h else R_X2_pays d 93 [l0, l1, l2, l3, some (.int (x4)), l5, l6, l7] [] h := by
  refine (p_iload rfl rfl).trans ?_
  refine (p_const rfl).trans ?_
  exact (s_icmp (g := (fun x y => decide (x = y))) (t := 107) (nx := 93) rfl).trans bif_dec
theorem r_X2_pays_107 {d : Nat} {x5 : Int32} {l0 l1 l2 l3 l4 l6 l7 : Option Value} {h : AH} : R_X2_pays d 107 [l0, l1, l2, l3, l4, some (.int (x5)), l6, l7] [] h = R_X2_pays d 6 [l0, l1, l2, l3, some (.int (x5)), some (.int (x5 + (nI 1))), l6, l7] [] h := by
  refine (p_iload rfl rfl).trans ?_
  refine (p_istore rfl rfl rfl).trans ?_
  refine (p_iinc rfl rfl rfl).trans ?_
  refine (p_goto rfl).trans ?_
  exact rfl
theorem r_X2_pays_93 {d : Nat} {x7 x4 : Int32} {a0 : Nat} {l1 l2 l3 l5 l6 : Option Value} {h : AH} : R_X2_pays d 93 [some (.ref a0), l1, l2, l3, some (.int (x4)), l5, l6, some (.int (x7))] [] h = ((hci h a0).bind (lkN [(1, 99)])).bind fun y => aK (exec tTab d y [.ref a0, .int (x4)] h) (fun v h1 => R_X2_pays d 101 [some (.ref a0), l1, l2, l3, some (.int (x4)), l5, l6, some (.int (x7))] (v.toList ++ [.int (x7)]) h1) (fun E h1 => some (.inr E, h1)) := by
  refine (p_iload rfl rfl).trans ?_
  refine (p_aload rfl rfl).trans ?_
  refine (p_iload rfl rfl).trans ?_
  exact s_callV (L := [(1, 99)]) (n := 1) (b := a0) (rest := [.int (x7)]) rfl rfl rfl
theorem r_X2_pays_101 {d : Nat} {s0 s1 : Int32} {l0 l1 l2 l3 l4 l5 l6 l7 : Option Value} {h : AH} : R_X2_pays d 101 [l0, l1, l2, l3, l4, l5, l6, l7] [.int (s1), .int (s0)] h = if s0 < s1 then R_X2_pays d 107 [l0, l1, l2, l3, l4, l5, l6, l7] [] h else R_X2_pays d 104 [l0, l1, l2, l3, l4, l5, l6, l7] [] h := (s_icmp (g := (fun x y => decide (x < y))) (t := 107) (nx := 104) rfl).trans bif_dec
theorem r_X2_pays_104 {d : Nat} {x5 : Int32} {l0 l1 l2 l3 l4 l6 l7 : Option Value} {h : AH} : R_X2_pays d 104 [l0, l1, l2, l3, l4, some (.int (x5)), l6, l7] [] h = R_X2_pays d 6 [l0, l1, l2, l3, l4, some (.int (x5 + (nI 1))), l6, l7] [] h := by
  refine (p_goto rfl).trans ?_
  refine (p_iinc rfl rfl rfl).trans ?_
  refine (p_goto rfl).trans ?_
  exact rfl
theorem e_X2_pays {d : Nat} {a0 : Nat} {x1 x2 x3 : Int32} {h : AH} : exec tTab (d + 1) K_X2_pays [.ref a0, .int x1, .int x2, .int x3] h = R_X2_pays d 0 [some (.ref a0), some (.int x1), some (.int x2), some (.int x3), none, none, none, none] [] h := exec_eq (cd := k_X2_pays) (hd := (fun _ _ => some none)) (L := 8) rfl rfl rfl
/-- FavourTown$World.canPass(LFavourTown$Favour;I)Z -/
abbrev K_X2_canPass : Nat := 93
noncomputable def R_X2_canPass (d pc : Nat) (ls : ALs) (st : List Value) (h : AH) : Option (AOut × AH) := aR (exec tTab d) k_X2_canPass (fun _ _ => some none) (pc, ls, st, h)
theorem r_X2_canPass_0 {d : Nat} {a0 a1 : Nat} {l2 : Option Value} {h : AH} : R_X2_canPass d 0 [some (.ref a0), some (.ref a1), l2] [] h = ((hci h a0).bind (lkN [(1, 94)])).bind fun y => aK (exec tTab d y [.ref a0, .ref a1] h) (fun v h1 => R_X2_canPass d 5 [some (.ref a0), some (.ref a1), l2] (v.toList ++ []) h1) (fun E h1 => some (.inr E, h1)) := by
  refine (p_aload rfl rfl).trans ?_
  refine (p_aload rfl rfl).trans ?_
  exact s_callV (L := [(1, 94)]) (n := 1) (b := a0) (rest := []) rfl rfl rfl
theorem r_X2_canPass_5 {d : Nat} {s0 : Int32} {l0 l1 l2 : Option Value} {h : AH} : R_X2_canPass d 5 [l0, l1, l2] [.int (s0)] h = if ¬ s0 = 0 then R_X2_canPass d 48 [l0, l1, l2] [] h else R_X2_canPass d 8 [l0, l1, l2] [] h := (s_if (g := (fun x => decide (¬ x = 0))) (t := 48) (nx := 8) rfl).trans bif_dec
theorem r_X2_canPass_48 {d : Nat} {l0 l1 l2 : Option Value} {h : AH} : R_X2_canPass d 48 [l0, l1, l2] [] h = some (.inl (some (.int ((nI 0)))), h) := by
  refine (p_const rfl).trans ?_
  exact s_iretT rfl rfl
theorem r_X2_canPass_8 {d : Nat} {a1 : Nat} {l0 l2 : Option Value} {h : AH} : R_X2_canPass d 8 [l0, some (.ref a1), l2] [] h = (hgf h [5, 6] a1 5).bind fun v => R_X2_canPass d 12 [l0, some (.ref a1), l2] [v] h := by
  refine (p_aload rfl rfl).trans ?_
  exact s_getf rfl
theorem r_X2_canPass_12 {d : Nat} {s0 : Int32} {a0 : Nat} {l1 l2 : Option Value} {h : AH} : R_X2_canPass d 12 [some (.ref a0), l1, l2] [.int (s0)] h = (hgf h [1] a0 2).bind fun v => R_X2_canPass d 16 [some (.ref a0), l1, l2] [v, .int (s0)] h := by
  refine (p_aload rfl rfl).trans ?_
  exact s_getf rfl
theorem r_X2_canPass_16 {d : Nat} {s0 s1 : Int32} {l0 l1 l2 : Option Value} {h : AH} : R_X2_canPass d 16 [l0, l1, l2] [.int (s1), .int (s0)] h = if s1 ≤ s0 then R_X2_canPass d 48 [l0, l1, l2] [] h else R_X2_canPass d 19 [l0, l1, l2] [] h := (s_icmp (g := (fun x y => decide (y ≤ x))) (t := 48) (nx := 19) rfl).trans bif_dec
theorem r_X2_canPass_19 {d : Nat} {a1 : Nat} {l0 l2 : Option Value} {h : AH} : R_X2_canPass d 19 [l0, some (.ref a1), l2] [] h = (hgf h [5, 6] a1 4).bind fun v => R_X2_canPass d 23 [l0, some (.ref a1), l2] [v] h := by
  refine (p_aload rfl rfl).trans ?_
  exact s_getf rfl
theorem r_X2_canPass_23 {d : Nat} {s0 x2 : Int32} {l0 l1 : Option Value} {h : AH} : R_X2_canPass d 23 [l0, l1, some (.int (x2))] [.int (s0)] h = if s0 = x2 then R_X2_canPass d 48 [l0, l1, some (.int (x2))] [] h else R_X2_canPass d 27 [l0, l1, some (.int (x2))] [] h := by
  refine (p_iload rfl rfl).trans ?_
  exact (s_icmp (g := (fun x y => decide (x = y))) (t := 48) (nx := 27) rfl).trans bif_dec
theorem r_X2_canPass_27 {d : Nat} {x2 : Int32} {a1 : Nat} {l0 : Option Value} {h : AH} : R_X2_canPass d 27 [l0, some (.ref a1), some (.int (x2))] [] h = (hgf h [5, 6] a1 0).bind fun v => R_X2_canPass d 32 [l0, some (.ref a1), some (.int (x2))] [v, .int (x2)] h := by
  refine (p_iload rfl rfl).trans ?_
  refine (p_aload rfl rfl).trans ?_
  exact s_getf rfl
theorem r_X2_canPass_32 {d : Nat} {s0 s1 : Int32} {l0 l1 l2 : Option Value} {h : AH} : R_X2_canPass d 32 [l0, l1, l2] [.int (s1), .int (s0)] h = if s0 = s1 then R_X2_canPass d 44 [l0, l1, l2] [] h else R_X2_canPass d 35 [l0, l1, l2] [] h := (s_icmp (g := (fun x y => decide (x = y))) (t := 44) (nx := 35) rfl).trans bif_dec
theorem r_X2_canPass_44 {d : Nat} {l0 l1 l2 : Option Value} {h : AH} : R_X2_canPass d 44 [l0, l1, l2] [] h = some (.inl (some (.int ((nI 1)))), h) := by
  refine (p_const rfl).trans ?_
  refine (p_goto rfl).trans ?_
  exact s_iretT rfl rfl
theorem r_X2_canPass_35 {d : Nat} {a0 a1 : Nat} {x2 : Int32} {h : AH} : R_X2_canPass d 35 [some (.ref a0), some (.ref a1), some (.int (x2))] [] h = ((hci h a0).bind (lkN [(1, 95)])).bind fun y => aK (exec tTab d y [.ref a0, .int (x2), .ref a1] h) (fun v h1 => R_X2_canPass d 41 [some (.ref a0), some (.ref a1), some (.int (x2))] (v.toList ++ []) h1) (fun E h1 => some (.inr E, h1)) := by
  refine (p_aload rfl rfl).trans ?_
  refine (p_iload rfl rfl).trans ?_
  refine (p_aload rfl rfl).trans ?_
  exact s_callV (L := [(1, 95)]) (n := 2) (b := a0) (rest := []) rfl rfl rfl
theorem r_X2_canPass_41 {d : Nat} {s0 : Int32} {l0 l1 l2 : Option Value} {h : AH} : R_X2_canPass d 41 [l0, l1, l2] [.int (s0)] h = if s0 = 0 then R_X2_canPass d 48 [l0, l1, l2] [] h else R_X2_canPass d 44 [l0, l1, l2] [] h := (s_if (g := (fun x => decide (x = 0))) (t := 48) (nx := 44) rfl).trans bif_dec
theorem e_X2_canPass {d : Nat} {a0 a1 : Nat} {x2 : Int32} {h : AH} : exec tTab (d + 1) K_X2_canPass [.ref a0, .ref a1, .int x2] h = R_X2_canPass d 0 [some (.ref a0), some (.ref a1), some (.int x2)] [] h := exec_eq (cd := k_X2_canPass) (hd := (fun _ _ => some none)) (L := 3) rfl rfl rfl
/-- FavourTown$World.isGone(LFavourTown$Favour;)Z -/
abbrev K_X2_isGone : Nat := 94
noncomputable def R_X2_isGone (d pc : Nat) (ls : ALs) (st : List Value) (h : AH) : Option (AOut × AH) := aR (exec tTab d) k_X2_isGone (fun _ _ => some none) (pc, ls, st, h)
theorem r_X2_isGone_0 {d : Nat} {a1 : Nat} {l0 : Option Value} {h : AH} : R_X2_isGone d 0 [l0, some (.ref a1)] [] h = (hgf h [5, 6] a1 4).bind fun v => R_X2_isGone d 4 [l0, some (.ref a1)] [v] h := by
  refine (p_aload rfl rfl).trans ?_
  exact s_getf rfl
theorem r_X2_isGone_4 {d : Nat} {s0 : Int32} {l0 l1 : Option Value} {h : AH} : R_X2_isGone d 4 [l0, l1] [.int (s0)] h = if s0 = (-1) then R_X2_isGone d 23 [l0, l1] [] h else R_X2_isGone d 8 [l0, l1] [] h := by
  refine (p_const rfl).trans ?_
  exact (s_icmp (g := (fun x y => decide (x = y))) (t := 23) (nx := 8) rfl).trans bif_dec
theorem r_X2_isGone_23 {d : Nat} {l0 l1 : Option Value} {h : AH} : R_X2_isGone d 23 [l0, l1] [] h = some (.inl (some (.int ((nI 1)))), h) := by
  refine (p_const rfl).trans ?_
  refine (p_goto rfl).trans ?_
  exact s_iretT rfl rfl
theorem r_X2_isGone_8 {d : Nat} {a0 : Nat} {l1 : Option Value} {h : AH} : R_X2_isGone d 8 [some (.ref a0), l1] [] h = (hgf h [1] a0 4).bind fun v => R_X2_isGone d 12 [some (.ref a0), l1] [v] h := by
  refine (p_aload rfl rfl).trans ?_
  exact s_getf rfl
theorem r_X2_isGone_12 {d : Nat} {s0 : Int32} {a1 : Nat} {l0 : Option Value} {h : AH} : R_X2_isGone d 12 [l0, some (.ref a1)] [.int (s0)] h = (hgf h [5, 6] a1 4).bind fun v => R_X2_isGone d 16 [l0, some (.ref a1)] [v, .int (s0)] h := by
  refine (p_aload rfl rfl).trans ?_
  exact s_getf rfl
theorem r_X2_isGone_16 {d : Nat} {s0 s1 : Int32} {l0 l1 : Option Value} {h : AH} : R_X2_isGone d 16 [l0, l1] [.int (s1), .int (s0)] h = if ¬ ((s0 >>> (s1 &&& 31)) &&& (nI 1)) = (nI 1) then R_X2_isGone d 27 [l0, l1] [] h else R_X2_isGone d 23 [l0, l1] [] h := by
  refine (p_bin rfl).trans ?_
  refine (p_const rfl).trans ?_
  refine (p_bin rfl).trans ?_
  refine (p_const rfl).trans ?_
  exact (s_icmp (g := (fun x y => decide (¬ x = y))) (t := 27) (nx := 23) rfl).trans bif_dec
theorem r_X2_isGone_27 {d : Nat} {l0 l1 : Option Value} {h : AH} : R_X2_isGone d 27 [l0, l1] [] h = some (.inl (some (.int ((nI 0)))), h) := by
  refine (p_const rfl).trans ?_
  exact s_iretT rfl rfl
theorem e_X2_isGone {d : Nat} {a0 a1 : Nat} {h : AH} : exec tTab (d + 1) K_X2_isGone [.ref a0, .ref a1] h = R_X2_isGone d 0 [some (.ref a0), some (.ref a1)] [] h := exec_eq (cd := k_X2_isGone) (hd := (fun _ _ => some none)) (L := 2) rfl rfl rfl
/-- FavourTown$World.takes(ILFavourTown$Favour;)Z -/
abbrev K_X2_takes : Nat := 95
noncomputable def R_X2_takes (d pc : Nat) (ls : ALs) (st : List Value) (h : AH) : Option (AOut × AH) := aR (exec tTab d) k_X2_takes (fun _ _ => some none) (pc, ls, st, h)
theorem r_X2_takes_0 {d : Nat} {a2 : Nat} {l0 l1 : Option Value} {h : AH} : R_X2_takes d 0 [l0, l1, some (.ref a2)] [] h = (hgf h [5, 6] a2 2).bind fun v => R_X2_takes d 4 [l0, l1, some (.ref a2)] [v] h := by
  refine (p_aload rfl rfl).trans ?_
  exact s_getf rfl
theorem r_X2_takes_4 {d : Nat} {s0 : Int32} {l0 l1 l2 : Option Value} {h : AH} : R_X2_takes d 4 [l0, l1, l2] [.int (s0)] h = if ¬ s0 = 0 then R_X2_takes d 17 [l0, l1, l2] [] h else R_X2_takes d 7 [l0, l1, l2] [] h := (s_if (g := (fun x => decide (¬ x = 0))) (t := 17) (nx := 7) rfl).trans bif_dec
theorem r_X2_takes_17 {d : Nat} {l0 l1 l2 : Option Value} {h : AH} : R_X2_takes d 17 [l0, l1, l2] [] h = some (.inl (some (.int ((nI 1)))), h) := by
  refine (p_const rfl).trans ?_
  exact s_iretT rfl rfl
theorem r_X2_takes_7 {d : Nat} {a0 : Nat} {l1 l2 : Option Value} {h : AH} : R_X2_takes d 7 [some (.ref a0), l1, l2] [] h = (hgf h [1] a0 7).bind fun v => R_X2_takes d 11 [some (.ref a0), l1, l2] [v] h := by
  refine (p_aload rfl rfl).trans ?_
  exact s_getf rfl
theorem r_X2_takes_11 {d : Nat} {b0 : Nat} {x1 : Int32} {l0 l2 : Option Value} {h : AH} : R_X2_takes d 11 [l0, some (.int (x1)), l2] [.ref b0] h = (hai h 0 b0 x1).bind fun v => R_X2_takes d 13 [l0, some (.int (x1)), l2] [.int v] h := by
  refine (p_iload rfl rfl).trans ?_
  exact s_iald rfl
theorem r_X2_takes_13 {d : Nat} {s0 : Int32} {l0 l1 l2 : Option Value} {h : AH} : R_X2_takes d 13 [l0, l1, l2] [.int (s0)] h = if ¬ s0 = (-1) then R_X2_takes d 19 [l0, l1, l2] [] h else R_X2_takes d 17 [l0, l1, l2] [] h := by
  refine (p_const rfl).trans ?_
  exact (s_icmp (g := (fun x y => decide (¬ x = y))) (t := 19) (nx := 17) rfl).trans bif_dec
theorem r_X2_takes_19 {d : Nat} {a0 a2 : Nat} {x1 : Int32} {h : AH} : R_X2_takes d 19 [some (.ref a0), some (.int (x1)), some (.ref a2)] [] h = (hgf h [5, 6] a2 0).bind fun v => R_X2_takes d 25 [some (.ref a0), some (.int (x1)), some (.ref a2)] [v, .int (x1), .ref a0] h := by
  refine (p_aload rfl rfl).trans ?_
  refine (p_iload rfl rfl).trans ?_
  refine (p_aload rfl rfl).trans ?_
  exact s_getf rfl
theorem r_X2_takes_25 {d : Nat} {b0 a2 : Nat} {s1 s2 : Int32} {l0 l1 : Option Value} {h : AH} : R_X2_takes d 25 [l0, l1, some (.ref a2)] [.int (s2), .int (s1), .ref b0] h = (hgf h [5, 6] a2 1).bind fun v => R_X2_takes d 29 [l0, l1, some (.ref a2)] [v, .int (s2), .int (s1), .ref b0] h := by
  refine (p_aload rfl rfl).trans ?_
  exact s_getf rfl
theorem r_X2_takes_29 {d : Nat} {b0 a2 : Nat} {s1 s2 s3 : Int32} {l0 l1 : Option Value} {h : AH} : R_X2_takes d 29 [l0, l1, some (.ref a2)] [.int (s3), .int (s2), .int (s1), .ref b0] h = ((hci h a2).bind (lkN [(5, 242), (6, 249)])).bind fun y => aK (exec tTab d y [.ref a2] h) (fun v h1 => R_X2_takes d 33 [l0, l1, some (.ref a2)] (v.toList ++ [.int (s3), .int (s2), .int (s1), .ref b0]) h1) (fun E h1 => some (.inr E, h1)) := by
  refine (p_aload rfl rfl).trans ?_
  exact s_callV (L := [(5, 242), (6, 249)]) (n := 0) (b := a2) (rest := [.int (s3), .int (s2), .int (s1), .ref b0]) rfl rfl rfl
theorem r_X2_takes_33 {d : Nat} {b0 : Nat} {s1 s2 s3 s4 : Int32} {l0 l1 l2 : Option Value} {h : AH} : R_X2_takes d 33 [l0, l1, l2] [.int (s4), .int (s3), .int (s2), .int (s1), .ref b0] h = ((hci h b0).bind (lkN [(1, 96)])).bind fun y => aK (exec tTab d y [.ref b0, .int (s1), .int (s2), .int (s3), .int (s4)] h) (fun v h1 => R_X2_takes d 36 [l0, l1, l2] (v.toList ++ []) h1) (fun E h1 => some (.inr E, h1)) := s_callV (L := [(1, 96)]) (n := 4) (b := b0) (rest := []) rfl rfl rfl
theorem r_X2_takes_36 {d : Nat} {a0 : Nat} {l1 l2 : Option Value} {h : AH} : R_X2_takes d 36 [some (.ref a0), l1, l2] [] h = (hgf h [1] a0 13).bind fun v => R_X2_takes d 40 [some (.ref a0), l1, l2] [v] h := by
  refine (p_aload rfl rfl).trans ?_
  exact s_getf rfl
theorem r_X2_takes_40 {d : Nat} {b0 a2 : Nat} {l0 l1 : Option Value} {h : AH} : R_X2_takes d 40 [l0, l1, some (.ref a2)] [.ref b0] h = (hgf h [5, 6] a2 5).bind fun v => R_X2_takes d 44 [l0, l1, some (.ref a2)] [v, .ref b0] h := by
  refine (p_aload rfl rfl).trans ?_
  exact s_getf rfl
theorem r_X2_takes_40N {d : Nat} {a2 : Nat} {l0 l1 : Option Value} {h : AH} : R_X2_takes d 40 [l0, l1, some (.ref a2)] [.null] h = (hgf h [5, 6] a2 5).bind fun v => R_X2_takes d 44 [l0, l1, some (.ref a2)] [v, .null] h := by
  refine (p_aload rfl rfl).trans ?_
  exact s_getf rfl
theorem r_X2_takes_44 {d : Nat} {b0 : Nat} {s1 : Int32} {l0 l1 l2 : Option Value} {h : AH} : R_X2_takes d 44 [l0, l1, l2] [.int (s1), .ref b0] h = (hpf h [8] b0 2 (.int (s1 + (nI 1)))).bind fun h1 => R_X2_takes d 49 [l0, l1, l2] [] h1 := by
  refine (p_const rfl).trans ?_
  refine (p_bin rfl).trans ?_
  exact s_putT rfl rfl
theorem r_X2_takes_49 {d : Nat} {a0 : Nat} {l1 l2 : Option Value} {h : AH} : R_X2_takes d 49 [some (.ref a0), l1, l2] [] h = (hgf h [1] a0 13).bind fun v => R_X2_takes d 53 [some (.ref a0), l1, l2] [v] h := by
  refine (p_aload rfl rfl).trans ?_
  exact s_getf rfl
theorem r_X2_takes_53 {d : Nat} {b0 a2 : Nat} {l0 l1 : Option Value} {h : AH} : R_X2_takes d 53 [l0, l1, some (.ref a2)] [.ref b0] h = (hgf h [5, 6] a2 5).bind fun v => R_X2_takes d 58 [l0, l1, some (.ref a2)] [v, .ref a2, .ref b0] h := by
  refine (p_aload rfl rfl).trans ?_
  refine (p_aload rfl rfl).trans ?_
  exact s_getf rfl
theorem r_X2_takes_53N {d : Nat} {a2 : Nat} {l0 l1 : Option Value} {h : AH} : R_X2_takes d 53 [l0, l1, some (.ref a2)] [.null] h = (hgf h [5, 6] a2 5).bind fun v => R_X2_takes d 58 [l0, l1, some (.ref a2)] [v, .ref a2, .null] h := by
  refine (p_aload rfl rfl).trans ?_
  refine (p_aload rfl rfl).trans ?_
  exact s_getf rfl
theorem r_X2_takes_58 {d : Nat} {b0 b1 : Nat} {s2 : Int32} {l0 l1 l2 : Option Value} {h : AH} : R_X2_takes d 58 [l0, l1, l2] [.int (s2), .ref b1, .ref b0] h = ((hci h b1).bind (lkN [(5, 243), (6, 243)])).bind fun y => aK (exec tTab d y [.ref b1, .int (s2 + (nI 1))] h) (fun v h1 => R_X2_takes d 63 [l0, l1, l2] (v.toList ++ [.ref b0]) h1) (fun E h1 => some (.inr E, h1)) := by
  refine (p_const rfl).trans ?_
  refine (p_bin rfl).trans ?_
  exact s_callV (L := [(5, 243), (6, 243)]) (n := 1) (b := b1) (rest := [.ref b0]) rfl rfl rfl
theorem r_X2_takes_63 {d : Nat} {b0 : Nat} {s1 : Int32} {l0 l1 l2 : Option Value} {h : AH} : R_X2_takes d 63 [l0, l1, l2] [.int (s1), .ref b0] h = (hpf h [8] b0 0 (.int (s1 / (nI 1024)))).bind fun h1 => R_X2_takes d 70 [l0, l1, l2] [] h1 := by
  refine (p_const rfl).trans ?_
  refine (p_divC rfl (by decide)).trans ?_
  exact s_putT rfl rfl
theorem r_X2_takes_70 {d : Nat} {a0 : Nat} {l1 l2 : Option Value} {h : AH} : R_X2_takes d 70 [some (.ref a0), l1, l2] [] h = (hgf h [1] a0 13).bind fun v => R_X2_takes d 74 [some (.ref a0), l1, l2] [v] h := by
  refine (p_aload rfl rfl).trans ?_
  exact s_getf rfl
theorem r_X2_takes_74 {d : Nat} {b0 a2 : Nat} {x1 : Int32} {l0 : Option Value} {h : AH} : R_X2_takes d 74 [l0, some (.int (x1)), some (.ref a2)] [.ref b0] h = ((hci h a2).bind (lkN [(5, 244), (6, 244)])).bind fun y => aK (exec tTab d y [.ref a2, .int (x1)] h) (fun v h1 => R_X2_takes d 79 [l0, some (.int (x1)), some (.ref a2)] (v.toList ++ [.ref b0]) h1) (fun E h1 => some (.inr E, h1)) := by
  refine (p_aload rfl rfl).trans ?_
  refine (p_iload rfl rfl).trans ?_
  exact s_callV (L := [(5, 244), (6, 244)]) (n := 1) (b := a2) (rest := [.ref b0]) rfl rfl rfl
theorem r_X2_takes_74N {d : Nat} {a2 : Nat} {x1 : Int32} {l0 : Option Value} {h : AH} : R_X2_takes d 74 [l0, some (.int (x1)), some (.ref a2)] [.null] h = ((hci h a2).bind (lkN [(5, 244), (6, 244)])).bind fun y => aK (exec tTab d y [.ref a2, .int (x1)] h) (fun v h1 => R_X2_takes d 79 [l0, some (.int (x1)), some (.ref a2)] (v.toList ++ [.null]) h1) (fun E h1 => some (.inr E, h1)) := by
  refine (p_aload rfl rfl).trans ?_
  refine (p_iload rfl rfl).trans ?_
  exact s_callV (L := [(5, 244), (6, 244)]) (n := 1) (b := a2) (rest := [.null]) rfl rfl rfl
theorem r_X2_takes_79 {d : Nat} {b0 : Nat} {s1 : Int32} {l0 l1 l2 : Option Value} {h : AH} : R_X2_takes d 79 [l0, l1, l2] [.int (s1), .ref b0] h = bif vZ (.int (s1)) then (hpf h [8] b0 8 (.int (s1))).bind fun h1 => R_X2_takes d 82 [l0, l1, l2] [] h1 else none := s_putf rfl
theorem r_X2_takes_82 {d : Nat} {a0 : Nat} {l1 l2 : Option Value} {h : AH} : R_X2_takes d 82 [some (.ref a0), l1, l2] [] h = (hgf h [1] a0 11).bind fun v => R_X2_takes d 86 [some (.ref a0), l1, l2] [v] h := by
  refine (p_aload rfl rfl).trans ?_
  exact s_getf rfl
theorem r_X2_takes_86 {d : Nat} {b0 a0 : Nat} {l1 l2 : Option Value} {h : AH} : R_X2_takes d 86 [some (.ref a0), l1, l2] [.ref b0] h = (hgf h [1] a0 7).bind fun v => R_X2_takes d 90 [some (.ref a0), l1, l2] [v, .ref b0] h := by
  refine (p_aload rfl rfl).trans ?_
  exact s_getf rfl
theorem r_X2_takes_86N {d : Nat} {a0 : Nat} {l1 l2 : Option Value} {h : AH} : R_X2_takes d 86 [some (.ref a0), l1, l2] [.null] h = (hgf h [1] a0 7).bind fun v => R_X2_takes d 90 [some (.ref a0), l1, l2] [v, .null] h := by
  refine (p_aload rfl rfl).trans ?_
  exact s_getf rfl
theorem r_X2_takes_90 {d : Nat} {b0 b1 : Nat} {x1 : Int32} {l0 l2 : Option Value} {h : AH} : R_X2_takes d 90 [l0, some (.int (x1)), l2] [.ref b1, .ref b0] h = (hai h 0 b1 x1).bind fun v => R_X2_takes d 92 [l0, some (.int (x1)), l2] [.int v, .ref b0] h := by
  refine (p_iload rfl rfl).trans ?_
  exact s_iald rfl
theorem r_X2_takes_92 {d : Nat} {b0 : Nat} {s1 : Int32} {l0 l1 l2 : Option Value} {h : AH} : R_X2_takes d 92 [l0, l1, l2] [.int (s1), .ref b0] h = ((hci h b0).bind (lkN [(19, 114)])).bind fun y => aK (exec tTab d y [.ref b0, .int (s1)] h) (fun v h1 => R_X2_takes d 95 [l0, l1, l2] (v.toList ++ []) h1) (fun E h1 => some (.inr E, h1)) := s_callV (L := [(19, 114)]) (n := 1) (b := b0) (rest := []) rfl rfl rfl
theorem r_X2_takes_95 {d : Nat} {b0 : Nat} {l0 l1 l2 : Option Value} {h : AH} : R_X2_takes d 95 [l0, l1, l2] [.ref b0] h = bif hck h [9] [] b0 then R_X2_takes d 98 [l0, l1, l2] [.ref b0] h else none := s_cast rfl
theorem r_X2_takes_95N {d : Nat} {a0 : Nat} {l1 l2 : Option Value} {h : AH} : R_X2_takes d 95 [some (.ref a0), l1, l2] [.null] h = (hgf h [1] a0 13).bind fun v => R_X2_takes d 102 [some (.ref a0), l1, l2] [v, .null] h := by
  refine (p_castN rfl).trans ?_
  refine (p_aload rfl rfl).trans ?_
  exact s_getf rfl
theorem r_X2_takes_98 {d : Nat} {b0 a0 : Nat} {l1 l2 : Option Value} {h : AH} : R_X2_takes d 98 [some (.ref a0), l1, l2] [.ref b0] h = (hgf h [1] a0 13).bind fun v => R_X2_takes d 102 [some (.ref a0), l1, l2] [v, .ref b0] h := by
  refine (p_aload rfl rfl).trans ?_
  exact s_getf rfl
theorem r_X2_takes_98N {d : Nat} {a0 : Nat} {l1 l2 : Option Value} {h : AH} : R_X2_takes d 98 [some (.ref a0), l1, l2] [.null] h = (hgf h [1] a0 13).bind fun v => R_X2_takes d 102 [some (.ref a0), l1, l2] [v, .null] h := by
  refine (p_aload rfl rfl).trans ?_
  exact s_getf rfl
theorem r_X2_takes_102 {d : Nat} {b0 b1 : Nat} {l0 l1 l2 : Option Value} {h : AH} : R_X2_takes d 102 [l0, l1, l2] [.ref b1, .ref b0] h = ((hci h b0).bind (lkN [(9, 307)])).bind fun y => aK (exec tTab d y [.ref b0, .ref b1] h) (fun v h1 => R_X2_takes d 105 [l0, l1, l2] (v.toList ++ []) h1) (fun E h1 => some (.inr E, h1)) := s_callV (L := [(9, 307)]) (n := 1) (b := b0) (rest := []) rfl rfl rfl
theorem r_X2_takes_102N {d : Nat} {b0 : Nat} {l0 l1 l2 : Option Value} {h : AH} : R_X2_takes d 102 [l0, l1, l2] [.null, .ref b0] h = ((hci h b0).bind (lkN [(9, 307)])).bind fun y => aK (exec tTab d y [.ref b0, .null] h) (fun v h1 => R_X2_takes d 105 [l0, l1, l2] (v.toList ++ []) h1) (fun E h1 => some (.inr E, h1)) := s_callV (L := [(9, 307)]) (n := 1) (b := b0) (rest := []) rfl rfl rfl
theorem r_X2_takes_105 {d : Nat} {s0 : Int32} {l0 l1 l2 : Option Value} {h : AH} : R_X2_takes d 105 [l0, l1, l2] [.int (s0)] h = bif s0 == 0 || s0 == 1 then some (.inl (some (.int (s0))), h) else none := s_iret (ok := (fun x => x == 0 || x == 1)) rfl
theorem e_X2_takes {d : Nat} {a0 a2 : Nat} {x1 : Int32} {h : AH} : exec tTab (d + 1) K_X2_takes [.ref a0, .int x1, .ref a2] h = R_X2_takes d 0 [some (.ref a0), some (.int x1), some (.ref a2)] [] h := exec_eq (cd := k_X2_takes) (hd := (fun _ _ => some none)) (L := 3) rfl rfl rfl
/-- FavourTown$World.sees(IIII)V -/
abbrev K_X2_sees : Nat := 96
noncomputable def R_X2_sees (d pc : Nat) (ls : ALs) (st : List Value) (h : AH) : Option (AOut × AH) := aR (exec tTab d) k_X2_sees (fun _ _ => some none) (pc, ls, st, h)
theorem r_X2_sees_0 {d : Nat} {a0 : Nat} {l1 l2 l3 l4 : Option Value} {h : AH} : R_X2_sees d 0 [some (.ref a0), l1, l2, l3, l4] [] h = (hgf h [1] a0 13).bind fun v => R_X2_sees d 4 [some (.ref a0), l1, l2, l3, l4] [v] h := by
  refine (p_aload rfl rfl).trans ?_
  exact s_getf rfl
theorem r_X2_sees_4 {d : Nat} {b0 : Nat} {x3 : Int32} {l0 l1 l2 l4 : Option Value} {h : AH} : R_X2_sees d 4 [l0, l1, l2, some (.int (x3)), l4] [.ref b0] h = (hpf h [8] b0 0 (.int (x3))).bind fun h1 => R_X2_sees d 8 [l0, l1, l2, some (.int (x3)), l4] [] h1 := by
  refine (p_iload rfl rfl).trans ?_
  exact s_putT rfl rfl
theorem r_X2_sees_8 {d : Nat} {a0 : Nat} {l1 l2 l3 l4 : Option Value} {h : AH} : R_X2_sees d 8 [some (.ref a0), l1, l2, l3, l4] [] h = (hgf h [1] a0 13).bind fun v => R_X2_sees d 12 [some (.ref a0), l1, l2, l3, l4] [v] h := by
  refine (p_aload rfl rfl).trans ?_
  exact s_getf rfl
theorem r_X2_sees_12 {d : Nat} {b0 : Nat} {x3 : Int32} {l0 l1 l2 l4 : Option Value} {h : AH} : R_X2_sees d 12 [l0, l1, l2, some (.int (x3)), l4] [.ref b0] h = (hpf h [8] b0 1 (.int (x3))).bind fun h1 => R_X2_sees d 16 [l0, l1, l2, some (.int (x3)), l4] [] h1 := by
  refine (p_iload rfl rfl).trans ?_
  exact s_putT rfl rfl
theorem r_X2_sees_16 {d : Nat} {a0 : Nat} {l1 l2 l3 l4 : Option Value} {h : AH} : R_X2_sees d 16 [some (.ref a0), l1, l2, l3, l4] [] h = (hgf h [1] a0 13).bind fun v => R_X2_sees d 20 [some (.ref a0), l1, l2, l3, l4] [v] h := by
  refine (p_aload rfl rfl).trans ?_
  exact s_getf rfl
theorem r_X2_sees_20 {d : Nat} {b0 : Nat} {l0 l1 l2 l3 l4 : Option Value} {h : AH} : R_X2_sees d 20 [l0, l1, l2, l3, l4] [.ref b0] h = (hpf h [8] b0 2 (.int ((nI 0)))).bind fun h1 => R_X2_sees d 24 [l0, l1, l2, l3, l4] [] h1 := by
  refine (p_const rfl).trans ?_
  exact s_putT rfl rfl
theorem r_X2_sees_24 {d : Nat} {a0 : Nat} {l1 l2 l3 l4 : Option Value} {h : AH} : R_X2_sees d 24 [some (.ref a0), l1, l2, l3, l4] [] h = (hgf h [1] a0 13).bind fun v => R_X2_sees d 28 [some (.ref a0), l1, l2, l3, l4] [v] h := by
  refine (p_aload rfl rfl).trans ?_
  exact s_getf rfl
theorem r_X2_sees_28 {d : Nat} {b0 : Nat} {x4 : Int32} {l0 l1 l2 l3 : Option Value} {h : AH} : R_X2_sees d 28 [l0, l1, l2, l3, some (.int (x4))] [.ref b0] h = if x4 = (-1) then R_X2_sees d 38 [l0, l1, l2, l3, some (.int (x4))] [.ref b0] h else R_X2_sees d 34 [l0, l1, l2, l3, some (.int (x4))] [.ref b0] h := by
  refine (p_iload rfl rfl).trans ?_
  refine (p_const rfl).trans ?_
  exact (s_icmp (g := (fun x y => decide (x = y))) (t := 38) (nx := 34) rfl).trans bif_dec
theorem r_X2_sees_28N {d : Nat} {x4 : Int32} {l0 l1 l2 l3 : Option Value} {h : AH} : R_X2_sees d 28 [l0, l1, l2, l3, some (.int (x4))] [.null] h = if x4 = (-1) then R_X2_sees d 38 [l0, l1, l2, l3, some (.int (x4))] [.null] h else R_X2_sees d 34 [l0, l1, l2, l3, some (.int (x4))] [.null] h := by
  refine (p_iload rfl rfl).trans ?_
  refine (p_const rfl).trans ?_
  exact (s_icmp (g := (fun x y => decide (x = y))) (t := 38) (nx := 34) rfl).trans bif_dec
theorem r_X2_sees_38 {d : Nat} {b0 : Nat} {l0 l1 l2 l3 l4 : Option Value} {h : AH} : R_X2_sees d 38 [l0, l1, l2, l3, l4] [.ref b0] h = bif vZ (.int ((nI 0))) then (hpf h [8] b0 7 (.int ((nI 0)))).bind fun h1 => R_X2_sees d 42 [l0, l1, l2, l3, l4] [] h1 else none := by
  refine (p_const rfl).trans ?_
  exact s_putf rfl
theorem r_X2_sees_34 {d : Nat} {b0 : Nat} {l0 l1 l2 l3 l4 : Option Value} {h : AH} : R_X2_sees d 34 [l0, l1, l2, l3, l4] [.ref b0] h = bif vZ (.int ((nI 1))) then (hpf h [8] b0 7 (.int ((nI 1)))).bind fun h1 => R_X2_sees d 42 [l0, l1, l2, l3, l4] [] h1 else none := by
  refine (p_const rfl).trans ?_
  refine (p_goto rfl).trans ?_
  exact s_putf rfl
theorem r_X2_sees_42 {d : Nat} {a0 : Nat} {l1 l2 l3 l4 : Option Value} {h : AH} : R_X2_sees d 42 [some (.ref a0), l1, l2, l3, l4] [] h = (hgf h [1] a0 13).bind fun v => R_X2_sees d 46 [some (.ref a0), l1, l2, l3, l4] [v] h := by
  refine (p_aload rfl rfl).trans ?_
  exact s_getf rfl
theorem r_X2_sees_46 {d : Nat} {b0 a0 : Nat} {l1 l2 l3 l4 : Option Value} {h : AH} : R_X2_sees d 46 [some (.ref a0), l1, l2, l3, l4] [.ref b0] h = (hgf h [1] a0 13).bind fun v => R_X2_sees d 50 [some (.ref a0), l1, l2, l3, l4] [v, .ref b0] h := by
  refine (p_aload rfl rfl).trans ?_
  exact s_getf rfl
theorem r_X2_sees_46N {d : Nat} {a0 : Nat} {l1 l2 l3 l4 : Option Value} {h : AH} : R_X2_sees d 46 [some (.ref a0), l1, l2, l3, l4] [.null] h = (hgf h [1] a0 13).bind fun v => R_X2_sees d 50 [some (.ref a0), l1, l2, l3, l4] [v, .null] h := by
  refine (p_aload rfl rfl).trans ?_
  exact s_getf rfl
theorem r_X2_sees_50 {d : Nat} {b0 b1 : Nat} {l0 l1 l2 l3 l4 : Option Value} {h : AH} : R_X2_sees d 50 [l0, l1, l2, l3, l4] [.ref b1, .ref b0] h = (hgf h [8] b1 7).bind fun v => R_X2_sees d 53 [l0, l1, l2, l3, l4] [v, .ref b0] h := s_getf rfl
theorem r_X2_sees_53 {d : Nat} {b0 : Nat} {s1 : Int32} {l0 l1 l2 l3 l4 : Option Value} {h : AH} : R_X2_sees d 53 [l0, l1, l2, l3, l4] [.int (s1), .ref b0] h = if s1 = 0 then R_X2_sees d 66 [l0, l1, l2, l3, l4] [.ref b0] h else R_X2_sees d 56 [l0, l1, l2, l3, l4] [.ref b0] h := (s_if (g := (fun x => decide (x = 0))) (t := 66) (nx := 56) rfl).trans bif_dec
theorem r_X2_sees_66 {d : Nat} {b0 : Nat} {l0 l1 l2 l3 l4 : Option Value} {h : AH} : R_X2_sees d 66 [l0, l1, l2, l3, l4] [.ref b0] h = (hpf h [8] b0 3 (.int ((nI 999)))).bind fun h1 => R_X2_sees d 72 [l0, l1, l2, l3, l4] [] h1 := by
  refine (p_const rfl).trans ?_
  exact s_putT rfl rfl
theorem r_X2_sees_56 {d : Nat} {b0 a0 : Nat} {x4 : Int32} {l1 l2 l3 : Option Value} {h : AH} : R_X2_sees d 56 [some (.ref a0), l1, l2, l3, some (.int (x4))] [.ref b0] h = (hgf h [1] a0 1).bind fun v => R_X2_sees d 62 [some (.ref a0), l1, l2, l3, some (.int (x4))] [v, .int (x4), .ref b0] h := by
  refine (p_iload rfl rfl).trans ?_
  refine (p_aload rfl rfl).trans ?_
  exact s_getf rfl
theorem r_X2_sees_56N {d : Nat} {x4 : Int32} {a0 : Nat} {l1 l2 l3 : Option Value} {h : AH} : R_X2_sees d 56 [some (.ref a0), l1, l2, l3, some (.int (x4))] [.null] h = (hgf h [1] a0 1).bind fun v => R_X2_sees d 62 [some (.ref a0), l1, l2, l3, some (.int (x4))] [v, .int (x4), .null] h := by
  refine (p_iload rfl rfl).trans ?_
  refine (p_aload rfl rfl).trans ?_
  exact s_getf rfl
theorem r_X2_sees_72 {d : Nat} {a0 : Nat} {l1 l2 l3 l4 : Option Value} {h : AH} : R_X2_sees d 72 [some (.ref a0), l1, l2, l3, l4] [] h = (hgf h [1] a0 13).bind fun v => R_X2_sees d 76 [some (.ref a0), l1, l2, l3, l4] [v] h := by
  refine (p_aload rfl rfl).trans ?_
  exact s_getf rfl
theorem r_X2_sees_62 {d : Nat} {b0 : Nat} {s1 s2 : Int32} {l0 l1 l2 l3 l4 : Option Value} {h : AH} : R_X2_sees d 62 [l0, l1, l2, l3, l4] [.int (s2), .int (s1), .ref b0] h = (hpf h [8] b0 3 (.int (s1 - s2))).bind fun h1 => R_X2_sees d 72 [l0, l1, l2, l3, l4] [] h1 := by
  refine (p_bin rfl).trans ?_
  refine (p_goto rfl).trans ?_
  exact s_putT rfl rfl
theorem r_X2_sees_76 {d : Nat} {b0 a0 : Nat} {x1 : Int32} {l2 l3 l4 : Option Value} {h : AH} : R_X2_sees d 76 [some (.ref a0), some (.int (x1)), l2, l3, l4] [.ref b0] h = ((hci h a0).bind (lkN [(1, 97)])).bind fun y => aK (exec tTab d y [.ref a0, .int (x1)] h) (fun v h1 => R_X2_sees d 81 [some (.ref a0), some (.int (x1)), l2, l3, l4] (v.toList ++ [.ref b0]) h1) (fun E h1 => some (.inr E, h1)) := by
  refine (p_aload rfl rfl).trans ?_
  refine (p_iload rfl rfl).trans ?_
  exact s_callV (L := [(1, 97)]) (n := 1) (b := a0) (rest := [.ref b0]) rfl rfl rfl
theorem r_X2_sees_76N {d : Nat} {a0 : Nat} {x1 : Int32} {l2 l3 l4 : Option Value} {h : AH} : R_X2_sees d 76 [some (.ref a0), some (.int (x1)), l2, l3, l4] [.null] h = ((hci h a0).bind (lkN [(1, 97)])).bind fun y => aK (exec tTab d y [.ref a0, .int (x1)] h) (fun v h1 => R_X2_sees d 81 [some (.ref a0), some (.int (x1)), l2, l3, l4] (v.toList ++ [.null]) h1) (fun E h1 => some (.inr E, h1)) := by
  refine (p_aload rfl rfl).trans ?_
  refine (p_iload rfl rfl).trans ?_
  exact s_callV (L := [(1, 97)]) (n := 1) (b := a0) (rest := [.null]) rfl rfl rfl
theorem r_X2_sees_81 {d : Nat} {b0 : Nat} {s1 : Int32} {l0 l1 l2 l3 l4 : Option Value} {h : AH} : R_X2_sees d 81 [l0, l1, l2, l3, l4] [.int (s1), .ref b0] h = (hpf h [8] b0 4 (.int (s1 / (nI 1024)))).bind fun h1 => R_X2_sees d 88 [l0, l1, l2, l3, l4] [] h1 := by
  refine (p_const rfl).trans ?_
  refine (p_divC rfl (by decide)).trans ?_
  exact s_putT rfl rfl
theorem r_X2_sees_88 {d : Nat} {a0 : Nat} {l1 l2 l3 l4 : Option Value} {h : AH} : R_X2_sees d 88 [some (.ref a0), l1, l2, l3, l4] [] h = (hgf h [1] a0 13).bind fun v => R_X2_sees d 92 [some (.ref a0), l1, l2, l3, l4] [v] h := by
  refine (p_aload rfl rfl).trans ?_
  exact s_getf rfl
theorem r_X2_sees_92 {d : Nat} {b0 a0 : Nat} {x2 : Int32} {l1 l3 l4 : Option Value} {h : AH} : R_X2_sees d 92 [some (.ref a0), l1, some (.int (x2)), l3, l4] [.ref b0] h = ((hci h a0).bind (lkN [(1, 98)])).bind fun y => aK (exec tTab d y [.ref a0, .int (x2)] h) (fun v h1 => R_X2_sees d 97 [some (.ref a0), l1, some (.int (x2)), l3, l4] (v.toList ++ [.ref b0]) h1) (fun E h1 => some (.inr E, h1)) := by
  refine (p_aload rfl rfl).trans ?_
  refine (p_iload rfl rfl).trans ?_
  exact s_callV (L := [(1, 98)]) (n := 1) (b := a0) (rest := [.ref b0]) rfl rfl rfl
theorem r_X2_sees_92N {d : Nat} {a0 : Nat} {x2 : Int32} {l1 l3 l4 : Option Value} {h : AH} : R_X2_sees d 92 [some (.ref a0), l1, some (.int (x2)), l3, l4] [.null] h = ((hci h a0).bind (lkN [(1, 98)])).bind fun y => aK (exec tTab d y [.ref a0, .int (x2)] h) (fun v h1 => R_X2_sees d 97 [some (.ref a0), l1, some (.int (x2)), l3, l4] (v.toList ++ [.null]) h1) (fun E h1 => some (.inr E, h1)) := by
  refine (p_aload rfl rfl).trans ?_
  refine (p_iload rfl rfl).trans ?_
  exact s_callV (L := [(1, 98)]) (n := 1) (b := a0) (rest := [.null]) rfl rfl rfl
theorem r_X2_sees_97 {d : Nat} {b0 : Nat} {s1 : Int32} {l0 l1 l2 l3 l4 : Option Value} {h : AH} : R_X2_sees d 97 [l0, l1, l2, l3, l4] [.int (s1), .ref b0] h = (hpf h [8] b0 5 (.int (s1))).bind fun h1 => R_X2_sees d 100 [l0, l1, l2, l3, l4] [] h1 := s_putT rfl rfl
theorem r_X2_sees_100 {d : Nat} {a0 : Nat} {l1 l2 l3 l4 : Option Value} {h : AH} : R_X2_sees d 100 [some (.ref a0), l1, l2, l3, l4] [] h = (hgf h [1] a0 13).bind fun v => R_X2_sees d 104 [some (.ref a0), l1, l2, l3, l4] [v] h := by
  refine (p_aload rfl rfl).trans ?_
  exact s_getf rfl
theorem r_X2_sees_104 {d : Nat} {b0 a0 : Nat} {l1 l2 l3 l4 : Option Value} {h : AH} : R_X2_sees d 104 [some (.ref a0), l1, l2, l3, l4] [.ref b0] h = (hgf h [1] a0 6).bind fun v => R_X2_sees d 108 [some (.ref a0), l1, l2, l3, l4] [v, .ref b0] h := by
  refine (p_aload rfl rfl).trans ?_
  exact s_getf rfl
theorem r_X2_sees_104N {d : Nat} {a0 : Nat} {l1 l2 l3 l4 : Option Value} {h : AH} : R_X2_sees d 104 [some (.ref a0), l1, l2, l3, l4] [.null] h = (hgf h [1] a0 6).bind fun v => R_X2_sees d 108 [some (.ref a0), l1, l2, l3, l4] [v, .null] h := by
  refine (p_aload rfl rfl).trans ?_
  exact s_getf rfl
theorem r_X2_sees_108 {d : Nat} {b0 b1 : Nat} {x1 : Int32} {l0 l2 l3 l4 : Option Value} {h : AH} : R_X2_sees d 108 [l0, some (.int (x1)), l2, l3, l4] [.ref b1, .ref b0] h = (hai h 0 b1 x1).bind fun v => R_X2_sees d 110 [l0, some (.int (x1)), l2, l3, l4] [.int v, .ref b0] h := by
  refine (p_iload rfl rfl).trans ?_
  exact s_iald rfl
theorem r_X2_sees_110 {d : Nat} {b0 : Nat} {s1 x2 : Int32} {l0 l1 l3 l4 : Option Value} {h : AH} : R_X2_sees d 110 [l0, l1, some (.int (x2)), l3, l4] [.int (s1), .ref b0] h = if ¬ ((s1 >>> (x2 &&& 31)) &&& (nI 1)) = (nI 1) then R_X2_sees d 122 [l0, l1, some (.int (x2)), l3, l4] [.ref b0] h else R_X2_sees d 118 [l0, l1, some (.int (x2)), l3, l4] [.ref b0] h := by
  refine (p_iload rfl rfl).trans ?_
  refine (p_bin rfl).trans ?_
  refine (p_const rfl).trans ?_
  refine (p_bin rfl).trans ?_
  refine (p_const rfl).trans ?_
  exact (s_icmp (g := (fun x y => decide (¬ x = y))) (t := 122) (nx := 118) rfl).trans bif_dec
theorem r_X2_sees_122 {d : Nat} {b0 : Nat} {l0 l1 l2 l3 l4 : Option Value} {h : AH} : R_X2_sees d 122 [l0, l1, l2, l3, l4] [.ref b0] h = bif vZ (.int ((nI 0))) then (hpf h [8] b0 6 (.int ((nI 0)))).bind fun h1 => R_X2_sees d 126 [l0, l1, l2, l3, l4] [] h1 else none := by
  refine (p_const rfl).trans ?_
  exact s_putf rfl
theorem r_X2_sees_118 {d : Nat} {b0 : Nat} {l0 l1 l2 l3 l4 : Option Value} {h : AH} : R_X2_sees d 118 [l0, l1, l2, l3, l4] [.ref b0] h = bif vZ (.int ((nI 1))) then (hpf h [8] b0 6 (.int ((nI 1)))).bind fun h1 => R_X2_sees d 126 [l0, l1, l2, l3, l4] [] h1 else none := by
  refine (p_const rfl).trans ?_
  refine (p_goto rfl).trans ?_
  exact s_putf rfl
theorem r_X2_sees_126 {d : Nat} {a0 : Nat} {l1 l2 l3 l4 : Option Value} {h : AH} : R_X2_sees d 126 [some (.ref a0), l1, l2, l3, l4] [] h = (hgf h [1] a0 13).bind fun v => R_X2_sees d 130 [some (.ref a0), l1, l2, l3, l4] [v] h := by
  refine (p_aload rfl rfl).trans ?_
  exact s_getf rfl
theorem r_X2_sees_130 {d : Nat} {b0 : Nat} {l0 l1 l2 l3 l4 : Option Value} {h : AH} : R_X2_sees d 130 [l0, l1, l2, l3, l4] [.ref b0] h = bif vZ (.int ((nI 0))) then (hpf h [8] b0 8 (.int ((nI 0)))).bind fun h1 => R_X2_sees d 134 [l0, l1, l2, l3, l4] [] h1 else none := by
  refine (p_const rfl).trans ?_
  exact s_putf rfl
theorem r_X2_sees_134 {d : Nat} {l0 l1 l2 l3 l4 : Option Value} {h : AH} : R_X2_sees d 134 [l0, l1, l2, l3, l4] [] h = some (.inl none, h) := s_vret rfl
theorem e_X2_sees {d : Nat} {a0 : Nat} {x1 x2 x3 x4 : Int32} {h : AH} : exec tTab (d + 1) K_X2_sees [.ref a0, .int x1, .int x2, .int x3, .int x4] h = R_X2_sees d 0 [some (.ref a0), some (.int x1), some (.int x2), some (.int x3), some (.int x4)] [] h := exec_eq (cd := k_X2_sees) (hd := (fun _ _ => some none)) (L := 5) rfl rfl rfl
/-- FavourTown$World.rich(I)I -/
abbrev K_X2_rich : Nat := 97
noncomputable def R_X2_rich (d pc : Nat) (ls : ALs) (st : List Value) (h : AH) : Option (AOut × AH) := aR (exec tTab d) k_X2_rich (fun _ _ => some none) (pc, ls, st, h)
theorem r_X2_rich_0 {d : Nat} {l0 l1 l2 l3 l4 : Option Value} {h : AH} : R_X2_rich d 0 [l0, l1, l2, l3, l4] [] h = R_X2_rich d 4 [l0, l1, some (.int ((nI 0))), some (.int ((nI 0))), l4] [] h := by
  refine (p_const rfl).trans ?_
  refine (p_istore rfl rfl rfl).trans ?_
  refine (p_const rfl).trans ?_
  refine (p_istore rfl rfl rfl).trans ?_
  exact rfl
theorem q_X2_rich_4 {d : Nat} {x3 : Int32} {a0 : Nat} {l1 l2 l4 : Option Value} {h : AH} : R_X2_rich d 4 [some (.ref a0), l1, l2, some (.int (x3)), l4] [] h = (hgf h [1] a0 9).bind fun v => R_X2_rich d 9 [some (.ref a0), l1, l2, some (.int (x3)), l4] [v, .int (x3)] h := by
  refine (p_iload rfl rfl).trans ?_
  refine (p_aload rfl rfl).trans ?_
  exact s_getf rfl
theorem r_X2_rich_9 {d : Nat} {s0 : Int32} {b1 : Nat} {l0 l1 l2 l3 l4 : Option Value} {h : AH} : R_X2_rich d 9 [l0, l1, l2, l3, l4] [.ref b1, .int (s0)] h = ((hci h b1).bind (lkN [(19, 113)])).bind fun y => aK (exec tTab d y [.ref b1] h) (fun v h1 => R_X2_rich d 12 [l0, l1, l2, l3, l4] (v.toList ++ [.int (s0)]) h1) (fun E h1 => some (.inr E, h1)) := s_callV (L := [(19, 113)]) (n := 0) (b := b1) (rest := [.int (s0)]) rfl rfl rfl
theorem r_X2_rich_12 {d : Nat} {s0 s1 : Int32} {l0 l1 l2 l3 l4 : Option Value} {h : AH} : R_X2_rich d 12 [l0, l1, l2, l3, l4] [.int (s1), .int (s0)] h = if s1 ≤ s0 then R_X2_rich d 65 [l0, l1, l2, l3, l4] [] h else R_X2_rich d 15 [l0, l1, l2, l3, l4] [] h := (s_icmp (g := (fun x y => decide (y ≤ x))) (t := 65) (nx := 15) rfl).trans bif_dec
theorem r_X2_rich_65 {d : Nat} {x2 : Int32} {l0 l1 l3 l4 : Option Value} {h : AH} : R_X2_rich d 65 [l0, l1, some (.int (x2)), l3, l4] [] h = some (.inl (some (.int (x2))), h) := by
  refine (p_iload rfl rfl).trans ?_
  exact s_iretT rfl rfl
theorem r_X2_rich_15 {d : Nat} {a0 : Nat} {l1 l2 l3 l4 : Option Value} {h : AH} : R_X2_rich d 15 [some (.ref a0), l1, l2, l3, l4] [] h = (hgf h [1] a0 9).bind fun v => R_X2_rich d 19 [some (.ref a0), l1, l2, l3, l4] [v] h := by
  refine (p_aload rfl rfl).trans ?_
  exact s_getf rfl
theorem r_X2_rich_19 {d : Nat} {b0 : Nat} {x3 : Int32} {l0 l1 l2 l4 : Option Value} {h : AH} : R_X2_rich d 19 [l0, l1, l2, some (.int (x3)), l4] [.ref b0] h = ((hci h b0).bind (lkN [(19, 114)])).bind fun y => aK (exec tTab d y [.ref b0, .int (x3)] h) (fun v h1 => R_X2_rich d 23 [l0, l1, l2, some (.int (x3)), l4] (v.toList ++ []) h1) (fun E h1 => some (.inr E, h1)) := by
  refine (p_iload rfl rfl).trans ?_
  exact s_callV (L := [(19, 114)]) (n := 1) (b := b0) (rest := []) rfl rfl rfl
theorem r_X2_rich_23 {d : Nat} {b0 : Nat} {l0 l1 l2 l3 l4 : Option Value} {h : AH} : R_X2_rich d 23 [l0, l1, l2, l3, l4] [.ref b0] h = bif hck h [5, 6] [] b0 then R_X2_rich d 26 [l0, l1, l2, l3, l4] [.ref b0] h else none := s_cast rfl
theorem r_X2_rich_26 {d : Nat} {b0 : Nat} {l0 l1 l2 l3 l4 : Option Value} {h : AH} : R_X2_rich d 26 [l0, l1, l2, l3, l4] [.ref b0] h = (hgf h [5, 6] b0 4).bind fun v => R_X2_rich d 33 [l0, l1, l2, l3, some (.ref b0)] [v] h := by
  refine (p_astore rfl rfl rfl).trans ?_
  refine (p_aload rfl rfl).trans ?_
  exact s_getf rfl
theorem r_X2_rich_33 {d : Nat} {s0 x1 : Int32} {l0 l2 l3 l4 : Option Value} {h : AH} : R_X2_rich d 33 [l0, some (.int (x1)), l2, l3, l4] [.int (s0)] h = if ¬ s0 = x1 then R_X2_rich d 59 [l0, some (.int (x1)), l2, l3, l4] [] h else R_X2_rich d 37 [l0, some (.int (x1)), l2, l3, l4] [] h := by
  refine (p_iload rfl rfl).trans ?_
  exact (s_icmp (g := (fun x y => decide (¬ x = y))) (t := 59) (nx := 37) rfl).trans bif_dec
theorem r_X2_rich_59 {d : Nat} {x3 : Int32} {l0 l1 l2 l4 : Option Value} {h : AH} : R_X2_rich d 59 [l0, l1, l2, some (.int (x3)), l4] [] h = R_X2_rich d 4 [l0, l1, l2, some (.int (x3 + (nI 1))), l4] [] h := by
  refine (p_iinc rfl rfl rfl).trans ?_
  refine (p_goto rfl).trans ?_
  exact rfl
theorem r_X2_rich_37 {d : Nat} {a0 a4 : Nat} {l1 l2 l3 : Option Value} {h : AH} : R_X2_rich d 37 [some (.ref a0), l1, l2, l3, some (.ref a4)] [] h = ((hci h a0).bind (lkN [(1, 94)])).bind fun y => aK (exec tTab d y [.ref a0, .ref a4] h) (fun v h1 => R_X2_rich d 43 [some (.ref a0), l1, l2, l3, some (.ref a4)] (v.toList ++ []) h1) (fun E h1 => some (.inr E, h1)) := by
  refine (p_aload rfl rfl).trans ?_
  refine (p_aload rfl rfl).trans ?_
  exact s_callV (L := [(1, 94)]) (n := 1) (b := a0) (rest := []) rfl rfl rfl
theorem r_X2_rich_43 {d : Nat} {s0 : Int32} {l0 l1 l2 l3 l4 : Option Value} {h : AH} : R_X2_rich d 43 [l0, l1, l2, l3, l4] [.int (s0)] h = if ¬ s0 = 0 then R_X2_rich d 59 [l0, l1, l2, l3, l4] [] h else R_X2_rich d 46 [l0, l1, l2, l3, l4] [] h := (s_if (g := (fun x => decide (¬ x = 0))) (t := 59) (nx := 46) rfl).trans bif_dec
theorem r_X2_rich_46 {d : Nat} {x2 : Int32} {a4 : Nat} {l0 l1 l3 : Option Value} {h : AH} : R_X2_rich d 46 [l0, l1, some (.int (x2)), l3, some (.ref a4)] [] h = (hgf h [5, 6] a4 5).bind fun v => R_X2_rich d 54 [l0, l1, some (.int (x2)), l3, some (.ref a4)] [v, .ref a4, .int (x2)] h := by
  refine (p_iload rfl rfl).trans ?_
  refine (p_aload rfl rfl).trans ?_
  refine (p_aload rfl rfl).trans ?_
  exact s_getf rfl
theorem r_X2_rich_54 {d : Nat} {s0 s2 : Int32} {b1 : Nat} {l0 l1 l2 l3 l4 : Option Value} {h : AH} : R_X2_rich d 54 [l0, l1, l2, l3, l4] [.int (s2), .ref b1, .int (s0)] h = ((hci h b1).bind (lkN [(5, 243), (6, 243)])).bind fun y => aK (exec tTab d y [.ref b1, .int (s2)] h) (fun v h1 => R_X2_rich d 57 [l0, l1, l2, l3, l4] (v.toList ++ [.int (s0)]) h1) (fun E h1 => some (.inr E, h1)) := s_callV (L := [(5, 243), (6, 243)]) (n := 1) (b := b1) (rest := [.int (s0)]) rfl rfl rfl
theorem r_X2_rich_57 {d : Nat} {s0 s1 x3 : Int32} {l0 l1 l2 l4 : Option Value} {h : AH} : R_X2_rich d 57 [l0, l1, l2, some (.int (x3)), l4] [.int (s1), .int (s0)] h = R_X2_rich d 4 [l0, l1, some (.int (s0 + s1)), some (.int (x3 + (nI 1))), l4] [] h := by
  refine (p_bin rfl).trans ?_
  refine (p_istore rfl rfl rfl).trans ?_
  refine (p_iinc rfl rfl rfl).trans ?_
  refine (p_goto rfl).trans ?_
  exact rfl
theorem e_X2_rich {d : Nat} {a0 : Nat} {x1 : Int32} {h : AH} : exec tTab (d + 1) K_X2_rich [.ref a0, .int x1] h = R_X2_rich d 0 [some (.ref a0), some (.int x1), none, none, none] [] h := exec_eq (cd := k_X2_rich) (hd := (fun _ _ => some none)) (L := 5) rfl rfl rfl
/-- FavourTown$World.debt(I)I -/
abbrev K_X2_debt : Nat := 98
noncomputable def R_X2_debt (d pc : Nat) (ls : ALs) (st : List Value) (h : AH) : Option (AOut × AH) := aR (exec tTab d) k_X2_debt (fun _ _ => some none) (pc, ls, st, h)
theorem r_X2_debt_0 {d : Nat} {l0 l1 l2 l3 l4 : Option Value} {h : AH} : R_X2_debt d 0 [l0, l1, l2, l3, l4] [] h = R_X2_debt d 4 [l0, l1, some (.int ((nI 0))), some (.int ((nI 0))), l4] [] h := by
  refine (p_const rfl).trans ?_
  refine (p_istore rfl rfl rfl).trans ?_
  refine (p_const rfl).trans ?_
  refine (p_istore rfl rfl rfl).trans ?_
  exact rfl
theorem q_X2_debt_4 {d : Nat} {x3 : Int32} {a0 : Nat} {l1 l2 l4 : Option Value} {h : AH} : R_X2_debt d 4 [some (.ref a0), l1, l2, some (.int (x3)), l4] [] h = (hgf h [1] a0 9).bind fun v => R_X2_debt d 9 [some (.ref a0), l1, l2, some (.int (x3)), l4] [v, .int (x3)] h := by
  refine (p_iload rfl rfl).trans ?_
  refine (p_aload rfl rfl).trans ?_
  exact s_getf rfl
theorem r_X2_debt_9 {d : Nat} {s0 : Int32} {b1 : Nat} {l0 l1 l2 l3 l4 : Option Value} {h : AH} : R_X2_debt d 9 [l0, l1, l2, l3, l4] [.ref b1, .int (s0)] h = ((hci h b1).bind (lkN [(19, 113)])).bind fun y => aK (exec tTab d y [.ref b1] h) (fun v h1 => R_X2_debt d 12 [l0, l1, l2, l3, l4] (v.toList ++ [.int (s0)]) h1) (fun E h1 => some (.inr E, h1)) := s_callV (L := [(19, 113)]) (n := 0) (b := b1) (rest := [.int (s0)]) rfl rfl rfl
theorem r_X2_debt_12 {d : Nat} {s0 s1 : Int32} {l0 l1 l2 l3 l4 : Option Value} {h : AH} : R_X2_debt d 12 [l0, l1, l2, l3, l4] [.int (s1), .int (s0)] h = if s1 ≤ s0 then R_X2_debt d 60 [l0, l1, l2, l3, l4] [] h else R_X2_debt d 15 [l0, l1, l2, l3, l4] [] h := (s_icmp (g := (fun x y => decide (y ≤ x))) (t := 60) (nx := 15) rfl).trans bif_dec
theorem r_X2_debt_60 {d : Nat} {x2 : Int32} {l0 l1 l3 l4 : Option Value} {h : AH} : R_X2_debt d 60 [l0, l1, some (.int (x2)), l3, l4] [] h = some (.inl (some (.int (x2))), h) := by
  refine (p_iload rfl rfl).trans ?_
  exact s_iretT rfl rfl
theorem r_X2_debt_15 {d : Nat} {a0 : Nat} {l1 l2 l3 l4 : Option Value} {h : AH} : R_X2_debt d 15 [some (.ref a0), l1, l2, l3, l4] [] h = (hgf h [1] a0 9).bind fun v => R_X2_debt d 19 [some (.ref a0), l1, l2, l3, l4] [v] h := by
  refine (p_aload rfl rfl).trans ?_
  exact s_getf rfl
theorem r_X2_debt_19 {d : Nat} {b0 : Nat} {x3 : Int32} {l0 l1 l2 l4 : Option Value} {h : AH} : R_X2_debt d 19 [l0, l1, l2, some (.int (x3)), l4] [.ref b0] h = ((hci h b0).bind (lkN [(19, 114)])).bind fun y => aK (exec tTab d y [.ref b0, .int (x3)] h) (fun v h1 => R_X2_debt d 23 [l0, l1, l2, some (.int (x3)), l4] (v.toList ++ []) h1) (fun E h1 => some (.inr E, h1)) := by
  refine (p_iload rfl rfl).trans ?_
  exact s_callV (L := [(19, 114)]) (n := 1) (b := b0) (rest := []) rfl rfl rfl
theorem r_X2_debt_23 {d : Nat} {b0 : Nat} {l0 l1 l2 l3 l4 : Option Value} {h : AH} : R_X2_debt d 23 [l0, l1, l2, l3, l4] [.ref b0] h = bif hck h [5, 6] [] b0 then R_X2_debt d 26 [l0, l1, l2, l3, l4] [.ref b0] h else none := s_cast rfl
theorem r_X2_debt_26 {d : Nat} {b0 : Nat} {l0 l1 l2 l3 l4 : Option Value} {h : AH} : R_X2_debt d 26 [l0, l1, l2, l3, l4] [.ref b0] h = (hgf h [5, 6] b0 0).bind fun v => R_X2_debt d 33 [l0, l1, l2, l3, some (.ref b0)] [v] h := by
  refine (p_astore rfl rfl rfl).trans ?_
  refine (p_aload rfl rfl).trans ?_
  exact s_getf rfl
theorem r_X2_debt_33 {d : Nat} {s0 x1 : Int32} {l0 l2 l3 l4 : Option Value} {h : AH} : R_X2_debt d 33 [l0, some (.int (x1)), l2, l3, l4] [.int (s0)] h = if ¬ s0 = x1 then R_X2_debt d 54 [l0, some (.int (x1)), l2, l3, l4] [] h else R_X2_debt d 37 [l0, some (.int (x1)), l2, l3, l4] [] h := by
  refine (p_iload rfl rfl).trans ?_
  exact (s_icmp (g := (fun x y => decide (¬ x = y))) (t := 54) (nx := 37) rfl).trans bif_dec
theorem r_X2_debt_54 {d : Nat} {x3 : Int32} {l0 l1 l2 l4 : Option Value} {h : AH} : R_X2_debt d 54 [l0, l1, l2, some (.int (x3)), l4] [] h = R_X2_debt d 4 [l0, l1, l2, some (.int (x3 + (nI 1))), l4] [] h := by
  refine (p_iinc rfl rfl rfl).trans ?_
  refine (p_goto rfl).trans ?_
  exact rfl
theorem r_X2_debt_37 {d : Nat} {a0 a4 : Nat} {l1 l2 l3 : Option Value} {h : AH} : R_X2_debt d 37 [some (.ref a0), l1, l2, l3, some (.ref a4)] [] h = ((hci h a0).bind (lkN [(1, 94)])).bind fun y => aK (exec tTab d y [.ref a0, .ref a4] h) (fun v h1 => R_X2_debt d 43 [some (.ref a0), l1, l2, l3, some (.ref a4)] (v.toList ++ []) h1) (fun E h1 => some (.inr E, h1)) := by
  refine (p_aload rfl rfl).trans ?_
  refine (p_aload rfl rfl).trans ?_
  exact s_callV (L := [(1, 94)]) (n := 1) (b := a0) (rest := []) rfl rfl rfl
theorem r_X2_debt_43 {d : Nat} {s0 : Int32} {l0 l1 l2 l3 l4 : Option Value} {h : AH} : R_X2_debt d 43 [l0, l1, l2, l3, l4] [.int (s0)] h = if ¬ s0 = 0 then R_X2_debt d 54 [l0, l1, l2, l3, l4] [] h else R_X2_debt d 46 [l0, l1, l2, l3, l4] [] h := (s_if (g := (fun x => decide (¬ x = 0))) (t := 54) (nx := 46) rfl).trans bif_dec
theorem r_X2_debt_46 {d : Nat} {x2 : Int32} {a4 : Nat} {l0 l1 l3 : Option Value} {h : AH} : R_X2_debt d 46 [l0, l1, some (.int (x2)), l3, some (.ref a4)] [] h = (hgf h [5, 6] a4 1).bind fun v => R_X2_debt d 52 [l0, l1, some (.int (x2)), l3, some (.ref a4)] [v, .int (x2)] h := by
  refine (p_iload rfl rfl).trans ?_
  refine (p_aload rfl rfl).trans ?_
  exact s_getf rfl
theorem r_X2_debt_52 {d : Nat} {s0 s1 x3 : Int32} {l0 l1 l2 l4 : Option Value} {h : AH} : R_X2_debt d 52 [l0, l1, l2, some (.int (x3)), l4] [.int (s1), .int (s0)] h = R_X2_debt d 4 [l0, l1, some (.int (s0 + s1)), some (.int (x3 + (nI 1))), l4] [] h := by
  refine (p_bin rfl).trans ?_
  refine (p_istore rfl rfl rfl).trans ?_
  refine (p_iinc rfl rfl rfl).trans ?_
  refine (p_goto rfl).trans ?_
  exact rfl
theorem e_X2_debt {d : Nat} {a0 : Nat} {x1 : Int32} {h : AH} : exec tTab (d + 1) K_X2_debt [.ref a0, .int x1] h = R_X2_debt d 0 [some (.ref a0), some (.int x1), none, none, none] [] h := exec_eq (cd := k_X2_debt) (hd := (fun _ _ => some none)) (L := 5) rfl rfl rfl
/-- FavourTown$World.worthThen(I)I -/
abbrev K_X2_worthThen : Nat := 99
noncomputable def R_X2_worthThen (d pc : Nat) (ls : ALs) (st : List Value) (h : AH) : Option (AOut × AH) := aR (exec tTab d) k_X2_worthThen (fun _ _ => some none) (pc, ls, st, h)
theorem r_X2_worthThen_0 {d : Nat} {a0 : Nat} {l1 : Option Value} {h : AH} : R_X2_worthThen d 0 [some (.ref a0), l1] [] h = (hgf h [1] a0 9).bind fun v => R_X2_worthThen d 4 [some (.ref a0), l1] [v] h := by
  refine (p_aload rfl rfl).trans ?_
  exact s_getf rfl
theorem r_X2_worthThen_4 {d : Nat} {b0 : Nat} {x1 : Int32} {l0 : Option Value} {h : AH} : R_X2_worthThen d 4 [l0, some (.int (x1))] [.ref b0] h = ((hci h b0).bind (lkN [(19, 114)])).bind fun y => aK (exec tTab d y [.ref b0, .int (x1)] h) (fun v h1 => R_X2_worthThen d 8 [l0, some (.int (x1))] (v.toList ++ []) h1) (fun E h1 => some (.inr E, h1)) := by
  refine (p_iload rfl rfl).trans ?_
  exact s_callV (L := [(19, 114)]) (n := 1) (b := b0) (rest := []) rfl rfl rfl
theorem r_X2_worthThen_8 {d : Nat} {b0 : Nat} {l0 l1 : Option Value} {h : AH} : R_X2_worthThen d 8 [l0, l1] [.ref b0] h = bif hck h [5, 6] [] b0 then R_X2_worthThen d 11 [l0, l1] [.ref b0] h else none := s_cast rfl
theorem r_X2_worthThen_8N {d : Nat} {a0 : Nat} {l1 : Option Value} {h : AH} : R_X2_worthThen d 8 [some (.ref a0), l1] [.null] h = (hgf h [1] a0 9).bind fun v => R_X2_worthThen d 15 [some (.ref a0), l1] [v, .null] h := by
  refine (p_castN rfl).trans ?_
  refine (p_aload rfl rfl).trans ?_
  exact s_getf rfl
theorem r_X2_worthThen_11 {d : Nat} {b0 a0 : Nat} {l1 : Option Value} {h : AH} : R_X2_worthThen d 11 [some (.ref a0), l1] [.ref b0] h = (hgf h [1] a0 9).bind fun v => R_X2_worthThen d 15 [some (.ref a0), l1] [v, .ref b0] h := by
  refine (p_aload rfl rfl).trans ?_
  exact s_getf rfl
theorem r_X2_worthThen_11N {d : Nat} {a0 : Nat} {l1 : Option Value} {h : AH} : R_X2_worthThen d 11 [some (.ref a0), l1] [.null] h = (hgf h [1] a0 9).bind fun v => R_X2_worthThen d 15 [some (.ref a0), l1] [v, .null] h := by
  refine (p_aload rfl rfl).trans ?_
  exact s_getf rfl
theorem r_X2_worthThen_15 {d : Nat} {b0 b1 : Nat} {x1 : Int32} {l0 : Option Value} {h : AH} : R_X2_worthThen d 15 [l0, some (.int (x1))] [.ref b1, .ref b0] h = ((hci h b1).bind (lkN [(19, 114)])).bind fun y => aK (exec tTab d y [.ref b1, .int (x1)] h) (fun v h1 => R_X2_worthThen d 19 [l0, some (.int (x1))] (v.toList ++ [.ref b0]) h1) (fun E h1 => some (.inr E, h1)) := by
  refine (p_iload rfl rfl).trans ?_
  exact s_callV (L := [(19, 114)]) (n := 1) (b := b1) (rest := [.ref b0]) rfl rfl rfl
theorem r_X2_worthThen_19 {d : Nat} {b0 b1 : Nat} {l0 l1 : Option Value} {h : AH} : R_X2_worthThen d 19 [l0, l1] [.ref b1, .ref b0] h = bif hck h [5, 6] [] b1 then R_X2_worthThen d 22 [l0, l1] [.ref b1, .ref b0] h else none := s_cast rfl
theorem r_X2_worthThen_22 {d : Nat} {b0 b1 : Nat} {l0 l1 : Option Value} {h : AH} : R_X2_worthThen d 22 [l0, l1] [.ref b1, .ref b0] h = (hgf h [5, 6] b1 5).bind fun v => R_X2_worthThen d 25 [l0, l1] [v, .ref b0] h := s_getf rfl
theorem r_X2_worthThen_25 {d : Nat} {b0 : Nat} {s1 : Int32} {l0 l1 : Option Value} {h : AH} : R_X2_worthThen d 25 [l0, l1] [.int (s1), .ref b0] h = ((hci h b0).bind (lkN [(5, 243), (6, 243)])).bind fun y => aK (exec tTab d y [.ref b0, .int (s1 + (nI 1))] h) (fun v h1 => R_X2_worthThen d 30 [l0, l1] (v.toList ++ []) h1) (fun E h1 => some (.inr E, h1)) := by
  refine (p_const rfl).trans ?_
  refine (p_bin rfl).trans ?_
  exact s_callV (L := [(5, 243), (6, 243)]) (n := 1) (b := b0) (rest := []) rfl rfl rfl
theorem r_X2_worthThen_30 {d : Nat} {s0 : Int32} {l0 l1 : Option Value} {h : AH} : R_X2_worthThen d 30 [l0, l1] [.int (s0)] h = some (.inl (some (.int (s0))), h) := s_iretT rfl rfl
theorem e_X2_worthThen {d : Nat} {a0 : Nat} {x1 : Int32} {h : AH} : exec tTab (d + 1) K_X2_worthThen [.ref a0, .int x1] h = R_X2_worthThen d 0 [some (.ref a0), some (.int x1)] [] h := exec_eq (cd := k_X2_worthThen) (hd := (fun _ _ => some none)) (L := 2) rfl rfl rfl
/-- FavourTown$World.canGive(IIIIZ)Z -/
abbrev K_X2_canGive : Nat := 100
noncomputable def R_X2_canGive (d pc : Nat) (ls : ALs) (st : List Value) (h : AH) : Option (AOut × AH) := aR (exec tTab d) k_X2_canGive (fun _ _ => some none) (pc, ls, st, h)
theorem r_X2_canGive_0 {d : Nat} {a0 : Nat} {l1 l2 l3 l4 l5 : Option Value} {h : AH} : R_X2_canGive d 0 [some (.ref a0), l1, l2, l3, l4, l5] [] h = (hgf h [1] a0 9).bind fun v => R_X2_canGive d 4 [some (.ref a0), l1, l2, l3, l4, l5] [v] h := by
  refine (p_aload rfl rfl).trans ?_
  exact s_getf rfl
theorem r_X2_canGive_4 {d : Nat} {b0 : Nat} {l0 l1 l2 l3 l4 l5 : Option Value} {h : AH} : R_X2_canGive d 4 [l0, l1, l2, l3, l4, l5] [.ref b0] h = ((hci h b0).bind (lkN [(19, 113)])).bind fun y => aK (exec tTab d y [.ref b0] h) (fun v h1 => R_X2_canGive d 7 [l0, l1, l2, l3, l4, l5] (v.toList ++ []) h1) (fun E h1 => some (.inr E, h1)) := s_callV (L := [(19, 113)]) (n := 0) (b := b0) (rest := []) rfl rfl rfl
theorem r_X2_canGive_7 {d : Nat} {s0 : Int32} {l0 l1 l2 l3 l4 l5 : Option Value} {h : AH} : R_X2_canGive d 7 [l0, l1, l2, l3, l4, l5] [.int (s0)] h = if s0 = (nI 40) then R_X2_canGive d 28 [l0, l1, l2, l3, l4, l5] [] h else R_X2_canGive d 12 [l0, l1, l2, l3, l4, l5] [] h := by
  refine (p_const rfl).trans ?_
  exact (s_icmp (g := (fun x y => decide (x = y))) (t := 28) (nx := 12) rfl).trans bif_dec
theorem r_X2_canGive_28 {d : Nat} {l0 l1 l2 l3 l4 l5 : Option Value} {h : AH} : R_X2_canGive d 28 [l0, l1, l2, l3, l4, l5] [] h = some (.inl (some (.int ((nI 0)))), h) := by
  refine (p_const rfl).trans ?_
  exact s_iretT rfl rfl
theorem r_X2_canGive_12 {d : Nat} {a0 : Nat} {x1 : Int32} {l2 l3 l4 l5 : Option Value} {h : AH} : R_X2_canGive d 12 [some (.ref a0), some (.int (x1)), l2, l3, l4, l5] [] h = ((hci h a0).bind (lkN [(1, 98)])).bind fun y => aK (exec tTab d y [.ref a0, .int (x1)] h) (fun v h1 => R_X2_canGive d 17 [some (.ref a0), some (.int (x1)), l2, l3, l4, l5] (v.toList ++ []) h1) (fun E h1 => some (.inr E, h1)) := by
  refine (p_aload rfl rfl).trans ?_
  refine (p_iload rfl rfl).trans ?_
  exact s_callV (L := [(1, 98)]) (n := 1) (b := a0) (rest := []) rfl rfl rfl
theorem r_X2_canGive_17 {d : Nat} {s0 x3 : Int32} {a0 : Nat} {l1 l2 l4 l5 : Option Value} {h : AH} : R_X2_canGive d 17 [some (.ref a0), l1, l2, some (.int (x3)), l4, l5] [.int (s0)] h = (hgf h [1] a0 5).bind fun v => R_X2_canGive d 23 [some (.ref a0), l1, l2, some (.int (x3)), l4, l5] [v, .int (s0 + x3)] h := by
  refine (p_iload rfl rfl).trans ?_
  refine (p_bin rfl).trans ?_
  refine (p_aload rfl rfl).trans ?_
  exact s_getf rfl
theorem r_X2_canGive_23 {d : Nat} {s0 x1 : Int32} {b1 : Nat} {l0 l2 l3 l4 l5 : Option Value} {h : AH} : R_X2_canGive d 23 [l0, some (.int (x1)), l2, l3, l4, l5] [.ref b1, .int (s0)] h = (hai h 0 b1 x1).bind fun v => R_X2_canGive d 25 [l0, some (.int (x1)), l2, l3, l4, l5] [.int v, .int (s0)] h := by
  refine (p_iload rfl rfl).trans ?_
  exact s_iald rfl
theorem r_X2_canGive_25 {d : Nat} {s0 s1 : Int32} {l0 l1 l2 l3 l4 l5 : Option Value} {h : AH} : R_X2_canGive d 25 [l0, l1, l2, l3, l4, l5] [.int (s1), .int (s0)] h = if s0 ≤ s1 then R_X2_canGive d 30 [l0, l1, l2, l3, l4, l5] [] h else R_X2_canGive d 28 [l0, l1, l2, l3, l4, l5] [] h := (s_icmp (g := (fun x y => decide (x ≤ y))) (t := 30) (nx := 28) rfl).trans bif_dec
theorem r_X2_canGive_30 {d : Nat} {x5 : Int32} {l0 l1 l2 l3 l4 : Option Value} {h : AH} : R_X2_canGive d 30 [l0, l1, l2, l3, l4, some (.int (x5))] [] h = if ¬ x5 = 0 then R_X2_canGive d 45 [l0, l1, l2, l3, l4, some (.int (x5))] [] h else R_X2_canGive d 35 [l0, l1, l2, l3, l4, some (.int (x5))] [] h := by
  refine (p_iload rfl rfl).trans ?_
  exact (s_if (g := (fun x => decide (¬ x = 0))) (t := 45) (nx := 35) rfl).trans bif_dec
theorem r_X2_canGive_45 {d : Nat} {l0 l1 l2 l3 l4 l5 : Option Value} {h : AH} : R_X2_canGive d 45 [l0, l1, l2, l3, l4, l5] [] h = some (.inl (some (.int ((nI 1)))), h) := by
  refine (p_const rfl).trans ?_
  exact s_iretT rfl rfl
theorem r_X2_canGive_35 {d : Nat} {a0 : Nat} {l1 l2 l3 l4 l5 : Option Value} {h : AH} : R_X2_canGive d 35 [some (.ref a0), l1, l2, l3, l4, l5] [] h = (hgf h [1] a0 7).bind fun v => R_X2_canGive d 39 [some (.ref a0), l1, l2, l3, l4, l5] [v] h := by
  refine (p_aload rfl rfl).trans ?_
  exact s_getf rfl
theorem r_X2_canGive_39 {d : Nat} {b0 : Nat} {x2 : Int32} {l0 l1 l3 l4 l5 : Option Value} {h : AH} : R_X2_canGive d 39 [l0, l1, some (.int (x2)), l3, l4, l5] [.ref b0] h = (hai h 0 b0 x2).bind fun v => R_X2_canGive d 41 [l0, l1, some (.int (x2)), l3, l4, l5] [.int v] h := by
  refine (p_iload rfl rfl).trans ?_
  exact s_iald rfl
theorem r_X2_canGive_41 {d : Nat} {s0 : Int32} {l0 l1 l2 l3 l4 l5 : Option Value} {h : AH} : R_X2_canGive d 41 [l0, l1, l2, l3, l4, l5] [.int (s0)] h = if ¬ s0 = (-1) then R_X2_canGive d 47 [l0, l1, l2, l3, l4, l5] [] h else R_X2_canGive d 45 [l0, l1, l2, l3, l4, l5] [] h := by
  refine (p_const rfl).trans ?_
  exact (s_icmp (g := (fun x y => decide (¬ x = y))) (t := 47) (nx := 45) rfl).trans bif_dec
theorem r_X2_canGive_47 {d : Nat} {a0 : Nat} {x2 x1 x3 x4 : Int32} {l5 : Option Value} {h : AH} : R_X2_canGive d 47 [some (.ref a0), some (.int (x1)), some (.int (x2)), some (.int (x3)), some (.int (x4)), l5] [] h = ((hci h a0).bind (lkN [(1, 96)])).bind fun y => aK (exec tTab d y [.ref a0, .int (x2), .int (x1), .int (x3), .int (x4)] h) (fun v h1 => R_X2_canGive d 56 [some (.ref a0), some (.int (x1)), some (.int (x2)), some (.int (x3)), some (.int (x4)), l5] (v.toList ++ []) h1) (fun E h1 => some (.inr E, h1)) := by
  refine (p_aload rfl rfl).trans ?_
  refine (p_iload rfl rfl).trans ?_
  refine (p_iload rfl rfl).trans ?_
  refine (p_iload rfl rfl).trans ?_
  refine (p_iload rfl rfl).trans ?_
  exact s_callV (L := [(1, 96)]) (n := 4) (b := a0) (rest := []) rfl rfl rfl
theorem r_X2_canGive_56 {d : Nat} {a0 : Nat} {l1 l2 l3 l4 l5 : Option Value} {h : AH} : R_X2_canGive d 56 [some (.ref a0), l1, l2, l3, l4, l5] [] h = (hgf h [1] a0 11).bind fun v => R_X2_canGive d 60 [some (.ref a0), l1, l2, l3, l4, l5] [v] h := by
  refine (p_aload rfl rfl).trans ?_
  exact s_getf rfl
theorem r_X2_canGive_60 {d : Nat} {b0 a0 : Nat} {l1 l2 l3 l4 l5 : Option Value} {h : AH} : R_X2_canGive d 60 [some (.ref a0), l1, l2, l3, l4, l5] [.ref b0] h = (hgf h [1] a0 7).bind fun v => R_X2_canGive d 64 [some (.ref a0), l1, l2, l3, l4, l5] [v, .ref b0] h := by
  refine (p_aload rfl rfl).trans ?_
  exact s_getf rfl
theorem r_X2_canGive_60N {d : Nat} {a0 : Nat} {l1 l2 l3 l4 l5 : Option Value} {h : AH} : R_X2_canGive d 60 [some (.ref a0), l1, l2, l3, l4, l5] [.null] h = (hgf h [1] a0 7).bind fun v => R_X2_canGive d 64 [some (.ref a0), l1, l2, l3, l4, l5] [v, .null] h := by
  refine (p_aload rfl rfl).trans ?_
  exact s_getf rfl
theorem r_X2_canGive_64 {d : Nat} {b0 b1 : Nat} {x2 : Int32} {l0 l1 l3 l4 l5 : Option Value} {h : AH} : R_X2_canGive d 64 [l0, l1, some (.int (x2)), l3, l4, l5] [.ref b1, .ref b0] h = (hai h 0 b1 x2).bind fun v => R_X2_canGive d 66 [l0, l1, some (.int (x2)), l3, l4, l5] [.int v, .ref b0] h := by
  refine (p_iload rfl rfl).trans ?_
  exact s_iald rfl
theorem r_X2_canGive_66 {d : Nat} {b0 : Nat} {s1 : Int32} {l0 l1 l2 l3 l4 l5 : Option Value} {h : AH} : R_X2_canGive d 66 [l0, l1, l2, l3, l4, l5] [.int (s1), .ref b0] h = ((hci h b0).bind (lkN [(19, 114)])).bind fun y => aK (exec tTab d y [.ref b0, .int (s1)] h) (fun v h1 => R_X2_canGive d 69 [l0, l1, l2, l3, l4, l5] (v.toList ++ []) h1) (fun E h1 => some (.inr E, h1)) := s_callV (L := [(19, 114)]) (n := 1) (b := b0) (rest := []) rfl rfl rfl
theorem r_X2_canGive_69 {d : Nat} {b0 : Nat} {l0 l1 l2 l3 l4 l5 : Option Value} {h : AH} : R_X2_canGive d 69 [l0, l1, l2, l3, l4, l5] [.ref b0] h = bif hck h [9] [] b0 then R_X2_canGive d 72 [l0, l1, l2, l3, l4, l5] [.ref b0] h else none := s_cast rfl
theorem r_X2_canGive_69N {d : Nat} {a0 : Nat} {l1 l2 l3 l4 l5 : Option Value} {h : AH} : R_X2_canGive d 69 [some (.ref a0), l1, l2, l3, l4, l5] [.null] h = (hgf h [1] a0 13).bind fun v => R_X2_canGive d 76 [some (.ref a0), l1, l2, l3, l4, l5] [v, .null] h := by
  refine (p_castN rfl).trans ?_
  refine (p_aload rfl rfl).trans ?_
  exact s_getf rfl
theorem r_X2_canGive_72 {d : Nat} {b0 a0 : Nat} {l1 l2 l3 l4 l5 : Option Value} {h : AH} : R_X2_canGive d 72 [some (.ref a0), l1, l2, l3, l4, l5] [.ref b0] h = (hgf h [1] a0 13).bind fun v => R_X2_canGive d 76 [some (.ref a0), l1, l2, l3, l4, l5] [v, .ref b0] h := by
  refine (p_aload rfl rfl).trans ?_
  exact s_getf rfl
theorem r_X2_canGive_72N {d : Nat} {a0 : Nat} {l1 l2 l3 l4 l5 : Option Value} {h : AH} : R_X2_canGive d 72 [some (.ref a0), l1, l2, l3, l4, l5] [.null] h = (hgf h [1] a0 13).bind fun v => R_X2_canGive d 76 [some (.ref a0), l1, l2, l3, l4, l5] [v, .null] h := by
  refine (p_aload rfl rfl).trans ?_
  exact s_getf rfl
theorem r_X2_canGive_76 {d : Nat} {b0 b1 : Nat} {l0 l1 l2 l3 l4 l5 : Option Value} {h : AH} : R_X2_canGive d 76 [l0, l1, l2, l3, l4, l5] [.ref b1, .ref b0] h = ((hci h b0).bind (lkN [(9, 307)])).bind fun y => aK (exec tTab d y [.ref b0, .ref b1] h) (fun v h1 => R_X2_canGive d 79 [l0, l1, l2, l3, l4, l5] (v.toList ++ []) h1) (fun E h1 => some (.inr E, h1)) := s_callV (L := [(9, 307)]) (n := 1) (b := b0) (rest := []) rfl rfl rfl
theorem r_X2_canGive_76N {d : Nat} {b0 : Nat} {l0 l1 l2 l3 l4 l5 : Option Value} {h : AH} : R_X2_canGive d 76 [l0, l1, l2, l3, l4, l5] [.null, .ref b0] h = ((hci h b0).bind (lkN [(9, 307)])).bind fun y => aK (exec tTab d y [.ref b0, .null] h) (fun v h1 => R_X2_canGive d 79 [l0, l1, l2, l3, l4, l5] (v.toList ++ []) h1) (fun E h1 => some (.inr E, h1)) := s_callV (L := [(9, 307)]) (n := 1) (b := b0) (rest := []) rfl rfl rfl
theorem r_X2_canGive_79 {d : Nat} {s0 : Int32} {l0 l1 l2 l3 l4 l5 : Option Value} {h : AH} : R_X2_canGive d 79 [l0, l1, l2, l3, l4, l5] [.int (s0)] h = bif s0 == 0 || s0 == 1 then some (.inl (some (.int (s0))), h) else none := s_iret (ok := (fun x => x == 0 || x == 1)) rfl
theorem e_X2_canGive {d : Nat} {a0 : Nat} {x1 x2 x3 x4 x5 : Int32} {h : AH} : exec tTab (d + 1) K_X2_canGive [.ref a0, .int x1, .int x2, .int x3, .int x4, .int x5] h = R_X2_canGive d 0 [some (.ref a0), some (.int x1), some (.int x2), some (.int x3), some (.int x4), some (.int x5)] [] h := exec_eq (cd := k_X2_canGive) (hd := (fun _ _ => some none)) (L := 6) rfl rfl rfl
/-- FavourTown$World.copy()LFavourTown$World; -/
abbrev K_X2_copy : Nat := 101
noncomputable def R_X2_copy (d pc : Nat) (ls : ALs) (st : List Value) (h : AH) : Option (AOut × AH) := aR (exec tTab d) k_X2_copy (fun _ _ => some none) (pc, ls, st, h)
theorem r_X2_copy_0 {d : Nat} {l0 l1 l2 : Option Value} {h : AH} : R_X2_copy d 0 [l0, l1, l2] [] h = R_X2_copy d 3 [l0, l1, l2] [.ref h.2.1] (hnew h (true, .inr (1, [.int 0, .int 0, .int 0, .int 0, .int 0, .null, .null, .null, .null, .null, .null, .null, .null, .null])) 14) := p_new rfl
theorem r_X2_copy_3 {d : Nat} {b0 : Nat} {l0 l1 l2 : Option Value} {h : AH} : R_X2_copy d 3 [l0, l1, l2] [.ref b0] h = aK (exec tTab d 89 [.ref b0] h) (fun v h1 => R_X2_copy d 7 [l0, l1, l2] (v.toList ++ [.ref b0]) h1) (fun E h1 => some (.inr E, h1)) := by
  refine (p_dup rfl rfl).trans ?_
  exact s_callI (y := 89) (n := 0) (b := b0) (rest := [.ref b0]) rfl rfl rfl
theorem r_X2_copy_7 {d : Nat} {b0 a0 : Nat} {l1 l2 : Option Value} {h : AH} : R_X2_copy d 7 [some (.ref a0), l1, l2] [.ref b0] h = (hgf h [1] a0 0).bind fun v => R_X2_copy d 13 [some (.ref a0), some (.ref b0), l2] [v, .ref b0] h := by
  refine (p_astore rfl rfl rfl).trans ?_
  refine (p_aload rfl rfl).trans ?_
  refine (p_aload rfl rfl).trans ?_
  exact s_getf rfl
theorem r_X2_copy_7N {d : Nat} {a0 : Nat} {l1 l2 : Option Value} {h : AH} : R_X2_copy d 7 [some (.ref a0), l1, l2] [.null] h = (hgf h [1] a0 0).bind fun v => R_X2_copy d 13 [some (.ref a0), some (.null), l2] [v, .null] h := by
  refine (p_astoreN rfl rfl rfl).trans ?_
  refine (p_aloadN rfl rfl).trans ?_
  refine (p_aload rfl rfl).trans ?_
  exact s_getf rfl
theorem r_X2_copy_13 {d : Nat} {b0 : Nat} {s1 : Int32} {l0 l1 l2 : Option Value} {h : AH} : R_X2_copy d 13 [l0, l1, l2] [.int (s1), .ref b0] h = (hpf h [1] b0 0 (.int (s1))).bind fun h1 => R_X2_copy d 16 [l0, l1, l2] [] h1 := s_putT rfl rfl
theorem r_X2_copy_16 {d : Nat} {a1 a0 : Nat} {l2 : Option Value} {h : AH} : R_X2_copy d 16 [some (.ref a0), some (.ref a1), l2] [] h = (hgf h [1] a0 1).bind fun v => R_X2_copy d 21 [some (.ref a0), some (.ref a1), l2] [v, .ref a1] h := by
  refine (p_aload rfl rfl).trans ?_
  refine (p_aload rfl rfl).trans ?_
  exact s_getf rfl
theorem r_X2_copy_21 {d : Nat} {b0 : Nat} {s1 : Int32} {l0 l1 l2 : Option Value} {h : AH} : R_X2_copy d 21 [l0, l1, l2] [.int (s1), .ref b0] h = (hpf h [1] b0 1 (.int (s1))).bind fun h1 => R_X2_copy d 24 [l0, l1, l2] [] h1 := s_putT rfl rfl
theorem r_X2_copy_24 {d : Nat} {a1 a0 : Nat} {l2 : Option Value} {h : AH} : R_X2_copy d 24 [some (.ref a0), some (.ref a1), l2] [] h = (hgf h [1] a0 2).bind fun v => R_X2_copy d 29 [some (.ref a0), some (.ref a1), l2] [v, .ref a1] h := by
  refine (p_aload rfl rfl).trans ?_
  refine (p_aload rfl rfl).trans ?_
  exact s_getf rfl
theorem r_X2_copy_29 {d : Nat} {b0 : Nat} {s1 : Int32} {l0 l1 l2 : Option Value} {h : AH} : R_X2_copy d 29 [l0, l1, l2] [.int (s1), .ref b0] h = (hpf h [1] b0 2 (.int (s1))).bind fun h1 => R_X2_copy d 32 [l0, l1, l2] [] h1 := s_putT rfl rfl
theorem r_X2_copy_32 {d : Nat} {a1 a0 : Nat} {l2 : Option Value} {h : AH} : R_X2_copy d 32 [some (.ref a0), some (.ref a1), l2] [] h = (hgf h [1] a0 3).bind fun v => R_X2_copy d 37 [some (.ref a0), some (.ref a1), l2] [v, .ref a1] h := by
  refine (p_aload rfl rfl).trans ?_
  refine (p_aload rfl rfl).trans ?_
  exact s_getf rfl
theorem r_X2_copy_37 {d : Nat} {b0 : Nat} {s1 : Int32} {l0 l1 l2 : Option Value} {h : AH} : R_X2_copy d 37 [l0, l1, l2] [.int (s1), .ref b0] h = (hpf h [1] b0 3 (.int (s1))).bind fun h1 => R_X2_copy d 40 [l0, l1, l2] [] h1 := s_putT rfl rfl
theorem r_X2_copy_40 {d : Nat} {a0 : Nat} {l1 l2 : Option Value} {h : AH} : R_X2_copy d 40 [some (.ref a0), l1, l2] [] h = (hgf h [1] a0 5).bind fun v => R_X2_copy d 44 [some (.ref a0), l1, l2] [v] h := by
  refine (p_aload rfl rfl).trans ?_
  exact s_getf rfl
theorem r_X2_copy_44 {d : Nat} {b0 a1 : Nat} {l0 l2 : Option Value} {h : AH} : R_X2_copy d 44 [l0, some (.ref a1), l2] [.ref b0] h = (hgf h [1] a1 5).bind fun v => R_X2_copy d 49 [l0, some (.ref a1), l2] [v, .int ((nI 0)), .ref b0] h := by
  refine (p_const rfl).trans ?_
  refine (p_aload rfl rfl).trans ?_
  exact s_getf rfl
theorem r_X2_copy_44N {d : Nat} {a1 : Nat} {l0 l2 : Option Value} {h : AH} : R_X2_copy d 44 [l0, some (.ref a1), l2] [.null] h = (hgf h [1] a1 5).bind fun v => R_X2_copy d 49 [l0, some (.ref a1), l2] [v, .int ((nI 0)), .null] h := by
  refine (p_const rfl).trans ?_
  refine (p_aload rfl rfl).trans ?_
  exact s_getf rfl
theorem r_X2_copy_49 {d : Nat} {b0 b2 : Nat} {s1 : Int32} {l0 l1 l2 : Option Value} {h : AH} : R_X2_copy d 49 [l0, l1, l2] [.ref b2, .int (s1), .ref b0] h = (hcpy h anyC anyT b0 b2 s1 (nI 0) (nI 12)).bind fun h1 => R_X2_copy d 55 [l0, l1, l2] [] h1 := by
  refine (p_const rfl).trans ?_
  refine (p_const rfl).trans ?_
  exact s_copy rfl rfl
theorem r_X2_copy_55 {d : Nat} {a0 : Nat} {l1 l2 : Option Value} {h : AH} : R_X2_copy d 55 [some (.ref a0), l1, l2] [] h = (hgf h [1] a0 6).bind fun v => R_X2_copy d 59 [some (.ref a0), l1, l2] [v] h := by
  refine (p_aload rfl rfl).trans ?_
  exact s_getf rfl
theorem r_X2_copy_59 {d : Nat} {b0 a1 : Nat} {l0 l2 : Option Value} {h : AH} : R_X2_copy d 59 [l0, some (.ref a1), l2] [.ref b0] h = (hgf h [1] a1 6).bind fun v => R_X2_copy d 64 [l0, some (.ref a1), l2] [v, .int ((nI 0)), .ref b0] h := by
  refine (p_const rfl).trans ?_
  refine (p_aload rfl rfl).trans ?_
  exact s_getf rfl
theorem r_X2_copy_59N {d : Nat} {a1 : Nat} {l0 l2 : Option Value} {h : AH} : R_X2_copy d 59 [l0, some (.ref a1), l2] [.null] h = (hgf h [1] a1 6).bind fun v => R_X2_copy d 64 [l0, some (.ref a1), l2] [v, .int ((nI 0)), .null] h := by
  refine (p_const rfl).trans ?_
  refine (p_aload rfl rfl).trans ?_
  exact s_getf rfl
theorem r_X2_copy_64 {d : Nat} {b0 b2 : Nat} {s1 : Int32} {l0 l1 l2 : Option Value} {h : AH} : R_X2_copy d 64 [l0, l1, l2] [.ref b2, .int (s1), .ref b0] h = (hcpy h anyC anyT b0 b2 s1 (nI 0) (nI 12)).bind fun h1 => R_X2_copy d 70 [l0, l1, l2] [] h1 := by
  refine (p_const rfl).trans ?_
  refine (p_const rfl).trans ?_
  exact s_copy rfl rfl
theorem r_X2_copy_70 {d : Nat} {a0 : Nat} {l1 l2 : Option Value} {h : AH} : R_X2_copy d 70 [some (.ref a0), l1, l2] [] h = (hgf h [1] a0 7).bind fun v => R_X2_copy d 74 [some (.ref a0), l1, l2] [v] h := by
  refine (p_aload rfl rfl).trans ?_
  exact s_getf rfl
theorem r_X2_copy_74 {d : Nat} {b0 a1 : Nat} {l0 l2 : Option Value} {h : AH} : R_X2_copy d 74 [l0, some (.ref a1), l2] [.ref b0] h = (hgf h [1] a1 7).bind fun v => R_X2_copy d 79 [l0, some (.ref a1), l2] [v, .int ((nI 0)), .ref b0] h := by
  refine (p_const rfl).trans ?_
  refine (p_aload rfl rfl).trans ?_
  exact s_getf rfl
theorem r_X2_copy_74N {d : Nat} {a1 : Nat} {l0 l2 : Option Value} {h : AH} : R_X2_copy d 74 [l0, some (.ref a1), l2] [.null] h = (hgf h [1] a1 7).bind fun v => R_X2_copy d 79 [l0, some (.ref a1), l2] [v, .int ((nI 0)), .null] h := by
  refine (p_const rfl).trans ?_
  refine (p_aload rfl rfl).trans ?_
  exact s_getf rfl
theorem r_X2_copy_79 {d : Nat} {b0 b2 : Nat} {s1 : Int32} {l0 l1 l2 : Option Value} {h : AH} : R_X2_copy d 79 [l0, l1, l2] [.ref b2, .int (s1), .ref b0] h = (hcpy h anyC anyT b0 b2 s1 (nI 0) (nI 12)).bind fun h1 => R_X2_copy d 85 [l0, l1, l2] [] h1 := by
  refine (p_const rfl).trans ?_
  refine (p_const rfl).trans ?_
  exact s_copy rfl rfl
theorem r_X2_copy_85 {d : Nat} {l0 l1 l2 : Option Value} {h : AH} : R_X2_copy d 85 [l0, l1, l2] [] h = R_X2_copy d 87 [l0, l1, some (.int ((nI 0)))] [] h := by
  refine (p_const rfl).trans ?_
  refine (p_istore rfl rfl rfl).trans ?_
  exact rfl
theorem q_X2_copy_87 {d : Nat} {x2 : Int32} {l0 l1 : Option Value} {h : AH} : R_X2_copy d 87 [l0, l1, some (.int (x2))] [] h = if (nI 12) ≤ x2 then R_X2_copy d 118 [l0, l1, some (.int (x2))] [] h else R_X2_copy d 93 [l0, l1, some (.int (x2))] [] h := by
  refine (p_iload rfl rfl).trans ?_
  refine (p_const rfl).trans ?_
  exact (s_icmp (g := (fun x y => decide (y ≤ x))) (t := 118) (nx := 93) rfl).trans bif_dec
theorem r_X2_copy_118 {d : Nat} {l0 l1 l2 : Option Value} {h : AH} : R_X2_copy d 118 [l0, l1, l2] [] h = R_X2_copy d 120 [l0, l1, some (.int ((nI 0)))] [] h := by
  refine (p_const rfl).trans ?_
  refine (p_istore rfl rfl rfl).trans ?_
  exact rfl
theorem r_X2_copy_93 {d : Nat} {a0 : Nat} {l1 l2 : Option Value} {h : AH} : R_X2_copy d 93 [some (.ref a0), l1, l2] [] h = (hgf h [1] a0 8).bind fun v => R_X2_copy d 97 [some (.ref a0), l1, l2] [v] h := by
  refine (p_aload rfl rfl).trans ?_
  exact s_getf rfl
theorem q_X2_copy_120 {d : Nat} {x2 : Int32} {a0 : Nat} {l1 : Option Value} {h : AH} : R_X2_copy d 120 [some (.ref a0), l1, some (.int (x2))] [] h = (hgf h [1] a0 9).bind fun v => R_X2_copy d 125 [some (.ref a0), l1, some (.int (x2))] [v, .int (x2)] h := by
  refine (p_iload rfl rfl).trans ?_
  refine (p_aload rfl rfl).trans ?_
  exact s_getf rfl
theorem r_X2_copy_97 {d : Nat} {b0 : Nat} {x2 : Int32} {l0 l1 : Option Value} {h : AH} : R_X2_copy d 97 [l0, l1, some (.int (x2))] [.ref b0] h = (haqs h [3, 4, 5] b0 x2).bind fun v => R_X2_copy d 99 [l0, l1, some (.int (x2))] [va_rf v] h := by
  refine (p_iload rfl rfl).trans ?_
  exact s_aald rfl
theorem r_X2_copy_125 {d : Nat} {s0 : Int32} {b1 : Nat} {l0 l1 l2 : Option Value} {h : AH} : R_X2_copy d 125 [l0, l1, l2] [.ref b1, .int (s0)] h = ((hci h b1).bind (lkN [(19, 113)])).bind fun y => aK (exec tTab d y [.ref b1] h) (fun v h1 => R_X2_copy d 128 [l0, l1, l2] (v.toList ++ [.int (s0)]) h1) (fun E h1 => some (.inr E, h1)) := s_callV (L := [(19, 113)]) (n := 0) (b := b1) (rest := [.int (s0)]) rfl rfl rfl
theorem r_X2_copy_99 {d : Nat} {b0 a1 : Nat} {l0 l2 : Option Value} {h : AH} : R_X2_copy d 99 [l0, some (.ref a1), l2] [.ref b0] h = (hgf h [1] a1 8).bind fun v => R_X2_copy d 104 [l0, some (.ref a1), l2] [v, .int ((nI 0)), .ref b0] h := by
  refine (p_const rfl).trans ?_
  refine (p_aload rfl rfl).trans ?_
  exact s_getf rfl
theorem r_X2_copy_99N {d : Nat} {a1 : Nat} {l0 l2 : Option Value} {h : AH} : R_X2_copy d 99 [l0, some (.ref a1), l2] [.null] h = (hgf h [1] a1 8).bind fun v => R_X2_copy d 104 [l0, some (.ref a1), l2] [v, .int ((nI 0)), .null] h := by
  refine (p_const rfl).trans ?_
  refine (p_aload rfl rfl).trans ?_
  exact s_getf rfl
theorem r_X2_copy_128 {d : Nat} {s0 s1 : Int32} {l0 l1 l2 : Option Value} {h : AH} : R_X2_copy d 128 [l0, l1, l2] [.int (s1), .int (s0)] h = if s1 ≤ s0 then R_X2_copy d 159 [l0, l1, l2] [] h else R_X2_copy d 131 [l0, l1, l2] [] h := (s_icmp (g := (fun x y => decide (y ≤ x))) (t := 159) (nx := 131) rfl).trans bif_dec
theorem r_X2_copy_104 {d : Nat} {b0 b2 : Nat} {s1 x2 : Int32} {l0 l1 : Option Value} {h : AH} : R_X2_copy d 104 [l0, l1, some (.int (x2))] [.ref b2, .int (s1), .ref b0] h = (haqs h [3, 4, 5] b2 x2).bind fun v => R_X2_copy d 106 [l0, l1, some (.int (x2))] [va_rf v, .int (s1), .ref b0] h := by
  refine (p_iload rfl rfl).trans ?_
  exact s_aald rfl
theorem r_X2_copy_159 {d : Nat} {a1 : Nat} {l0 l2 : Option Value} {h : AH} : R_X2_copy d 159 [l0, some (.ref a1), l2] [] h = (hgf h [1] a1 10).bind fun v => R_X2_copy d 163 [l0, some (.ref a1), l2] [v] h := by
  refine (p_aload rfl rfl).trans ?_
  exact s_getf rfl
theorem r_X2_copy_131 {d : Nat} {a1 : Nat} {l0 l2 : Option Value} {h : AH} : R_X2_copy d 131 [l0, some (.ref a1), l2] [] h = (hgf h [1] a1 9).bind fun v => R_X2_copy d 135 [l0, some (.ref a1), l2] [v] h := by
  refine (p_aload rfl rfl).trans ?_
  exact s_getf rfl
theorem r_X2_copy_106 {d : Nat} {b0 b2 : Nat} {s1 : Int32} {l0 l1 l2 : Option Value} {h : AH} : R_X2_copy d 106 [l0, l1, l2] [.ref b2, .int (s1), .ref b0] h = (hcpy h anyC anyT b0 b2 s1 (nI 0) (nI 12)).bind fun h1 => R_X2_copy d 112 [l0, l1, l2] [] h1 := by
  refine (p_const rfl).trans ?_
  refine (p_const rfl).trans ?_
  exact s_copy rfl rfl
theorem r_X2_copy_163 {d : Nat} {b0 a0 : Nat} {l1 l2 : Option Value} {h : AH} : R_X2_copy d 163 [some (.ref a0), l1, l2] [.ref b0] h = (hgf h [1] a0 10).bind fun v => R_X2_copy d 167 [some (.ref a0), l1, l2] [v, .ref b0] h := by
  refine (p_aload rfl rfl).trans ?_
  exact s_getf rfl
theorem r_X2_copy_163N {d : Nat} {a0 : Nat} {l1 l2 : Option Value} {h : AH} : R_X2_copy d 163 [some (.ref a0), l1, l2] [.null] h = (hgf h [1] a0 10).bind fun v => R_X2_copy d 167 [some (.ref a0), l1, l2] [v, .null] h := by
  refine (p_aload rfl rfl).trans ?_
  exact s_getf rfl
theorem r_X2_copy_135 {d : Nat} {b0 a0 : Nat} {l1 l2 : Option Value} {h : AH} : R_X2_copy d 135 [some (.ref a0), l1, l2] [.ref b0] h = (hgf h [1] a0 9).bind fun v => R_X2_copy d 139 [some (.ref a0), l1, l2] [v, .ref b0] h := by
  refine (p_aload rfl rfl).trans ?_
  exact s_getf rfl
theorem r_X2_copy_135N {d : Nat} {a0 : Nat} {l1 l2 : Option Value} {h : AH} : R_X2_copy d 135 [some (.ref a0), l1, l2] [.null] h = (hgf h [1] a0 9).bind fun v => R_X2_copy d 139 [some (.ref a0), l1, l2] [v, .null] h := by
  refine (p_aload rfl rfl).trans ?_
  exact s_getf rfl
theorem r_X2_copy_112 {d : Nat} {x2 : Int32} {l0 l1 : Option Value} {h : AH} : R_X2_copy d 112 [l0, l1, some (.int (x2))] [] h = R_X2_copy d 87 [l0, l1, some (.int (x2 + (nI 1)))] [] h := by
  refine (p_iinc rfl rfl rfl).trans ?_
  refine (p_goto rfl).trans ?_
  exact rfl
theorem r_X2_copy_167 {d : Nat} {b0 b1 : Nat} {l0 l1 l2 : Option Value} {h : AH} : R_X2_copy d 167 [l0, l1, l2] [.ref b1, .ref b0] h = ((hci h b0).bind (lkN [(19, 120)])).bind fun y => aK (exec tTab d y [.ref b0, .ref b1] h) (fun v h1 => R_X2_copy d 170 [l0, l1, l2] (v.toList ++ []) h1) (fun E h1 => some (.inr E, h1)) := s_callV (L := [(19, 120)]) (n := 1) (b := b0) (rest := []) rfl rfl rfl
theorem r_X2_copy_167N {d : Nat} {b0 : Nat} {l0 l1 l2 : Option Value} {h : AH} : R_X2_copy d 167 [l0, l1, l2] [.null, .ref b0] h = ((hci h b0).bind (lkN [(19, 120)])).bind fun y => aK (exec tTab d y [.ref b0, .null] h) (fun v h1 => R_X2_copy d 170 [l0, l1, l2] (v.toList ++ []) h1) (fun E h1 => some (.inr E, h1)) := s_callV (L := [(19, 120)]) (n := 1) (b := b0) (rest := []) rfl rfl rfl
theorem r_X2_copy_139 {d : Nat} {b0 b1 : Nat} {x2 : Int32} {l0 l1 : Option Value} {h : AH} : R_X2_copy d 139 [l0, l1, some (.int (x2))] [.ref b1, .ref b0] h = ((hci h b1).bind (lkN [(19, 114)])).bind fun y => aK (exec tTab d y [.ref b1, .int (x2)] h) (fun v h1 => R_X2_copy d 143 [l0, l1, some (.int (x2))] (v.toList ++ [.ref b0]) h1) (fun E h1 => some (.inr E, h1)) := by
  refine (p_iload rfl rfl).trans ?_
  exact s_callV (L := [(19, 114)]) (n := 1) (b := b1) (rest := [.ref b0]) rfl rfl rfl
theorem r_X2_copy_170 {d : Nat} {s0 : Int32} {a1 : Nat} {l0 l2 : Option Value} {h : AH} : R_X2_copy d 170 [l0, some (.ref a1), l2] [.int (s0)] h = (hgf h [1] a1 11).bind fun v => R_X2_copy d 175 [l0, some (.ref a1), l2] [v] h := by
  refine (p_pop rfl rfl).trans ?_
  refine (p_aload rfl rfl).trans ?_
  exact s_getf rfl
theorem r_X2_copy_143 {d : Nat} {b0 b1 : Nat} {l0 l1 l2 : Option Value} {h : AH} : R_X2_copy d 143 [l0, l1, l2] [.ref b1, .ref b0] h = bif hck h [5, 6] [] b1 then R_X2_copy d 146 [l0, l1, l2] [.ref b1, .ref b0] h else none := s_cast rfl
theorem r_X2_copy_175 {d : Nat} {b0 a0 : Nat} {l1 l2 : Option Value} {h : AH} : R_X2_copy d 175 [some (.ref a0), l1, l2] [.ref b0] h = (hgf h [1] a0 11).bind fun v => R_X2_copy d 179 [some (.ref a0), l1, l2] [v, .ref b0] h := by
  refine (p_aload rfl rfl).trans ?_
  exact s_getf rfl
theorem r_X2_copy_175N {d : Nat} {a0 : Nat} {l1 l2 : Option Value} {h : AH} : R_X2_copy d 175 [some (.ref a0), l1, l2] [.null] h = (hgf h [1] a0 11).bind fun v => R_X2_copy d 179 [some (.ref a0), l1, l2] [v, .null] h := by
  refine (p_aload rfl rfl).trans ?_
  exact s_getf rfl
theorem r_X2_copy_146 {d : Nat} {b0 b1 : Nat} {l0 l1 l2 : Option Value} {h : AH} : R_X2_copy d 146 [l0, l1, l2] [.ref b1, .ref b0] h = ((hci h b1).bind (lkN [(5, 247), (6, 250)])).bind fun y => aK (exec tTab d y [.ref b1] h) (fun v h1 => R_X2_copy d 149 [l0, l1, l2] (v.toList ++ [.ref b0]) h1) (fun E h1 => some (.inr E, h1)) := s_callV (L := [(5, 247), (6, 250)]) (n := 0) (b := b1) (rest := [.ref b0]) rfl rfl rfl
theorem r_X2_copy_179 {d : Nat} {b0 b1 : Nat} {l0 l1 l2 : Option Value} {h : AH} : R_X2_copy d 179 [l0, l1, l2] [.ref b1, .ref b0] h = ((hci h b0).bind (lkN [(19, 120)])).bind fun y => aK (exec tTab d y [.ref b0, .ref b1] h) (fun v h1 => R_X2_copy d 182 [l0, l1, l2] (v.toList ++ []) h1) (fun E h1 => some (.inr E, h1)) := s_callV (L := [(19, 120)]) (n := 1) (b := b0) (rest := []) rfl rfl rfl
theorem r_X2_copy_179N {d : Nat} {b0 : Nat} {l0 l1 l2 : Option Value} {h : AH} : R_X2_copy d 179 [l0, l1, l2] [.null, .ref b0] h = ((hci h b0).bind (lkN [(19, 120)])).bind fun y => aK (exec tTab d y [.ref b0, .null] h) (fun v h1 => R_X2_copy d 182 [l0, l1, l2] (v.toList ++ []) h1) (fun E h1 => some (.inr E, h1)) := s_callV (L := [(19, 120)]) (n := 1) (b := b0) (rest := []) rfl rfl rfl
theorem r_X2_copy_149 {d : Nat} {b0 b1 : Nat} {l0 l1 l2 : Option Value} {h : AH} : R_X2_copy d 149 [l0, l1, l2] [.ref b1, .ref b0] h = ((hci h b0).bind (lkN [(19, 116)])).bind fun y => aK (exec tTab d y [.ref b0, .ref b1] h) (fun v h1 => R_X2_copy d 152 [l0, l1, l2] (v.toList ++ []) h1) (fun E h1 => some (.inr E, h1)) := s_callV (L := [(19, 116)]) (n := 1) (b := b0) (rest := []) rfl rfl rfl
theorem r_X2_copy_149N {d : Nat} {b0 : Nat} {l0 l1 l2 : Option Value} {h : AH} : R_X2_copy d 149 [l0, l1, l2] [.null, .ref b0] h = ((hci h b0).bind (lkN [(19, 116)])).bind fun y => aK (exec tTab d y [.ref b0, .null] h) (fun v h1 => R_X2_copy d 152 [l0, l1, l2] (v.toList ++ []) h1) (fun E h1 => some (.inr E, h1)) := s_callV (L := [(19, 116)]) (n := 1) (b := b0) (rest := []) rfl rfl rfl
theorem r_X2_copy_182 {d : Nat} {s0 : Int32} {a1 : Nat} {l0 l2 : Option Value} {h : AH} : R_X2_copy d 182 [l0, some (.ref a1), l2] [.int (s0)] h = (hgf h [1] a1 12).bind fun v => R_X2_copy d 187 [l0, some (.ref a1), l2] [v] h := by
  refine (p_pop rfl rfl).trans ?_
  refine (p_aload rfl rfl).trans ?_
  exact s_getf rfl
theorem r_X2_copy_152 {d : Nat} {s0 x2 : Int32} {l0 l1 : Option Value} {h : AH} : R_X2_copy d 152 [l0, l1, some (.int (x2))] [.int (s0)] h = R_X2_copy d 120 [l0, l1, some (.int (x2 + (nI 1)))] [] h := by
  refine (p_pop rfl rfl).trans ?_
  refine (p_iinc rfl rfl rfl).trans ?_
  refine (p_goto rfl).trans ?_
  exact rfl
theorem r_X2_copy_187 {d : Nat} {b0 a0 : Nat} {l1 l2 : Option Value} {h : AH} : R_X2_copy d 187 [some (.ref a0), l1, l2] [.ref b0] h = (hgf h [1] a0 12).bind fun v => R_X2_copy d 191 [some (.ref a0), l1, l2] [v, .ref b0] h := by
  refine (p_aload rfl rfl).trans ?_
  exact s_getf rfl
theorem r_X2_copy_187N {d : Nat} {a0 : Nat} {l1 l2 : Option Value} {h : AH} : R_X2_copy d 187 [some (.ref a0), l1, l2] [.null] h = (hgf h [1] a0 12).bind fun v => R_X2_copy d 191 [some (.ref a0), l1, l2] [v, .null] h := by
  refine (p_aload rfl rfl).trans ?_
  exact s_getf rfl
theorem r_X2_copy_191 {d : Nat} {b0 b1 : Nat} {l0 l1 l2 : Option Value} {h : AH} : R_X2_copy d 191 [l0, l1, l2] [.ref b1, .ref b0] h = ((hci h b0).bind (lkN [(19, 120)])).bind fun y => aK (exec tTab d y [.ref b0, .ref b1] h) (fun v h1 => R_X2_copy d 194 [l0, l1, l2] (v.toList ++ []) h1) (fun E h1 => some (.inr E, h1)) := s_callV (L := [(19, 120)]) (n := 1) (b := b0) (rest := []) rfl rfl rfl
theorem r_X2_copy_191N {d : Nat} {b0 : Nat} {l0 l1 l2 : Option Value} {h : AH} : R_X2_copy d 191 [l0, l1, l2] [.null, .ref b0] h = ((hci h b0).bind (lkN [(19, 120)])).bind fun y => aK (exec tTab d y [.ref b0, .null] h) (fun v h1 => R_X2_copy d 194 [l0, l1, l2] (v.toList ++ []) h1) (fun E h1 => some (.inr E, h1)) := s_callV (L := [(19, 120)]) (n := 1) (b := b0) (rest := []) rfl rfl rfl
theorem r_X2_copy_194 {d : Nat} {s0 : Int32} {a1 : Nat} {l0 l2 : Option Value} {h : AH} : R_X2_copy d 194 [l0, some (.ref a1), l2] [.int (s0)] h = some (.inl (some (.ref a1)), h) := by
  refine (p_pop rfl rfl).trans ?_
  refine (p_aload rfl rfl).trans ?_
  exact s_aret rfl
theorem e_X2_copy {d : Nat} {a0 : Nat} {h : AH} : exec tTab (d + 1) K_X2_copy [.ref a0] h = R_X2_copy d 0 [some (.ref a0), none, none] [] h := exec_eq (cd := k_X2_copy) (hd := (fun _ _ => some none)) (L := 3) rfl rfl rfl
/-- FavourTown$World.alive()I -/
abbrev K_X2_alive : Nat := 102
noncomputable def R_X2_alive (d pc : Nat) (ls : ALs) (st : List Value) (h : AH) : Option (AOut × AH) := aR (exec tTab d) k_X2_alive (fun _ _ => some none) (pc, ls, st, h)
theorem r_X2_alive_0 {d : Nat} {l0 l1 l2 : Option Value} {h : AH} : R_X2_alive d 0 [l0, l1, l2] [] h = R_X2_alive d 4 [l0, some (.int ((nI 0))), some (.int ((nI 0)))] [] h := by
  refine (p_const rfl).trans ?_
  refine (p_istore rfl rfl rfl).trans ?_
  refine (p_const rfl).trans ?_
  refine (p_istore rfl rfl rfl).trans ?_
  exact rfl
theorem q_X2_alive_4 {d : Nat} {x2 : Int32} {a0 : Nat} {l1 : Option Value} {h : AH} : R_X2_alive d 4 [some (.ref a0), l1, some (.int (x2))] [] h = (hgf h [1] a0 9).bind fun v => R_X2_alive d 9 [some (.ref a0), l1, some (.int (x2))] [v, .int (x2)] h := by
  refine (p_iload rfl rfl).trans ?_
  refine (p_aload rfl rfl).trans ?_
  exact s_getf rfl
theorem r_X2_alive_9 {d : Nat} {s0 : Int32} {b1 : Nat} {l0 l1 l2 : Option Value} {h : AH} : R_X2_alive d 9 [l0, l1, l2] [.ref b1, .int (s0)] h = ((hci h b1).bind (lkN [(19, 113)])).bind fun y => aK (exec tTab d y [.ref b1] h) (fun v h1 => R_X2_alive d 12 [l0, l1, l2] (v.toList ++ [.int (s0)]) h1) (fun E h1 => some (.inr E, h1)) := s_callV (L := [(19, 113)]) (n := 0) (b := b1) (rest := [.int (s0)]) rfl rfl rfl
theorem r_X2_alive_12 {d : Nat} {s0 s1 : Int32} {l0 l1 l2 : Option Value} {h : AH} : R_X2_alive d 12 [l0, l1, l2] [.int (s1), .int (s0)] h = if s1 ≤ s0 then R_X2_alive d 47 [l0, l1, l2] [] h else R_X2_alive d 15 [l0, l1, l2] [] h := (s_icmp (g := (fun x y => decide (y ≤ x))) (t := 47) (nx := 15) rfl).trans bif_dec
theorem r_X2_alive_47 {d : Nat} {x1 : Int32} {l0 l2 : Option Value} {h : AH} : R_X2_alive d 47 [l0, some (.int (x1)), l2] [] h = some (.inl (some (.int (x1))), h) := by
  refine (p_iload rfl rfl).trans ?_
  exact s_iretT rfl rfl
theorem r_X2_alive_15 {d : Nat} {x1 : Int32} {a0 : Nat} {l2 : Option Value} {h : AH} : R_X2_alive d 15 [some (.ref a0), some (.int (x1)), l2] [] h = (hgf h [1] a0 9).bind fun v => R_X2_alive d 20 [some (.ref a0), some (.int (x1)), l2] [v, .int (x1)] h := by
  refine (p_iload rfl rfl).trans ?_
  refine (p_aload rfl rfl).trans ?_
  exact s_getf rfl
theorem r_X2_alive_20 {d : Nat} {s0 x2 : Int32} {b1 : Nat} {l0 l1 : Option Value} {h : AH} : R_X2_alive d 20 [l0, l1, some (.int (x2))] [.ref b1, .int (s0)] h = ((hci h b1).bind (lkN [(19, 114)])).bind fun y => aK (exec tTab d y [.ref b1, .int (x2)] h) (fun v h1 => R_X2_alive d 24 [l0, l1, some (.int (x2))] (v.toList ++ [.int (s0)]) h1) (fun E h1 => some (.inr E, h1)) := by
  refine (p_iload rfl rfl).trans ?_
  exact s_callV (L := [(19, 114)]) (n := 1) (b := b1) (rest := [.int (s0)]) rfl rfl rfl
theorem r_X2_alive_24 {d : Nat} {s0 : Int32} {b1 : Nat} {l0 l1 l2 : Option Value} {h : AH} : R_X2_alive d 24 [l0, l1, l2] [.ref b1, .int (s0)] h = bif hck h [5, 6] [] b1 then R_X2_alive d 27 [l0, l1, l2] [.ref b1, .int (s0)] h else none := s_cast rfl
theorem r_X2_alive_27 {d : Nat} {s0 : Int32} {b1 : Nat} {l0 l1 l2 : Option Value} {h : AH} : R_X2_alive d 27 [l0, l1, l2] [.ref b1, .int (s0)] h = (hgf h [5, 6] b1 4).bind fun v => R_X2_alive d 30 [l0, l1, l2] [v, .int (s0)] h := s_getf rfl
theorem r_X2_alive_30 {d : Nat} {s0 s1 : Int32} {l0 l1 l2 : Option Value} {h : AH} : R_X2_alive d 30 [l0, l1, l2] [.int (s1), .int (s0)] h = if ¬ s1 = (-1) then R_X2_alive d 38 [l0, l1, l2] [.int (s0)] h else R_X2_alive d 34 [l0, l1, l2] [.int (s0)] h := by
  refine (p_const rfl).trans ?_
  exact (s_icmp (g := (fun x y => decide (¬ x = y))) (t := 38) (nx := 34) rfl).trans bif_dec
theorem r_X2_alive_38 {d : Nat} {s0 x2 : Int32} {l0 l1 : Option Value} {h : AH} : R_X2_alive d 38 [l0, l1, some (.int (x2))] [.int (s0)] h = R_X2_alive d 4 [l0, some (.int (s0 + (nI 1))), some (.int (x2 + (nI 1)))] [] h := by
  refine (p_const rfl).trans ?_
  refine (p_bin rfl).trans ?_
  refine (p_istore rfl rfl rfl).trans ?_
  refine (p_iinc rfl rfl rfl).trans ?_
  refine (p_goto rfl).trans ?_
  exact rfl
theorem r_X2_alive_34 {d : Nat} {s0 x2 : Int32} {l0 l1 : Option Value} {h : AH} : R_X2_alive d 34 [l0, l1, some (.int (x2))] [.int (s0)] h = R_X2_alive d 4 [l0, some (.int (s0 + (nI 0))), some (.int (x2 + (nI 1)))] [] h := by
  refine (p_const rfl).trans ?_
  refine (p_goto rfl).trans ?_
  refine (p_bin rfl).trans ?_
  refine (p_istore rfl rfl rfl).trans ?_
  refine (p_iinc rfl rfl rfl).trans ?_
  refine (p_goto rfl).trans ?_
  exact rfl
theorem e_X2_alive {d : Nat} {a0 : Nat} {h : AH} : exec tTab (d + 1) K_X2_alive [.ref a0] h = R_X2_alive d 0 [some (.ref a0), none, none] [] h := exec_eq (cd := k_X2_alive) (hd := (fun _ _ => some none)) (L := 3) rfl rfl rfl
/-- FavourTown$World.pairs()I -/
abbrev K_X2_pairs : Nat := 103
noncomputable def R_X2_pairs (d pc : Nat) (ls : ALs) (st : List Value) (h : AH) : Option (AOut × AH) := aR (exec tTab d) k_X2_pairs (fun _ _ => some none) (pc, ls, st, h)
theorem r_X2_pairs_0 {d : Nat} {a0 : Nat} {l1 l2 l3 l4 l5 : Option Value} {h : AH} : R_X2_pairs d 0 [some (.ref a0), l1, l2, l3, l4, l5] [] h = (hgf h [1] a0 6).bind fun v => R_X2_pairs d 6 [some (.ref a0), some (.int ((nI 0))), l2, l3, l4, l5] [v] h := by
  refine (p_const rfl).trans ?_
  refine (p_istore rfl rfl rfl).trans ?_
  refine (p_aload rfl rfl).trans ?_
  exact s_getf rfl
theorem r_X2_pairs_6 {d : Nat} {b0 : Nat} {l0 l1 l2 l3 l4 l5 : Option Value} {h : AH} : R_X2_pairs d 6 [l0, l1, l2, l3, l4, l5] [.ref b0] h = (hal h b0).bind fun v => R_X2_pairs d 9 [l0, l1, some (.ref b0), l3, l4, l5] [.int (nI v)] h := by
  refine (p_astore rfl rfl rfl).trans ?_
  refine (p_aload rfl rfl).trans ?_
  exact s_alen rfl
theorem r_X2_pairs_9 {d : Nat} {s0 : Int32} {l0 l1 l2 l3 l4 l5 : Option Value} {h : AH} : R_X2_pairs d 9 [l0, l1, l2, l3, l4, l5] [.int (s0)] h = R_X2_pairs d 13 [l0, l1, l2, some (.int (s0)), some (.int ((nI 0))), l5] [] h := by
  refine (p_istore rfl rfl rfl).trans ?_
  refine (p_const rfl).trans ?_
  refine (p_istore rfl rfl rfl).trans ?_
  exact rfl
theorem q_X2_pairs_13 {d : Nat} {x4 x3 : Int32} {l0 l1 l2 l5 : Option Value} {h : AH} : R_X2_pairs d 13 [l0, l1, l2, some (.int (x3)), some (.int (x4)), l5] [] h = if x3 ≤ x4 then R_X2_pairs d 39 [l0, l1, l2, some (.int (x3)), some (.int (x4)), l5] [] h else R_X2_pairs d 19 [l0, l1, l2, some (.int (x3)), some (.int (x4)), l5] [] h := by
  refine (p_iload rfl rfl).trans ?_
  refine (p_iload rfl rfl).trans ?_
  exact (s_icmp (g := (fun x y => decide (y ≤ x))) (t := 39) (nx := 19) rfl).trans bif_dec
theorem r_X2_pairs_39 {d : Nat} {x1 : Int32} {l0 l2 l3 l4 l5 : Option Value} {h : AH} : R_X2_pairs d 39 [l0, some (.int (x1)), l2, l3, l4, l5] [] h = some (.inl (some (.int (x1 / (nI 2)))), h) := by
  refine (p_iload rfl rfl).trans ?_
  refine (p_const rfl).trans ?_
  refine (p_divC rfl (by decide)).trans ?_
  exact s_iretT rfl rfl
theorem r_X2_pairs_19 {d : Nat} {a2 : Nat} {x4 : Int32} {l0 l1 l3 l5 : Option Value} {h : AH} : R_X2_pairs d 19 [l0, l1, some (.ref a2), l3, some (.int (x4)), l5] [] h = (hai h 0 a2 x4).bind fun v => R_X2_pairs d 23 [l0, l1, some (.ref a2), l3, some (.int (x4)), l5] [.int v] h := by
  refine (p_aload rfl rfl).trans ?_
  refine (p_iload rfl rfl).trans ?_
  exact s_iald rfl
theorem r_X2_pairs_23 {d : Nat} {s0 x1 : Int32} {l0 l2 l3 l4 l5 : Option Value} {h : AH} : R_X2_pairs d 23 [l0, some (.int (x1)), l2, l3, l4, l5] [.int (s0)] h = aK (exec tTab d 302 [.int (s0)] h) (fun v h1 => R_X2_pairs d 31 [l0, some (.int (x1)), l2, l3, l4, some (.int (s0))] (v.toList ++ [.int (x1)]) h1) (fun E h1 => some (.inr E, h1)) := by
  refine (p_istore rfl rfl rfl).trans ?_
  refine (p_iload rfl rfl).trans ?_
  refine (p_iload rfl rfl).trans ?_
  exact s_callS (y := 302) (n := 1) rfl rfl
theorem r_X2_pairs_31 {d : Nat} {s0 s1 x4 : Int32} {l0 l1 l2 l3 l5 : Option Value} {h : AH} : R_X2_pairs d 31 [l0, l1, l2, l3, some (.int (x4)), l5] [.int (s1), .int (s0)] h = R_X2_pairs d 13 [l0, some (.int (s0 + s1)), l2, l3, some (.int (x4 + (nI 1))), l5] [] h := by
  refine (p_bin rfl).trans ?_
  refine (p_istore rfl rfl rfl).trans ?_
  refine (p_iinc rfl rfl rfl).trans ?_
  refine (p_goto rfl).trans ?_
  exact rfl
theorem e_X2_pairs {d : Nat} {a0 : Nat} {h : AH} : exec tTab (d + 1) K_X2_pairs [.ref a0] h = R_X2_pairs d 0 [some (.ref a0), none, none, none, none, none] [] h := exec_eq (cd := k_X2_pairs) (hd := (fun _ _ => some none)) (L := 6) rfl rfl rfl
/-- FavourTown$World.gives(IIIIZ)I -/
abbrev K_X2_gives : Nat := 104
noncomputable def R_X2_gives (d pc : Nat) (ls : ALs) (st : List Value) (h : AH) : Option (AOut × AH) := aR (exec tTab d) k_X2_gives (fun _ _ => some none) (pc, ls, st, h)
theorem r_X2_gives_0 {d : Nat} {x4 : Int32} {l0 l1 l2 l3 l5 l6 : Option Value} {h : AH} : R_X2_gives d 0 [l0, l1, l2, l3, some (.int (x4)), l5, l6] [] h = if ¬ x4 = 0 then R_X2_gives d 9 [l0, l1, l2, l3, some (.int (x4)), l5, l6] [] h else R_X2_gives d 5 [l0, l1, l2, l3, some (.int (x4)), l5, l6] [] h := by
  refine (p_iload rfl rfl).trans ?_
  exact (s_if (g := (fun x => decide (¬ x = 0))) (t := 9) (nx := 5) rfl).trans bif_dec
theorem r_X2_gives_9 {d : Nat} {a0 : Nat} {l1 l2 l3 l4 l5 l6 : Option Value} {h : AH} : R_X2_gives d 9 [some (.ref a0), l1, l2, l3, l4, l5, l6] [] h = (hgf h [1] a0 1).bind fun v => R_X2_gives d 13 [some (.ref a0), l1, l2, l3, l4, l5, l6] [v] h := by
  refine (p_aload rfl rfl).trans ?_
  exact s_getf rfl
theorem r_X2_gives_5 {d : Nat} {a0 : Nat} {x1 x2 x3 x5 : Int32} {l4 l6 : Option Value} {h : AH} : R_X2_gives d 5 [some (.ref a0), some (.int (x1)), some (.int (x2)), some (.int (x3)), l4, some (.int (x5)), l6] [] h = ((hci h a0).bind (lkN [(1, 100)])).bind fun y => aK (exec tTab d y [.ref a0, .int (x1), .int (x2), .int (x3), .int ((-1)), .int (x5)] h) (fun v h1 => R_X2_gives d 29 [some (.ref a0), some (.int (x1)), some (.int (x2)), some (.int (x3)), l4, some (.int (x5)), some (.int ((-1)))] (v.toList ++ []) h1) (fun E h1 => some (.inr E, h1)) := by
  refine (p_const rfl).trans ?_
  refine (p_goto rfl).trans ?_
  refine (p_istore rfl rfl rfl).trans ?_
  refine (p_aload rfl rfl).trans ?_
  refine (p_iload rfl rfl).trans ?_
  refine (p_iload rfl rfl).trans ?_
  refine (p_iload rfl rfl).trans ?_
  refine (p_iload rfl rfl).trans ?_
  refine (p_iload rfl rfl).trans ?_
  exact s_callV (L := [(1, 100)]) (n := 5) (b := a0) (rest := []) rfl rfl rfl
theorem r_X2_gives_13 {d : Nat} {s0 x4 x1 x2 x3 x5 : Int32} {a0 : Nat} {l6 : Option Value} {h : AH} : R_X2_gives d 13 [some (.ref a0), some (.int (x1)), some (.int (x2)), some (.int (x3)), some (.int (x4)), some (.int (x5)), l6] [.int (s0)] h = ((hci h a0).bind (lkN [(1, 100)])).bind fun y => aK (exec tTab d y [.ref a0, .int (x1), .int (x2), .int (x3), .int (s0 + x4), .int (x5)] h) (fun v h1 => R_X2_gives d 29 [some (.ref a0), some (.int (x1)), some (.int (x2)), some (.int (x3)), some (.int (x4)), some (.int (x5)), some (.int (s0 + x4))] (v.toList ++ []) h1) (fun E h1 => some (.inr E, h1)) := by
  refine (p_iload rfl rfl).trans ?_
  refine (p_bin rfl).trans ?_
  refine (p_istore rfl rfl rfl).trans ?_
  refine (p_aload rfl rfl).trans ?_
  refine (p_iload rfl rfl).trans ?_
  refine (p_iload rfl rfl).trans ?_
  refine (p_iload rfl rfl).trans ?_
  refine (p_iload rfl rfl).trans ?_
  refine (p_iload rfl rfl).trans ?_
  exact s_callV (L := [(1, 100)]) (n := 5) (b := a0) (rest := []) rfl rfl rfl
theorem r_X2_gives_29 {d : Nat} {s0 : Int32} {l0 l1 l2 l3 l4 l5 l6 : Option Value} {h : AH} : R_X2_gives d 29 [l0, l1, l2, l3, l4, l5, l6] [.int (s0)] h = if ¬ s0 = 0 then R_X2_gives d 34 [l0, l1, l2, l3, l4, l5, l6] [] h else R_X2_gives d 32 [l0, l1, l2, l3, l4, l5, l6] [] h := (s_if (g := (fun x => decide (¬ x = 0))) (t := 34) (nx := 32) rfl).trans bif_dec
theorem r_X2_gives_34 {d : Nat} {a0 : Nat} {l1 l2 l3 l4 l5 l6 : Option Value} {h : AH} : R_X2_gives d 34 [some (.ref a0), l1, l2, l3, l4, l5, l6] [] h = (hgf h [1] a0 9).bind fun v => R_X2_gives d 38 [some (.ref a0), l1, l2, l3, l4, l5, l6] [v] h := by
  refine (p_aload rfl rfl).trans ?_
  exact s_getf rfl
theorem r_X2_gives_32 {d : Nat} {l0 l1 l2 l3 l4 l5 l6 : Option Value} {h : AH} : R_X2_gives d 32 [l0, l1, l2, l3, l4, l5, l6] [] h = some (.inl (some (.int ((-1)))), h) := by
  refine (p_const rfl).trans ?_
  exact s_iretT rfl rfl
theorem r_X2_gives_38 {d : Nat} {b0 : Nat} {x4 : Int32} {l0 l1 l2 l3 l5 l6 : Option Value} {h : AH} : R_X2_gives d 38 [l0, l1, l2, l3, some (.int (x4)), l5, l6] [.ref b0] h = if ¬ x4 = 0 then R_X2_gives d 58 [l0, l1, l2, l3, some (.int (x4)), l5, l6] [.ref b0] h else R_X2_gives d 43 [l0, l1, l2, l3, some (.int (x4)), l5, l6] [.ref b0] h := by
  refine (p_iload rfl rfl).trans ?_
  exact (s_if (g := (fun x => decide (¬ x = 0))) (t := 58) (nx := 43) rfl).trans bif_dec
theorem r_X2_gives_38N {d : Nat} {x4 : Int32} {l0 l1 l2 l3 l5 l6 : Option Value} {h : AH} : R_X2_gives d 38 [l0, l1, l2, l3, some (.int (x4)), l5, l6] [.null] h = if ¬ x4 = 0 then R_X2_gives d 58 [l0, l1, l2, l3, some (.int (x4)), l5, l6] [.null] h else R_X2_gives d 43 [l0, l1, l2, l3, some (.int (x4)), l5, l6] [.null] h := by
  refine (p_iload rfl rfl).trans ?_
  exact (s_if (g := (fun x => decide (¬ x = 0))) (t := 58) (nx := 43) rfl).trans bif_dec
theorem r_X2_gives_58 {d : Nat} {b0 : Nat} {l0 l1 l2 l3 l4 l5 l6 : Option Value} {h : AH} : R_X2_gives d 58 [l0, l1, l2, l3, l4, l5, l6] [.ref b0] h = R_X2_gives d 61 [l0, l1, l2, l3, l4, l5, l6] [.ref h.2.1, .ref b0] (hnew h (true, .inr (6, [.int 0, .int 0, .int 0, .null, .int 0, .int 0, .int 0])) 7) := p_new rfl
theorem r_X2_gives_58N {d : Nat} {l0 l1 l2 l3 l4 l5 l6 : Option Value} {h : AH} : R_X2_gives d 58 [l0, l1, l2, l3, l4, l5, l6] [.null] h = R_X2_gives d 61 [l0, l1, l2, l3, l4, l5, l6] [.ref h.2.1, .null] (hnew h (true, .inr (6, [.int 0, .int 0, .int 0, .null, .int 0, .int 0, .int 0])) 7) := p_new rfl
theorem r_X2_gives_43 {d : Nat} {b0 : Nat} {l0 l1 l2 l3 l4 l5 l6 : Option Value} {h : AH} : R_X2_gives d 43 [l0, l1, l2, l3, l4, l5, l6] [.ref b0] h = R_X2_gives d 46 [l0, l1, l2, l3, l4, l5, l6] [.ref h.2.1, .ref b0] (hnew h (true, .inr (5, [.int 0, .int 0, .int 0, .null, .int 0, .int 0])) 6) := p_new rfl
theorem r_X2_gives_43N {d : Nat} {l0 l1 l2 l3 l4 l5 l6 : Option Value} {h : AH} : R_X2_gives d 43 [l0, l1, l2, l3, l4, l5, l6] [.null] h = R_X2_gives d 46 [l0, l1, l2, l3, l4, l5, l6] [.ref h.2.1, .null] (hnew h (true, .inr (5, [.int 0, .int 0, .int 0, .null, .int 0, .int 0])) 6) := p_new rfl
theorem r_X2_gives_61 {d : Nat} {b0 b1 : Nat} {x1 x2 x3 x5 x6 : Int32} {l0 l4 : Option Value} {h : AH} : R_X2_gives d 61 [l0, some (.int (x1)), some (.int (x2)), some (.int (x3)), l4, some (.int (x5)), some (.int (x6))] [.ref b1, .ref b0] h = aK (exec tTab d 251 [.ref b1, .int (x1), .int (x2), .int (x3), .int (x5), .int (x6)] h) (fun v h1 => R_X2_gives d 72 [l0, some (.int (x1)), some (.int (x2)), some (.int (x3)), l4, some (.int (x5)), some (.int (x6))] (v.toList ++ [.ref b1, .ref b0]) h1) (fun E h1 => some (.inr E, h1)) := by
  refine (p_dup rfl rfl).trans ?_
  refine (p_iload rfl rfl).trans ?_
  refine (p_iload rfl rfl).trans ?_
  refine (p_iload rfl rfl).trans ?_
  refine (p_iload rfl rfl).trans ?_
  refine (p_iload rfl rfl).trans ?_
  exact s_callI (y := 251) (n := 5) (b := b1) (rest := [.ref b1, .ref b0]) rfl rfl rfl
theorem r_X2_gives_46 {d : Nat} {b0 b1 : Nat} {x1 x2 x3 x5 : Int32} {l0 l4 l6 : Option Value} {h : AH} : R_X2_gives d 46 [l0, some (.int (x1)), some (.int (x2)), some (.int (x3)), l4, some (.int (x5)), l6] [.ref b1, .ref b0] h = aK (exec tTab d 245 [.ref b1, .int (x1), .int (x2), .int (x3), .int (x5)] h) (fun v h1 => R_X2_gives d 55 [l0, some (.int (x1)), some (.int (x2)), some (.int (x3)), l4, some (.int (x5)), l6] (v.toList ++ [.ref b1, .ref b0]) h1) (fun E h1 => some (.inr E, h1)) := by
  refine (p_dup rfl rfl).trans ?_
  refine (p_iload rfl rfl).trans ?_
  refine (p_iload rfl rfl).trans ?_
  refine (p_iload rfl rfl).trans ?_
  refine (p_iload rfl rfl).trans ?_
  exact s_callI (y := 245) (n := 4) (b := b1) (rest := [.ref b1, .ref b0]) rfl rfl rfl
theorem r_X2_gives_72 {d : Nat} {b0 b1 : Nat} {l0 l1 l2 l3 l4 l5 l6 : Option Value} {h : AH} : R_X2_gives d 72 [l0, l1, l2, l3, l4, l5, l6] [.ref b1, .ref b0] h = ((hci h b0).bind (lkN [(19, 116)])).bind fun y => aK (exec tTab d y [.ref b0, .ref b1] h) (fun v h1 => R_X2_gives d 75 [l0, l1, l2, l3, l4, l5, l6] (v.toList ++ []) h1) (fun E h1 => some (.inr E, h1)) := s_callV (L := [(19, 116)]) (n := 1) (b := b0) (rest := []) rfl rfl rfl
theorem r_X2_gives_72N {d : Nat} {b0 : Nat} {l0 l1 l2 l3 l4 l5 l6 : Option Value} {h : AH} : R_X2_gives d 72 [l0, l1, l2, l3, l4, l5, l6] [.null, .ref b0] h = ((hci h b0).bind (lkN [(19, 116)])).bind fun y => aK (exec tTab d y [.ref b0, .null] h) (fun v h1 => R_X2_gives d 75 [l0, l1, l2, l3, l4, l5, l6] (v.toList ++ []) h1) (fun E h1 => some (.inr E, h1)) := s_callV (L := [(19, 116)]) (n := 1) (b := b0) (rest := []) rfl rfl rfl
theorem r_X2_gives_55 {d : Nat} {b0 b1 : Nat} {l0 l1 l2 l3 l4 l5 l6 : Option Value} {h : AH} : R_X2_gives d 55 [l0, l1, l2, l3, l4, l5, l6] [.ref b1, .ref b0] h = ((hci h b0).bind (lkN [(19, 116)])).bind fun y => aK (exec tTab d y [.ref b0, .ref b1] h) (fun v h1 => R_X2_gives d 75 [l0, l1, l2, l3, l4, l5, l6] (v.toList ++ []) h1) (fun E h1 => some (.inr E, h1)) := by
  refine (p_goto rfl).trans ?_
  exact s_callV (L := [(19, 116)]) (n := 1) (b := b0) (rest := []) rfl rfl rfl
theorem r_X2_gives_55N {d : Nat} {b0 : Nat} {l0 l1 l2 l3 l4 l5 l6 : Option Value} {h : AH} : R_X2_gives d 55 [l0, l1, l2, l3, l4, l5, l6] [.null, .ref b0] h = ((hci h b0).bind (lkN [(19, 116)])).bind fun y => aK (exec tTab d y [.ref b0, .null] h) (fun v h1 => R_X2_gives d 75 [l0, l1, l2, l3, l4, l5, l6] (v.toList ++ []) h1) (fun E h1 => some (.inr E, h1)) := by
  refine (p_goto rfl).trans ?_
  exact s_callV (L := [(19, 116)]) (n := 1) (b := b0) (rest := []) rfl rfl rfl
theorem r_X2_gives_75 {d : Nat} {s0 : Int32} {a0 : Nat} {l1 l2 l3 l4 l5 l6 : Option Value} {h : AH} : R_X2_gives d 75 [some (.ref a0), l1, l2, l3, l4, l5, l6] [.int (s0)] h = (hgf h [1] a0 9).bind fun v => R_X2_gives d 80 [some (.ref a0), l1, l2, l3, l4, l5, l6] [v] h := by
  refine (p_pop rfl rfl).trans ?_
  refine (p_aload rfl rfl).trans ?_
  exact s_getf rfl
theorem r_X2_gives_80 {d : Nat} {b0 : Nat} {l0 l1 l2 l3 l4 l5 l6 : Option Value} {h : AH} : R_X2_gives d 80 [l0, l1, l2, l3, l4, l5, l6] [.ref b0] h = ((hci h b0).bind (lkN [(19, 113)])).bind fun y => aK (exec tTab d y [.ref b0] h) (fun v h1 => R_X2_gives d 83 [l0, l1, l2, l3, l4, l5, l6] (v.toList ++ []) h1) (fun E h1 => some (.inr E, h1)) := s_callV (L := [(19, 113)]) (n := 0) (b := b0) (rest := []) rfl rfl rfl
theorem r_X2_gives_83 {d : Nat} {s0 : Int32} {l0 l1 l2 l3 l4 l5 l6 : Option Value} {h : AH} : R_X2_gives d 83 [l0, l1, l2, l3, l4, l5, l6] [.int (s0)] h = some (.inl (some (.int (s0 - (nI 1)))), h) := by
  refine (p_const rfl).trans ?_
  refine (p_bin rfl).trans ?_
  exact s_iretT rfl rfl
theorem e_X2_gives {d : Nat} {a0 : Nat} {x1 x2 x3 x4 x5 : Int32} {h : AH} : exec tTab (d + 1) K_X2_gives [.ref a0, .int x1, .int x2, .int x3, .int x4, .int x5] h = R_X2_gives d 0 [some (.ref a0), some (.int x1), some (.int x2), some (.int x3), some (.int x4), some (.int x5), none] [] h := exec_eq (cd := k_X2_gives) (hd := (fun _ _ => some none)) (L := 7) rfl rfl rfl
/-- FavourTown$World.passes(LFavourTown$Favour;I)I -/
abbrev K_X2_passes : Nat := 105
noncomputable def R_X2_passes (d pc : Nat) (ls : ALs) (st : List Value) (h : AH) : Option (AOut × AH) := aR (exec tTab d) k_X2_passes (fun _ _ => some none) (pc, ls, st, h)
theorem r_X2_passes_0 {d : Nat} {a0 a1 : Nat} {x2 : Int32} {l3 l4 : Option Value} {h : AH} : R_X2_passes d 0 [some (.ref a0), some (.ref a1), some (.int (x2)), l3, l4] [] h = ((hci h a0).bind (lkN [(1, 93)])).bind fun y => aK (exec tTab d y [.ref a0, .ref a1, .int (x2)] h) (fun v h1 => R_X2_passes d 6 [some (.ref a0), some (.ref a1), some (.int (x2)), l3, l4] (v.toList ++ []) h1) (fun E h1 => some (.inr E, h1)) := by
  refine (p_aload rfl rfl).trans ?_
  refine (p_aload rfl rfl).trans ?_
  refine (p_iload rfl rfl).trans ?_
  exact s_callV (L := [(1, 93)]) (n := 2) (b := a0) (rest := []) rfl rfl rfl
theorem r_X2_passes_6 {d : Nat} {s0 : Int32} {l0 l1 l2 l3 l4 : Option Value} {h : AH} : R_X2_passes d 6 [l0, l1, l2, l3, l4] [.int (s0)] h = if ¬ s0 = 0 then R_X2_passes d 11 [l0, l1, l2, l3, l4] [] h else R_X2_passes d 9 [l0, l1, l2, l3, l4] [] h := (s_if (g := (fun x => decide (¬ x = 0))) (t := 11) (nx := 9) rfl).trans bif_dec
theorem r_X2_passes_11 {d : Nat} {a1 : Nat} {l0 l2 l3 l4 : Option Value} {h : AH} : R_X2_passes d 11 [l0, some (.ref a1), l2, l3, l4] [] h = (hgf h [5, 6] a1 4).bind fun v => R_X2_passes d 15 [l0, some (.ref a1), l2, l3, l4] [v] h := by
  refine (p_aload rfl rfl).trans ?_
  exact s_getf rfl
theorem r_X2_passes_9 {d : Nat} {l0 l1 l2 l3 l4 : Option Value} {h : AH} : R_X2_passes d 9 [l0, l1, l2, l3, l4] [] h = some (.inl (some (.int ((-1)))), h) := by
  refine (p_const rfl).trans ?_
  exact s_iretT rfl rfl
theorem r_X2_passes_15 {d : Nat} {s0 : Int32} {a1 : Nat} {l0 l2 l3 l4 : Option Value} {h : AH} : R_X2_passes d 15 [l0, some (.ref a1), l2, l3, l4] [.int (s0)] h = (hgf h [5, 6] a1 5).bind fun v => R_X2_passes d 21 [l0, some (.ref a1), l2, some (.int (s0)), l4] [v, .ref a1] h := by
  refine (p_istore rfl rfl rfl).trans ?_
  refine (p_aload rfl rfl).trans ?_
  refine (p_aload rfl rfl).trans ?_
  exact s_getf rfl
theorem r_X2_passes_21 {d : Nat} {b0 : Nat} {s1 : Int32} {l0 l1 l2 l3 l4 : Option Value} {h : AH} : R_X2_passes d 21 [l0, l1, l2, l3, l4] [.int (s1), .ref b0] h = ((hci h b0).bind (lkN [(5, 243), (6, 243)])).bind fun y => aK (exec tTab d y [.ref b0, .int (s1)] h) (fun v h1 => R_X2_passes d 24 [l0, l1, l2, l3, l4] (v.toList ++ []) h1) (fun E h1 => some (.inr E, h1)) := s_callV (L := [(5, 243), (6, 243)]) (n := 1) (b := b0) (rest := []) rfl rfl rfl
theorem r_X2_passes_24 {d : Nat} {s0 x2 : Int32} {a1 : Nat} {l0 l3 l4 : Option Value} {h : AH} : R_X2_passes d 24 [l0, some (.ref a1), some (.int (x2)), l3, l4] [.int (s0)] h = ((hci h a1).bind (lkN [(5, 248), (6, 248)])).bind fun y => aK (exec tTab d y [.ref a1, .int (x2)] h) (fun v h1 => R_X2_passes d 31 [l0, some (.ref a1), some (.int (x2)), l3, some (.int (s0))] (v.toList ++ []) h1) (fun E h1 => some (.inr E, h1)) := by
  refine (p_istore rfl rfl rfl).trans ?_
  refine (p_aload rfl rfl).trans ?_
  refine (p_iload rfl rfl).trans ?_
  exact s_callV (L := [(5, 248), (6, 248)]) (n := 1) (b := a1) (rest := []) rfl rfl rfl
theorem r_X2_passes_31 {d : Nat} {a1 : Nat} {l0 l2 l3 l4 : Option Value} {h : AH} : R_X2_passes d 31 [l0, some (.ref a1), l2, l3, l4] [] h = (hgf h [5, 6] a1 4).bind fun v => R_X2_passes d 35 [l0, some (.ref a1), l2, l3, l4] [v] h := by
  refine (p_aload rfl rfl).trans ?_
  exact s_getf rfl
theorem r_X2_passes_35 {d : Nat} {s0 : Int32} {l0 l1 l2 l3 l4 : Option Value} {h : AH} : R_X2_passes d 35 [l0, l1, l2, l3, l4] [.int (s0)] h = if ¬ s0 = (-1) then R_X2_passes d 41 [l0, l1, l2, l3, l4] [] h else R_X2_passes d 39 [l0, l1, l2, l3, l4] [] h := by
  refine (p_const rfl).trans ?_
  exact (s_icmp (g := (fun x y => decide (¬ x = y))) (t := 41) (nx := 39) rfl).trans bif_dec
theorem r_X2_passes_41 {d : Nat} {a0 : Nat} {l1 l2 l3 l4 : Option Value} {h : AH} : R_X2_passes d 41 [some (.ref a0), l1, l2, l3, l4] [] h = (hgf h [1] a0 8).bind fun v => R_X2_passes d 45 [some (.ref a0), l1, l2, l3, l4] [v] h := by
  refine (p_aload rfl rfl).trans ?_
  exact s_getf rfl
theorem r_X2_passes_39 {d : Nat} {l0 l1 l2 l3 l4 : Option Value} {h : AH} : R_X2_passes d 39 [l0, l1, l2, l3, l4] [] h = some (.inl (some (.int ((nI 0)))), h) := by
  refine (p_const rfl).trans ?_
  exact s_iretT rfl rfl
theorem r_X2_passes_45 {d : Nat} {b0 : Nat} {x2 : Int32} {l0 l1 l3 l4 : Option Value} {h : AH} : R_X2_passes d 45 [l0, l1, some (.int (x2)), l3, l4] [.ref b0] h = (haqs h [3, 4, 5] b0 x2).bind fun v => R_X2_passes d 47 [l0, l1, some (.int (x2)), l3, l4] [va_rf v] h := by
  refine (p_iload rfl rfl).trans ?_
  exact s_aald rfl
theorem r_X2_passes_47 {d : Nat} {b0 : Nat} {x3 : Int32} {l0 l1 l2 l4 : Option Value} {h : AH} : R_X2_passes d 47 [l0, l1, l2, some (.int (x3)), l4] [.ref b0] h = (hai h 0 b0 x3).bind fun v => R_X2_passes d 50 [l0, l1, l2, some (.int (x3)), l4] [.int v, .int (x3), .ref b0] h := by
  refine (p_iload rfl rfl).trans ?_
  refine (p_dup2 rfl rfl).trans ?_
  exact s_iald rfl
theorem r_X2_passes_50 {d : Nat} {b0 a1 : Nat} {s1 s2 x4 : Int32} {l0 l2 l3 : Option Value} {h : AH} : R_X2_passes d 50 [l0, some (.ref a1), l2, l3, some (.int (x4))] [.int (s2), .int (s1), .ref b0] h = (hgf h [5, 6] a1 5).bind fun v => R_X2_passes d 57 [l0, some (.ref a1), l2, l3, some (.int (x4))] [v, .ref a1, .int (x4), .int (s2), .int (s1), .ref b0] h := by
  refine (p_iload rfl rfl).trans ?_
  refine (p_aload rfl rfl).trans ?_
  refine (p_aload rfl rfl).trans ?_
  exact s_getf rfl
theorem r_X2_passes_57 {d : Nat} {b0 b4 : Nat} {s1 s2 s3 s5 : Int32} {l0 l1 l2 l3 l4 : Option Value} {h : AH} : R_X2_passes d 57 [l0, l1, l2, l3, l4] [.int (s5), .ref b4, .int (s3), .int (s2), .int (s1), .ref b0] h = ((hci h b4).bind (lkN [(5, 243), (6, 243)])).bind fun y => aK (exec tTab d y [.ref b4, .int (s5)] h) (fun v h1 => R_X2_passes d 60 [l0, l1, l2, l3, l4] (v.toList ++ [.int (s3), .int (s2), .int (s1), .ref b0]) h1) (fun E h1 => some (.inr E, h1)) := s_callV (L := [(5, 243), (6, 243)]) (n := 1) (b := b4) (rest := [.int (s3), .int (s2), .int (s1), .ref b0]) rfl rfl rfl
theorem r_X2_passes_60 {d : Nat} {b0 : Nat} {s1 s2 s3 s4 : Int32} {l0 l1 l2 l3 l4 : Option Value} {h : AH} : R_X2_passes d 60 [l0, l1, l2, l3, l4] [.int (s4), .int (s3), .int (s2), .int (s1), .ref b0] h = (hsi h 0 b0 s1 (s2 + (s3 - s4))).bind fun h1 => R_X2_passes d 63 [l0, l1, l2, l3, l4] [] h1 := by
  refine (p_bin rfl).trans ?_
  refine (p_bin rfl).trans ?_
  exact s_iast (t := 0) (nar := (fun y => y)) rfl
theorem r_X2_passes_63 {d : Nat} {a1 : Nat} {l0 l2 l3 l4 : Option Value} {h : AH} : R_X2_passes d 63 [l0, some (.ref a1), l2, l3, l4] [] h = (hgf h [5, 6] a1 5).bind fun v => R_X2_passes d 68 [l0, some (.ref a1), l2, l3, l4] [v, .ref a1] h := by
  refine (p_aload rfl rfl).trans ?_
  refine (p_aload rfl rfl).trans ?_
  exact s_getf rfl
theorem r_X2_passes_68 {d : Nat} {b0 : Nat} {s1 : Int32} {l0 l1 l2 l3 l4 : Option Value} {h : AH} : R_X2_passes d 68 [l0, l1, l2, l3, l4] [.int (s1), .ref b0] h = ((hci h b0).bind (lkN [(5, 243), (6, 243)])).bind fun y => aK (exec tTab d y [.ref b0, .int (s1)] h) (fun v h1 => R_X2_passes d 71 [l0, l1, l2, l3, l4] (v.toList ++ []) h1) (fun E h1 => some (.inr E, h1)) := s_callV (L := [(5, 243), (6, 243)]) (n := 1) (b := b0) (rest := []) rfl rfl rfl
theorem r_X2_passes_71 {d : Nat} {s0 : Int32} {l0 l1 l2 l3 l4 : Option Value} {h : AH} : R_X2_passes d 71 [l0, l1, l2, l3, l4] [.int (s0)] h = some (.inl (some (.int (s0))), h) := s_iretT rfl rfl
theorem e_X2_passes {d : Nat} {a0 a1 : Nat} {x2 : Int32} {h : AH} : exec tTab (d + 1) K_X2_passes [.ref a0, .ref a1, .int x2] h = R_X2_passes d 0 [some (.ref a0), some (.ref a1), some (.int x2), none, none] [] h := exec_eq (cd := k_X2_passes) (hd := (fun _ _ => some none)) (L := 5) rfl rfl rfl
/-- FavourTown$World.days(I)I -/
abbrev K_X2_days : Nat := 106
noncomputable def R_X2_days (d pc : Nat) (ls : ALs) (st : List Value) (h : AH) : Option (AOut × AH) := aR (exec tTab d) k_X2_days (fun _ _ => some none) (pc, ls, st, h)
theorem r_X2_days_0 {d : Nat} {l0 l1 l2 l3 l4 l5 : Option Value} {h : AH} : R_X2_days d 0 [l0, l1, l2, l3, l4, l5] [] h = R_X2_days d 4 [l0, l1, some (.int ((nI 0))), some (.int ((nI 0))), l4, l5] [] h := by
  refine (p_const rfl).trans ?_
  refine (p_istore rfl rfl rfl).trans ?_
  refine (p_const rfl).trans ?_
  refine (p_istore rfl rfl rfl).trans ?_
  exact rfl
theorem q_X2_days_4 {d : Nat} {x3 x1 : Int32} {l0 l2 l4 l5 : Option Value} {h : AH} : R_X2_days d 4 [l0, some (.int (x1)), l2, some (.int (x3)), l4, l5] [] h = if x1 ≤ x3 then R_X2_days d 102 [l0, some (.int (x1)), l2, some (.int (x3)), l4, l5] [] h else R_X2_days d 9 [l0, some (.int (x1)), l2, some (.int (x3)), l4, l5] [] h := by
  refine (p_iload rfl rfl).trans ?_
  refine (p_iload rfl rfl).trans ?_
  exact (s_icmp (g := (fun x y => decide (y ≤ x))) (t := 102) (nx := 9) rfl).trans bif_dec
theorem r_X2_days_102 {d : Nat} {x2 : Int32} {l0 l1 l3 l4 l5 : Option Value} {h : AH} : R_X2_days d 102 [l0, l1, some (.int (x2)), l3, l4, l5] [] h = some (.inl (some (.int (x2))), h) := by
  refine (p_iload rfl rfl).trans ?_
  exact s_iretT rfl rfl
theorem r_X2_days_9 {d : Nat} {a0 : Nat} {l1 l2 l3 l4 l5 : Option Value} {h : AH} : R_X2_days d 9 [some (.ref a0), l1, l2, l3, l4, l5] [] h = (hgf h [1] a0 1).bind fun v => R_X2_days d 14 [some (.ref a0), l1, l2, l3, l4, l5] [v, .ref a0] h := by
  refine (p_aload rfl rfl).trans ?_
  refine (p_dup rfl rfl).trans ?_
  exact s_getf rfl
theorem r_X2_days_14 {d : Nat} {b0 : Nat} {s1 : Int32} {l0 l1 l2 l3 l4 l5 : Option Value} {h : AH} : R_X2_days d 14 [l0, l1, l2, l3, l4, l5] [.int (s1), .ref b0] h = (hpf h [1] b0 1 (.int (s1 + (nI 1)))).bind fun h1 => R_X2_days d 19 [l0, l1, l2, l3, l4, l5] [] h1 := by
  refine (p_const rfl).trans ?_
  refine (p_bin rfl).trans ?_
  exact s_putT rfl rfl
theorem r_X2_days_19 {d : Nat} {l0 l1 l2 l3 l4 l5 : Option Value} {h : AH} : R_X2_days d 19 [l0, l1, l2, l3, l4, l5] [] h = R_X2_days d 22 [l0, l1, l2, l3, some (.int ((nI 0))), l5] [] h := by
  refine (p_const rfl).trans ?_
  refine (p_istore rfl rfl rfl).trans ?_
  exact rfl
theorem q_X2_days_22 {d : Nat} {x4 : Int32} {a0 : Nat} {l1 l2 l3 l5 : Option Value} {h : AH} : R_X2_days d 22 [some (.ref a0), l1, l2, l3, some (.int (x4)), l5] [] h = (hgf h [1] a0 9).bind fun v => R_X2_days d 28 [some (.ref a0), l1, l2, l3, some (.int (x4)), l5] [v, .int (x4)] h := by
  refine (p_iload rfl rfl).trans ?_
  refine (p_aload rfl rfl).trans ?_
  exact s_getf rfl
theorem r_X2_days_28 {d : Nat} {s0 : Int32} {b1 : Nat} {l0 l1 l2 l3 l4 l5 : Option Value} {h : AH} : R_X2_days d 28 [l0, l1, l2, l3, l4, l5] [.ref b1, .int (s0)] h = ((hci h b1).bind (lkN [(19, 113)])).bind fun y => aK (exec tTab d y [.ref b1] h) (fun v h1 => R_X2_days d 31 [l0, l1, l2, l3, l4, l5] (v.toList ++ [.int (s0)]) h1) (fun E h1 => some (.inr E, h1)) := s_callV (L := [(19, 113)]) (n := 0) (b := b1) (rest := [.int (s0)]) rfl rfl rfl
theorem r_X2_days_31 {d : Nat} {s0 s1 : Int32} {l0 l1 l2 l3 l4 l5 : Option Value} {h : AH} : R_X2_days d 31 [l0, l1, l2, l3, l4, l5] [.int (s1), .int (s0)] h = if s1 ≤ s0 then R_X2_days d 96 [l0, l1, l2, l3, l4, l5] [] h else R_X2_days d 34 [l0, l1, l2, l3, l4, l5] [] h := (s_icmp (g := (fun x y => decide (y ≤ x))) (t := 96) (nx := 34) rfl).trans bif_dec
theorem r_X2_days_96 {d : Nat} {x3 : Int32} {l0 l1 l2 l4 l5 : Option Value} {h : AH} : R_X2_days d 96 [l0, l1, l2, some (.int (x3)), l4, l5] [] h = R_X2_days d 4 [l0, l1, l2, some (.int (x3 + (nI 1))), l4, l5] [] h := by
  refine (p_iinc rfl rfl rfl).trans ?_
  refine (p_goto rfl).trans ?_
  exact rfl
theorem r_X2_days_34 {d : Nat} {a0 : Nat} {l1 l2 l3 l4 l5 : Option Value} {h : AH} : R_X2_days d 34 [some (.ref a0), l1, l2, l3, l4, l5] [] h = (hgf h [1] a0 9).bind fun v => R_X2_days d 38 [some (.ref a0), l1, l2, l3, l4, l5] [v] h := by
  refine (p_aload rfl rfl).trans ?_
  exact s_getf rfl
theorem r_X2_days_38 {d : Nat} {b0 : Nat} {x4 : Int32} {l0 l1 l2 l3 l5 : Option Value} {h : AH} : R_X2_days d 38 [l0, l1, l2, l3, some (.int (x4)), l5] [.ref b0] h = ((hci h b0).bind (lkN [(19, 114)])).bind fun y => aK (exec tTab d y [.ref b0, .int (x4)] h) (fun v h1 => R_X2_days d 43 [l0, l1, l2, l3, some (.int (x4)), l5] (v.toList ++ []) h1) (fun E h1 => some (.inr E, h1)) := by
  refine (p_iload rfl rfl).trans ?_
  exact s_callV (L := [(19, 114)]) (n := 1) (b := b0) (rest := []) rfl rfl rfl
theorem r_X2_days_43 {d : Nat} {b0 : Nat} {l0 l1 l2 l3 l4 l5 : Option Value} {h : AH} : R_X2_days d 43 [l0, l1, l2, l3, l4, l5] [.ref b0] h = bif hck h [5, 6] [] b0 then R_X2_days d 46 [l0, l1, l2, l3, l4, l5] [.ref b0] h else none := s_cast rfl
theorem r_X2_days_46 {d : Nat} {b0 : Nat} {l0 l1 l2 l3 l4 l5 : Option Value} {h : AH} : R_X2_days d 46 [l0, l1, l2, l3, l4, l5] [.ref b0] h = (hgf h [5, 6] b0 4).bind fun v => R_X2_days d 53 [l0, l1, l2, l3, l4, some (.ref b0)] [v] h := by
  refine (p_astore rfl rfl rfl).trans ?_
  refine (p_aload rfl rfl).trans ?_
  exact s_getf rfl
theorem r_X2_days_53 {d : Nat} {s0 : Int32} {l0 l1 l2 l3 l4 l5 : Option Value} {h : AH} : R_X2_days d 53 [l0, l1, l2, l3, l4, l5] [.int (s0)] h = if s0 = (-1) then R_X2_days d 90 [l0, l1, l2, l3, l4, l5] [] h else R_X2_days d 57 [l0, l1, l2, l3, l4, l5] [] h := by
  refine (p_const rfl).trans ?_
  exact (s_icmp (g := (fun x y => decide (x = y))) (t := 90) (nx := 57) rfl).trans bif_dec
theorem r_X2_days_90 {d : Nat} {x4 : Int32} {l0 l1 l2 l3 l5 : Option Value} {h : AH} : R_X2_days d 90 [l0, l1, l2, l3, some (.int (x4)), l5] [] h = R_X2_days d 22 [l0, l1, l2, l3, some (.int (x4 + (nI 1))), l5] [] h := by
  refine (p_iinc rfl rfl rfl).trans ?_
  refine (p_goto rfl).trans ?_
  exact rfl
theorem r_X2_days_57 {d : Nat} {a5 : Nat} {l0 l1 l2 l3 l4 : Option Value} {h : AH} : R_X2_days d 57 [l0, l1, l2, l3, l4, some (.ref a5)] [] h = ((hci h a5).bind (lkN [(5, 242), (6, 249)])).bind fun y => aK (exec tTab d y [.ref a5] h) (fun v h1 => R_X2_days d 62 [l0, l1, l2, l3, l4, some (.ref a5)] (v.toList ++ []) h1) (fun E h1 => some (.inr E, h1)) := by
  refine (p_aload rfl rfl).trans ?_
  exact s_callV (L := [(5, 242), (6, 249)]) (n := 0) (b := a5) (rest := []) rfl rfl rfl
theorem r_X2_days_62 {d : Nat} {s0 : Int32} {l0 l1 l2 l3 l4 l5 : Option Value} {h : AH} : R_X2_days d 62 [l0, l1, l2, l3, l4, l5] [.int (s0)] h = if s0 = (-1) then R_X2_days d 90 [l0, l1, l2, l3, l4, l5] [] h else R_X2_days d 66 [l0, l1, l2, l3, l4, l5] [] h := by
  refine (p_const rfl).trans ?_
  exact (s_icmp (g := (fun x y => decide (x = y))) (t := 90) (nx := 66) rfl).trans bif_dec
theorem r_X2_days_66 {d : Nat} {a5 : Nat} {l0 l1 l2 l3 l4 : Option Value} {h : AH} : R_X2_days d 66 [l0, l1, l2, l3, l4, some (.ref a5)] [] h = ((hci h a5).bind (lkN [(5, 242), (6, 249)])).bind fun y => aK (exec tTab d y [.ref a5] h) (fun v h1 => R_X2_days d 71 [l0, l1, l2, l3, l4, some (.ref a5)] (v.toList ++ []) h1) (fun E h1 => some (.inr E, h1)) := by
  refine (p_aload rfl rfl).trans ?_
  exact s_callV (L := [(5, 242), (6, 249)]) (n := 0) (b := a5) (rest := []) rfl rfl rfl
theorem r_X2_days_71 {d : Nat} {s0 : Int32} {a0 : Nat} {l1 l2 l3 l4 l5 : Option Value} {h : AH} : R_X2_days d 71 [some (.ref a0), l1, l2, l3, l4, l5] [.int (s0)] h = (hgf h [1] a0 1).bind fun v => R_X2_days d 75 [some (.ref a0), l1, l2, l3, l4, l5] [v, .int (s0)] h := by
  refine (p_aload rfl rfl).trans ?_
  exact s_getf rfl
theorem r_X2_days_75 {d : Nat} {s0 s1 : Int32} {l0 l1 l2 l3 l4 l5 : Option Value} {h : AH} : R_X2_days d 75 [l0, l1, l2, l3, l4, l5] [.int (s1), .int (s0)] h = if s0 ≤ s1 then R_X2_days d 81 [l0, l1, l2, l3, l4, l5] [] h else R_X2_days d 78 [l0, l1, l2, l3, l4, l5] [] h := (s_icmp (g := (fun x y => decide (x ≤ y))) (t := 81) (nx := 78) rfl).trans bif_dec
theorem r_X2_days_81 {d : Nat} {a5 : Nat} {l0 l1 l2 l3 l4 : Option Value} {h : AH} : R_X2_days d 81 [l0, l1, l2, l3, l4, some (.ref a5)] [] h = (hpf h [5, 6] a5 4 (.int ((-1)))).bind fun h1 => R_X2_days d 87 [l0, l1, l2, l3, l4, some (.ref a5)] [] h1 := by
  refine (p_aload rfl rfl).trans ?_
  refine (p_const rfl).trans ?_
  exact s_putT rfl rfl
theorem r_X2_days_78 {d : Nat} {x4 : Int32} {l0 l1 l2 l3 l5 : Option Value} {h : AH} : R_X2_days d 78 [l0, l1, l2, l3, some (.int (x4)), l5] [] h = R_X2_days d 22 [l0, l1, l2, l3, some (.int (x4 + (nI 1))), l5] [] h := by
  refine (p_goto rfl).trans ?_
  refine (p_iinc rfl rfl rfl).trans ?_
  refine (p_goto rfl).trans ?_
  exact rfl
theorem r_X2_days_87 {d : Nat} {x2 x4 : Int32} {l0 l1 l3 l5 : Option Value} {h : AH} : R_X2_days d 87 [l0, l1, some (.int (x2)), l3, some (.int (x4)), l5] [] h = R_X2_days d 22 [l0, l1, some (.int (x2 + (nI 1))), l3, some (.int (x4 + (nI 1))), l5] [] h := by
  refine (p_iinc rfl rfl rfl).trans ?_
  refine (p_iinc rfl rfl rfl).trans ?_
  refine (p_goto rfl).trans ?_
  exact rfl
theorem e_X2_days {d : Nat} {a0 : Nat} {x1 : Int32} {h : AH} : exec tTab (d + 1) K_X2_days [.ref a0, .int x1] h = R_X2_days d 0 [some (.ref a0), some (.int x1), none, none, none, none] [] h := exec_eq (cd := k_X2_days) (hd := (fun _ _ => some none)) (L := 6) rfl rfl rfl
/-- FavourTown$World.owes(II)I -/
abbrev K_X2_owes : Nat := 107
noncomputable def R_X2_owes (d pc : Nat) (ls : ALs) (st : List Value) (h : AH) : Option (AOut × AH) := aR (exec tTab d) k_X2_owes (fun _ _ => some none) (pc, ls, st, h)
theorem r_X2_owes_0 {d : Nat} {l0 l1 l2 l3 l4 l5 : Option Value} {h : AH} : R_X2_owes d 0 [l0, l1, l2, l3, l4, l5] [] h = R_X2_owes d 5 [l0, l1, l2, some (.int ((nI 0))), some (.int ((nI 0))), l5] [] h := by
  refine (p_const rfl).trans ?_
  refine (p_istore rfl rfl rfl).trans ?_
  refine (p_const rfl).trans ?_
  refine (p_istore rfl rfl rfl).trans ?_
  exact rfl
theorem q_X2_owes_5 {d : Nat} {x4 : Int32} {a0 : Nat} {l1 l2 l3 l5 : Option Value} {h : AH} : R_X2_owes d 5 [some (.ref a0), l1, l2, l3, some (.int (x4)), l5] [] h = (hgf h [1] a0 9).bind fun v => R_X2_owes d 11 [some (.ref a0), l1, l2, l3, some (.int (x4)), l5] [v, .int (x4)] h := by
  refine (p_iload rfl rfl).trans ?_
  refine (p_aload rfl rfl).trans ?_
  exact s_getf rfl
theorem r_X2_owes_11 {d : Nat} {s0 : Int32} {b1 : Nat} {l0 l1 l2 l3 l4 l5 : Option Value} {h : AH} : R_X2_owes d 11 [l0, l1, l2, l3, l4, l5] [.ref b1, .int (s0)] h = ((hci h b1).bind (lkN [(19, 113)])).bind fun y => aK (exec tTab d y [.ref b1] h) (fun v h1 => R_X2_owes d 14 [l0, l1, l2, l3, l4, l5] (v.toList ++ [.int (s0)]) h1) (fun E h1 => some (.inr E, h1)) := s_callV (L := [(19, 113)]) (n := 0) (b := b1) (rest := [.int (s0)]) rfl rfl rfl
theorem r_X2_owes_14 {d : Nat} {s0 s1 : Int32} {l0 l1 l2 l3 l4 l5 : Option Value} {h : AH} : R_X2_owes d 14 [l0, l1, l2, l3, l4, l5] [.int (s1), .int (s0)] h = if s1 ≤ s0 then R_X2_owes d 72 [l0, l1, l2, l3, l4, l5] [] h else R_X2_owes d 17 [l0, l1, l2, l3, l4, l5] [] h := (s_icmp (g := (fun x y => decide (y ≤ x))) (t := 72) (nx := 17) rfl).trans bif_dec
theorem r_X2_owes_72 {d : Nat} {x3 : Int32} {l0 l1 l2 l4 l5 : Option Value} {h : AH} : R_X2_owes d 72 [l0, l1, l2, some (.int (x3)), l4, l5] [] h = some (.inl (some (.int (x3))), h) := by
  refine (p_iload rfl rfl).trans ?_
  exact s_iretT rfl rfl
theorem r_X2_owes_17 {d : Nat} {a0 : Nat} {l1 l2 l3 l4 l5 : Option Value} {h : AH} : R_X2_owes d 17 [some (.ref a0), l1, l2, l3, l4, l5] [] h = (hgf h [1] a0 9).bind fun v => R_X2_owes d 21 [some (.ref a0), l1, l2, l3, l4, l5] [v] h := by
  refine (p_aload rfl rfl).trans ?_
  exact s_getf rfl
theorem r_X2_owes_21 {d : Nat} {b0 : Nat} {x4 : Int32} {l0 l1 l2 l3 l5 : Option Value} {h : AH} : R_X2_owes d 21 [l0, l1, l2, l3, some (.int (x4)), l5] [.ref b0] h = ((hci h b0).bind (lkN [(19, 114)])).bind fun y => aK (exec tTab d y [.ref b0, .int (x4)] h) (fun v h1 => R_X2_owes d 26 [l0, l1, l2, l3, some (.int (x4)), l5] (v.toList ++ []) h1) (fun E h1 => some (.inr E, h1)) := by
  refine (p_iload rfl rfl).trans ?_
  exact s_callV (L := [(19, 114)]) (n := 1) (b := b0) (rest := []) rfl rfl rfl
theorem r_X2_owes_26 {d : Nat} {b0 : Nat} {l0 l1 l2 l3 l4 l5 : Option Value} {h : AH} : R_X2_owes d 26 [l0, l1, l2, l3, l4, l5] [.ref b0] h = bif hck h [5, 6] [] b0 then R_X2_owes d 29 [l0, l1, l2, l3, l4, l5] [.ref b0] h else none := s_cast rfl
theorem r_X2_owes_29 {d : Nat} {b0 : Nat} {l0 l1 l2 l3 l4 l5 : Option Value} {h : AH} : R_X2_owes d 29 [l0, l1, l2, l3, l4, l5] [.ref b0] h = (hgf h [5, 6] b0 0).bind fun v => R_X2_owes d 36 [l0, l1, l2, l3, l4, some (.ref b0)] [v] h := by
  refine (p_astore rfl rfl rfl).trans ?_
  refine (p_aload rfl rfl).trans ?_
  exact s_getf rfl
theorem r_X2_owes_36 {d : Nat} {s0 x1 : Int32} {l0 l2 l3 l4 l5 : Option Value} {h : AH} : R_X2_owes d 36 [l0, some (.int (x1)), l2, l3, l4, l5] [.int (s0)] h = if ¬ s0 = x1 then R_X2_owes d 66 [l0, some (.int (x1)), l2, l3, l4, l5] [] h else R_X2_owes d 40 [l0, some (.int (x1)), l2, l3, l4, l5] [] h := by
  refine (p_iload rfl rfl).trans ?_
  exact (s_icmp (g := (fun x y => decide (¬ x = y))) (t := 66) (nx := 40) rfl).trans bif_dec
theorem r_X2_owes_66 {d : Nat} {x4 : Int32} {l0 l1 l2 l3 l5 : Option Value} {h : AH} : R_X2_owes d 66 [l0, l1, l2, l3, some (.int (x4)), l5] [] h = R_X2_owes d 5 [l0, l1, l2, l3, some (.int (x4 + (nI 1))), l5] [] h := by
  refine (p_iinc rfl rfl rfl).trans ?_
  refine (p_goto rfl).trans ?_
  exact rfl
theorem r_X2_owes_40 {d : Nat} {a5 : Nat} {l0 l1 l2 l3 l4 : Option Value} {h : AH} : R_X2_owes d 40 [l0, l1, l2, l3, l4, some (.ref a5)] [] h = (hgf h [5, 6] a5 4).bind fun v => R_X2_owes d 45 [l0, l1, l2, l3, l4, some (.ref a5)] [v] h := by
  refine (p_aload rfl rfl).trans ?_
  exact s_getf rfl
theorem r_X2_owes_45 {d : Nat} {s0 x2 : Int32} {l0 l1 l3 l4 l5 : Option Value} {h : AH} : R_X2_owes d 45 [l0, l1, some (.int (x2)), l3, l4, l5] [.int (s0)] h = if ¬ s0 = x2 then R_X2_owes d 66 [l0, l1, some (.int (x2)), l3, l4, l5] [] h else R_X2_owes d 49 [l0, l1, some (.int (x2)), l3, l4, l5] [] h := by
  refine (p_iload rfl rfl).trans ?_
  exact (s_icmp (g := (fun x y => decide (¬ x = y))) (t := 66) (nx := 49) rfl).trans bif_dec
theorem r_X2_owes_49 {d : Nat} {a0 a5 : Nat} {l1 l2 l3 l4 : Option Value} {h : AH} : R_X2_owes d 49 [some (.ref a0), l1, l2, l3, l4, some (.ref a5)] [] h = ((hci h a0).bind (lkN [(1, 94)])).bind fun y => aK (exec tTab d y [.ref a0, .ref a5] h) (fun v h1 => R_X2_owes d 55 [some (.ref a0), l1, l2, l3, l4, some (.ref a5)] (v.toList ++ []) h1) (fun E h1 => some (.inr E, h1)) := by
  refine (p_aload rfl rfl).trans ?_
  refine (p_aload rfl rfl).trans ?_
  exact s_callV (L := [(1, 94)]) (n := 1) (b := a0) (rest := []) rfl rfl rfl
theorem r_X2_owes_55 {d : Nat} {s0 : Int32} {l0 l1 l2 l3 l4 l5 : Option Value} {h : AH} : R_X2_owes d 55 [l0, l1, l2, l3, l4, l5] [.int (s0)] h = if ¬ s0 = 0 then R_X2_owes d 66 [l0, l1, l2, l3, l4, l5] [] h else R_X2_owes d 58 [l0, l1, l2, l3, l4, l5] [] h := (s_if (g := (fun x => decide (¬ x = 0))) (t := 66) (nx := 58) rfl).trans bif_dec
theorem r_X2_owes_58 {d : Nat} {x3 : Int32} {a5 : Nat} {l0 l1 l2 l4 : Option Value} {h : AH} : R_X2_owes d 58 [l0, l1, l2, some (.int (x3)), l4, some (.ref a5)] [] h = (hgf h [5, 6] a5 1).bind fun v => R_X2_owes d 64 [l0, l1, l2, some (.int (x3)), l4, some (.ref a5)] [v, .int (x3)] h := by
  refine (p_iload rfl rfl).trans ?_
  refine (p_aload rfl rfl).trans ?_
  exact s_getf rfl
theorem r_X2_owes_64 {d : Nat} {s0 s1 x4 : Int32} {l0 l1 l2 l3 l5 : Option Value} {h : AH} : R_X2_owes d 64 [l0, l1, l2, l3, some (.int (x4)), l5] [.int (s1), .int (s0)] h = R_X2_owes d 5 [l0, l1, l2, some (.int (s0 + s1)), some (.int (x4 + (nI 1))), l5] [] h := by
  refine (p_bin rfl).trans ?_
  refine (p_istore rfl rfl rfl).trans ?_
  refine (p_iinc rfl rfl rfl).trans ?_
  refine (p_goto rfl).trans ?_
  exact rfl
theorem e_X2_owes {d : Nat} {a0 : Nat} {x1 x2 : Int32} {h : AH} : exec tTab (d + 1) K_X2_owes [.ref a0, .int x1, .int x2] h = R_X2_owes d 0 [some (.ref a0), some (.int x1), some (.int x2), none, none, none] [] h := exec_eq (cd := k_X2_owes) (hd := (fun _ _ => some none)) (L := 6) rfl rfl rfl
/-- FavourTown$World.meets(III)I -/
abbrev K_X2_meets : Nat := 108
noncomputable def R_X2_meets (d pc : Nat) (ls : ALs) (st : List Value) (h : AH) : Option (AOut × AH) := aR (exec tTab d) k_X2_meets (fun _ _ => some none) (pc, ls, st, h)
theorem r_X2_meets_0 {d : Nat} {a0 : Nat} {x1 x2 x3 : Int32} {l4 : Option Value} {h : AH} : R_X2_meets d 0 [some (.ref a0), some (.int (x1)), some (.int (x2)), some (.int (x3)), l4] [] h = ((hci h a0).bind (lkN [(1, 92)])).bind fun y => aK (exec tTab d y [.ref a0, .int (x1), .int (x2), .int (x3)] h) (fun v h1 => R_X2_meets d 7 [some (.ref a0), some (.int (x1)), some (.int (x2)), some (.int (x3)), l4] (v.toList ++ []) h1) (fun E h1 => some (.inr E, h1)) := by
  refine (p_aload rfl rfl).trans ?_
  refine (p_iload rfl rfl).trans ?_
  refine (p_iload rfl rfl).trans ?_
  refine (p_iload rfl rfl).trans ?_
  exact s_callV (L := [(1, 92)]) (n := 3) (b := a0) (rest := []) rfl rfl rfl
theorem r_X2_meets_7 {d : Nat} {s0 : Int32} {l0 l1 l2 l3 l4 : Option Value} {h : AH} : R_X2_meets d 7 [l0, l1, l2, l3, l4] [.int (s0)] h = if ¬ s0 = (-1) then R_X2_meets d 25 [l0, l1, l2, l3, some (.int (s0))] [] h else R_X2_meets d 15 [l0, l1, l2, l3, some (.int (s0))] [] h := by
  refine (p_istore rfl rfl rfl).trans ?_
  refine (p_iload rfl rfl).trans ?_
  refine (p_const rfl).trans ?_
  exact (s_icmp (g := (fun x y => decide (¬ x = y))) (t := 25) (nx := 15) rfl).trans bif_dec
theorem r_X2_meets_25 {d : Nat} {a0 : Nat} {l1 l2 l3 l4 : Option Value} {h : AH} : R_X2_meets d 25 [some (.ref a0), l1, l2, l3, l4] [] h = (hgf h [1] a0 9).bind fun v => R_X2_meets d 30 [some (.ref a0), l1, l2, l3, l4] [v, .ref a0] h := by
  refine (p_aload rfl rfl).trans ?_
  refine (p_aload rfl rfl).trans ?_
  exact s_getf rfl
theorem r_X2_meets_15 {d : Nat} {a0 : Nat} {x1 x2 x3 : Int32} {l4 : Option Value} {h : AH} : R_X2_meets d 15 [some (.ref a0), some (.int (x1)), some (.int (x2)), some (.int (x3)), l4] [] h = ((hci h a0).bind (lkN [(1, 104)])).bind fun y => aK (exec tTab d y [.ref a0, .int (x1), .int (x2), .int (x3), .int ((nI 0)), .int ((nI 0))] h) (fun v h1 => R_X2_meets d 24 [some (.ref a0), some (.int (x1)), some (.int (x2)), some (.int (x3)), l4] (v.toList ++ []) h1) (fun E h1 => some (.inr E, h1)) := by
  refine (p_aload rfl rfl).trans ?_
  refine (p_iload rfl rfl).trans ?_
  refine (p_iload rfl rfl).trans ?_
  refine (p_iload rfl rfl).trans ?_
  refine (p_const rfl).trans ?_
  refine (p_const rfl).trans ?_
  exact s_callV (L := [(1, 104)]) (n := 5) (b := a0) (rest := []) rfl rfl rfl
theorem r_X2_meets_30 {d : Nat} {b0 b1 : Nat} {x4 : Int32} {l0 l1 l2 l3 : Option Value} {h : AH} : R_X2_meets d 30 [l0, l1, l2, l3, some (.int (x4))] [.ref b1, .ref b0] h = ((hci h b1).bind (lkN [(19, 114)])).bind fun y => aK (exec tTab d y [.ref b1, .int (x4)] h) (fun v h1 => R_X2_meets d 35 [l0, l1, l2, l3, some (.int (x4))] (v.toList ++ [.ref b0]) h1) (fun E h1 => some (.inr E, h1)) := by
  refine (p_iload rfl rfl).trans ?_
  exact s_callV (L := [(19, 114)]) (n := 1) (b := b1) (rest := [.ref b0]) rfl rfl rfl
theorem r_X2_meets_24 {d : Nat} {s0 : Int32} {l0 l1 l2 l3 l4 : Option Value} {h : AH} : R_X2_meets d 24 [l0, l1, l2, l3, l4] [.int (s0)] h = some (.inl (some (.int (s0))), h) := s_iretT rfl rfl
theorem r_X2_meets_35 {d : Nat} {b0 b1 : Nat} {l0 l1 l2 l3 l4 : Option Value} {h : AH} : R_X2_meets d 35 [l0, l1, l2, l3, l4] [.ref b1, .ref b0] h = bif hck h [5, 6] [] b1 then R_X2_meets d 38 [l0, l1, l2, l3, l4] [.ref b1, .ref b0] h else none := s_cast rfl
theorem r_X2_meets_35N {d : Nat} {b0 : Nat} {x2 : Int32} {l0 l1 l3 l4 : Option Value} {h : AH} : R_X2_meets d 35 [l0, l1, some (.int (x2)), l3, l4] [.null, .ref b0] h = ((hci h b0).bind (lkN [(1, 105)])).bind fun y => aK (exec tTab d y [.ref b0, .null, .int (x2)] h) (fun v h1 => R_X2_meets d 42 [l0, l1, some (.int (x2)), l3, l4] (v.toList ++ []) h1) (fun E h1 => some (.inr E, h1)) := by
  refine (p_castN rfl).trans ?_
  refine (p_iload rfl rfl).trans ?_
  exact s_callV (L := [(1, 105)]) (n := 2) (b := b0) (rest := []) rfl rfl rfl
theorem r_X2_meets_38 {d : Nat} {b0 b1 : Nat} {x2 : Int32} {l0 l1 l3 l4 : Option Value} {h : AH} : R_X2_meets d 38 [l0, l1, some (.int (x2)), l3, l4] [.ref b1, .ref b0] h = ((hci h b0).bind (lkN [(1, 105)])).bind fun y => aK (exec tTab d y [.ref b0, .ref b1, .int (x2)] h) (fun v h1 => R_X2_meets d 42 [l0, l1, some (.int (x2)), l3, l4] (v.toList ++ []) h1) (fun E h1 => some (.inr E, h1)) := by
  refine (p_iload rfl rfl).trans ?_
  exact s_callV (L := [(1, 105)]) (n := 2) (b := b0) (rest := []) rfl rfl rfl
theorem r_X2_meets_38N {d : Nat} {b0 : Nat} {x2 : Int32} {l0 l1 l3 l4 : Option Value} {h : AH} : R_X2_meets d 38 [l0, l1, some (.int (x2)), l3, l4] [.null, .ref b0] h = ((hci h b0).bind (lkN [(1, 105)])).bind fun y => aK (exec tTab d y [.ref b0, .null, .int (x2)] h) (fun v h1 => R_X2_meets d 42 [l0, l1, some (.int (x2)), l3, l4] (v.toList ++ []) h1) (fun E h1 => some (.inr E, h1)) := by
  refine (p_iload rfl rfl).trans ?_
  exact s_callV (L := [(1, 105)]) (n := 2) (b := b0) (rest := []) rfl rfl rfl
theorem r_X2_meets_42 {d : Nat} {s0 x4 : Int32} {l0 l1 l2 l3 : Option Value} {h : AH} : R_X2_meets d 42 [l0, l1, l2, l3, some (.int (x4))] [.int (s0)] h = some (.inl (some (.int (x4))), h) := by
  refine (p_pop rfl rfl).trans ?_
  refine (p_iload rfl rfl).trans ?_
  exact s_iretT rfl rfl
theorem e_X2_meets {d : Nat} {a0 : Nat} {x1 x2 x3 : Int32} {h : AH} : exec tTab (d + 1) K_X2_meets [.ref a0, .int x1, .int x2, .int x3] h = R_X2_meets d 0 [some (.ref a0), some (.int x1), some (.int x2), some (.int x3), none] [] h := exec_eq (cd := k_X2_meets) (hd := (fun _ _ => some none)) (L := 5) rfl rfl rfl
/-- FavourTown$World.port(II)I -/
abbrev K_X2_port : Nat := 109
noncomputable def R_X2_port (d pc : Nat) (ls : ALs) (st : List Value) (h : AH) : Option (AOut × AH) := aR (exec tTab d) k_X2_port (fun _ _ => some none) (pc, ls, st, h)
theorem r_X2_port_0 {d : Nat} {l0 l1 l2 l3 l4 l5 : Option Value} {h : AH} : R_X2_port d 0 [l0, l1, l2, l3, l4, l5] [] h = R_X2_port d 5 [l0, l1, l2, some (.int ((nI 0))), some (.int ((nI 0))), l5] [] h := by
  refine (p_const rfl).trans ?_
  refine (p_istore rfl rfl rfl).trans ?_
  refine (p_const rfl).trans ?_
  refine (p_istore rfl rfl rfl).trans ?_
  exact rfl
theorem q_X2_port_5 {d : Nat} {x4 : Int32} {a0 : Nat} {l1 l2 l3 l5 : Option Value} {h : AH} : R_X2_port d 5 [some (.ref a0), l1, l2, l3, some (.int (x4)), l5] [] h = (hgf h [1] a0 9).bind fun v => R_X2_port d 11 [some (.ref a0), l1, l2, l3, some (.int (x4)), l5] [v, .int (x4)] h := by
  refine (p_iload rfl rfl).trans ?_
  refine (p_aload rfl rfl).trans ?_
  exact s_getf rfl
theorem r_X2_port_11 {d : Nat} {s0 : Int32} {b1 : Nat} {l0 l1 l2 l3 l4 l5 : Option Value} {h : AH} : R_X2_port d 11 [l0, l1, l2, l3, l4, l5] [.ref b1, .int (s0)] h = ((hci h b1).bind (lkN [(19, 113)])).bind fun y => aK (exec tTab d y [.ref b1] h) (fun v h1 => R_X2_port d 14 [l0, l1, l2, l3, l4, l5] (v.toList ++ [.int (s0)]) h1) (fun E h1 => some (.inr E, h1)) := s_callV (L := [(19, 113)]) (n := 0) (b := b1) (rest := [.int (s0)]) rfl rfl rfl
theorem r_X2_port_14 {d : Nat} {s0 s1 : Int32} {l0 l1 l2 l3 l4 l5 : Option Value} {h : AH} : R_X2_port d 14 [l0, l1, l2, l3, l4, l5] [.int (s1), .int (s0)] h = if s1 ≤ s0 then R_X2_port d 84 [l0, l1, l2, l3, l4, l5] [] h else R_X2_port d 17 [l0, l1, l2, l3, l4, l5] [] h := (s_icmp (g := (fun x y => decide (y ≤ x))) (t := 84) (nx := 17) rfl).trans bif_dec
theorem r_X2_port_84 {d : Nat} {x3 : Int32} {l0 l1 l2 l4 l5 : Option Value} {h : AH} : R_X2_port d 84 [l0, l1, l2, some (.int (x3)), l4, l5] [] h = some (.inl (some (.int (x3))), h) := by
  refine (p_iload rfl rfl).trans ?_
  exact s_iretT rfl rfl
theorem r_X2_port_17 {d : Nat} {a0 : Nat} {l1 l2 l3 l4 l5 : Option Value} {h : AH} : R_X2_port d 17 [some (.ref a0), l1, l2, l3, l4, l5] [] h = (hgf h [1] a0 9).bind fun v => R_X2_port d 21 [some (.ref a0), l1, l2, l3, l4, l5] [v] h := by
  refine (p_aload rfl rfl).trans ?_
  exact s_getf rfl
theorem r_X2_port_21 {d : Nat} {b0 : Nat} {x4 : Int32} {l0 l1 l2 l3 l5 : Option Value} {h : AH} : R_X2_port d 21 [l0, l1, l2, l3, some (.int (x4)), l5] [.ref b0] h = ((hci h b0).bind (lkN [(19, 114)])).bind fun y => aK (exec tTab d y [.ref b0, .int (x4)] h) (fun v h1 => R_X2_port d 26 [l0, l1, l2, l3, some (.int (x4)), l5] (v.toList ++ []) h1) (fun E h1 => some (.inr E, h1)) := by
  refine (p_iload rfl rfl).trans ?_
  exact s_callV (L := [(19, 114)]) (n := 1) (b := b0) (rest := []) rfl rfl rfl
theorem r_X2_port_26 {d : Nat} {b0 : Nat} {l0 l1 l2 l3 l4 l5 : Option Value} {h : AH} : R_X2_port d 26 [l0, l1, l2, l3, l4, l5] [.ref b0] h = bif hck h [5, 6] [] b0 then R_X2_port d 29 [l0, l1, l2, l3, l4, l5] [.ref b0] h else none := s_cast rfl
theorem r_X2_port_29 {d : Nat} {b0 : Nat} {l0 l1 l2 l3 l4 l5 : Option Value} {h : AH} : R_X2_port d 29 [l0, l1, l2, l3, l4, l5] [.ref b0] h = (hgf h [5, 6] b0 4).bind fun v => R_X2_port d 36 [l0, l1, l2, l3, l4, some (.ref b0)] [v] h := by
  refine (p_astore rfl rfl rfl).trans ?_
  refine (p_aload rfl rfl).trans ?_
  exact s_getf rfl
theorem r_X2_port_36 {d : Nat} {s0 x1 : Int32} {l0 l2 l3 l4 l5 : Option Value} {h : AH} : R_X2_port d 36 [l0, some (.int (x1)), l2, l3, l4, l5] [.int (s0)] h = if ¬ s0 = x1 then R_X2_port d 78 [l0, some (.int (x1)), l2, l3, l4, l5] [] h else R_X2_port d 40 [l0, some (.int (x1)), l2, l3, l4, l5] [] h := by
  refine (p_iload rfl rfl).trans ?_
  exact (s_icmp (g := (fun x y => decide (¬ x = y))) (t := 78) (nx := 40) rfl).trans bif_dec
theorem r_X2_port_78 {d : Nat} {x4 : Int32} {l0 l1 l2 l3 l5 : Option Value} {h : AH} : R_X2_port d 78 [l0, l1, l2, l3, some (.int (x4)), l5] [] h = R_X2_port d 5 [l0, l1, l2, l3, some (.int (x4 + (nI 1))), l5] [] h := by
  refine (p_iinc rfl rfl rfl).trans ?_
  refine (p_goto rfl).trans ?_
  exact rfl
theorem r_X2_port_40 {d : Nat} {a5 : Nat} {l0 l1 l2 l3 l4 : Option Value} {h : AH} : R_X2_port d 40 [l0, l1, l2, l3, l4, some (.ref a5)] [] h = (hgf h [5, 6] a5 0).bind fun v => R_X2_port d 45 [l0, l1, l2, l3, l4, some (.ref a5)] [v] h := by
  refine (p_aload rfl rfl).trans ?_
  exact s_getf rfl
theorem r_X2_port_45 {d : Nat} {s0 x2 : Int32} {l0 l1 l3 l4 l5 : Option Value} {h : AH} : R_X2_port d 45 [l0, l1, some (.int (x2)), l3, l4, l5] [.int (s0)] h = if s0 = x2 then R_X2_port d 78 [l0, l1, some (.int (x2)), l3, l4, l5] [] h else R_X2_port d 49 [l0, l1, some (.int (x2)), l3, l4, l5] [] h := by
  refine (p_iload rfl rfl).trans ?_
  exact (s_icmp (g := (fun x y => decide (x = y))) (t := 78) (nx := 49) rfl).trans bif_dec
theorem r_X2_port_49 {d : Nat} {a0 a5 : Nat} {x2 : Int32} {l1 l3 l4 : Option Value} {h : AH} : R_X2_port d 49 [some (.ref a0), l1, some (.int (x2)), l3, l4, some (.ref a5)] [] h = ((hci h a0).bind (lkN [(1, 93)])).bind fun y => aK (exec tTab d y [.ref a0, .ref a5, .int (x2)] h) (fun v h1 => R_X2_port d 56 [some (.ref a0), l1, some (.int (x2)), l3, l4, some (.ref a5)] (v.toList ++ []) h1) (fun E h1 => some (.inr E, h1)) := by
  refine (p_aload rfl rfl).trans ?_
  refine (p_aload rfl rfl).trans ?_
  refine (p_iload rfl rfl).trans ?_
  exact s_callV (L := [(1, 93)]) (n := 2) (b := a0) (rest := []) rfl rfl rfl
theorem r_X2_port_56 {d : Nat} {s0 : Int32} {l0 l1 l2 l3 l4 l5 : Option Value} {h : AH} : R_X2_port d 56 [l0, l1, l2, l3, l4, l5] [.int (s0)] h = if s0 = 0 then R_X2_port d 78 [l0, l1, l2, l3, l4, l5] [] h else R_X2_port d 59 [l0, l1, l2, l3, l4, l5] [] h := (s_if (g := (fun x => decide (x = 0))) (t := 78) (nx := 59) rfl).trans bif_dec
theorem r_X2_port_59 {d : Nat} {x3 : Int32} {a5 : Nat} {l0 l1 l2 l4 : Option Value} {h : AH} : R_X2_port d 59 [l0, l1, l2, some (.int (x3)), l4, some (.ref a5)] [] h = (hgf h [5, 6] a5 5).bind fun v => R_X2_port d 67 [l0, l1, l2, some (.int (x3)), l4, some (.ref a5)] [v, .ref a5, .int (x3)] h := by
  refine (p_iload rfl rfl).trans ?_
  refine (p_aload rfl rfl).trans ?_
  refine (p_aload rfl rfl).trans ?_
  exact s_getf rfl
theorem r_X2_port_67 {d : Nat} {s0 s2 : Int32} {b1 : Nat} {l0 l1 l2 l3 l4 l5 : Option Value} {h : AH} : R_X2_port d 67 [l0, l1, l2, l3, l4, l5] [.int (s2), .ref b1, .int (s0)] h = ((hci h b1).bind (lkN [(5, 243), (6, 243)])).bind fun y => aK (exec tTab d y [.ref b1, .int (s2 + (nI 1))] h) (fun v h1 => R_X2_port d 72 [l0, l1, l2, l3, l4, l5] (v.toList ++ [.int (s0)]) h1) (fun E h1 => some (.inr E, h1)) := by
  refine (p_const rfl).trans ?_
  refine (p_bin rfl).trans ?_
  exact s_callV (L := [(5, 243), (6, 243)]) (n := 1) (b := b1) (rest := [.int (s0)]) rfl rfl rfl
theorem r_X2_port_72 {d : Nat} {s0 s1 x4 : Int32} {l0 l1 l2 l3 l5 : Option Value} {h : AH} : R_X2_port d 72 [l0, l1, l2, l3, some (.int (x4)), l5] [.int (s1), .int (s0)] h = R_X2_port d 5 [l0, l1, l2, some (.int (s0 + (s1 / (nI 1024)))), some (.int (x4 + (nI 1))), l5] [] h := by
  refine (p_const rfl).trans ?_
  refine (p_divC rfl (by decide)).trans ?_
  refine (p_bin rfl).trans ?_
  refine (p_istore rfl rfl rfl).trans ?_
  refine (p_iinc rfl rfl rfl).trans ?_
  refine (p_goto rfl).trans ?_
  exact rfl
theorem e_X2_port {d : Nat} {a0 : Nat} {x1 x2 : Int32} {h : AH} : exec tTab (d + 1) K_X2_port [.ref a0, .int x1, .int x2] h = R_X2_port d 0 [some (.ref a0), some (.int x1), some (.int x2), none, none, none] [] h := exec_eq (cd := k_X2_port) (hd := (fun _ _ => some none)) (L := 6) rfl rfl rfl
/-- FavourTown$Scene.<init>()V -/
abbrev K_X3_init : Nat := 122
noncomputable def R_X3_init (d pc : Nat) (ls : ALs) (st : List Value) (h : AH) : Option (AOut × AH) := aR (exec tTab d) k_X3_init (fun _ _ => some none) (pc, ls, st, h)
theorem r_X3_init_0 {d : Nat} {a0 : Nat} {h : AH} : R_X3_init d 0 [some (.ref a0)] [] h = some (.inl none, h) := by
  refine (p_aload rfl rfl).trans ?_
  refine (s_objI rfl rfl).trans ?_
  exact s_vret rfl
theorem e_X3_init {d : Nat} {a0 : Nat} {h : AH} : exec tTab (d + 1) K_X3_init [.ref a0] h = R_X3_init d 0 [some (.ref a0)] [] h := exec_eq (cd := k_X3_init) (hd := (fun _ _ => some none)) (L := 1) rfl rfl rfl
/-- FavourTown$Scene.is(LFavourTown$Tag;)Z -/
abbrev K_X3_is : Nat := 123
noncomputable def R_X3_is (d pc : Nat) (ls : ALs) (st : List Value) (h : AH) : Option (AOut × AH) := aR (exec tTab d) k_X3_is (fun _ _ => some none) (pc, ls, st, h)
theorem r_X3_is_0 {d : Nat} {a1 : Nat} {l0 : Option Value} {h : AH} : R_X3_is d 0 [l0, some (.ref a1)] [] h = R_X3_is d 4 [l0, some (.ref a1)] [h.2.2.2 1, .ref a1] h := by
  refine (p_aload rfl rfl).trans ?_
  exact p_stat rfl
theorem r_X3_is_4 {d : Nat} {b0 b1 : Nat} {l0 l1 : Option Value} {h : AH} : R_X3_is d 4 [l0, l1] [.ref b1, .ref b0] h = if some b0 = some b1 then R_X3_is d 7 [l0, l1] [] h else R_X3_is d 14 [l0, l1] [] h := s_acmp' (x := some b0) (y := some b1) rfl rfl rfl
theorem r_X3_is_4N {d : Nat} {b0 : Nat} {l0 l1 : Option Value} {h : AH} : R_X3_is d 4 [l0, l1] [.null, .ref b0] h = if some b0 = (none : Option Nat) then R_X3_is d 7 [l0, l1] [] h else R_X3_is d 14 [l0, l1] [] h := s_acmp' (x := some b0) (y := (none : Option Nat)) rfl rfl rfl
theorem r_X3_is_7 {d : Nat} {a0 : Nat} {l1 : Option Value} {h : AH} : R_X3_is d 7 [some (.ref a0), l1] [] h = (hgf h [8] a0 6).bind fun v => R_X3_is d 11 [some (.ref a0), l1] [v] h := by
  refine (p_aload rfl rfl).trans ?_
  exact s_getf rfl
theorem r_X3_is_14 {d : Nat} {a1 : Nat} {l0 : Option Value} {h : AH} : R_X3_is d 14 [l0, some (.ref a1)] [] h = R_X3_is d 18 [l0, some (.ref a1)] [h.2.2.2 2, .ref a1] h := by
  refine (p_aload rfl rfl).trans ?_
  exact p_stat rfl
theorem r_X3_is_11 {d : Nat} {s0 : Int32} {l0 l1 : Option Value} {h : AH} : R_X3_is d 11 [l0, l1] [.int (s0)] h = bif s0 == 0 || s0 == 1 then some (.inl (some (.int (s0))), h) else none := by
  refine (p_goto rfl).trans ?_
  exact s_iret (ok := (fun x => x == 0 || x == 1)) rfl
theorem r_X3_is_18 {d : Nat} {b0 b1 : Nat} {l0 l1 : Option Value} {h : AH} : R_X3_is d 18 [l0, l1] [.ref b1, .ref b0] h = if some b0 = some b1 then R_X3_is d 21 [l0, l1] [] h else R_X3_is d 28 [l0, l1] [] h := s_acmp' (x := some b0) (y := some b1) rfl rfl rfl
theorem r_X3_is_18N {d : Nat} {b0 : Nat} {l0 l1 : Option Value} {h : AH} : R_X3_is d 18 [l0, l1] [.null, .ref b0] h = if some b0 = (none : Option Nat) then R_X3_is d 21 [l0, l1] [] h else R_X3_is d 28 [l0, l1] [] h := s_acmp' (x := some b0) (y := (none : Option Nat)) rfl rfl rfl
theorem r_X3_is_21 {d : Nat} {a0 : Nat} {l1 : Option Value} {h : AH} : R_X3_is d 21 [some (.ref a0), l1] [] h = (hgf h [8] a0 7).bind fun v => R_X3_is d 25 [some (.ref a0), l1] [v] h := by
  refine (p_aload rfl rfl).trans ?_
  exact s_getf rfl
theorem r_X3_is_28 {d : Nat} {a0 : Nat} {l1 : Option Value} {h : AH} : R_X3_is d 28 [some (.ref a0), l1] [] h = (hgf h [8] a0 8).bind fun v => R_X3_is d 32 [some (.ref a0), l1] [v] h := by
  refine (p_aload rfl rfl).trans ?_
  exact s_getf rfl
theorem r_X3_is_25 {d : Nat} {s0 : Int32} {l0 l1 : Option Value} {h : AH} : R_X3_is d 25 [l0, l1] [.int (s0)] h = bif s0 == 0 || s0 == 1 then some (.inl (some (.int (s0))), h) else none := by
  refine (p_goto rfl).trans ?_
  exact s_iret (ok := (fun x => x == 0 || x == 1)) rfl
theorem r_X3_is_32 {d : Nat} {s0 : Int32} {l0 l1 : Option Value} {h : AH} : R_X3_is d 32 [l0, l1] [.int (s0)] h = bif s0 == 0 || s0 == 1 then some (.inl (some (.int (s0))), h) else none := s_iret (ok := (fun x => x == 0 || x == 1)) rfl
theorem e_X3_is {d : Nat} {a0 a1 : Nat} {h : AH} : exec tTab (d + 1) K_X3_is [.ref a0, .ref a1] h = R_X3_is d 0 [some (.ref a0), some (.ref a1)] [] h := exec_eq (cd := k_X3_is) (hd := (fun _ _ => some none)) (L := 2) rfl rfl rfl
/-- FavourTown$Scene.of(LFavourTown$Fact;)I -/
abbrev K_X3_of : Nat := 124
noncomputable def R_X3_of (d pc : Nat) (ls : ALs) (st : List Value) (h : AH) : Option (AOut × AH) := aR (exec tTab d) k_X3_of (fun _ _ => some none) (pc, ls, st, h)
theorem r_X3_of_0 {d : Nat} {a1 : Nat} {l0 : Option Value} {h : AH} : R_X3_of d 0 [l0, some (.ref a1)] [] h = ((hci h a1).bind (lkN [(26, 304)])).bind fun y => aK (exec tTab d y [.ref a1] h) (fun v h1 => R_X3_of d 4 [l0, some (.ref a1)] (v.toList ++ []) h1) (fun E h1 => some (.inr E, h1)) := by
  refine (p_aload rfl rfl).trans ?_
  exact s_callV (L := [(26, 304)]) (n := 0) (b := a1) (rest := []) rfl rfl rfl
theorem r_X3_of_4 {d : Nat} {s0 : Int32} {l0 l1 : Option Value} {h : AH} : R_X3_of d 4 [l0, l1] [.int (s0)] h = R_X3_of d (if s0.toInt < 0 ∨ 4 < s0.toInt then 65 else [40, 45, 50, 55, 60].getD (s0.toInt - 0).toNat 0) [l0, l1] [] h := p_sw (g := (fun x => if x.toInt < 0 ∨ 4 < x.toInt then 65 else [40, 45, 50, 55, 60].getD (x.toInt - 0).toNat 0)) rfl
theorem r_X3_of_40 {d : Nat} {a0 : Nat} {l1 : Option Value} {h : AH} : R_X3_of d 40 [some (.ref a0), l1] [] h = (hgf h [8] a0 0).bind fun v => R_X3_of d 44 [some (.ref a0), l1] [v] h := by
  refine (p_aload rfl rfl).trans ?_
  exact s_getf rfl
theorem r_X3_of_45 {d : Nat} {a0 : Nat} {l1 : Option Value} {h : AH} : R_X3_of d 45 [some (.ref a0), l1] [] h = (hgf h [8] a0 1).bind fun v => R_X3_of d 49 [some (.ref a0), l1] [v] h := by
  refine (p_aload rfl rfl).trans ?_
  exact s_getf rfl
theorem r_X3_of_50 {d : Nat} {a0 : Nat} {l1 : Option Value} {h : AH} : R_X3_of d 50 [some (.ref a0), l1] [] h = (hgf h [8] a0 2).bind fun v => R_X3_of d 54 [some (.ref a0), l1] [v] h := by
  refine (p_aload rfl rfl).trans ?_
  exact s_getf rfl
theorem r_X3_of_55 {d : Nat} {a0 : Nat} {l1 : Option Value} {h : AH} : R_X3_of d 55 [some (.ref a0), l1] [] h = (hgf h [8] a0 3).bind fun v => R_X3_of d 59 [some (.ref a0), l1] [v] h := by
  refine (p_aload rfl rfl).trans ?_
  exact s_getf rfl
theorem r_X3_of_60 {d : Nat} {a0 : Nat} {l1 : Option Value} {h : AH} : R_X3_of d 60 [some (.ref a0), l1] [] h = (hgf h [8] a0 4).bind fun v => R_X3_of d 64 [some (.ref a0), l1] [v] h := by
  refine (p_aload rfl rfl).trans ?_
  exact s_getf rfl
theorem r_X3_of_65 {d : Nat} {a0 : Nat} {l1 : Option Value} {h : AH} : R_X3_of d 65 [some (.ref a0), l1] [] h = (hgf h [8] a0 5).bind fun v => R_X3_of d 69 [some (.ref a0), l1] [v] h := by
  refine (p_aload rfl rfl).trans ?_
  exact s_getf rfl
theorem r_X3_of_44 {d : Nat} {s0 : Int32} {l0 l1 : Option Value} {h : AH} : R_X3_of d 44 [l0, l1] [.int (s0)] h = some (.inl (some (.int (s0))), h) := s_iretT rfl rfl
theorem r_X3_of_49 {d : Nat} {s0 : Int32} {l0 l1 : Option Value} {h : AH} : R_X3_of d 49 [l0, l1] [.int (s0)] h = some (.inl (some (.int (s0))), h) := s_iretT rfl rfl
theorem r_X3_of_54 {d : Nat} {s0 : Int32} {l0 l1 : Option Value} {h : AH} : R_X3_of d 54 [l0, l1] [.int (s0)] h = some (.inl (some (.int (s0))), h) := s_iretT rfl rfl
theorem r_X3_of_59 {d : Nat} {s0 : Int32} {l0 l1 : Option Value} {h : AH} : R_X3_of d 59 [l0, l1] [.int (s0)] h = some (.inl (some (.int (s0))), h) := s_iretT rfl rfl
theorem r_X3_of_64 {d : Nat} {s0 : Int32} {l0 l1 : Option Value} {h : AH} : R_X3_of d 64 [l0, l1] [.int (s0)] h = some (.inl (some (.int (s0))), h) := s_iretT rfl rfl
theorem r_X3_of_69 {d : Nat} {s0 : Int32} {l0 l1 : Option Value} {h : AH} : R_X3_of d 69 [l0, l1] [.int (s0)] h = some (.inl (some (.int (s0))), h) := s_iretT rfl rfl
theorem e_X3_of {d : Nat} {a0 a1 : Nat} {h : AH} : exec tTab (d + 1) K_X3_of [.ref a0, .ref a1] h = R_X3_of d 0 [some (.ref a0), some (.ref a1)] [] h := exec_eq (cd := k_X3_of) (hd := (fun _ _ => some none)) (L := 2) rfl rfl rfl
/-- FavourTown$Reader.<init>()V -/
abbrev K_X4_init : Nat := 125
noncomputable def R_X4_init (d pc : Nat) (ls : ALs) (st : List Value) (h : AH) : Option (AOut × AH) := aR (exec tTab d) k_X4_init (fun _ _ => some none) (pc, ls, st, h)
theorem r_X4_init_0 {d : Nat} {a0 : Nat} {h : AH} : R_X4_init d 0 [some (.ref a0)] [] h = bif hin (nI 400) 65537 then R_X4_init d 10 [some (.ref a0)] [.ref h.2.1, .ref a0] (hnew h (true, .inl (1, ((nI 400)).toNatClampNeg, (.inl (fun _ => 0)))) ((nI 400)).toNatClampNeg) else none := by
  refine (p_aload rfl rfl).trans ?_
  refine (s_objI rfl rfl).trans ?_
  refine (p_aload rfl rfl).trans ?_
  refine (p_const rfl).trans ?_
  exact s_newa (t := 1) (z := (.inl (fun _ => 0))) rfl
theorem r_X4_init_10 {d : Nat} {b0 b1 : Nat} {l0 : Option Value} {h : AH} : R_X4_init d 10 [l0] [.ref b1, .ref b0] h = (hpf h [2] b0 0 (.ref b1)).bind fun h1 => R_X4_init d 13 [l0] [] h1 := s_putT rfl rfl
theorem r_X4_init_10N {d : Nat} {b0 : Nat} {l0 : Option Value} {h : AH} : R_X4_init d 10 [l0] [.null, .ref b0] h = (hpf h [2] b0 0 (.null)).bind fun h1 => R_X4_init d 13 [l0] [] h1 := s_putT rfl rfl
theorem r_X4_init_13 {d : Nat} {a0 : Nat} {h : AH} : R_X4_init d 13 [some (.ref a0)] [] h = (hpf h [2] a0 5 (.int ((-1)))).bind fun h1 => R_X4_init d 18 [some (.ref a0)] [] h1 := by
  refine (p_aload rfl rfl).trans ?_
  refine (p_const rfl).trans ?_
  exact s_putT rfl rfl
theorem r_X4_init_18 {d : Nat} {l0 : Option Value} {h : AH} : R_X4_init d 18 [l0] [] h = some (.inl none, h) := s_vret rfl
theorem e_X4_init {d : Nat} {a0 : Nat} {h : AH} : exec tTab (d + 1) K_X4_init [.ref a0] h = R_X4_init d 0 [some (.ref a0)] [] h := exec_eq (cd := k_X4_init) (hd := (fun _ _ => some none)) (L := 1) rfl rfl rfl
/-- FavourTown$Reader.add([I)I -/
abbrev K_X4_add : Nat := 126
noncomputable def R_X4_add (d pc : Nat) (ls : ALs) (st : List Value) (h : AH) : Option (AOut × AH) := aR (exec tTab d) k_X4_add (fun _ _ => some none) (pc, ls, st, h)
theorem r_X4_add_0 {d : Nat} {a0 : Nat} {l1 l2 l3 l4 l5 l6 : Option Value} {h : AH} : R_X4_add d 0 [some (.ref a0), l1, l2, l3, l4, l5, l6] [] h = (hgf h [2] a0 1).bind fun v => R_X4_add d 4 [some (.ref a0), l1, l2, l3, l4, l5, l6] [v] h := by
  refine (p_aload rfl rfl).trans ?_
  exact s_getf rfl
theorem r_X4_add_4 {d : Nat} {s0 : Int32} {l0 l1 l2 l3 l4 l5 l6 : Option Value} {h : AH} : R_X4_add d 4 [l0, l1, l2, l3, l4, l5, l6] [.int (s0)] h = if (s0 + (nI 20)) ≤ (nI 400) then R_X4_add d 15 [l0, l1, l2, l3, l4, l5, l6] [] h else R_X4_add d 13 [l0, l1, l2, l3, l4, l5, l6] [] h := by
  refine (p_const rfl).trans ?_
  refine (p_bin rfl).trans ?_
  refine (p_const rfl).trans ?_
  exact (s_icmp (g := (fun x y => decide (x ≤ y))) (t := 15) (nx := 13) rfl).trans bif_dec
theorem r_X4_add_15 {d : Nat} {a1 : Nat} {l0 l2 l3 l4 l5 l6 : Option Value} {h : AH} : R_X4_add d 15 [l0, some (.ref a1), l2, l3, l4, l5, l6] [] h = (hal h a1).bind fun v => R_X4_add d 19 [l0, some (.ref a1), some (.ref a1), l3, l4, l5, l6] [.int (nI v)] h := by
  refine (p_aload rfl rfl).trans ?_
  refine (p_astore rfl rfl rfl).trans ?_
  refine (p_aload rfl rfl).trans ?_
  exact s_alen rfl
theorem r_X4_add_13 {d : Nat} {l0 l1 l2 l3 l4 l5 l6 : Option Value} {h : AH} : R_X4_add d 13 [l0, l1, l2, l3, l4, l5, l6] [] h = some (.inl (some (.int ((-1)))), h) := by
  refine (p_const rfl).trans ?_
  exact s_iretT rfl rfl
theorem r_X4_add_19 {d : Nat} {s0 : Int32} {l0 l1 l2 l3 l4 l5 l6 : Option Value} {h : AH} : R_X4_add d 19 [l0, l1, l2, l3, l4, l5, l6] [.int (s0)] h = R_X4_add d 23 [l0, l1, l2, some (.int (s0)), some (.int ((nI 0))), l5, l6] [] h := by
  refine (p_istore rfl rfl rfl).trans ?_
  refine (p_const rfl).trans ?_
  refine (p_istore rfl rfl rfl).trans ?_
  exact rfl
theorem q_X4_add_23 {d : Nat} {x4 x3 : Int32} {l0 l1 l2 l5 l6 : Option Value} {h : AH} : R_X4_add d 23 [l0, l1, l2, some (.int (x3)), some (.int (x4)), l5, l6] [] h = if x3 ≤ x4 then R_X4_add d 81 [l0, l1, l2, some (.int (x3)), some (.int (x4)), l5, l6] [] h else R_X4_add d 29 [l0, l1, l2, some (.int (x3)), some (.int (x4)), l5, l6] [] h := by
  refine (p_iload rfl rfl).trans ?_
  refine (p_iload rfl rfl).trans ?_
  exact (s_icmp (g := (fun x y => decide (y ≤ x))) (t := 81) (nx := 29) rfl).trans bif_dec
theorem r_X4_add_81 {d : Nat} {a0 : Nat} {l1 l2 l3 l4 l5 l6 : Option Value} {h : AH} : R_X4_add d 81 [some (.ref a0), l1, l2, l3, l4, l5, l6] [] h = (hgf h [2] a0 1).bind fun v => R_X4_add d 85 [some (.ref a0), l1, l2, l3, l4, l5, l6] [v] h := by
  refine (p_aload rfl rfl).trans ?_
  exact s_getf rfl
theorem r_X4_add_29 {d : Nat} {a2 : Nat} {x4 : Int32} {l0 l1 l3 l5 l6 : Option Value} {h : AH} : R_X4_add d 29 [l0, l1, some (.ref a2), l3, some (.int (x4)), l5, l6] [] h = (hai h 0 a2 x4).bind fun v => R_X4_add d 33 [l0, l1, some (.ref a2), l3, some (.int (x4)), l5, l6] [.int v] h := by
  refine (p_aload rfl rfl).trans ?_
  refine (p_iload rfl rfl).trans ?_
  exact s_iald rfl
theorem r_X4_add_85 {d : Nat} {s0 : Int32} {l0 l1 l2 l3 l4 l5 l6 : Option Value} {h : AH} : R_X4_add d 85 [l0, l1, l2, l3, l4, l5, l6] [.int (s0)] h = some (.inl (some (.int (s0))), h) := s_iretT rfl rfl
theorem r_X4_add_33 {d : Nat} {s0 : Int32} {l0 l1 l2 l3 l4 l5 l6 : Option Value} {h : AH} : R_X4_add d 33 [l0, l1, l2, l3, l4, l5, l6] [.int (s0)] h = R_X4_add d 39 [l0, l1, l2, l3, l4, some (.int (s0)), some (.int ((nI 24)))] [] h := by
  refine (p_istore rfl rfl rfl).trans ?_
  refine (p_const rfl).trans ?_
  refine (p_istore rfl rfl rfl).trans ?_
  exact rfl
theorem q_X4_add_39 {d : Nat} {x6 : Int32} {l0 l1 l2 l3 l4 l5 : Option Value} {h : AH} : R_X4_add d 39 [l0, l1, l2, l3, l4, l5, some (.int (x6))] [] h = if x6 < 0 then R_X4_add d 75 [l0, l1, l2, l3, l4, l5, some (.int (x6))] [] h else R_X4_add d 44 [l0, l1, l2, l3, l4, l5, some (.int (x6))] [] h := by
  refine (p_iload rfl rfl).trans ?_
  exact (s_if (g := (fun x => decide (x < 0))) (t := 75) (nx := 44) rfl).trans bif_dec
theorem r_X4_add_75 {d : Nat} {x4 : Int32} {l0 l1 l2 l3 l5 l6 : Option Value} {h : AH} : R_X4_add d 75 [l0, l1, l2, l3, some (.int (x4)), l5, l6] [] h = R_X4_add d 23 [l0, l1, l2, l3, some (.int (x4 + (nI 1))), l5, l6] [] h := by
  refine (p_iinc rfl rfl rfl).trans ?_
  refine (p_goto rfl).trans ?_
  exact rfl
theorem r_X4_add_44 {d : Nat} {a0 : Nat} {l1 l2 l3 l4 l5 l6 : Option Value} {h : AH} : R_X4_add d 44 [some (.ref a0), l1, l2, l3, l4, l5, l6] [] h = (hgf h [2] a0 0).bind fun v => R_X4_add d 48 [some (.ref a0), l1, l2, l3, l4, l5, l6] [v] h := by
  refine (p_aload rfl rfl).trans ?_
  exact s_getf rfl
theorem r_X4_add_48 {d : Nat} {b0 a0 : Nat} {l1 l2 l3 l4 l5 l6 : Option Value} {h : AH} : R_X4_add d 48 [some (.ref a0), l1, l2, l3, l4, l5, l6] [.ref b0] h = (hgf h [2] a0 1).bind fun v => R_X4_add d 52 [some (.ref a0), l1, l2, l3, l4, l5, l6] [v, .ref b0] h := by
  refine (p_aload rfl rfl).trans ?_
  exact s_getf rfl
theorem r_X4_add_48N {d : Nat} {a0 : Nat} {l1 l2 l3 l4 l5 l6 : Option Value} {h : AH} : R_X4_add d 48 [some (.ref a0), l1, l2, l3, l4, l5, l6] [.null] h = (hgf h [2] a0 1).bind fun v => R_X4_add d 52 [some (.ref a0), l1, l2, l3, l4, l5, l6] [v, .null] h := by
  refine (p_aload rfl rfl).trans ?_
  exact s_getf rfl
theorem r_X4_add_52 {d : Nat} {b0 : Nat} {s1 x5 x6 : Int32} {l0 l1 l2 l3 l4 : Option Value} {h : AH} : R_X4_add d 52 [l0, l1, l2, l3, l4, some (.int (x5)), some (.int (x6))] [.int (s1), .ref b0] h = (hsi h 1 b0 s1 (((x5 >>> (x6 &&& 31)).toInt8.toInt32).toInt8.toInt32)).bind fun h1 => R_X4_add d 59 [l0, l1, l2, l3, l4, some (.int (x5)), some (.int (x6))] [] h1 := by
  refine (p_iload rfl rfl).trans ?_
  refine (p_iload rfl rfl).trans ?_
  refine (p_bin rfl).trans ?_
  refine (p_un rfl).trans ?_
  exact s_iast (t := 1) (nar := (fun y => y.toInt8.toInt32)) rfl
theorem r_X4_add_59 {d : Nat} {a0 : Nat} {l1 l2 l3 l4 l5 l6 : Option Value} {h : AH} : R_X4_add d 59 [some (.ref a0), l1, l2, l3, l4, l5, l6] [] h = (hgf h [2] a0 1).bind fun v => R_X4_add d 64 [some (.ref a0), l1, l2, l3, l4, l5, l6] [v, .ref a0] h := by
  refine (p_aload rfl rfl).trans ?_
  refine (p_dup rfl rfl).trans ?_
  exact s_getf rfl
theorem r_X4_add_64 {d : Nat} {b0 : Nat} {s1 : Int32} {l0 l1 l2 l3 l4 l5 l6 : Option Value} {h : AH} : R_X4_add d 64 [l0, l1, l2, l3, l4, l5, l6] [.int (s1), .ref b0] h = (hpf h [2] b0 1 (.int (s1 + (nI 1)))).bind fun h1 => R_X4_add d 69 [l0, l1, l2, l3, l4, l5, l6] [] h1 := by
  refine (p_const rfl).trans ?_
  refine (p_bin rfl).trans ?_
  exact s_putT rfl rfl
theorem r_X4_add_69 {d : Nat} {x6 : Int32} {l0 l1 l2 l3 l4 l5 : Option Value} {h : AH} : R_X4_add d 69 [l0, l1, l2, l3, l4, l5, some (.int (x6))] [] h = R_X4_add d 39 [l0, l1, l2, l3, l4, l5, some (.int (x6 + (-8)))] [] h := by
  refine (p_iinc rfl rfl rfl).trans ?_
  refine (p_goto rfl).trans ?_
  exact rfl
theorem e_X4_add {d : Nat} {a0 a1 : Nat} {h : AH} : exec tTab (d + 1) K_X4_add [.ref a0, .ref a1] h = R_X4_add d 0 [some (.ref a0), some (.ref a1), none, none, none, none, none] [] h := exec_eq (cd := k_X4_add) (hd := (fun _ _ => some none)) (L := 7) rfl rfl rfl
/-- FavourTown$Reader.cut(I)Z -/
abbrev K_X4_cut : Nat := 127
noncomputable def R_X4_cut (d pc : Nat) (ls : ALs) (st : List Value) (h : AH) : Option (AOut × AH) := aR (exec tTab d) k_X4_cut (fun _ _ => some none) (pc, ls, st, h)
theorem r_X4_cut_0 {d : Nat} {x1 : Int32} {l0 : Option Value} {h : AH} : R_X4_cut d 0 [l0, some (.int (x1))] [] h = if x1 < 0 then R_X4_cut d 12 [l0, some (.int (x1))] [] h else R_X4_cut d 4 [l0, some (.int (x1))] [] h := by
  refine (p_iload rfl rfl).trans ?_
  exact (s_if (g := (fun x => decide (x < 0))) (t := 12) (nx := 4) rfl).trans bif_dec
theorem r_X4_cut_12 {d : Nat} {l0 l1 : Option Value} {h : AH} : R_X4_cut d 12 [l0, l1] [] h = some (.inl (some (.int ((nI 0)))), h) := by
  refine (p_const rfl).trans ?_
  exact s_iretT rfl rfl
theorem r_X4_cut_4 {d : Nat} {x1 : Int32} {a0 : Nat} {h : AH} : R_X4_cut d 4 [some (.ref a0), some (.int (x1))] [] h = (hgf h [2] a0 1).bind fun v => R_X4_cut d 9 [some (.ref a0), some (.int (x1))] [v, .int (x1)] h := by
  refine (p_iload rfl rfl).trans ?_
  refine (p_aload rfl rfl).trans ?_
  exact s_getf rfl
theorem r_X4_cut_9 {d : Nat} {s0 s1 : Int32} {l0 l1 : Option Value} {h : AH} : R_X4_cut d 9 [l0, l1] [.int (s1), .int (s0)] h = if s0 ≤ s1 then R_X4_cut d 14 [l0, l1] [] h else R_X4_cut d 12 [l0, l1] [] h := (s_icmp (g := (fun x y => decide (x ≤ y))) (t := 14) (nx := 12) rfl).trans bif_dec
theorem r_X4_cut_14 {d : Nat} {a0 : Nat} {x1 : Int32} {h : AH} : R_X4_cut d 14 [some (.ref a0), some (.int (x1))] [] h = (hpf h [2] a0 1 (.int (x1))).bind fun h1 => R_X4_cut d 19 [some (.ref a0), some (.int (x1))] [] h1 := by
  refine (p_aload rfl rfl).trans ?_
  refine (p_iload rfl rfl).trans ?_
  exact s_putT rfl rfl
theorem r_X4_cut_19 {d : Nat} {l0 l1 : Option Value} {h : AH} : R_X4_cut d 19 [l0, l1] [] h = some (.inl (some (.int ((nI 1)))), h) := by
  refine (p_const rfl).trans ?_
  exact s_iretT rfl rfl
theorem e_X4_cut {d : Nat} {a0 : Nat} {x1 : Int32} {h : AH} : exec tTab (d + 1) K_X4_cut [.ref a0, .int x1] h = R_X4_cut d 0 [some (.ref a0), some (.int x1)] [] h := exec_eq (cd := k_X4_cut) (hd := (fun _ _ => some none)) (L := 2) rfl rfl rfl
/-- FavourTown$Reader.begins()V -/
abbrev K_X4_begins : Nat := 128
noncomputable def R_X4_begins (d pc : Nat) (ls : ALs) (st : List Value) (h : AH) : Option (AOut × AH) := aR (exec tTab d) k_X4_begins (fun _ _ => some none) (pc, ls, st, h)
theorem r_X4_begins_0 {d : Nat} {a0 : Nat} {h : AH} : R_X4_begins d 0 [some (.ref a0)] [] h = (hgf h [2] a0 1).bind fun v => R_X4_begins d 5 [some (.ref a0)] [v, .ref a0] h := by
  refine (p_aload rfl rfl).trans ?_
  refine (p_aload rfl rfl).trans ?_
  exact s_getf rfl
theorem r_X4_begins_5 {d : Nat} {b0 : Nat} {s1 : Int32} {l0 : Option Value} {h : AH} : R_X4_begins d 5 [l0] [.int (s1), .ref b0] h = (hpf h [2] b0 2 (.int (s1))).bind fun h1 => R_X4_begins d 8 [l0] [] h1 := s_putT rfl rfl
theorem r_X4_begins_8 {d : Nat} {a0 : Nat} {h : AH} : R_X4_begins d 8 [some (.ref a0)] [] h = (hpf h [2] a0 1 (.int ((nI 0)))).bind fun h1 => R_X4_begins d 13 [some (.ref a0)] [] h1 := by
  refine (p_aload rfl rfl).trans ?_
  refine (p_const rfl).trans ?_
  exact s_putT rfl rfl
theorem r_X4_begins_13 {d : Nat} {a0 : Nat} {h : AH} : R_X4_begins d 13 [some (.ref a0)] [] h = (hpf h [2] a0 3 (.int ((nI 0)))).bind fun h1 => R_X4_begins d 18 [some (.ref a0)] [] h1 := by
  refine (p_aload rfl rfl).trans ?_
  refine (p_const rfl).trans ?_
  exact s_putT rfl rfl
theorem r_X4_begins_18 {d : Nat} {a0 : Nat} {h : AH} : R_X4_begins d 18 [some (.ref a0)] [] h = (hpf h [2] a0 6 (.int ((nI 0)))).bind fun h1 => R_X4_begins d 23 [some (.ref a0)] [] h1 := by
  refine (p_aload rfl rfl).trans ?_
  refine (p_const rfl).trans ?_
  exact s_putT rfl rfl
theorem r_X4_begins_23 {d : Nat} {l0 : Option Value} {h : AH} : R_X4_begins d 23 [l0] [] h = some (.inl none, h) := s_vret rfl
theorem e_X4_begins {d : Nat} {a0 : Nat} {h : AH} : exec tTab (d + 1) K_X4_begins [.ref a0] h = R_X4_begins d 0 [some (.ref a0)] [] h := exec_eq (cd := k_X4_begins) (hd := (fun _ _ => some none)) (L := 1) rfl rfl rfl
/-- FavourTown$Reader.isOver()Z -/
abbrev K_X4_isOver : Nat := 129
noncomputable def R_X4_isOver (d pc : Nat) (ls : ALs) (st : List Value) (h : AH) : Option (AOut × AH) := aR (exec tTab d) k_X4_isOver (fun _ _ => some none) (pc, ls, st, h)
theorem r_X4_isOver_0 {d : Nat} {a0 : Nat} {h : AH} : R_X4_isOver d 0 [some (.ref a0)] [] h = ((hci h a0).bind (lkN [(2, 130)])).bind fun y => aK (exec tTab d y [.ref a0] h) (fun v h1 => R_X4_isOver d 4 [some (.ref a0)] (v.toList ++ []) h1) (fun E h1 => some (.inr E, h1)) := by
  refine (p_aload rfl rfl).trans ?_
  exact s_callV (L := [(2, 130)]) (n := 0) (b := a0) (rest := []) rfl rfl rfl
theorem r_X4_isOver_4 {d : Nat} {a0 : Nat} {h : AH} : R_X4_isOver d 4 [some (.ref a0)] [] h = (hgf h [2] a0 3).bind fun v => R_X4_isOver d 8 [some (.ref a0)] [v] h := by
  refine (p_aload rfl rfl).trans ?_
  exact s_getf rfl
theorem r_X4_isOver_8 {d : Nat} {s0 : Int32} {a0 : Nat} {h : AH} : R_X4_isOver d 8 [some (.ref a0)] [.int (s0)] h = (hgf h [2] a0 2).bind fun v => R_X4_isOver d 12 [some (.ref a0)] [v, .int (s0)] h := by
  refine (p_aload rfl rfl).trans ?_
  exact s_getf rfl
theorem r_X4_isOver_12 {d : Nat} {s0 s1 : Int32} {l0 : Option Value} {h : AH} : R_X4_isOver d 12 [l0] [.int (s1), .int (s0)] h = if ¬ s0 = s1 then R_X4_isOver d 19 [l0] [] h else R_X4_isOver d 15 [l0] [] h := (s_icmp (g := (fun x y => decide (¬ x = y))) (t := 19) (nx := 15) rfl).trans bif_dec
theorem r_X4_isOver_19 {d : Nat} {l0 : Option Value} {h : AH} : R_X4_isOver d 19 [l0] [] h = some (.inl (some (.int ((nI 0)))), h) := by
  refine (p_const rfl).trans ?_
  exact s_iretT rfl rfl
theorem r_X4_isOver_15 {d : Nat} {l0 : Option Value} {h : AH} : R_X4_isOver d 15 [l0] [] h = some (.inl (some (.int ((nI 1)))), h) := by
  refine (p_const rfl).trans ?_
  refine (p_goto rfl).trans ?_
  exact s_iretT rfl rfl
theorem e_X4_isOver {d : Nat} {a0 : Nat} {h : AH} : exec tTab (d + 1) K_X4_isOver [.ref a0] h = R_X4_isOver d 0 [some (.ref a0)] [] h := exec_eq (cd := k_X4_isOver) (hd := (fun _ _ => some none)) (L := 1) rfl rfl rfl
/-- FavourTown$Reader.blanks()V -/
abbrev K_X4_blanks : Nat := 130
noncomputable def R_X4_blanks (d pc : Nat) (ls : ALs) (st : List Value) (h : AH) : Option (AOut × AH) := aR (exec tTab d) k_X4_blanks (fun _ _ => some none) (pc, ls, st, h)
theorem q_X4_blanks_0 {d : Nat} {a0 : Nat} {h : AH} : R_X4_blanks d 0 [some (.ref a0)] [] h = (hgf h [2] a0 3).bind fun v => R_X4_blanks d 5 [some (.ref a0)] [v, .ref a0] h := by
  refine (p_aload rfl rfl).trans ?_
  refine (p_aload rfl rfl).trans ?_
  exact s_getf rfl
theorem r_X4_blanks_5 {d : Nat} {b0 : Nat} {s1 : Int32} {l0 : Option Value} {h : AH} : R_X4_blanks d 5 [l0] [.int (s1), .ref b0] h = ((hci h b0).bind (lkN [(2, 131)])).bind fun y => aK (exec tTab d y [.ref b0, .int (s1)] h) (fun v h1 => R_X4_blanks d 8 [l0] (v.toList ++ []) h1) (fun E h1 => some (.inr E, h1)) := s_callV (L := [(2, 131)]) (n := 1) (b := b0) (rest := []) rfl rfl rfl
theorem r_X4_blanks_8 {d : Nat} {s0 : Int32} {l0 : Option Value} {h : AH} : R_X4_blanks d 8 [l0] [.int (s0)] h = if ¬ s0 = (nI 32) then R_X4_blanks d 26 [l0] [] h else R_X4_blanks d 13 [l0] [] h := by
  refine (p_const rfl).trans ?_
  exact (s_icmp (g := (fun x y => decide (¬ x = y))) (t := 26) (nx := 13) rfl).trans bif_dec
theorem r_X4_blanks_26 {d : Nat} {a0 : Nat} {h : AH} : R_X4_blanks d 26 [some (.ref a0)] [] h = (hgf h [2] a0 3).bind fun v => R_X4_blanks d 31 [some (.ref a0)] [v, .ref a0] h := by
  refine (p_aload rfl rfl).trans ?_
  refine (p_aload rfl rfl).trans ?_
  exact s_getf rfl
theorem r_X4_blanks_13 {d : Nat} {a0 : Nat} {h : AH} : R_X4_blanks d 13 [some (.ref a0)] [] h = (hgf h [2] a0 3).bind fun v => R_X4_blanks d 18 [some (.ref a0)] [v, .ref a0] h := by
  refine (p_aload rfl rfl).trans ?_
  refine (p_dup rfl rfl).trans ?_
  exact s_getf rfl
theorem r_X4_blanks_31 {d : Nat} {b0 : Nat} {s1 : Int32} {l0 : Option Value} {h : AH} : R_X4_blanks d 31 [l0] [.int (s1), .ref b0] h = (hpf h [2] b0 4 (.int (s1))).bind fun h1 => R_X4_blanks d 34 [l0] [] h1 := s_putT rfl rfl
theorem r_X4_blanks_18 {d : Nat} {b0 : Nat} {s1 : Int32} {l0 : Option Value} {h : AH} : R_X4_blanks d 18 [l0] [.int (s1), .ref b0] h = (hpf h [2] b0 3 (.int (s1 + (nI 1)))).bind fun h1 => R_X4_blanks d 23 [l0] [] h1 := by
  refine (p_const rfl).trans ?_
  refine (p_bin rfl).trans ?_
  exact s_putT rfl rfl
theorem r_X4_blanks_34 {d : Nat} {l0 : Option Value} {h : AH} : R_X4_blanks d 34 [l0] [] h = some (.inl none, h) := s_vret rfl
theorem r_X4_blanks_23 {d : Nat} {l0 : Option Value} {h : AH} : R_X4_blanks d 23 [l0] [] h = R_X4_blanks d 0 [l0] [] h := by
  refine (p_goto rfl).trans ?_
  exact rfl
theorem e_X4_blanks {d : Nat} {a0 : Nat} {h : AH} : exec tTab (d + 1) K_X4_blanks [.ref a0] h = R_X4_blanks d 0 [some (.ref a0)] [] h := exec_eq (cd := k_X4_blanks) (hd := (fun _ _ => some none)) (L := 1) rfl rfl rfl
/-- FavourTown$Reader.byteAt(I)I -/
abbrev K_X4_byteAt : Nat := 131
noncomputable def R_X4_byteAt (d pc : Nat) (ls : ALs) (st : List Value) (h : AH) : Option (AOut × AH) := aR (exec tTab d) k_X4_byteAt (fun _ _ => some none) (pc, ls, st, h)
theorem r_X4_byteAt_0 {d : Nat} {x1 : Int32} {a0 : Nat} {h : AH} : R_X4_byteAt d 0 [some (.ref a0), some (.int (x1))] [] h = (hgf h [2] a0 2).bind fun v => R_X4_byteAt d 5 [some (.ref a0), some (.int (x1))] [v, .int (x1)] h := by
  refine (p_iload rfl rfl).trans ?_
  refine (p_aload rfl rfl).trans ?_
  exact s_getf rfl
theorem r_X4_byteAt_5 {d : Nat} {s0 s1 : Int32} {l0 l1 : Option Value} {h : AH} : R_X4_byteAt d 5 [l0, l1] [.int (s1), .int (s0)] h = if s1 ≤ s0 then R_X4_byteAt d 17 [l0, l1] [] h else R_X4_byteAt d 8 [l0, l1] [] h := (s_icmp (g := (fun x y => decide (y ≤ x))) (t := 17) (nx := 8) rfl).trans bif_dec
theorem r_X4_byteAt_17 {d : Nat} {l0 l1 : Option Value} {h : AH} : R_X4_byteAt d 17 [l0, l1] [] h = some (.inl (some (.int ((-1)))), h) := by
  refine (p_const rfl).trans ?_
  exact s_iretT rfl rfl
theorem r_X4_byteAt_8 {d : Nat} {a0 : Nat} {l1 : Option Value} {h : AH} : R_X4_byteAt d 8 [some (.ref a0), l1] [] h = (hgf h [2] a0 0).bind fun v => R_X4_byteAt d 12 [some (.ref a0), l1] [v] h := by
  refine (p_aload rfl rfl).trans ?_
  exact s_getf rfl
theorem r_X4_byteAt_12 {d : Nat} {b0 : Nat} {x1 : Int32} {l0 : Option Value} {h : AH} : R_X4_byteAt d 12 [l0, some (.int (x1))] [.ref b0] h = (hai h 1 b0 x1).bind fun v => R_X4_byteAt d 14 [l0, some (.int (x1))] [.int v] h := by
  refine (p_iload rfl rfl).trans ?_
  exact s_iald rfl
theorem r_X4_byteAt_14 {d : Nat} {s0 : Int32} {l0 l1 : Option Value} {h : AH} : R_X4_byteAt d 14 [l0, l1] [.int (s0)] h = some (.inl (some (.int (s0))), h) := by
  refine (p_goto rfl).trans ?_
  exact s_iretT rfl rfl
theorem e_X4_byteAt {d : Nat} {a0 : Nat} {x1 : Int32} {h : AH} : exec tTab (d + 1) K_X4_byteAt [.ref a0, .int x1] h = R_X4_byteAt d 0 [some (.ref a0), some (.int x1)] [] h := exec_eq (cd := k_X4_byteAt) (hd := (fun _ _ => some none)) (L := 2) rfl rfl rfl
/-- FavourTown$Reader.word()Ljava/lang/String; -/
abbrev K_X4_word : Nat := 132
noncomputable def R_X4_word (d pc : Nat) (ls : ALs) (st : List Value) (h : AH) : Option (AOut × AH) := aR (exec tTab d) k_X4_word (fun _ _ => some none) (pc, ls, st, h)
theorem r_X4_word_0 {d : Nat} {a0 : Nat} {l1 l2 : Option Value} {h : AH} : R_X4_word d 0 [some (.ref a0), l1, l2] [] h = ((hci h a0).bind (lkN [(2, 130)])).bind fun y => aK (exec tTab d y [.ref a0] h) (fun v h1 => R_X4_word d 4 [some (.ref a0), l1, l2] (v.toList ++ []) h1) (fun E h1 => some (.inr E, h1)) := by
  refine (p_aload rfl rfl).trans ?_
  exact s_callV (L := [(2, 130)]) (n := 0) (b := a0) (rest := []) rfl rfl rfl
theorem q_X4_word_4 {d : Nat} {a0 : Nat} {l1 l2 : Option Value} {h : AH} : R_X4_word d 4 [some (.ref a0), l1, l2] [] h = (hgf h [2] a0 3).bind fun v => R_X4_word d 9 [some (.ref a0), l1, l2] [v, .ref a0] h := by
  refine (p_aload rfl rfl).trans ?_
  refine (p_aload rfl rfl).trans ?_
  exact s_getf rfl
theorem r_X4_word_9 {d : Nat} {b0 : Nat} {s1 : Int32} {l0 l1 l2 : Option Value} {h : AH} : R_X4_word d 9 [l0, l1, l2] [.int (s1), .ref b0] h = ((hci h b0).bind (lkN [(2, 131)])).bind fun y => aK (exec tTab d y [.ref b0, .int (s1)] h) (fun v h1 => R_X4_word d 12 [l0, l1, l2] (v.toList ++ []) h1) (fun E h1 => some (.inr E, h1)) := s_callV (L := [(2, 131)]) (n := 1) (b := b0) (rest := []) rfl rfl rfl
theorem r_X4_word_12 {d : Nat} {s0 : Int32} {l0 l1 l2 : Option Value} {h : AH} : R_X4_word d 12 [l0, l1, l2] [.int (s0)] h = aK (exec tTab d 40 [.int (s0), .int ((nI 97)), .int ((nI 122))] h) (fun v h1 => R_X4_word d 19 [l0, l1, l2] (v.toList ++ []) h1) (fun E h1 => some (.inr E, h1)) := by
  refine (p_const rfl).trans ?_
  refine (p_const rfl).trans ?_
  exact s_callS (y := 40) (n := 3) rfl rfl
theorem r_X4_word_19 {d : Nat} {s0 : Int32} {l0 l1 l2 : Option Value} {h : AH} : R_X4_word d 19 [l0, l1, l2] [.int (s0)] h = if s0 = 0 then R_X4_word d 35 [l0, l1, l2] [] h else R_X4_word d 22 [l0, l1, l2] [] h := (s_if (g := (fun x => decide (x = 0))) (t := 35) (nx := 22) rfl).trans bif_dec
theorem r_X4_word_35 {d : Nat} {l0 l1 l2 : Option Value} {h : AH} : R_X4_word d 35 [l0, l1, l2] [] h = R_X4_word d 38 [l0, l1, l2] [.ref h.2.1] (hnew h (true, .inr (20, [.null, .int 0, .int 0, .int 0])) 4) := p_new rfl
theorem r_X4_word_22 {d : Nat} {a0 : Nat} {l1 l2 : Option Value} {h : AH} : R_X4_word d 22 [some (.ref a0), l1, l2] [] h = (hgf h [2] a0 3).bind fun v => R_X4_word d 27 [some (.ref a0), l1, l2] [v, .ref a0] h := by
  refine (p_aload rfl rfl).trans ?_
  refine (p_dup rfl rfl).trans ?_
  exact s_getf rfl
theorem r_X4_word_38 {d : Nat} {b0 : Nat} {l0 l1 l2 : Option Value} {h : AH} : R_X4_word d 38 [l0, l1, l2] [.ref b0] h = aK (exec tTab d 273 [.ref b0] h) (fun v h1 => R_X4_word d 42 [l0, l1, l2] (v.toList ++ [.ref b0]) h1) (fun E h1 => some (.inr E, h1)) := by
  refine (p_dup rfl rfl).trans ?_
  exact s_callI (y := 273) (n := 0) (b := b0) (rest := [.ref b0]) rfl rfl rfl
theorem r_X4_word_27 {d : Nat} {b0 : Nat} {s1 : Int32} {l0 l1 l2 : Option Value} {h : AH} : R_X4_word d 27 [l0, l1, l2] [.int (s1), .ref b0] h = (hpf h [2] b0 3 (.int (s1 + (nI 1)))).bind fun h1 => R_X4_word d 32 [l0, l1, l2] [] h1 := by
  refine (p_const rfl).trans ?_
  refine (p_bin rfl).trans ?_
  exact s_putT rfl rfl
theorem r_X4_word_42 {d : Nat} {b0 a0 : Nat} {l1 l2 : Option Value} {h : AH} : R_X4_word d 42 [some (.ref a0), l1, l2] [.ref b0] h = (hgf h [2] a0 4).bind fun v => R_X4_word d 47 [some (.ref a0), some (.ref b0), l2] [v] h := by
  refine (p_astore rfl rfl rfl).trans ?_
  refine (p_aload rfl rfl).trans ?_
  exact s_getf rfl
theorem r_X4_word_42N {d : Nat} {a0 : Nat} {l1 l2 : Option Value} {h : AH} : R_X4_word d 42 [some (.ref a0), l1, l2] [.null] h = (hgf h [2] a0 4).bind fun v => R_X4_word d 47 [some (.ref a0), some (.null), l2] [v] h := by
  refine (p_astoreN rfl rfl rfl).trans ?_
  refine (p_aload rfl rfl).trans ?_
  exact s_getf rfl
theorem r_X4_word_32 {d : Nat} {l0 l1 l2 : Option Value} {h : AH} : R_X4_word d 32 [l0, l1, l2] [] h = R_X4_word d 4 [l0, l1, l2] [] h := by
  refine (p_goto rfl).trans ?_
  exact rfl
theorem r_X4_word_47 {d : Nat} {s0 : Int32} {l0 l1 l2 : Option Value} {h : AH} : R_X4_word d 47 [l0, l1, l2] [.int (s0)] h = R_X4_word d 48 [l0, l1, some (.int (s0))] [] h := by
  refine (p_istore rfl rfl rfl).trans ?_
  exact rfl
theorem q_X4_word_48 {d : Nat} {x2 : Int32} {a0 : Nat} {l1 : Option Value} {h : AH} : R_X4_word d 48 [some (.ref a0), l1, some (.int (x2))] [] h = (hgf h [2] a0 3).bind fun v => R_X4_word d 53 [some (.ref a0), l1, some (.int (x2))] [v, .int (x2)] h := by
  refine (p_iload rfl rfl).trans ?_
  refine (p_aload rfl rfl).trans ?_
  exact s_getf rfl
theorem r_X4_word_53 {d : Nat} {s0 s1 : Int32} {l0 l1 l2 : Option Value} {h : AH} : R_X4_word d 53 [l0, l1, l2] [.int (s1), .int (s0)] h = if s1 ≤ s0 then R_X4_word d 74 [l0, l1, l2] [] h else R_X4_word d 56 [l0, l1, l2] [] h := (s_icmp (g := (fun x y => decide (y ≤ x))) (t := 74) (nx := 56) rfl).trans bif_dec
theorem r_X4_word_74 {d : Nat} {a1 : Nat} {l0 l2 : Option Value} {h : AH} : R_X4_word d 74 [l0, some (.ref a1), l2] [] h = ((hci h a1).bind (lkN [(20, 275)])).bind fun y => aK (exec tTab d y [.ref a1] h) (fun v h1 => R_X4_word d 78 [l0, some (.ref a1), l2] (v.toList ++ []) h1) (fun E h1 => some (.inr E, h1)) := by
  refine (p_aload rfl rfl).trans ?_
  exact s_callV (L := [(20, 275)]) (n := 0) (b := a1) (rest := []) rfl rfl rfl
theorem r_X4_word_56 {d : Nat} {a1 a0 : Nat} {l2 : Option Value} {h : AH} : R_X4_word d 56 [some (.ref a0), some (.ref a1), l2] [] h = (hgf h [2] a0 0).bind fun v => R_X4_word d 61 [some (.ref a0), some (.ref a1), l2] [v, .ref a1] h := by
  refine (p_aload rfl rfl).trans ?_
  refine (p_aload rfl rfl).trans ?_
  exact s_getf rfl
theorem r_X4_word_78 {d : Nat} {b0 : Nat} {l0 l1 l2 : Option Value} {h : AH} : R_X4_word d 78 [l0, l1, l2] [.ref b0] h = some (.inl (some (.ref b0)), h) := s_aret rfl
theorem r_X4_word_78N {d : Nat} {l0 l1 l2 : Option Value} {h : AH} : R_X4_word d 78 [l0, l1, l2] [.null] h = some (.inl (some (.null)), h) := s_aretN rfl
theorem r_X4_word_61 {d : Nat} {b0 b1 : Nat} {x2 : Int32} {l0 l1 : Option Value} {h : AH} : R_X4_word d 61 [l0, l1, some (.int (x2))] [.ref b1, .ref b0] h = (hai h 1 b1 x2).bind fun v => R_X4_word d 63 [l0, l1, some (.int (x2))] [.int v, .ref b0] h := by
  refine (p_iload rfl rfl).trans ?_
  exact s_iald rfl
theorem r_X4_word_63 {d : Nat} {b0 : Nat} {s1 : Int32} {l0 l1 l2 : Option Value} {h : AH} : R_X4_word d 63 [l0, l1, l2] [.int (s1), .ref b0] h = ((hci h b0).bind (lkN [(20, 274)])).bind fun y => aK (exec tTab d y [.ref b0, .int ((s1.toUInt32 % 65536).toInt32)] h) (fun v h1 => R_X4_word d 67 [l0, l1, l2] (v.toList ++ []) h1) (fun E h1 => some (.inr E, h1)) := by
  refine (p_un rfl).trans ?_
  exact s_callV (L := [(20, 274)]) (n := 1) (b := b0) (rest := []) rfl rfl rfl
theorem r_X4_word_67 {d : Nat} {b0 : Nat} {x2 : Int32} {l0 l1 : Option Value} {h : AH} : R_X4_word d 67 [l0, l1, some (.int (x2))] [.ref b0] h = R_X4_word d 48 [l0, l1, some (.int (x2 + (nI 1)))] [] h := by
  refine (p_pop rfl rfl).trans ?_
  refine (p_iinc rfl rfl rfl).trans ?_
  refine (p_goto rfl).trans ?_
  exact rfl
theorem r_X4_word_67N {d : Nat} {x2 : Int32} {l0 l1 : Option Value} {h : AH} : R_X4_word d 67 [l0, l1, some (.int (x2))] [.null] h = R_X4_word d 48 [l0, l1, some (.int (x2 + (nI 1)))] [] h := by
  refine (p_pop rfl rfl).trans ?_
  refine (p_iinc rfl rfl rfl).trans ?_
  refine (p_goto rfl).trans ?_
  exact rfl
theorem e_X4_word {d : Nat} {a0 : Nat} {h : AH} : exec tTab (d + 1) K_X4_word [.ref a0] h = R_X4_word d 0 [some (.ref a0), none, none] [] h := exec_eq (cd := k_X4_word) (hd := (fun _ _ => some none)) (L := 3) rfl rfl rfl
/-- FavourTown$Reader.wrong()LFavourTown$Wrong; -/
abbrev K_X4_wrong : Nat := 133
noncomputable def R_X4_wrong (d pc : Nat) (ls : ALs) (st : List Value) (h : AH) : Option (AOut × AH) := aR (exec tTab d) k_X4_wrong (fun _ _ => some none) (pc, ls, st, h)
theorem r_X4_wrong_0 {d : Nat} {l0 : Option Value} {h : AH} : R_X4_wrong d 0 [l0] [] h = R_X4_wrong d 3 [l0] [.ref h.2.1] (hnew h (true, .inr (17, [.null, .null, .null, .null, .null, .int 0])) 6) := p_new rfl
theorem r_X4_wrong_3 {d : Nat} {b0 : Nat} {l0 : Option Value} {h : AH} : R_X4_wrong d 3 [l0] [.ref b0] h = aK (exec tTab d 303 [.ref b0] h) (fun v h1 => R_X4_wrong d 7 [l0] (v.toList ++ [.ref b0]) h1) (fun E h1 => some (.inr E, h1)) := by
  refine (p_dup rfl rfl).trans ?_
  exact s_callI (y := 303) (n := 0) (b := b0) (rest := [.ref b0]) rfl rfl rfl
theorem r_X4_wrong_7 {d : Nat} {b0 : Nat} {l0 : Option Value} {h : AH} : R_X4_wrong d 7 [l0] [.ref b0] h = some (.inl (some (.ref b0)), h) := s_aret rfl
theorem r_X4_wrong_7N {d : Nat} {l0 : Option Value} {h : AH} : R_X4_wrong d 7 [l0] [.null] h = some (.inl (some (.null)), h) := s_aretN rfl
theorem e_X4_wrong {d : Nat} {a0 : Nat} {h : AH} : exec tTab (d + 1) K_X4_wrong [.ref a0] h = R_X4_wrong d 0 [some (.ref a0)] [] h := exec_eq (cd := k_X4_wrong) (hd := (fun _ _ => some none)) (L := 1) rfl rfl rfl
/-- FavourTown$Reader.number(II)I -/
abbrev K_X4_number : Nat := 134
noncomputable def R_X4_number (d pc : Nat) (ls : ALs) (st : List Value) (h : AH) : Option (AOut × AH) := aR (exec tTab d) k_X4_number (fun _ _ => some none) (pc, ls, st, h)
theorem r_X4_number_0 {d : Nat} {a0 : Nat} {l1 l2 l3 : Option Value} {h : AH} : R_X4_number d 0 [some (.ref a0), l1, l2, l3] [] h = ((hci h a0).bind (lkN [(2, 130)])).bind fun y => aK (exec tTab d y [.ref a0] h) (fun v h1 => R_X4_number d 4 [some (.ref a0), l1, l2, l3] (v.toList ++ []) h1) (fun E h1 => some (.inr E, h1)) := by
  refine (p_aload rfl rfl).trans ?_
  exact s_callV (L := [(2, 130)]) (n := 0) (b := a0) (rest := []) rfl rfl rfl
theorem r_X4_number_4 {d : Nat} {l0 l1 l2 l3 : Option Value} {h : AH} : R_X4_number d 4 [l0, l1, l2, l3] [] h = R_X4_number d 6 [l0, l1, l2, some (.int ((nI 0)))] [] h := by
  refine (p_const rfl).trans ?_
  refine (p_istore rfl rfl rfl).trans ?_
  exact rfl
theorem q_X4_number_6 {d : Nat} {a0 : Nat} {l1 l2 l3 : Option Value} {h : AH} : R_X4_number d 6 [some (.ref a0), l1, l2, l3] [] h = (hgf h [2] a0 3).bind fun v => R_X4_number d 11 [some (.ref a0), l1, l2, l3] [v, .ref a0] h := by
  refine (p_aload rfl rfl).trans ?_
  refine (p_aload rfl rfl).trans ?_
  exact s_getf rfl
theorem r_X4_number_11 {d : Nat} {b0 : Nat} {s1 : Int32} {l0 l1 l2 l3 : Option Value} {h : AH} : R_X4_number d 11 [l0, l1, l2, l3] [.int (s1), .ref b0] h = ((hci h b0).bind (lkN [(2, 131)])).bind fun y => aK (exec tTab d y [.ref b0, .int (s1)] h) (fun v h1 => R_X4_number d 14 [l0, l1, l2, l3] (v.toList ++ []) h1) (fun E h1 => some (.inr E, h1)) := s_callV (L := [(2, 131)]) (n := 1) (b := b0) (rest := []) rfl rfl rfl
theorem r_X4_number_14 {d : Nat} {s0 : Int32} {l0 l1 l2 l3 : Option Value} {h : AH} : R_X4_number d 14 [l0, l1, l2, l3] [.int (s0)] h = aK (exec tTab d 40 [.int (s0), .int ((nI 48)), .int ((nI 57))] h) (fun v h1 => R_X4_number d 21 [l0, l1, l2, l3] (v.toList ++ []) h1) (fun E h1 => some (.inr E, h1)) := by
  refine (p_const rfl).trans ?_
  refine (p_const rfl).trans ?_
  exact s_callS (y := 40) (n := 3) rfl rfl
theorem r_X4_number_21 {d : Nat} {s0 : Int32} {l0 l1 l2 l3 : Option Value} {h : AH} : R_X4_number d 21 [l0, l1, l2, l3] [.int (s0)] h = if s0 = 0 then R_X4_number d 71 [l0, l1, l2, l3] [] h else R_X4_number d 24 [l0, l1, l2, l3] [] h := (s_if (g := (fun x => decide (x = 0))) (t := 71) (nx := 24) rfl).trans bif_dec
theorem r_X4_number_71 {d : Nat} {a0 : Nat} {l1 l2 l3 : Option Value} {h : AH} : R_X4_number d 71 [some (.ref a0), l1, l2, l3] [] h = (hgf h [2] a0 3).bind fun v => R_X4_number d 75 [some (.ref a0), l1, l2, l3] [v] h := by
  refine (p_aload rfl rfl).trans ?_
  exact s_getf rfl
theorem r_X4_number_24 {d : Nat} {a0 : Nat} {l1 l2 l3 : Option Value} {h : AH} : R_X4_number d 24 [some (.ref a0), l1, l2, l3] [] h = (hgf h [2] a0 3).bind fun v => R_X4_number d 28 [some (.ref a0), l1, l2, l3] [v] h := by
  refine (p_aload rfl rfl).trans ?_
  exact s_getf rfl
theorem r_X4_number_75 {d : Nat} {s0 : Int32} {a0 : Nat} {l1 l2 l3 : Option Value} {h : AH} : R_X4_number d 75 [some (.ref a0), l1, l2, l3] [.int (s0)] h = (hgf h [2] a0 4).bind fun v => R_X4_number d 79 [some (.ref a0), l1, l2, l3] [v, .int (s0)] h := by
  refine (p_aload rfl rfl).trans ?_
  exact s_getf rfl
theorem r_X4_number_28 {d : Nat} {s0 : Int32} {a0 : Nat} {l1 l2 l3 : Option Value} {h : AH} : R_X4_number d 28 [some (.ref a0), l1, l2, l3] [.int (s0)] h = (hgf h [2] a0 4).bind fun v => R_X4_number d 32 [some (.ref a0), l1, l2, l3] [v, .int (s0)] h := by
  refine (p_aload rfl rfl).trans ?_
  exact s_getf rfl
theorem r_X4_number_79 {d : Nat} {s0 s1 : Int32} {l0 l1 l2 l3 : Option Value} {h : AH} : R_X4_number d 79 [l0, l1, l2, l3] [.int (s1), .int (s0)] h = if s0 = s1 then R_X4_number d 104 [l0, l1, l2, l3] [] h else R_X4_number d 82 [l0, l1, l2, l3] [] h := (s_icmp (g := (fun x y => decide (x = y))) (t := 104) (nx := 82) rfl).trans bif_dec
theorem r_X4_number_32 {d : Nat} {s0 s1 : Int32} {l0 l1 l2 l3 : Option Value} {h : AH} : R_X4_number d 32 [l0, l1, l2, l3] [.int (s1), .int (s0)] h = if (nI 3) ≤ (s0 - s1) then R_X4_number d 56 [l0, l1, l2, l3] [] h else R_X4_number d 37 [l0, l1, l2, l3] [] h := by
  refine (p_bin rfl).trans ?_
  refine (p_const rfl).trans ?_
  exact (s_icmp (g := (fun x y => decide (y ≤ x))) (t := 56) (nx := 37) rfl).trans bif_dec
theorem r_X4_number_104 {d : Nat} {a0 : Nat} {l1 l2 l3 : Option Value} {h : AH} : R_X4_number d 104 [some (.ref a0), l1, l2, l3] [] h = ((hci h a0).bind (lkN [(2, 133)])).bind fun y => aK (exec tTab d y [.ref a0] h) (fun v h1 => R_X4_number d 108 [some (.ref a0), l1, l2, l3] (v.toList ++ []) h1) (fun E h1 => some (.inr E, h1)) := by
  refine (p_aload rfl rfl).trans ?_
  exact s_callV (L := [(2, 133)]) (n := 0) (b := a0) (rest := []) rfl rfl rfl
theorem r_X4_number_82 {d : Nat} {a0 : Nat} {l1 l2 l3 : Option Value} {h : AH} : R_X4_number d 82 [some (.ref a0), l1, l2, l3] [] h = (hgf h [2] a0 3).bind fun v => R_X4_number d 86 [some (.ref a0), l1, l2, l3] [v] h := by
  refine (p_aload rfl rfl).trans ?_
  exact s_getf rfl
theorem r_X4_number_56 {d : Nat} {x3 : Int32} {a0 : Nat} {l1 l2 : Option Value} {h : AH} : R_X4_number d 56 [some (.ref a0), l1, l2, some (.int (x3))] [] h = (hgf h [2] a0 3).bind fun v => R_X4_number d 63 [some (.ref a0), l1, l2, some (.int (x3))] [v, .ref a0] h := by
  refine (p_iload rfl rfl).trans ?_
  refine (p_istore rfl rfl rfl).trans ?_
  refine (p_aload rfl rfl).trans ?_
  refine (p_dup rfl rfl).trans ?_
  exact s_getf rfl
theorem r_X4_number_37 {d : Nat} {x3 : Int32} {a0 : Nat} {l1 l2 : Option Value} {h : AH} : R_X4_number d 37 [some (.ref a0), l1, l2, some (.int (x3))] [] h = (hgf h [2] a0 3).bind fun v => R_X4_number d 46 [some (.ref a0), l1, l2, some (.int (x3))] [v, .ref a0, .int ((nI 10) * x3)] h := by
  refine (p_const rfl).trans ?_
  refine (p_iload rfl rfl).trans ?_
  refine (p_bin rfl).trans ?_
  refine (p_aload rfl rfl).trans ?_
  refine (p_aload rfl rfl).trans ?_
  exact s_getf rfl
theorem r_X4_number_108 {d : Nat} {b0 : Nat} {l0 l1 l2 l3 : Option Value} {h : AH} : R_X4_number d 108 [l0, l1, l2, l3] [.ref b0] h = (hex h [17, 22, 23, 24, 25] b0).bind fun E => (fun E h1 => some (.inr E, h1)) E h := s_athrow rfl
theorem r_X4_number_86 {d : Nat} {s0 : Int32} {a0 : Nat} {l1 l2 l3 : Option Value} {h : AH} : R_X4_number d 86 [some (.ref a0), l1, l2, l3] [.int (s0)] h = (hgf h [2] a0 4).bind fun v => R_X4_number d 90 [some (.ref a0), l1, l2, l3] [v, .int (s0)] h := by
  refine (p_aload rfl rfl).trans ?_
  exact s_getf rfl
theorem r_X4_number_63 {d : Nat} {b0 : Nat} {s1 : Int32} {l0 l1 l2 l3 : Option Value} {h : AH} : R_X4_number d 63 [l0, l1, l2, l3] [.int (s1), .ref b0] h = (hpf h [2] b0 3 (.int (s1 + (nI 1)))).bind fun h1 => R_X4_number d 68 [l0, l1, l2, l3] [] h1 := by
  refine (p_const rfl).trans ?_
  refine (p_bin rfl).trans ?_
  exact s_putT rfl rfl
theorem r_X4_number_46 {d : Nat} {s0 s2 : Int32} {b1 : Nat} {l0 l1 l2 l3 : Option Value} {h : AH} : R_X4_number d 46 [l0, l1, l2, l3] [.int (s2), .ref b1, .int (s0)] h = ((hci h b1).bind (lkN [(2, 131)])).bind fun y => aK (exec tTab d y [.ref b1, .int (s2)] h) (fun v h1 => R_X4_number d 49 [l0, l1, l2, l3] (v.toList ++ [.int (s0)]) h1) (fun E h1 => some (.inr E, h1)) := s_callV (L := [(2, 131)]) (n := 1) (b := b1) (rest := [.int (s0)]) rfl rfl rfl
theorem r_X4_number_90 {d : Nat} {s0 s1 : Int32} {l0 l1 l2 l3 : Option Value} {h : AH} : R_X4_number d 90 [l0, l1, l2, l3] [.int (s1), .int (s0)] h = if (nI 3) < (s0 - s1) then R_X4_number d 104 [l0, l1, l2, l3] [] h else R_X4_number d 95 [l0, l1, l2, l3] [] h := by
  refine (p_bin rfl).trans ?_
  refine (p_const rfl).trans ?_
  exact (s_icmp (g := (fun x y => decide (y < x))) (t := 104) (nx := 95) rfl).trans bif_dec
theorem r_X4_number_68 {d : Nat} {l0 l1 l2 l3 : Option Value} {h : AH} : R_X4_number d 68 [l0, l1, l2, l3] [] h = R_X4_number d 6 [l0, l1, l2, l3] [] h := by
  refine (p_goto rfl).trans ?_
  exact rfl
theorem r_X4_number_49 {d : Nat} {s0 s1 : Int32} {a0 : Nat} {l1 l2 l3 : Option Value} {h : AH} : R_X4_number d 49 [some (.ref a0), l1, l2, l3] [.int (s1), .int (s0)] h = (hgf h [2] a0 3).bind fun v => R_X4_number d 63 [some (.ref a0), l1, l2, some (.int ((s0 + s1) - (nI 48)))] [v, .ref a0] h := by
  refine (p_bin rfl).trans ?_
  refine (p_const rfl).trans ?_
  refine (p_bin rfl).trans ?_
  refine (p_goto rfl).trans ?_
  refine (p_istore rfl rfl rfl).trans ?_
  refine (p_aload rfl rfl).trans ?_
  refine (p_dup rfl rfl).trans ?_
  exact s_getf rfl
theorem r_X4_number_95 {d : Nat} {x3 x1 x2 : Int32} {l0 : Option Value} {h : AH} : R_X4_number d 95 [l0, some (.int (x1)), some (.int (x2)), some (.int (x3))] [] h = aK (exec tTab d 40 [.int (x3), .int (x1), .int (x2)] h) (fun v h1 => R_X4_number d 101 [l0, some (.int (x1)), some (.int (x2)), some (.int (x3))] (v.toList ++ []) h1) (fun E h1 => some (.inr E, h1)) := by
  refine (p_iload rfl rfl).trans ?_
  refine (p_iload rfl rfl).trans ?_
  refine (p_iload rfl rfl).trans ?_
  exact s_callS (y := 40) (n := 3) rfl rfl
theorem r_X4_number_101 {d : Nat} {s0 : Int32} {l0 l1 l2 l3 : Option Value} {h : AH} : R_X4_number d 101 [l0, l1, l2, l3] [.int (s0)] h = if ¬ s0 = 0 then R_X4_number d 109 [l0, l1, l2, l3] [] h else R_X4_number d 104 [l0, l1, l2, l3] [] h := (s_if (g := (fun x => decide (¬ x = 0))) (t := 109) (nx := 104) rfl).trans bif_dec
theorem r_X4_number_109 {d : Nat} {x3 : Int32} {l0 l1 l2 : Option Value} {h : AH} : R_X4_number d 109 [l0, l1, l2, some (.int (x3))] [] h = some (.inl (some (.int (x3))), h) := by
  refine (p_iload rfl rfl).trans ?_
  exact s_iretT rfl rfl
theorem e_X4_number {d : Nat} {a0 : Nat} {x1 x2 : Int32} {h : AH} : exec tTab (d + 1) K_X4_number [.ref a0, .int x1, .int x2] h = R_X4_number d 0 [some (.ref a0), some (.int x1), some (.int x2), none] [] h := exec_eq (cd := k_X4_number) (hd := (fun _ _ => some none)) (L := 4) rfl rfl rfl
/-- FavourTown$Reader.passes(Ljava/lang/String;)Z -/
abbrev K_X4_passes : Nat := 135
noncomputable def R_X4_passes (d pc : Nat) (ls : ALs) (st : List Value) (h : AH) : Option (AOut × AH) := aR (exec tTab d) k_X4_passes (fun _ _ => some none) (pc, ls, st, h)
theorem r_X4_passes_0 {d : Nat} {a0 : Nat} {l1 : Option Value} {h : AH} : R_X4_passes d 0 [some (.ref a0), l1] [] h = ((hci h a0).bind (lkN [(2, 132)])).bind fun y => aK (exec tTab d y [.ref a0] h) (fun v h1 => R_X4_passes d 4 [some (.ref a0), l1] (v.toList ++ []) h1) (fun E h1 => some (.inr E, h1)) := by
  refine (p_aload rfl rfl).trans ?_
  exact s_callV (L := [(2, 132)]) (n := 0) (b := a0) (rest := []) rfl rfl rfl
theorem r_X4_passes_4 {d : Nat} {b0 a1 : Nat} {l0 : Option Value} {h : AH} : R_X4_passes d 4 [l0, some (.ref a1)] [.ref b0] h = ((hci h b0).bind (lkN [(21, 285)])).bind fun y => aK (exec tTab d y [.ref b0, .ref a1] h) (fun v h1 => R_X4_passes d 8 [l0, some (.ref a1)] (v.toList ++ []) h1) (fun E h1 => some (.inr E, h1)) := by
  refine (p_aload rfl rfl).trans ?_
  exact s_callV (L := [(21, 285)]) (n := 1) (b := b0) (rest := []) rfl rfl rfl
theorem r_X4_passes_8 {d : Nat} {s0 : Int32} {l0 l1 : Option Value} {h : AH} : R_X4_passes d 8 [l0, l1] [.int (s0)] h = if s0 = 0 then R_X4_passes d 13 [l0, l1] [] h else R_X4_passes d 11 [l0, l1] [] h := (s_if (g := (fun x => decide (x = 0))) (t := 13) (nx := 11) rfl).trans bif_dec
theorem r_X4_passes_13 {d : Nat} {a0 : Nat} {l1 : Option Value} {h : AH} : R_X4_passes d 13 [some (.ref a0), l1] [] h = (hgf h [2] a0 4).bind fun v => R_X4_passes d 18 [some (.ref a0), l1] [v, .ref a0] h := by
  refine (p_aload rfl rfl).trans ?_
  refine (p_aload rfl rfl).trans ?_
  exact s_getf rfl
theorem r_X4_passes_11 {d : Nat} {l0 l1 : Option Value} {h : AH} : R_X4_passes d 11 [l0, l1] [] h = some (.inl (some (.int ((nI 1)))), h) := by
  refine (p_const rfl).trans ?_
  exact s_iretT rfl rfl
theorem r_X4_passes_18 {d : Nat} {b0 : Nat} {s1 : Int32} {l0 l1 : Option Value} {h : AH} : R_X4_passes d 18 [l0, l1] [.int (s1), .ref b0] h = (hpf h [2] b0 3 (.int (s1))).bind fun h1 => R_X4_passes d 21 [l0, l1] [] h1 := s_putT rfl rfl
theorem r_X4_passes_21 {d : Nat} {l0 l1 : Option Value} {h : AH} : R_X4_passes d 21 [l0, l1] [] h = some (.inl (some (.int ((nI 0)))), h) := by
  refine (p_const rfl).trans ?_
  exact s_iretT rfl rfl
theorem e_X4_passes {d : Nat} {a0 a1 : Nat} {h : AH} : exec tTab (d + 1) K_X4_passes [.ref a0, .ref a1] h = R_X4_passes d 0 [some (.ref a0), some (.ref a1)] [] h := exec_eq (cd := k_X4_passes) (hd := (fun _ _ => some none)) (L := 2) rfl rfl rfl
/-- FavourTown$Reader.sign(I)Z -/
abbrev K_X4_sign : Nat := 136
noncomputable def R_X4_sign (d pc : Nat) (ls : ALs) (st : List Value) (h : AH) : Option (AOut × AH) := aR (exec tTab d) k_X4_sign (fun _ _ => some none) (pc, ls, st, h)
theorem r_X4_sign_0 {d : Nat} {a0 : Nat} {l1 : Option Value} {h : AH} : R_X4_sign d 0 [some (.ref a0), l1] [] h = ((hci h a0).bind (lkN [(2, 130)])).bind fun y => aK (exec tTab d y [.ref a0] h) (fun v h1 => R_X4_sign d 4 [some (.ref a0), l1] (v.toList ++ []) h1) (fun E h1 => some (.inr E, h1)) := by
  refine (p_aload rfl rfl).trans ?_
  exact s_callV (L := [(2, 130)]) (n := 0) (b := a0) (rest := []) rfl rfl rfl
theorem r_X4_sign_4 {d : Nat} {a0 : Nat} {l1 : Option Value} {h : AH} : R_X4_sign d 4 [some (.ref a0), l1] [] h = (hgf h [2] a0 3).bind fun v => R_X4_sign d 9 [some (.ref a0), l1] [v, .ref a0] h := by
  refine (p_aload rfl rfl).trans ?_
  refine (p_aload rfl rfl).trans ?_
  exact s_getf rfl
theorem r_X4_sign_9 {d : Nat} {b0 : Nat} {s1 : Int32} {l0 l1 : Option Value} {h : AH} : R_X4_sign d 9 [l0, l1] [.int (s1), .ref b0] h = ((hci h b0).bind (lkN [(2, 131)])).bind fun y => aK (exec tTab d y [.ref b0, .int (s1)] h) (fun v h1 => R_X4_sign d 12 [l0, l1] (v.toList ++ []) h1) (fun E h1 => some (.inr E, h1)) := s_callV (L := [(2, 131)]) (n := 1) (b := b0) (rest := []) rfl rfl rfl
theorem r_X4_sign_12 {d : Nat} {s0 x1 : Int32} {l0 : Option Value} {h : AH} : R_X4_sign d 12 [l0, some (.int (x1))] [.int (s0)] h = if s0 = x1 then R_X4_sign d 18 [l0, some (.int (x1))] [] h else R_X4_sign d 16 [l0, some (.int (x1))] [] h := by
  refine (p_iload rfl rfl).trans ?_
  exact (s_icmp (g := (fun x y => decide (x = y))) (t := 18) (nx := 16) rfl).trans bif_dec
theorem r_X4_sign_18 {d : Nat} {a0 : Nat} {l1 : Option Value} {h : AH} : R_X4_sign d 18 [some (.ref a0), l1] [] h = (hgf h [2] a0 3).bind fun v => R_X4_sign d 23 [some (.ref a0), l1] [v, .ref a0] h := by
  refine (p_aload rfl rfl).trans ?_
  refine (p_dup rfl rfl).trans ?_
  exact s_getf rfl
theorem r_X4_sign_16 {d : Nat} {l0 l1 : Option Value} {h : AH} : R_X4_sign d 16 [l0, l1] [] h = some (.inl (some (.int ((nI 0)))), h) := by
  refine (p_const rfl).trans ?_
  exact s_iretT rfl rfl
theorem r_X4_sign_23 {d : Nat} {b0 : Nat} {s1 : Int32} {l0 l1 : Option Value} {h : AH} : R_X4_sign d 23 [l0, l1] [.int (s1), .ref b0] h = (hpf h [2] b0 3 (.int (s1 + (nI 1)))).bind fun h1 => R_X4_sign d 28 [l0, l1] [] h1 := by
  refine (p_const rfl).trans ?_
  refine (p_bin rfl).trans ?_
  exact s_putT rfl rfl
theorem r_X4_sign_28 {d : Nat} {l0 l1 : Option Value} {h : AH} : R_X4_sign d 28 [l0, l1] [] h = some (.inl (some (.int ((nI 1)))), h) := by
  refine (p_const rfl).trans ?_
  exact s_iretT rfl rfl
theorem e_X4_sign {d : Nat} {a0 : Nat} {x1 : Int32} {h : AH} : exec tTab (d + 1) K_X4_sign [.ref a0, .int x1] h = R_X4_sign d 0 [some (.ref a0), some (.int x1)] [] h := exec_eq (cd := k_X4_sign) (hd := (fun _ _ => some none)) (L := 2) rfl rfl rfl
/-- FavourTown$Reader.goesDeeper()V -/
abbrev K_X4_goesDeeper : Nat := 137
noncomputable def R_X4_goesDeeper (d pc : Nat) (ls : ALs) (st : List Value) (h : AH) : Option (AOut × AH) := aR (exec tTab d) k_X4_goesDeeper (fun _ _ => some none) (pc, ls, st, h)
theorem r_X4_goesDeeper_0 {d : Nat} {a0 : Nat} {h : AH} : R_X4_goesDeeper d 0 [some (.ref a0)] [] h = (hgf h [2] a0 6).bind fun v => R_X4_goesDeeper d 4 [some (.ref a0)] [v] h := by
  refine (p_aload rfl rfl).trans ?_
  exact s_getf rfl
theorem r_X4_goesDeeper_4 {d : Nat} {s0 : Int32} {l0 : Option Value} {h : AH} : R_X4_goesDeeper d 4 [l0] [.int (s0)] h = if ¬ s0 = (nI 6) then R_X4_goesDeeper d 14 [l0] [] h else R_X4_goesDeeper d 9 [l0] [] h := by
  refine (p_const rfl).trans ?_
  exact (s_icmp (g := (fun x y => decide (¬ x = y))) (t := 14) (nx := 9) rfl).trans bif_dec
theorem r_X4_goesDeeper_14 {d : Nat} {a0 : Nat} {h : AH} : R_X4_goesDeeper d 14 [some (.ref a0)] [] h = (hgf h [2] a0 6).bind fun v => R_X4_goesDeeper d 19 [some (.ref a0)] [v, .ref a0] h := by
  refine (p_aload rfl rfl).trans ?_
  refine (p_dup rfl rfl).trans ?_
  exact s_getf rfl
theorem r_X4_goesDeeper_9 {d : Nat} {a0 : Nat} {h : AH} : R_X4_goesDeeper d 9 [some (.ref a0)] [] h = ((hci h a0).bind (lkN [(2, 133)])).bind fun y => aK (exec tTab d y [.ref a0] h) (fun v h1 => R_X4_goesDeeper d 13 [some (.ref a0)] (v.toList ++ []) h1) (fun E h1 => some (.inr E, h1)) := by
  refine (p_aload rfl rfl).trans ?_
  exact s_callV (L := [(2, 133)]) (n := 0) (b := a0) (rest := []) rfl rfl rfl
theorem r_X4_goesDeeper_19 {d : Nat} {b0 : Nat} {s1 : Int32} {l0 : Option Value} {h : AH} : R_X4_goesDeeper d 19 [l0] [.int (s1), .ref b0] h = (hpf h [2] b0 6 (.int (s1 + (nI 1)))).bind fun h1 => R_X4_goesDeeper d 24 [l0] [] h1 := by
  refine (p_const rfl).trans ?_
  refine (p_bin rfl).trans ?_
  exact s_putT rfl rfl
theorem r_X4_goesDeeper_13 {d : Nat} {b0 : Nat} {l0 : Option Value} {h : AH} : R_X4_goesDeeper d 13 [l0] [.ref b0] h = (hex h [17, 22, 23, 24, 25] b0).bind fun E => (fun E h1 => some (.inr E, h1)) E h := s_athrow rfl
theorem r_X4_goesDeeper_24 {d : Nat} {l0 : Option Value} {h : AH} : R_X4_goesDeeper d 24 [l0] [] h = some (.inl none, h) := s_vret rfl
theorem e_X4_goesDeeper {d : Nat} {a0 : Nat} {h : AH} : exec tTab (d + 1) K_X4_goesDeeper [.ref a0] h = R_X4_goesDeeper d 0 [some (.ref a0)] [] h := exec_eq (cd := k_X4_goesDeeper) (hd := (fun _ _ => some none)) (L := 1) rfl rfl rfl
/-- FavourTown$Reader.comesUp()V -/
abbrev K_X4_comesUp : Nat := 138
noncomputable def R_X4_comesUp (d pc : Nat) (ls : ALs) (st : List Value) (h : AH) : Option (AOut × AH) := aR (exec tTab d) k_X4_comesUp (fun _ _ => some none) (pc, ls, st, h)
theorem r_X4_comesUp_0 {d : Nat} {a0 : Nat} {h : AH} : R_X4_comesUp d 0 [some (.ref a0)] [] h = (hgf h [2] a0 6).bind fun v => R_X4_comesUp d 5 [some (.ref a0)] [v, .ref a0] h := by
  refine (p_aload rfl rfl).trans ?_
  refine (p_dup rfl rfl).trans ?_
  exact s_getf rfl
theorem r_X4_comesUp_5 {d : Nat} {b0 : Nat} {s1 : Int32} {l0 : Option Value} {h : AH} : R_X4_comesUp d 5 [l0] [.int (s1), .ref b0] h = (hpf h [2] b0 6 (.int (s1 - (nI 1)))).bind fun h1 => R_X4_comesUp d 10 [l0] [] h1 := by
  refine (p_const rfl).trans ?_
  refine (p_bin rfl).trans ?_
  exact s_putT rfl rfl
theorem r_X4_comesUp_10 {d : Nat} {l0 : Option Value} {h : AH} : R_X4_comesUp d 10 [l0] [] h = some (.inl none, h) := s_vret rfl
theorem e_X4_comesUp {d : Nat} {a0 : Nat} {h : AH} : exec tTab (d + 1) K_X4_comesUp [.ref a0] h = R_X4_comesUp d 0 [some (.ref a0)] [] h := exec_eq (cd := k_X4_comesUp) (hd := (fun _ _ => some none)) (L := 1) rfl rfl rfl
/-- FavourTown$Reader.isFigure()Z -/
abbrev K_X4_isFigure : Nat := 139
noncomputable def R_X4_isFigure (d pc : Nat) (ls : ALs) (st : List Value) (h : AH) : Option (AOut × AH) := aR (exec tTab d) k_X4_isFigure (fun _ _ => some none) (pc, ls, st, h)
theorem r_X4_isFigure_0 {d : Nat} {a0 : Nat} {h : AH} : R_X4_isFigure d 0 [some (.ref a0)] [] h = ((hci h a0).bind (lkN [(2, 130)])).bind fun y => aK (exec tTab d y [.ref a0] h) (fun v h1 => R_X4_isFigure d 4 [some (.ref a0)] (v.toList ++ []) h1) (fun E h1 => some (.inr E, h1)) := by
  refine (p_aload rfl rfl).trans ?_
  exact s_callV (L := [(2, 130)]) (n := 0) (b := a0) (rest := []) rfl rfl rfl
theorem r_X4_isFigure_4 {d : Nat} {a0 : Nat} {h : AH} : R_X4_isFigure d 4 [some (.ref a0)] [] h = (hgf h [2] a0 3).bind fun v => R_X4_isFigure d 9 [some (.ref a0)] [v, .ref a0] h := by
  refine (p_aload rfl rfl).trans ?_
  refine (p_aload rfl rfl).trans ?_
  exact s_getf rfl
theorem r_X4_isFigure_9 {d : Nat} {b0 : Nat} {s1 : Int32} {l0 : Option Value} {h : AH} : R_X4_isFigure d 9 [l0] [.int (s1), .ref b0] h = ((hci h b0).bind (lkN [(2, 131)])).bind fun y => aK (exec tTab d y [.ref b0, .int (s1)] h) (fun v h1 => R_X4_isFigure d 12 [l0] (v.toList ++ []) h1) (fun E h1 => some (.inr E, h1)) := s_callV (L := [(2, 131)]) (n := 1) (b := b0) (rest := []) rfl rfl rfl
theorem r_X4_isFigure_12 {d : Nat} {s0 : Int32} {l0 : Option Value} {h : AH} : R_X4_isFigure d 12 [l0] [.int (s0)] h = aK (exec tTab d 40 [.int (s0), .int ((nI 48)), .int ((nI 57))] h) (fun v h1 => R_X4_isFigure d 19 [l0] (v.toList ++ []) h1) (fun E h1 => some (.inr E, h1)) := by
  refine (p_const rfl).trans ?_
  refine (p_const rfl).trans ?_
  exact s_callS (y := 40) (n := 3) rfl rfl
theorem r_X4_isFigure_19 {d : Nat} {s0 : Int32} {l0 : Option Value} {h : AH} : R_X4_isFigure d 19 [l0] [.int (s0)] h = bif s0 == 0 || s0 == 1 then some (.inl (some (.int (s0))), h) else none := s_iret (ok := (fun x => x == 0 || x == 1)) rfl
theorem e_X4_isFigure {d : Nat} {a0 : Nat} {h : AH} : exec tTab (d + 1) K_X4_isFigure [.ref a0] h = R_X4_isFigure d 0 [some (.ref a0)] [] h := exec_eq (cd := k_X4_isFigure) (hd := (fun _ _ => some none)) (L := 1) rfl rfl rfl
/-- FavourTown$Flow.<init>(LFavourTown;)V -/
abbrev K_X5_init : Nat := 140
noncomputable def R_X5_init (d pc : Nat) (ls : ALs) (st : List Value) (h : AH) : Option (AOut × AH) := aR (exec tTab d) k_X5_init (fun _ _ => some none) (pc, ls, st, h)
theorem r_X5_init_0 {d : Nat} {a0 a1 : Nat} {h : AH} : R_X5_init d 0 [some (.ref a0), some (.ref a1)] [] h = (hpf h [3] a0 3 (.ref a1)).bind fun h1 => R_X5_init d 5 [some (.ref a0), some (.ref a1)] [] h1 := by
  refine (p_aload rfl rfl).trans ?_
  refine (p_aload rfl rfl).trans ?_
  exact s_putT rfl rfl
theorem r_X5_init_5 {d : Nat} {a0 : Nat} {l1 : Option Value} {h : AH} : R_X5_init d 5 [some (.ref a0), l1] [] h = bif hin (nI 12) 1025 && hin (nI 12) 1025 then R_X5_init d 18 [some (.ref a0), l1] [.ref h.2.1, .ref a0] (mnewC h ((nI 12)).toNatClampNeg ((nI 12)).toNatClampNeg) else none := by
  refine (p_aload rfl rfl).trans ?_
  refine (s_objI rfl rfl).trans ?_
  refine (p_aload rfl rfl).trans ?_
  refine (p_const rfl).trans ?_
  refine (p_const rfl).trans ?_
  exact s_mnew rfl
theorem r_X5_init_18 {d : Nat} {b0 b1 : Nat} {l0 l1 : Option Value} {h : AH} : R_X5_init d 18 [l0, l1] [.ref b1, .ref b0] h = (hpf h [3] b0 0 (.ref b1)).bind fun h1 => R_X5_init d 21 [l0, l1] [] h1 := s_putT rfl rfl
theorem r_X5_init_18N {d : Nat} {b0 : Nat} {l0 l1 : Option Value} {h : AH} : R_X5_init d 18 [l0, l1] [.null, .ref b0] h = (hpf h [3] b0 0 (.null)).bind fun h1 => R_X5_init d 21 [l0, l1] [] h1 := s_putT rfl rfl
theorem r_X5_init_21 {d : Nat} {a0 : Nat} {l1 : Option Value} {h : AH} : R_X5_init d 21 [some (.ref a0), l1] [] h = bif hin (nI 12) 65537 then R_X5_init d 26 [some (.ref a0), l1] [.ref h.2.1, .ref a0] (hnew h (true, .inl (0, ((nI 12)).toNatClampNeg, (.inl (fun _ => 0)))) ((nI 12)).toNatClampNeg) else none := by
  refine (p_aload rfl rfl).trans ?_
  refine (p_const rfl).trans ?_
  exact s_newa (t := 0) (z := (.inl (fun _ => 0))) rfl
theorem r_X5_init_26 {d : Nat} {b0 b1 : Nat} {l0 l1 : Option Value} {h : AH} : R_X5_init d 26 [l0, l1] [.ref b1, .ref b0] h = (hpf h [3] b0 1 (.ref b1)).bind fun h1 => R_X5_init d 29 [l0, l1] [] h1 := s_putT rfl rfl
theorem r_X5_init_26N {d : Nat} {b0 : Nat} {l0 l1 : Option Value} {h : AH} : R_X5_init d 26 [l0, l1] [.null, .ref b0] h = (hpf h [3] b0 1 (.null)).bind fun h1 => R_X5_init d 29 [l0, l1] [] h1 := s_putT rfl rfl
theorem r_X5_init_29 {d : Nat} {a0 : Nat} {l1 : Option Value} {h : AH} : R_X5_init d 29 [some (.ref a0), l1] [] h = bif hin (nI 12) 65537 then R_X5_init d 34 [some (.ref a0), l1] [.ref h.2.1, .ref a0] (hnew h (true, .inl (0, ((nI 12)).toNatClampNeg, (.inl (fun _ => 0)))) ((nI 12)).toNatClampNeg) else none := by
  refine (p_aload rfl rfl).trans ?_
  refine (p_const rfl).trans ?_
  exact s_newa (t := 0) (z := (.inl (fun _ => 0))) rfl
theorem r_X5_init_34 {d : Nat} {b0 b1 : Nat} {l0 l1 : Option Value} {h : AH} : R_X5_init d 34 [l0, l1] [.ref b1, .ref b0] h = (hpf h [3] b0 2 (.ref b1)).bind fun h1 => R_X5_init d 37 [l0, l1] [] h1 := s_putT rfl rfl
theorem r_X5_init_34N {d : Nat} {b0 : Nat} {l0 l1 : Option Value} {h : AH} : R_X5_init d 34 [l0, l1] [.null, .ref b0] h = (hpf h [3] b0 2 (.null)).bind fun h1 => R_X5_init d 37 [l0, l1] [] h1 := s_putT rfl rfl
theorem r_X5_init_37 {d : Nat} {l0 l1 : Option Value} {h : AH} : R_X5_init d 37 [l0, l1] [] h = some (.inl none, h) := s_vret rfl
theorem e_X5_init {d : Nat} {a0 a1 : Nat} {h : AH} : exec tTab (d + 1) K_X5_init [.ref a0, .ref a1] h = R_X5_init d 0 [some (.ref a0), some (.ref a1)] [] h := exec_eq (cd := k_X5_init) (hd := (fun _ _ => some none)) (L := 2) rfl rfl rfl
/-- FavourTown$Flow.begins()LFavourTown$Flow; -/
abbrev K_X5_begins : Nat := 141
noncomputable def R_X5_begins (d pc : Nat) (ls : ALs) (st : List Value) (h : AH) : Option (AOut × AH) := aR (exec tTab d) k_X5_begins (fun _ _ => some none) (pc, ls, st, h)
theorem r_X5_begins_0 {d : Nat} {l0 l1 l2 : Option Value} {h : AH} : R_X5_begins d 0 [l0, l1, l2] [] h = R_X5_begins d 2 [l0, some (.int ((nI 0))), l2] [] h := by
  refine (p_const rfl).trans ?_
  refine (p_istore rfl rfl rfl).trans ?_
  exact rfl
theorem q_X5_begins_2 {d : Nat} {x1 : Int32} {a0 : Nat} {l2 : Option Value} {h : AH} : R_X5_begins d 2 [some (.ref a0), some (.int (x1)), l2] [] h = (hgf h [3] a0 3).bind fun v => R_X5_begins d 7 [some (.ref a0), some (.int (x1)), l2] [v, .int (x1)] h := by
  refine (p_iload rfl rfl).trans ?_
  refine (p_aload rfl rfl).trans ?_
  exact s_getf rfl
theorem r_X5_begins_7 {d : Nat} {s0 : Int32} {b1 : Nat} {l0 l1 l2 : Option Value} {h : AH} : R_X5_begins d 7 [l0, l1, l2] [.ref b1, .int (s0)] h = (hgf h [0] b1 0).bind fun v => R_X5_begins d 10 [l0, l1, l2] [v, .int (s0)] h := s_getf rfl
theorem r_X5_begins_10 {d : Nat} {s0 : Int32} {b1 : Nat} {l0 l1 l2 : Option Value} {h : AH} : R_X5_begins d 10 [l0, l1, l2] [.ref b1, .int (s0)] h = (hgf h [1] b1 3).bind fun v => R_X5_begins d 13 [l0, l1, l2] [v, .int (s0)] h := s_getf rfl
theorem r_X5_begins_13 {d : Nat} {s0 s1 : Int32} {l0 l1 l2 : Option Value} {h : AH} : R_X5_begins d 13 [l0, l1, l2] [.int (s1), .int (s0)] h = if s1 ≤ s0 then R_X5_begins d 73 [l0, l1, l2] [] h else R_X5_begins d 16 [l0, l1, l2] [] h := (s_icmp (g := (fun x y => decide (y ≤ x))) (t := 73) (nx := 16) rfl).trans bif_dec
theorem r_X5_begins_73 {d : Nat} {a0 : Nat} {l1 l2 : Option Value} {h : AH} : R_X5_begins d 73 [some (.ref a0), l1, l2] [] h = some (.inl (some (.ref a0)), h) := by
  refine (p_aload rfl rfl).trans ?_
  exact s_aret rfl
theorem r_X5_begins_16 {d : Nat} {l0 l1 l2 : Option Value} {h : AH} : R_X5_begins d 16 [l0, l1, l2] [] h = R_X5_begins d 18 [l0, l1, some (.int ((nI 0)))] [] h := by
  refine (p_const rfl).trans ?_
  refine (p_istore rfl rfl rfl).trans ?_
  exact rfl
theorem q_X5_begins_18 {d : Nat} {x2 : Int32} {a0 : Nat} {l1 : Option Value} {h : AH} : R_X5_begins d 18 [some (.ref a0), l1, some (.int (x2))] [] h = (hgf h [3] a0 3).bind fun v => R_X5_begins d 23 [some (.ref a0), l1, some (.int (x2))] [v, .int (x2)] h := by
  refine (p_iload rfl rfl).trans ?_
  refine (p_aload rfl rfl).trans ?_
  exact s_getf rfl
theorem r_X5_begins_23 {d : Nat} {s0 : Int32} {b1 : Nat} {l0 l1 l2 : Option Value} {h : AH} : R_X5_begins d 23 [l0, l1, l2] [.ref b1, .int (s0)] h = (hgf h [0] b1 0).bind fun v => R_X5_begins d 26 [l0, l1, l2] [v, .int (s0)] h := s_getf rfl
theorem r_X5_begins_26 {d : Nat} {s0 : Int32} {b1 : Nat} {l0 l1 l2 : Option Value} {h : AH} : R_X5_begins d 26 [l0, l1, l2] [.ref b1, .int (s0)] h = (hgf h [1] b1 3).bind fun v => R_X5_begins d 29 [l0, l1, l2] [v, .int (s0)] h := s_getf rfl
theorem r_X5_begins_29 {d : Nat} {s0 s1 : Int32} {l0 l1 l2 : Option Value} {h : AH} : R_X5_begins d 29 [l0, l1, l2] [.int (s1), .int (s0)] h = if s1 ≤ s0 then R_X5_begins d 67 [l0, l1, l2] [] h else R_X5_begins d 32 [l0, l1, l2] [] h := (s_icmp (g := (fun x y => decide (y ≤ x))) (t := 67) (nx := 32) rfl).trans bif_dec
theorem r_X5_begins_67 {d : Nat} {x1 : Int32} {l0 l2 : Option Value} {h : AH} : R_X5_begins d 67 [l0, some (.int (x1)), l2] [] h = R_X5_begins d 2 [l0, some (.int (x1 + (nI 1))), l2] [] h := by
  refine (p_iinc rfl rfl rfl).trans ?_
  refine (p_goto rfl).trans ?_
  exact rfl
theorem r_X5_begins_32 {d : Nat} {a0 : Nat} {l1 l2 : Option Value} {h : AH} : R_X5_begins d 32 [some (.ref a0), l1, l2] [] h = (hgf h [3] a0 0).bind fun v => R_X5_begins d 36 [some (.ref a0), l1, l2] [v] h := by
  refine (p_aload rfl rfl).trans ?_
  exact s_getf rfl
theorem r_X5_begins_36 {d : Nat} {b0 : Nat} {x1 : Int32} {l0 l2 : Option Value} {h : AH} : R_X5_begins d 36 [l0, some (.int (x1)), l2] [.ref b0] h = (haqs h [3, 4, 5] b0 x1).bind fun v => R_X5_begins d 38 [l0, some (.int (x1)), l2] [va_rf v] h := by
  refine (p_iload rfl rfl).trans ?_
  exact s_aald rfl
theorem r_X5_begins_38 {d : Nat} {b0 : Nat} {x2 x1 : Int32} {l0 : Option Value} {h : AH} : R_X5_begins d 38 [l0, some (.int (x1)), some (.int (x2))] [.ref b0] h = if ¬ x1 = x2 then R_X5_begins d 48 [l0, some (.int (x1)), some (.int (x2))] [.int (x2), .ref b0] h else R_X5_begins d 44 [l0, some (.int (x1)), some (.int (x2))] [.int (x2), .ref b0] h := by
  refine (p_iload rfl rfl).trans ?_
  refine (p_iload rfl rfl).trans ?_
  refine (p_iload rfl rfl).trans ?_
  exact (s_icmp (g := (fun x y => decide (¬ x = y))) (t := 48) (nx := 44) rfl).trans bif_dec
theorem r_X5_begins_38N {d : Nat} {x2 x1 : Int32} {l0 : Option Value} {h : AH} : R_X5_begins d 38 [l0, some (.int (x1)), some (.int (x2))] [.null] h = if ¬ x1 = x2 then R_X5_begins d 48 [l0, some (.int (x1)), some (.int (x2))] [.int (x2), .null] h else R_X5_begins d 44 [l0, some (.int (x1)), some (.int (x2))] [.int (x2), .null] h := by
  refine (p_iload rfl rfl).trans ?_
  refine (p_iload rfl rfl).trans ?_
  refine (p_iload rfl rfl).trans ?_
  exact (s_icmp (g := (fun x y => decide (¬ x = y))) (t := 48) (nx := 44) rfl).trans bif_dec
theorem r_X5_begins_48 {d : Nat} {b0 a0 : Nat} {s1 : Int32} {l1 l2 : Option Value} {h : AH} : R_X5_begins d 48 [some (.ref a0), l1, l2] [.int (s1), .ref b0] h = (hgf h [3] a0 3).bind fun v => R_X5_begins d 52 [some (.ref a0), l1, l2] [v, .int (s1), .ref b0] h := by
  refine (p_aload rfl rfl).trans ?_
  exact s_getf rfl
theorem r_X5_begins_44 {d : Nat} {b0 : Nat} {s1 : Int32} {l0 l1 l2 : Option Value} {h : AH} : R_X5_begins d 44 [l0, l1, l2] [.int (s1), .ref b0] h = (hsi h 0 b0 s1 (nI 0)).bind fun h1 => R_X5_begins d 61 [l0, l1, l2] [] h1 := by
  refine (p_const rfl).trans ?_
  refine (p_goto rfl).trans ?_
  exact s_iast (t := 0) (nar := (fun y => y)) rfl
theorem r_X5_begins_52 {d : Nat} {b0 b2 : Nat} {s1 : Int32} {l0 l1 l2 : Option Value} {h : AH} : R_X5_begins d 52 [l0, l1, l2] [.ref b2, .int (s1), .ref b0] h = (hgf h [0] b2 0).bind fun v => R_X5_begins d 55 [l0, l1, l2] [v, .int (s1), .ref b0] h := s_getf rfl
theorem r_X5_begins_61 {d : Nat} {x2 : Int32} {l0 l1 : Option Value} {h : AH} : R_X5_begins d 61 [l0, l1, some (.int (x2))] [] h = R_X5_begins d 18 [l0, l1, some (.int (x2 + (nI 1)))] [] h := by
  refine (p_iinc rfl rfl rfl).trans ?_
  refine (p_goto rfl).trans ?_
  exact rfl
theorem r_X5_begins_55 {d : Nat} {b0 b2 : Nat} {s1 x1 x2 : Int32} {l0 : Option Value} {h : AH} : R_X5_begins d 55 [l0, some (.int (x1)), some (.int (x2))] [.ref b2, .int (s1), .ref b0] h = ((hci h b2).bind (lkN [(1, 109)])).bind fun y => aK (exec tTab d y [.ref b2, .int (x1), .int (x2)] h) (fun v h1 => R_X5_begins d 60 [l0, some (.int (x1)), some (.int (x2))] (v.toList ++ [.int (s1), .ref b0]) h1) (fun E h1 => some (.inr E, h1)) := by
  refine (p_iload rfl rfl).trans ?_
  refine (p_iload rfl rfl).trans ?_
  exact s_callV (L := [(1, 109)]) (n := 2) (b := b2) (rest := [.int (s1), .ref b0]) rfl rfl rfl
theorem r_X5_begins_60 {d : Nat} {b0 : Nat} {s1 s2 : Int32} {l0 l1 l2 : Option Value} {h : AH} : R_X5_begins d 60 [l0, l1, l2] [.int (s2), .int (s1), .ref b0] h = (hsi h 0 b0 s1 s2).bind fun h1 => R_X5_begins d 61 [l0, l1, l2] [] h1 := s_iast (t := 0) (nar := (fun y => y)) rfl
theorem e_X5_begins {d : Nat} {a0 : Nat} {h : AH} : exec tTab (d + 1) K_X5_begins [.ref a0] h = R_X5_begins d 0 [some (.ref a0), none, none] [] h := exec_eq (cd := k_X5_begins) (hd := (fun _ _ => some none)) (L := 3) rfl rfl rfl
/-- FavourTown$Flow.most(II)I -/
abbrev K_X5_most : Nat := 142
noncomputable def R_X5_most (d pc : Nat) (ls : ALs) (st : List Value) (h : AH) : Option (AOut × AH) := aR (exec tTab d) k_X5_most (fun _ _ => some none) (pc, ls, st, h)
theorem r_X5_most_0 {d : Nat} {l0 l1 l2 l3 l4 l5 : Option Value} {h : AH} : R_X5_most d 0 [l0, l1, l2, l3, l4, l5] [] h = R_X5_most d 2 [l0, l1, l2, some (.int ((nI 0))), l4, l5] [] h := by
  refine (p_const rfl).trans ?_
  refine (p_istore rfl rfl rfl).trans ?_
  exact rfl
theorem q_X5_most_2 {d : Nat} {a0 : Nat} {x1 : Int32} {l2 l3 l4 l5 : Option Value} {h : AH} : R_X5_most d 2 [some (.ref a0), some (.int (x1)), l2, l3, l4, l5] [] h = ((hci h a0).bind (lkN [(3, 143)])).bind fun y => aK (exec tTab d y [.ref a0, .int (x1)] h) (fun v h1 => R_X5_most d 7 [some (.ref a0), some (.int (x1)), l2, l3, l4, l5] (v.toList ++ []) h1) (fun E h1 => some (.inr E, h1)) := by
  refine (p_aload rfl rfl).trans ?_
  refine (p_iload rfl rfl).trans ?_
  exact s_callV (L := [(3, 143)]) (n := 1) (b := a0) (rest := []) rfl rfl rfl
theorem r_X5_most_7 {d : Nat} {s0 x2 : Int32} {l0 l1 l3 l4 l5 : Option Value} {h : AH} : R_X5_most d 7 [l0, l1, some (.int (x2)), l3, l4, l5] [.int (s0)] h = if ¬ ((s0 >>> (x2 &&& 31)) &&& (nI 1)) = (nI 1) then R_X5_most d 131 [l0, l1, some (.int (x2)), l3, l4, l5] [] h else R_X5_most d 15 [l0, l1, some (.int (x2)), l3, l4, l5] [] h := by
  refine (p_iload rfl rfl).trans ?_
  refine (p_bin rfl).trans ?_
  refine (p_const rfl).trans ?_
  refine (p_bin rfl).trans ?_
  refine (p_const rfl).trans ?_
  exact (s_icmp (g := (fun x y => decide (¬ x = y))) (t := 131) (nx := 15) rfl).trans bif_dec
theorem r_X5_most_131 {d : Nat} {x3 : Int32} {l0 l1 l2 l4 l5 : Option Value} {h : AH} : R_X5_most d 131 [l0, l1, l2, some (.int (x3)), l4, l5] [] h = some (.inl (some (.int (x3))), h) := by
  refine (p_iload rfl rfl).trans ?_
  exact s_iretT rfl rfl
theorem r_X5_most_15 {d : Nat} {x2 : Int32} {l0 l1 l3 l4 l5 : Option Value} {h : AH} : R_X5_most d 15 [l0, l1, some (.int (x2)), l3, l4, l5] [] h = R_X5_most d 22 [l0, l1, some (.int (x2)), l3, some (.int ((2147483647 : Int32))), some (.int (x2))] [] h := by
  refine (p_const rfl).trans ?_
  refine (p_istore rfl rfl rfl).trans ?_
  refine (p_iload rfl rfl).trans ?_
  refine (p_istore rfl rfl rfl).trans ?_
  exact rfl
theorem q_X5_most_22 {d : Nat} {x5 x1 : Int32} {l0 l2 l3 l4 : Option Value} {h : AH} : R_X5_most d 22 [l0, some (.int (x1)), l2, l3, l4, some (.int (x5))] [] h = if x5 = x1 then R_X5_most d 62 [l0, some (.int (x1)), l2, l3, l4, some (.int (x5))] [] h else R_X5_most d 28 [l0, some (.int (x1)), l2, l3, l4, some (.int (x5))] [] h := by
  refine (p_iload rfl rfl).trans ?_
  refine (p_iload rfl rfl).trans ?_
  exact (s_icmp (g := (fun x y => decide (x = y))) (t := 62) (nx := 28) rfl).trans bif_dec
theorem r_X5_most_62 {d : Nat} {x2 : Int32} {l0 l1 l3 l4 l5 : Option Value} {h : AH} : R_X5_most d 62 [l0, l1, some (.int (x2)), l3, l4, l5] [] h = R_X5_most d 65 [l0, l1, some (.int (x2)), l3, l4, some (.int (x2))] [] h := by
  refine (p_iload rfl rfl).trans ?_
  refine (p_istore rfl rfl rfl).trans ?_
  exact rfl
theorem r_X5_most_28 {d : Nat} {x4 : Int32} {a0 : Nat} {l1 l2 l3 l5 : Option Value} {h : AH} : R_X5_most d 28 [some (.ref a0), l1, l2, l3, some (.int (x4)), l5] [] h = (hgf h [3] a0 0).bind fun v => R_X5_most d 34 [some (.ref a0), l1, l2, l3, some (.int (x4)), l5] [v, .int (x4)] h := by
  refine (p_iload rfl rfl).trans ?_
  refine (p_aload rfl rfl).trans ?_
  exact s_getf rfl
theorem q_X5_most_65 {d : Nat} {x5 x1 : Int32} {l0 l2 l3 l4 : Option Value} {h : AH} : R_X5_most d 65 [l0, some (.int (x1)), l2, l3, l4, some (.int (x5))] [] h = if x5 = x1 then R_X5_most d 123 [l0, some (.int (x1)), l2, l3, l4, some (.int (x5))] [] h else R_X5_most d 71 [l0, some (.int (x1)), l2, l3, l4, some (.int (x5))] [] h := by
  refine (p_iload rfl rfl).trans ?_
  refine (p_iload rfl rfl).trans ?_
  exact (s_icmp (g := (fun x y => decide (x = y))) (t := 123) (nx := 71) rfl).trans bif_dec
theorem r_X5_most_34 {d : Nat} {s0 : Int32} {b1 a0 : Nat} {l1 l2 l3 l4 l5 : Option Value} {h : AH} : R_X5_most d 34 [some (.ref a0), l1, l2, l3, l4, l5] [.ref b1, .int (s0)] h = (hgf h [3] a0 1).bind fun v => R_X5_most d 38 [some (.ref a0), l1, l2, l3, l4, l5] [v, .ref b1, .int (s0)] h := by
  refine (p_aload rfl rfl).trans ?_
  exact s_getf rfl
theorem r_X5_most_34N {d : Nat} {s0 : Int32} {a0 : Nat} {l1 l2 l3 l4 l5 : Option Value} {h : AH} : R_X5_most d 34 [some (.ref a0), l1, l2, l3, l4, l5] [.null, .int (s0)] h = (hgf h [3] a0 1).bind fun v => R_X5_most d 38 [some (.ref a0), l1, l2, l3, l4, l5] [v, .null, .int (s0)] h := by
  refine (p_aload rfl rfl).trans ?_
  exact s_getf rfl
theorem r_X5_most_123 {d : Nat} {x3 x4 : Int32} {l0 l1 l2 l5 : Option Value} {h : AH} : R_X5_most d 123 [l0, l1, l2, some (.int (x3)), some (.int (x4)), l5] [] h = R_X5_most d 2 [l0, l1, l2, some (.int (x3 + x4)), some (.int (x4)), l5] [] h := by
  refine (p_iload rfl rfl).trans ?_
  refine (p_iload rfl rfl).trans ?_
  refine (p_bin rfl).trans ?_
  refine (p_istore rfl rfl rfl).trans ?_
  refine (p_goto rfl).trans ?_
  exact rfl
theorem r_X5_most_71 {d : Nat} {a0 : Nat} {l1 l2 l3 l4 l5 : Option Value} {h : AH} : R_X5_most d 71 [some (.ref a0), l1, l2, l3, l4, l5] [] h = (hgf h [3] a0 0).bind fun v => R_X5_most d 75 [some (.ref a0), l1, l2, l3, l4, l5] [v] h := by
  refine (p_aload rfl rfl).trans ?_
  exact s_getf rfl
theorem r_X5_most_38 {d : Nat} {s0 x5 : Int32} {b1 b2 : Nat} {l0 l1 l2 l3 l4 : Option Value} {h : AH} : R_X5_most d 38 [l0, l1, l2, l3, l4, some (.int (x5))] [.ref b2, .ref b1, .int (s0)] h = (hai h 0 b2 x5).bind fun v => R_X5_most d 41 [l0, l1, l2, l3, l4, some (.int (x5))] [.int v, .ref b1, .int (s0)] h := by
  refine (p_iload rfl rfl).trans ?_
  exact s_iald rfl
theorem r_X5_most_75 {d : Nat} {b0 a0 : Nat} {l1 l2 l3 l4 l5 : Option Value} {h : AH} : R_X5_most d 75 [some (.ref a0), l1, l2, l3, l4, l5] [.ref b0] h = (hgf h [3] a0 1).bind fun v => R_X5_most d 79 [some (.ref a0), l1, l2, l3, l4, l5] [v, .ref b0] h := by
  refine (p_aload rfl rfl).trans ?_
  exact s_getf rfl
theorem r_X5_most_75N {d : Nat} {a0 : Nat} {l1 l2 l3 l4 l5 : Option Value} {h : AH} : R_X5_most d 75 [some (.ref a0), l1, l2, l3, l4, l5] [.null] h = (hgf h [3] a0 1).bind fun v => R_X5_most d 79 [some (.ref a0), l1, l2, l3, l4, l5] [v, .null] h := by
  refine (p_aload rfl rfl).trans ?_
  exact s_getf rfl
theorem r_X5_most_41 {d : Nat} {s0 s2 : Int32} {b1 : Nat} {l0 l1 l2 l3 l4 l5 : Option Value} {h : AH} : R_X5_most d 41 [l0, l1, l2, l3, l4, l5] [.int (s2), .ref b1, .int (s0)] h = (haqs h [3, 4, 5] b1 s2).bind fun v => R_X5_most d 42 [l0, l1, l2, l3, l4, l5] [va_rf v, .int (s0)] h := s_aald rfl
theorem r_X5_most_79 {d : Nat} {b0 b1 : Nat} {x5 : Int32} {l0 l1 l2 l3 l4 : Option Value} {h : AH} : R_X5_most d 79 [l0, l1, l2, l3, l4, some (.int (x5))] [.ref b1, .ref b0] h = (hai h 0 b1 x5).bind fun v => R_X5_most d 82 [l0, l1, l2, l3, l4, some (.int (x5))] [.int v, .ref b0] h := by
  refine (p_iload rfl rfl).trans ?_
  exact s_iald rfl
theorem r_X5_most_42 {d : Nat} {s0 x5 : Int32} {b1 : Nat} {l0 l1 l2 l3 l4 : Option Value} {h : AH} : R_X5_most d 42 [l0, l1, l2, l3, l4, some (.int (x5))] [.ref b1, .int (s0)] h = (hai h 0 b1 x5).bind fun v => R_X5_most d 45 [l0, l1, l2, l3, l4, some (.int (x5))] [.int v, .int (s0)] h := by
  refine (p_iload rfl rfl).trans ?_
  exact s_iald rfl
theorem r_X5_most_82 {d : Nat} {b0 : Nat} {s1 : Int32} {l0 l1 l2 l3 l4 l5 : Option Value} {h : AH} : R_X5_most d 82 [l0, l1, l2, l3, l4, l5] [.int (s1), .ref b0] h = (haqs h [3, 4, 5] b0 s1).bind fun v => R_X5_most d 83 [l0, l1, l2, l3, l4, l5] [va_rf v] h := s_aald rfl
theorem r_X5_most_45 {d : Nat} {s0 s1 : Int32} {a0 : Nat} {l1 l2 l3 l4 l5 : Option Value} {h : AH} : R_X5_most d 45 [some (.ref a0), l1, l2, l3, l4, l5] [.int (s1), .int (s0)] h = (hgf h [3] a0 1).bind fun v => R_X5_most d 54 [some (.ref a0), l1, l2, l3, some (.int (if s1 < s0 then s1 else s0)), l5] [v] h := by
  refine (s_mth rfl rfl).trans ?_
  refine (p_istore rfl rfl rfl).trans ?_
  refine (p_aload rfl rfl).trans ?_
  exact s_getf rfl
theorem r_X5_most_83 {d : Nat} {b0 : Nat} {x5 : Int32} {l0 l1 l2 l3 l4 : Option Value} {h : AH} : R_X5_most d 83 [l0, l1, l2, l3, l4, some (.int (x5))] [.ref b0] h = (hai h 0 b0 x5).bind fun v => R_X5_most d 87 [l0, l1, l2, l3, l4, some (.int (x5))] [.int v, .int (x5), .ref b0] h := by
  refine (p_iload rfl rfl).trans ?_
  refine (p_dup2 rfl rfl).trans ?_
  exact s_iald rfl
theorem r_X5_most_54 {d : Nat} {b0 : Nat} {x5 : Int32} {l0 l1 l2 l3 l4 : Option Value} {h : AH} : R_X5_most d 54 [l0, l1, l2, l3, l4, some (.int (x5))] [.ref b0] h = (hai h 0 b0 x5).bind fun v => R_X5_most d 57 [l0, l1, l2, l3, l4, some (.int (x5))] [.int v] h := by
  refine (p_iload rfl rfl).trans ?_
  exact s_iald rfl
theorem r_X5_most_87 {d : Nat} {b0 : Nat} {s1 s2 x4 : Int32} {l0 l1 l2 l3 l5 : Option Value} {h : AH} : R_X5_most d 87 [l0, l1, l2, l3, some (.int (x4)), l5] [.int (s2), .int (s1), .ref b0] h = (hsi h 0 b0 s1 (s2 - x4)).bind fun h1 => R_X5_most d 91 [l0, l1, l2, l3, some (.int (x4)), l5] [] h1 := by
  refine (p_iload rfl rfl).trans ?_
  refine (p_bin rfl).trans ?_
  exact s_iast (t := 0) (nar := (fun y => y)) rfl
theorem r_X5_most_57 {d : Nat} {s0 : Int32} {l0 l1 l2 l3 l4 l5 : Option Value} {h : AH} : R_X5_most d 57 [l0, l1, l2, l3, l4, l5] [.int (s0)] h = R_X5_most d 22 [l0, l1, l2, l3, l4, some (.int (s0))] [] h := by
  refine (p_istore rfl rfl rfl).trans ?_
  refine (p_goto rfl).trans ?_
  exact rfl
theorem r_X5_most_91 {d : Nat} {a0 : Nat} {l1 l2 l3 l4 l5 : Option Value} {h : AH} : R_X5_most d 91 [some (.ref a0), l1, l2, l3, l4, l5] [] h = (hgf h [3] a0 0).bind fun v => R_X5_most d 95 [some (.ref a0), l1, l2, l3, l4, l5] [v] h := by
  refine (p_aload rfl rfl).trans ?_
  exact s_getf rfl
theorem r_X5_most_95 {d : Nat} {b0 : Nat} {x5 : Int32} {l0 l1 l2 l3 l4 : Option Value} {h : AH} : R_X5_most d 95 [l0, l1, l2, l3, l4, some (.int (x5))] [.ref b0] h = (haqs h [3, 4, 5] b0 x5).bind fun v => R_X5_most d 98 [l0, l1, l2, l3, l4, some (.int (x5))] [va_rf v] h := by
  refine (p_iload rfl rfl).trans ?_
  exact s_aald rfl
theorem r_X5_most_98 {d : Nat} {b0 a0 : Nat} {l1 l2 l3 l4 l5 : Option Value} {h : AH} : R_X5_most d 98 [some (.ref a0), l1, l2, l3, l4, l5] [.ref b0] h = (hgf h [3] a0 1).bind fun v => R_X5_most d 102 [some (.ref a0), l1, l2, l3, l4, l5] [v, .ref b0] h := by
  refine (p_aload rfl rfl).trans ?_
  exact s_getf rfl
theorem r_X5_most_98N {d : Nat} {a0 : Nat} {l1 l2 l3 l4 l5 : Option Value} {h : AH} : R_X5_most d 98 [some (.ref a0), l1, l2, l3, l4, l5] [.null] h = (hgf h [3] a0 1).bind fun v => R_X5_most d 102 [some (.ref a0), l1, l2, l3, l4, l5] [v, .null] h := by
  refine (p_aload rfl rfl).trans ?_
  exact s_getf rfl
theorem r_X5_most_102 {d : Nat} {b0 b1 : Nat} {x5 : Int32} {l0 l1 l2 l3 l4 : Option Value} {h : AH} : R_X5_most d 102 [l0, l1, l2, l3, l4, some (.int (x5))] [.ref b1, .ref b0] h = (hai h 0 b1 x5).bind fun v => R_X5_most d 105 [l0, l1, l2, l3, l4, some (.int (x5))] [.int v, .ref b0] h := by
  refine (p_iload rfl rfl).trans ?_
  exact s_iald rfl
theorem r_X5_most_105 {d : Nat} {b0 : Nat} {s1 : Int32} {l0 l1 l2 l3 l4 l5 : Option Value} {h : AH} : R_X5_most d 105 [l0, l1, l2, l3, l4, l5] [.int (s1), .ref b0] h = (hai h 0 b0 s1).bind fun v => R_X5_most d 107 [l0, l1, l2, l3, l4, l5] [.int v, .int (s1), .ref b0] h := by
  refine (p_dup2 rfl rfl).trans ?_
  exact s_iald rfl
theorem r_X5_most_107 {d : Nat} {b0 : Nat} {s1 s2 x4 : Int32} {l0 l1 l2 l3 l5 : Option Value} {h : AH} : R_X5_most d 107 [l0, l1, l2, l3, some (.int (x4)), l5] [.int (s2), .int (s1), .ref b0] h = (hsi h 0 b0 s1 (s2 + x4)).bind fun h1 => R_X5_most d 111 [l0, l1, l2, l3, some (.int (x4)), l5] [] h1 := by
  refine (p_iload rfl rfl).trans ?_
  refine (p_bin rfl).trans ?_
  exact s_iast (t := 0) (nar := (fun y => y)) rfl
theorem r_X5_most_111 {d : Nat} {a0 : Nat} {l1 l2 l3 l4 l5 : Option Value} {h : AH} : R_X5_most d 111 [some (.ref a0), l1, l2, l3, l4, l5] [] h = (hgf h [3] a0 1).bind fun v => R_X5_most d 115 [some (.ref a0), l1, l2, l3, l4, l5] [v] h := by
  refine (p_aload rfl rfl).trans ?_
  exact s_getf rfl
theorem r_X5_most_115 {d : Nat} {b0 : Nat} {x5 : Int32} {l0 l1 l2 l3 l4 : Option Value} {h : AH} : R_X5_most d 115 [l0, l1, l2, l3, l4, some (.int (x5))] [.ref b0] h = (hai h 0 b0 x5).bind fun v => R_X5_most d 118 [l0, l1, l2, l3, l4, some (.int (x5))] [.int v] h := by
  refine (p_iload rfl rfl).trans ?_
  exact s_iald rfl
theorem r_X5_most_118 {d : Nat} {s0 : Int32} {l0 l1 l2 l3 l4 l5 : Option Value} {h : AH} : R_X5_most d 118 [l0, l1, l2, l3, l4, l5] [.int (s0)] h = R_X5_most d 65 [l0, l1, l2, l3, l4, some (.int (s0))] [] h := by
  refine (p_istore rfl rfl rfl).trans ?_
  refine (p_goto rfl).trans ?_
  exact rfl
theorem e_X5_most {d : Nat} {a0 : Nat} {x1 x2 : Int32} {h : AH} : exec tTab (d + 1) K_X5_most [.ref a0, .int x1, .int x2] h = R_X5_most d 0 [some (.ref a0), some (.int x1), some (.int x2), none, none, none] [] h := exec_eq (cd := k_X5_most) (hd := (fun _ _ => some none)) (L := 6) rfl rfl rfl
/-- FavourTown$Flow.reached(I)I -/
abbrev K_X5_reached : Nat := 143
noncomputable def R_X5_reached (d pc : Nat) (ls : ALs) (st : List Value) (h : AH) : Option (AOut × AH) := aR (exec tTab d) k_X5_reached (fun _ _ => some none) (pc, ls, st, h)
theorem r_X5_reached_0 {d : Nat} {x1 : Int32} {a0 : Nat} {l2 l3 l4 l5 : Option Value} {h : AH} : R_X5_reached d 0 [some (.ref a0), some (.int (x1)), l2, l3, l4, l5] [] h = (hgf h [3] a0 2).bind fun v => R_X5_reached d 10 [some (.ref a0), some (.int (x1)), some (.int ((nI 1) <<< (x1 &&& 31))), some (.int ((nI 1))), l4, l5] [v] h := by
  refine (p_const rfl).trans ?_
  refine (p_iload rfl rfl).trans ?_
  refine (p_bin rfl).trans ?_
  refine (p_istore rfl rfl rfl).trans ?_
  refine (p_const rfl).trans ?_
  refine (p_istore rfl rfl rfl).trans ?_
  refine (p_aload rfl rfl).trans ?_
  exact s_getf rfl
theorem r_X5_reached_10 {d : Nat} {b0 : Nat} {x1 : Int32} {l0 l2 l3 l4 l5 : Option Value} {h : AH} : R_X5_reached d 10 [l0, some (.int (x1)), l2, l3, l4, l5] [.ref b0] h = (hsi h 0 b0 (nI 0) x1).bind fun h1 => R_X5_reached d 13 [l0, some (.int (x1)), l2, l3, l4, l5] [] h1 := by
  refine (p_const rfl).trans ?_
  refine (p_iload rfl rfl).trans ?_
  exact s_iast (t := 0) (nar := (fun y => y)) rfl
theorem r_X5_reached_13 {d : Nat} {l0 l1 l2 l3 l4 l5 : Option Value} {h : AH} : R_X5_reached d 13 [l0, l1, l2, l3, l4, l5] [] h = R_X5_reached d 16 [l0, l1, l2, l3, some (.int ((nI 0))), l5] [] h := by
  refine (p_const rfl).trans ?_
  refine (p_istore rfl rfl rfl).trans ?_
  exact rfl
theorem q_X5_reached_16 {d : Nat} {x4 x3 : Int32} {l0 l1 l2 l5 : Option Value} {h : AH} : R_X5_reached d 16 [l0, l1, l2, some (.int (x3)), some (.int (x4)), l5] [] h = if x3 ≤ x4 then R_X5_reached d 115 [l0, l1, l2, some (.int (x3)), some (.int (x4)), l5] [] h else R_X5_reached d 22 [l0, l1, l2, some (.int (x3)), some (.int (x4)), l5] [] h := by
  refine (p_iload rfl rfl).trans ?_
  refine (p_iload rfl rfl).trans ?_
  exact (s_icmp (g := (fun x y => decide (y ≤ x))) (t := 115) (nx := 22) rfl).trans bif_dec
theorem r_X5_reached_115 {d : Nat} {x2 : Int32} {l0 l1 l3 l4 l5 : Option Value} {h : AH} : R_X5_reached d 115 [l0, l1, some (.int (x2)), l3, l4, l5] [] h = some (.inl (some (.int (x2))), h) := by
  refine (p_iload rfl rfl).trans ?_
  exact s_iretT rfl rfl
theorem r_X5_reached_22 {d : Nat} {l0 l1 l2 l3 l4 l5 : Option Value} {h : AH} : R_X5_reached d 22 [l0, l1, l2, l3, l4, l5] [] h = R_X5_reached d 25 [l0, l1, l2, l3, l4, some (.int ((nI 0)))] [] h := by
  refine (p_const rfl).trans ?_
  refine (p_istore rfl rfl rfl).trans ?_
  exact rfl
theorem q_X5_reached_25 {d : Nat} {x5 : Int32} {a0 : Nat} {l1 l2 l3 l4 : Option Value} {h : AH} : R_X5_reached d 25 [some (.ref a0), l1, l2, l3, l4, some (.int (x5))] [] h = (hgf h [3] a0 3).bind fun v => R_X5_reached d 31 [some (.ref a0), l1, l2, l3, l4, some (.int (x5))] [v, .int (x5)] h := by
  refine (p_iload rfl rfl).trans ?_
  refine (p_aload rfl rfl).trans ?_
  exact s_getf rfl
theorem r_X5_reached_31 {d : Nat} {s0 : Int32} {b1 : Nat} {l0 l1 l2 l3 l4 l5 : Option Value} {h : AH} : R_X5_reached d 31 [l0, l1, l2, l3, l4, l5] [.ref b1, .int (s0)] h = (hgf h [0] b1 0).bind fun v => R_X5_reached d 34 [l0, l1, l2, l3, l4, l5] [v, .int (s0)] h := s_getf rfl
theorem r_X5_reached_34 {d : Nat} {s0 : Int32} {b1 : Nat} {l0 l1 l2 l3 l4 l5 : Option Value} {h : AH} : R_X5_reached d 34 [l0, l1, l2, l3, l4, l5] [.ref b1, .int (s0)] h = (hgf h [1] b1 3).bind fun v => R_X5_reached d 37 [l0, l1, l2, l3, l4, l5] [v, .int (s0)] h := s_getf rfl
theorem r_X5_reached_37 {d : Nat} {s0 s1 : Int32} {l0 l1 l2 l3 l4 l5 : Option Value} {h : AH} : R_X5_reached d 37 [l0, l1, l2, l3, l4, l5] [.int (s1), .int (s0)] h = if s1 ≤ s0 then R_X5_reached d 109 [l0, l1, l2, l3, l4, l5] [] h else R_X5_reached d 40 [l0, l1, l2, l3, l4, l5] [] h := (s_icmp (g := (fun x y => decide (y ≤ x))) (t := 109) (nx := 40) rfl).trans bif_dec
theorem r_X5_reached_109 {d : Nat} {x4 : Int32} {l0 l1 l2 l3 l5 : Option Value} {h : AH} : R_X5_reached d 109 [l0, l1, l2, l3, some (.int (x4)), l5] [] h = R_X5_reached d 16 [l0, l1, l2, l3, some (.int (x4 + (nI 1))), l5] [] h := by
  refine (p_iinc rfl rfl rfl).trans ?_
  refine (p_goto rfl).trans ?_
  exact rfl
theorem r_X5_reached_40 {d : Nat} {x2 x5 : Int32} {l0 l1 l3 l4 : Option Value} {h : AH} : R_X5_reached d 40 [l0, l1, some (.int (x2)), l3, l4, some (.int (x5))] [] h = if ((x2 >>> (x5 &&& 31)) &&& (nI 1)) = (nI 1) then R_X5_reached d 103 [l0, l1, some (.int (x2)), l3, l4, some (.int (x5))] [] h else R_X5_reached d 50 [l0, l1, some (.int (x2)), l3, l4, some (.int (x5))] [] h := by
  refine (p_iload rfl rfl).trans ?_
  refine (p_iload rfl rfl).trans ?_
  refine (p_bin rfl).trans ?_
  refine (p_const rfl).trans ?_
  refine (p_bin rfl).trans ?_
  refine (p_const rfl).trans ?_
  exact (s_icmp (g := (fun x y => decide (x = y))) (t := 103) (nx := 50) rfl).trans bif_dec
theorem r_X5_reached_103 {d : Nat} {x5 : Int32} {l0 l1 l2 l3 l4 : Option Value} {h : AH} : R_X5_reached d 103 [l0, l1, l2, l3, l4, some (.int (x5))] [] h = R_X5_reached d 25 [l0, l1, l2, l3, l4, some (.int (x5 + (nI 1)))] [] h := by
  refine (p_iinc rfl rfl rfl).trans ?_
  refine (p_goto rfl).trans ?_
  exact rfl
theorem r_X5_reached_50 {d : Nat} {a0 : Nat} {l1 l2 l3 l4 l5 : Option Value} {h : AH} : R_X5_reached d 50 [some (.ref a0), l1, l2, l3, l4, l5] [] h = (hgf h [3] a0 0).bind fun v => R_X5_reached d 54 [some (.ref a0), l1, l2, l3, l4, l5] [v] h := by
  refine (p_aload rfl rfl).trans ?_
  exact s_getf rfl
theorem r_X5_reached_54 {d : Nat} {b0 a0 : Nat} {l1 l2 l3 l4 l5 : Option Value} {h : AH} : R_X5_reached d 54 [some (.ref a0), l1, l2, l3, l4, l5] [.ref b0] h = (hgf h [3] a0 2).bind fun v => R_X5_reached d 58 [some (.ref a0), l1, l2, l3, l4, l5] [v, .ref b0] h := by
  refine (p_aload rfl rfl).trans ?_
  exact s_getf rfl
theorem r_X5_reached_54N {d : Nat} {a0 : Nat} {l1 l2 l3 l4 l5 : Option Value} {h : AH} : R_X5_reached d 54 [some (.ref a0), l1, l2, l3, l4, l5] [.null] h = (hgf h [3] a0 2).bind fun v => R_X5_reached d 58 [some (.ref a0), l1, l2, l3, l4, l5] [v, .null] h := by
  refine (p_aload rfl rfl).trans ?_
  exact s_getf rfl
theorem r_X5_reached_58 {d : Nat} {b0 b1 : Nat} {x4 : Int32} {l0 l1 l2 l3 l5 : Option Value} {h : AH} : R_X5_reached d 58 [l0, l1, l2, l3, some (.int (x4)), l5] [.ref b1, .ref b0] h = (hai h 0 b1 x4).bind fun v => R_X5_reached d 61 [l0, l1, l2, l3, some (.int (x4)), l5] [.int v, .ref b0] h := by
  refine (p_iload rfl rfl).trans ?_
  exact s_iald rfl
theorem r_X5_reached_61 {d : Nat} {b0 : Nat} {s1 : Int32} {l0 l1 l2 l3 l4 l5 : Option Value} {h : AH} : R_X5_reached d 61 [l0, l1, l2, l3, l4, l5] [.int (s1), .ref b0] h = (haqs h [3, 4, 5] b0 s1).bind fun v => R_X5_reached d 62 [l0, l1, l2, l3, l4, l5] [va_rf v] h := s_aald rfl
theorem r_X5_reached_62 {d : Nat} {b0 : Nat} {x5 : Int32} {l0 l1 l2 l3 l4 : Option Value} {h : AH} : R_X5_reached d 62 [l0, l1, l2, l3, l4, some (.int (x5))] [.ref b0] h = (hai h 0 b0 x5).bind fun v => R_X5_reached d 65 [l0, l1, l2, l3, l4, some (.int (x5))] [.int v] h := by
  refine (p_iload rfl rfl).trans ?_
  exact s_iald rfl
theorem r_X5_reached_65 {d : Nat} {s0 : Int32} {l0 l1 l2 l3 l4 l5 : Option Value} {h : AH} : R_X5_reached d 65 [l0, l1, l2, l3, l4, l5] [.int (s0)] h = if ¬ s0 = 0 then R_X5_reached d 71 [l0, l1, l2, l3, l4, l5] [] h else R_X5_reached d 68 [l0, l1, l2, l3, l4, l5] [] h := (s_if (g := (fun x => decide (¬ x = 0))) (t := 71) (nx := 68) rfl).trans bif_dec
theorem r_X5_reached_71 {d : Nat} {x2 x5 : Int32} {a0 : Nat} {l1 l3 l4 : Option Value} {h : AH} : R_X5_reached d 71 [some (.ref a0), l1, some (.int (x2)), l3, l4, some (.int (x5))] [] h = (hgf h [3] a0 1).bind fun v => R_X5_reached d 82 [some (.ref a0), l1, some (.int (x2 ||| ((nI 1) <<< (x5 &&& 31)))), l3, l4, some (.int (x5))] [v] h := by
  refine (p_iload rfl rfl).trans ?_
  refine (p_const rfl).trans ?_
  refine (p_iload rfl rfl).trans ?_
  refine (p_bin rfl).trans ?_
  refine (p_bin rfl).trans ?_
  refine (p_istore rfl rfl rfl).trans ?_
  refine (p_aload rfl rfl).trans ?_
  exact s_getf rfl
theorem r_X5_reached_68 {d : Nat} {x5 : Int32} {l0 l1 l2 l3 l4 : Option Value} {h : AH} : R_X5_reached d 68 [l0, l1, l2, l3, l4, some (.int (x5))] [] h = R_X5_reached d 25 [l0, l1, l2, l3, l4, some (.int (x5 + (nI 1)))] [] h := by
  refine (p_goto rfl).trans ?_
  refine (p_iinc rfl rfl rfl).trans ?_
  refine (p_goto rfl).trans ?_
  exact rfl
theorem r_X5_reached_82 {d : Nat} {b0 a0 : Nat} {x5 : Int32} {l1 l2 l3 l4 : Option Value} {h : AH} : R_X5_reached d 82 [some (.ref a0), l1, l2, l3, l4, some (.int (x5))] [.ref b0] h = (hgf h [3] a0 2).bind fun v => R_X5_reached d 88 [some (.ref a0), l1, l2, l3, l4, some (.int (x5))] [v, .int (x5), .ref b0] h := by
  refine (p_iload rfl rfl).trans ?_
  refine (p_aload rfl rfl).trans ?_
  exact s_getf rfl
theorem r_X5_reached_82N {d : Nat} {x5 : Int32} {a0 : Nat} {l1 l2 l3 l4 : Option Value} {h : AH} : R_X5_reached d 82 [some (.ref a0), l1, l2, l3, l4, some (.int (x5))] [.null] h = (hgf h [3] a0 2).bind fun v => R_X5_reached d 88 [some (.ref a0), l1, l2, l3, l4, some (.int (x5))] [v, .int (x5), .null] h := by
  refine (p_iload rfl rfl).trans ?_
  refine (p_aload rfl rfl).trans ?_
  exact s_getf rfl
theorem r_X5_reached_88 {d : Nat} {b0 b2 : Nat} {s1 x4 : Int32} {l0 l1 l2 l3 l5 : Option Value} {h : AH} : R_X5_reached d 88 [l0, l1, l2, l3, some (.int (x4)), l5] [.ref b2, .int (s1), .ref b0] h = (hai h 0 b2 x4).bind fun v => R_X5_reached d 91 [l0, l1, l2, l3, some (.int (x4)), l5] [.int v, .int (s1), .ref b0] h := by
  refine (p_iload rfl rfl).trans ?_
  exact s_iald rfl
theorem r_X5_reached_91 {d : Nat} {b0 : Nat} {s1 s2 : Int32} {l0 l1 l2 l3 l4 l5 : Option Value} {h : AH} : R_X5_reached d 91 [l0, l1, l2, l3, l4, l5] [.int (s2), .int (s1), .ref b0] h = (hsi h 0 b0 s1 s2).bind fun h1 => R_X5_reached d 92 [l0, l1, l2, l3, l4, l5] [] h1 := s_iast (t := 0) (nar := (fun y => y)) rfl
theorem r_X5_reached_92 {d : Nat} {a0 : Nat} {l1 l2 l3 l4 l5 : Option Value} {h : AH} : R_X5_reached d 92 [some (.ref a0), l1, l2, l3, l4, l5] [] h = (hgf h [3] a0 2).bind fun v => R_X5_reached d 96 [some (.ref a0), l1, l2, l3, l4, l5] [v] h := by
  refine (p_aload rfl rfl).trans ?_
  exact s_getf rfl
theorem r_X5_reached_96 {d : Nat} {b0 : Nat} {x3 x5 : Int32} {l0 l1 l2 l4 : Option Value} {h : AH} : R_X5_reached d 96 [l0, l1, l2, some (.int (x3)), l4, some (.int (x5))] [.ref b0] h = (hsi h 0 b0 x3 x5).bind fun h1 => R_X5_reached d 100 [l0, l1, l2, some (.int (x3)), l4, some (.int (x5))] [] h1 := by
  refine (p_iload rfl rfl).trans ?_
  refine (p_iload rfl rfl).trans ?_
  exact s_iast (t := 0) (nar := (fun y => y)) rfl
theorem r_X5_reached_100 {d : Nat} {x3 x5 : Int32} {l0 l1 l2 l4 : Option Value} {h : AH} : R_X5_reached d 100 [l0, l1, l2, some (.int (x3)), l4, some (.int (x5))] [] h = R_X5_reached d 25 [l0, l1, l2, some (.int (x3 + (nI 1))), l4, some (.int (x5 + (nI 1)))] [] h := by
  refine (p_iinc rfl rfl rfl).trans ?_
  refine (p_iinc rfl rfl rfl).trans ?_
  refine (p_goto rfl).trans ?_
  exact rfl
theorem e_X5_reached {d : Nat} {a0 : Nat} {x1 : Int32} {h : AH} : exec tTab (d + 1) K_X5_reached [.ref a0, .int x1] h = R_X5_reached d 0 [some (.ref a0), some (.int x1), none, none, none, none] [] h := exec_eq (cd := k_X5_reached) (hd := (fun _ _ => some none)) (L := 6) rfl rfl rfl
/-- FavourTown$Clearing.<init>(LFavourTown;)V -/
abbrev K_X6_init : Nat := 144
noncomputable def R_X6_init (d pc : Nat) (ls : ALs) (st : List Value) (h : AH) : Option (AOut × AH) := aR (exec tTab d) k_X6_init (fun _ _ => some none) (pc, ls, st, h)
theorem r_X6_init_0 {d : Nat} {a0 a1 : Nat} {h : AH} : R_X6_init d 0 [some (.ref a0), some (.ref a1)] [] h = (hpf h [4] a0 4 (.ref a1)).bind fun h1 => R_X6_init d 5 [some (.ref a0), some (.ref a1)] [] h1 := by
  refine (p_aload rfl rfl).trans ?_
  refine (p_aload rfl rfl).trans ?_
  exact s_putT rfl rfl
theorem r_X6_init_5 {d : Nat} {a0 : Nat} {l1 : Option Value} {h : AH} : R_X6_init d 5 [some (.ref a0), l1] [] h = bif hin (nI 12) 1025 && hin (nI 12) 1025 then R_X6_init d 18 [some (.ref a0), l1] [.ref h.2.1, .ref a0] (mnewC h ((nI 12)).toNatClampNeg ((nI 12)).toNatClampNeg) else none := by
  refine (p_aload rfl rfl).trans ?_
  refine (s_objI rfl rfl).trans ?_
  refine (p_aload rfl rfl).trans ?_
  refine (p_const rfl).trans ?_
  refine (p_const rfl).trans ?_
  exact s_mnew rfl
theorem r_X6_init_18 {d : Nat} {b0 b1 : Nat} {l0 l1 : Option Value} {h : AH} : R_X6_init d 18 [l0, l1] [.ref b1, .ref b0] h = (hpf h [4] b0 0 (.ref b1)).bind fun h1 => R_X6_init d 21 [l0, l1] [] h1 := s_putT rfl rfl
theorem r_X6_init_18N {d : Nat} {b0 : Nat} {l0 l1 : Option Value} {h : AH} : R_X6_init d 18 [l0, l1] [.null, .ref b0] h = (hpf h [4] b0 0 (.null)).bind fun h1 => R_X6_init d 21 [l0, l1] [] h1 := s_putT rfl rfl
theorem r_X6_init_21 {d : Nat} {a0 : Nat} {l1 : Option Value} {h : AH} : R_X6_init d 21 [some (.ref a0), l1] [] h = bif hin (nI 8) 65537 then R_X6_init d 26 [some (.ref a0), l1] [.ref h.2.1, .ref a0] (hnew h (true, .inl (0, ((nI 8)).toNatClampNeg, (.inl (fun _ => 0)))) ((nI 8)).toNatClampNeg) else none := by
  refine (p_aload rfl rfl).trans ?_
  refine (p_const rfl).trans ?_
  exact s_newa (t := 0) (z := (.inl (fun _ => 0))) rfl
theorem r_X6_init_26 {d : Nat} {b0 b1 : Nat} {l0 l1 : Option Value} {h : AH} : R_X6_init d 26 [l0, l1] [.ref b1, .ref b0] h = (hpf h [4] b0 1 (.ref b1)).bind fun h1 => R_X6_init d 29 [l0, l1] [] h1 := s_putT rfl rfl
theorem r_X6_init_26N {d : Nat} {b0 : Nat} {l0 l1 : Option Value} {h : AH} : R_X6_init d 26 [l0, l1] [.null, .ref b0] h = (hpf h [4] b0 1 (.null)).bind fun h1 => R_X6_init d 29 [l0, l1] [] h1 := s_putT rfl rfl
theorem r_X6_init_29 {d : Nat} {a0 : Nat} {l1 : Option Value} {h : AH} : R_X6_init d 29 [some (.ref a0), l1] [] h = bif hin (nI 8) 65537 then R_X6_init d 34 [some (.ref a0), l1] [.ref h.2.1, .ref a0] (hnew h (true, .inl (0, ((nI 8)).toNatClampNeg, (.inl (fun _ => 0)))) ((nI 8)).toNatClampNeg) else none := by
  refine (p_aload rfl rfl).trans ?_
  refine (p_const rfl).trans ?_
  exact s_newa (t := 0) (z := (.inl (fun _ => 0))) rfl
theorem r_X6_init_34 {d : Nat} {b0 b1 : Nat} {l0 l1 : Option Value} {h : AH} : R_X6_init d 34 [l0, l1] [.ref b1, .ref b0] h = (hpf h [4] b0 2 (.ref b1)).bind fun h1 => R_X6_init d 37 [l0, l1] [] h1 := s_putT rfl rfl
theorem r_X6_init_34N {d : Nat} {b0 : Nat} {l0 l1 : Option Value} {h : AH} : R_X6_init d 34 [l0, l1] [.null, .ref b0] h = (hpf h [4] b0 2 (.null)).bind fun h1 => R_X6_init d 37 [l0, l1] [] h1 := s_putT rfl rfl
theorem r_X6_init_37 {d : Nat} {l0 l1 : Option Value} {h : AH} : R_X6_init d 37 [l0, l1] [] h = some (.inl none, h) := s_vret rfl
theorem e_X6_init {d : Nat} {a0 a1 : Nat} {h : AH} : exec tTab (d + 1) K_X6_init [.ref a0, .ref a1] h = R_X6_init d 0 [some (.ref a0), some (.ref a1)] [] h := exec_eq (cd := k_X6_init) (hd := (fun _ _ => some none)) (L := 2) rfl rfl rfl
/-- FavourTown$Clearing.goes()I -/
abbrev K_X6_goes : Nat := 145
noncomputable def R_X6_goes (d pc : Nat) (ls : ALs) (st : List Value) (h : AH) : Option (AOut × AH) := aR (exec tTab d) k_X6_goes (fun _ _ => some none) (pc, ls, st, h)
theorem r_X6_goes_0 {d : Nat} {l0 l1 l2 : Option Value} {h : AH} : R_X6_goes d 0 [l0, l1, l2] [] h = R_X6_goes d 2 [l0, some (.int ((nI 0))), l2] [] h := by
  refine (p_const rfl).trans ?_
  refine (p_istore rfl rfl rfl).trans ?_
  exact rfl
theorem q_X6_goes_2 {d : Nat} {x1 : Int32} {a0 : Nat} {l2 : Option Value} {h : AH} : R_X6_goes d 2 [some (.ref a0), some (.int (x1)), l2] [] h = (hgf h [4] a0 4).bind fun v => R_X6_goes d 7 [some (.ref a0), some (.int (x1)), l2] [v, .int (x1)] h := by
  refine (p_iload rfl rfl).trans ?_
  refine (p_aload rfl rfl).trans ?_
  exact s_getf rfl
theorem r_X6_goes_7 {d : Nat} {s0 : Int32} {b1 : Nat} {l0 l1 l2 : Option Value} {h : AH} : R_X6_goes d 7 [l0, l1, l2] [.ref b1, .int (s0)] h = (hgf h [0] b1 0).bind fun v => R_X6_goes d 10 [l0, l1, l2] [v, .int (s0)] h := s_getf rfl
theorem r_X6_goes_10 {d : Nat} {s0 : Int32} {b1 : Nat} {l0 l1 l2 : Option Value} {h : AH} : R_X6_goes d 10 [l0, l1, l2] [.ref b1, .int (s0)] h = (hgf h [1] b1 3).bind fun v => R_X6_goes d 13 [l0, l1, l2] [v, .int (s0)] h := s_getf rfl
theorem r_X6_goes_13 {d : Nat} {s0 s1 : Int32} {l0 l1 l2 : Option Value} {h : AH} : R_X6_goes d 13 [l0, l1, l2] [.int (s1), .int (s0)] h = if s1 ≤ s0 then R_X6_goes d 64 [l0, l1, l2] [] h else R_X6_goes d 16 [l0, l1, l2] [] h := (s_icmp (g := (fun x y => decide (y ≤ x))) (t := 64) (nx := 16) rfl).trans bif_dec
theorem r_X6_goes_64 {d : Nat} {a0 : Nat} {l1 l2 : Option Value} {h : AH} : R_X6_goes d 64 [some (.ref a0), l1, l2] [] h = (hpf h [4] a0 3 (.int ((-1)))).bind fun h1 => R_X6_goes d 69 [some (.ref a0), l1, l2] [] h1 := by
  refine (p_aload rfl rfl).trans ?_
  refine (p_const rfl).trans ?_
  exact s_putT rfl rfl
theorem r_X6_goes_16 {d : Nat} {l0 l1 l2 : Option Value} {h : AH} : R_X6_goes d 16 [l0, l1, l2] [] h = R_X6_goes d 18 [l0, l1, some (.int ((nI 0)))] [] h := by
  refine (p_const rfl).trans ?_
  refine (p_istore rfl rfl rfl).trans ?_
  exact rfl
theorem r_X6_goes_69 {d : Nat} {a0 : Nat} {l1 l2 : Option Value} {h : AH} : R_X6_goes d 69 [some (.ref a0), l1, l2] [] h = ((hci h a0).bind (lkN [(4, 146)])).bind fun y => aK (exec tTab d y [.ref a0, .int ((nI 0)), .int ((nI 0)), .int ((nI 0))] h) (fun v h1 => R_X6_goes d 76 [some (.ref a0), l1, l2] (v.toList ++ []) h1) (fun E h1 => some (.inr E, h1)) := by
  refine (p_aload rfl rfl).trans ?_
  refine (p_const rfl).trans ?_
  refine (p_const rfl).trans ?_
  refine (p_const rfl).trans ?_
  exact s_callV (L := [(4, 146)]) (n := 3) (b := a0) (rest := []) rfl rfl rfl
theorem q_X6_goes_18 {d : Nat} {x2 : Int32} {a0 : Nat} {l1 : Option Value} {h : AH} : R_X6_goes d 18 [some (.ref a0), l1, some (.int (x2))] [] h = (hgf h [4] a0 4).bind fun v => R_X6_goes d 23 [some (.ref a0), l1, some (.int (x2))] [v, .int (x2)] h := by
  refine (p_iload rfl rfl).trans ?_
  refine (p_aload rfl rfl).trans ?_
  exact s_getf rfl
theorem r_X6_goes_76 {d : Nat} {a0 : Nat} {l1 l2 : Option Value} {h : AH} : R_X6_goes d 76 [some (.ref a0), l1, l2] [] h = (hgf h [4] a0 3).bind fun v => R_X6_goes d 80 [some (.ref a0), l1, l2] [v] h := by
  refine (p_aload rfl rfl).trans ?_
  exact s_getf rfl
theorem r_X6_goes_23 {d : Nat} {s0 : Int32} {b1 : Nat} {l0 l1 l2 : Option Value} {h : AH} : R_X6_goes d 23 [l0, l1, l2] [.ref b1, .int (s0)] h = (hgf h [0] b1 0).bind fun v => R_X6_goes d 26 [l0, l1, l2] [v, .int (s0)] h := s_getf rfl
theorem r_X6_goes_80 {d : Nat} {s0 : Int32} {l0 l1 l2 : Option Value} {h : AH} : R_X6_goes d 80 [l0, l1, l2] [.int (s0)] h = some (.inl (some (.int (s0))), h) := s_iretT rfl rfl
theorem r_X6_goes_26 {d : Nat} {s0 : Int32} {b1 : Nat} {l0 l1 l2 : Option Value} {h : AH} : R_X6_goes d 26 [l0, l1, l2] [.ref b1, .int (s0)] h = (hgf h [1] b1 3).bind fun v => R_X6_goes d 29 [l0, l1, l2] [v, .int (s0)] h := s_getf rfl
theorem r_X6_goes_29 {d : Nat} {s0 s1 : Int32} {l0 l1 l2 : Option Value} {h : AH} : R_X6_goes d 29 [l0, l1, l2] [.int (s1), .int (s0)] h = if s1 ≤ s0 then R_X6_goes d 58 [l0, l1, l2] [] h else R_X6_goes d 32 [l0, l1, l2] [] h := (s_icmp (g := (fun x y => decide (y ≤ x))) (t := 58) (nx := 32) rfl).trans bif_dec
theorem r_X6_goes_58 {d : Nat} {x1 : Int32} {l0 l2 : Option Value} {h : AH} : R_X6_goes d 58 [l0, some (.int (x1)), l2] [] h = R_X6_goes d 2 [l0, some (.int (x1 + (nI 1))), l2] [] h := by
  refine (p_iinc rfl rfl rfl).trans ?_
  refine (p_goto rfl).trans ?_
  exact rfl
theorem r_X6_goes_32 {d : Nat} {a0 : Nat} {l1 l2 : Option Value} {h : AH} : R_X6_goes d 32 [some (.ref a0), l1, l2] [] h = (hgf h [4] a0 0).bind fun v => R_X6_goes d 36 [some (.ref a0), l1, l2] [v] h := by
  refine (p_aload rfl rfl).trans ?_
  exact s_getf rfl
theorem r_X6_goes_36 {d : Nat} {b0 : Nat} {x1 : Int32} {l0 l2 : Option Value} {h : AH} : R_X6_goes d 36 [l0, some (.int (x1)), l2] [.ref b0] h = (haqs h [3, 4, 5] b0 x1).bind fun v => R_X6_goes d 38 [l0, some (.int (x1)), l2] [va_rf v] h := by
  refine (p_iload rfl rfl).trans ?_
  exact s_aald rfl
theorem r_X6_goes_38 {d : Nat} {b0 a0 : Nat} {x2 : Int32} {l1 : Option Value} {h : AH} : R_X6_goes d 38 [some (.ref a0), l1, some (.int (x2))] [.ref b0] h = (hgf h [4] a0 4).bind fun v => R_X6_goes d 43 [some (.ref a0), l1, some (.int (x2))] [v, .int (x2), .ref b0] h := by
  refine (p_iload rfl rfl).trans ?_
  refine (p_aload rfl rfl).trans ?_
  exact s_getf rfl
theorem r_X6_goes_38N {d : Nat} {x2 : Int32} {a0 : Nat} {l1 : Option Value} {h : AH} : R_X6_goes d 38 [some (.ref a0), l1, some (.int (x2))] [.null] h = (hgf h [4] a0 4).bind fun v => R_X6_goes d 43 [some (.ref a0), l1, some (.int (x2))] [v, .int (x2), .null] h := by
  refine (p_iload rfl rfl).trans ?_
  refine (p_aload rfl rfl).trans ?_
  exact s_getf rfl
theorem r_X6_goes_43 {d : Nat} {b0 b2 : Nat} {s1 : Int32} {l0 l1 l2 : Option Value} {h : AH} : R_X6_goes d 43 [l0, l1, l2] [.ref b2, .int (s1), .ref b0] h = (hgf h [0] b2 0).bind fun v => R_X6_goes d 46 [l0, l1, l2] [v, .int (s1), .ref b0] h := s_getf rfl
theorem r_X6_goes_46 {d : Nat} {b0 b2 : Nat} {s1 x1 x2 : Int32} {l0 : Option Value} {h : AH} : R_X6_goes d 46 [l0, some (.int (x1)), some (.int (x2))] [.ref b2, .int (s1), .ref b0] h = ((hci h b2).bind (lkN [(1, 107)])).bind fun y => aK (exec tTab d y [.ref b2, .int (x1), .int (x2)] h) (fun v h1 => R_X6_goes d 51 [l0, some (.int (x1)), some (.int (x2))] (v.toList ++ [.int (s1), .ref b0]) h1) (fun E h1 => some (.inr E, h1)) := by
  refine (p_iload rfl rfl).trans ?_
  refine (p_iload rfl rfl).trans ?_
  exact s_callV (L := [(1, 107)]) (n := 2) (b := b2) (rest := [.int (s1), .ref b0]) rfl rfl rfl
theorem r_X6_goes_51 {d : Nat} {b0 : Nat} {s1 s2 : Int32} {l0 l1 l2 : Option Value} {h : AH} : R_X6_goes d 51 [l0, l1, l2] [.int (s2), .int (s1), .ref b0] h = (hsi h 0 b0 s1 s2).bind fun h1 => R_X6_goes d 52 [l0, l1, l2] [] h1 := s_iast (t := 0) (nar := (fun y => y)) rfl
theorem r_X6_goes_52 {d : Nat} {x2 : Int32} {l0 l1 : Option Value} {h : AH} : R_X6_goes d 52 [l0, l1, some (.int (x2))] [] h = R_X6_goes d 18 [l0, l1, some (.int (x2 + (nI 1)))] [] h := by
  refine (p_iinc rfl rfl rfl).trans ?_
  refine (p_goto rfl).trans ?_
  exact rfl
theorem e_X6_goes {d : Nat} {a0 : Nat} {h : AH} : exec tTab (d + 1) K_X6_goes [.ref a0] h = R_X6_goes d 0 [some (.ref a0), none, none] [] h := exec_eq (cd := k_X6_goes) (hd := (fun _ _ => some none)) (L := 3) rfl rfl rfl
/-- FavourTown$Clearing.tries(III)V -/
abbrev K_X6_tries : Nat := 146
noncomputable def R_X6_tries (d pc : Nat) (ls : ALs) (st : List Value) (h : AH) : Option (AOut × AH) := aR (exec tTab d) k_X6_tries (fun _ _ => some none) (pc, ls, st, h)
theorem r_X6_tries_0 {d : Nat} {x1 : Int32} {a0 : Nat} {l2 l3 l4 l5 l6 : Option Value} {h : AH} : R_X6_tries d 0 [some (.ref a0), some (.int (x1)), l2, l3, l4, l5, l6] [] h = (hgf h [4] a0 4).bind fun v => R_X6_tries d 5 [some (.ref a0), some (.int (x1)), l2, l3, l4, l5, l6] [v, .int (x1)] h := by
  refine (p_iload rfl rfl).trans ?_
  refine (p_aload rfl rfl).trans ?_
  exact s_getf rfl
theorem r_X6_tries_5 {d : Nat} {s0 : Int32} {b1 : Nat} {l0 l1 l2 l3 l4 l5 l6 : Option Value} {h : AH} : R_X6_tries d 5 [l0, l1, l2, l3, l4, l5, l6] [.ref b1, .int (s0)] h = (hgf h [0] b1 0).bind fun v => R_X6_tries d 8 [l0, l1, l2, l3, l4, l5, l6] [v, .int (s0)] h := s_getf rfl
theorem r_X6_tries_8 {d : Nat} {s0 : Int32} {b1 : Nat} {l0 l1 l2 l3 l4 l5 l6 : Option Value} {h : AH} : R_X6_tries d 8 [l0, l1, l2, l3, l4, l5, l6] [.ref b1, .int (s0)] h = (hgf h [1] b1 12).bind fun v => R_X6_tries d 11 [l0, l1, l2, l3, l4, l5, l6] [v, .int (s0)] h := s_getf rfl
theorem r_X6_tries_11 {d : Nat} {s0 : Int32} {b1 : Nat} {l0 l1 l2 l3 l4 l5 l6 : Option Value} {h : AH} : R_X6_tries d 11 [l0, l1, l2, l3, l4, l5, l6] [.ref b1, .int (s0)] h = ((hci h b1).bind (lkN [(19, 113)])).bind fun y => aK (exec tTab d y [.ref b1] h) (fun v h1 => R_X6_tries d 14 [l0, l1, l2, l3, l4, l5, l6] (v.toList ++ [.int (s0)]) h1) (fun E h1 => some (.inr E, h1)) := s_callV (L := [(19, 113)]) (n := 0) (b := b1) (rest := [.int (s0)]) rfl rfl rfl
theorem r_X6_tries_14 {d : Nat} {s0 s1 : Int32} {l0 l1 l2 l3 l4 l5 l6 : Option Value} {h : AH} : R_X6_tries d 14 [l0, l1, l2, l3, l4, l5, l6] [.int (s1), .int (s0)] h = if ¬ s0 = s1 then R_X6_tries d 46 [l0, l1, l2, l3, l4, l5, l6] [] h else R_X6_tries d 17 [l0, l1, l2, l3, l4, l5, l6] [] h := (s_icmp (g := (fun x y => decide (¬ x = y))) (t := 46) (nx := 17) rfl).trans bif_dec
theorem r_X6_tries_46 {d : Nat} {l0 l1 l2 l3 l4 l5 l6 : Option Value} {h : AH} : R_X6_tries d 46 [l0, l1, l2, l3, l4, l5, l6] [] h = R_X6_tries d 49 [l0, l1, l2, l3, some (.int ((nI 0))), l5, l6] [] h := by
  refine (p_const rfl).trans ?_
  refine (p_istore rfl rfl rfl).trans ?_
  exact rfl
theorem r_X6_tries_17 {d : Nat} {x3 : Int32} {a0 : Nat} {l1 l2 l4 l5 l6 : Option Value} {h : AH} : R_X6_tries d 17 [some (.ref a0), l1, l2, some (.int (x3)), l4, l5, l6] [] h = (hgf h [4] a0 3).bind fun v => R_X6_tries d 22 [some (.ref a0), l1, l2, some (.int (x3)), l4, l5, l6] [v, .int (x3)] h := by
  refine (p_iload rfl rfl).trans ?_
  refine (p_aload rfl rfl).trans ?_
  exact s_getf rfl
theorem q_X6_tries_49 {d : Nat} {x4 : Int32} {a0 : Nat} {l1 l2 l3 l5 l6 : Option Value} {h : AH} : R_X6_tries d 49 [some (.ref a0), l1, l2, l3, some (.int (x4)), l5, l6] [] h = (hgf h [4] a0 4).bind fun v => R_X6_tries d 55 [some (.ref a0), l1, l2, l3, some (.int (x4)), l5, l6] [v, .int (x4)] h := by
  refine (p_iload rfl rfl).trans ?_
  refine (p_aload rfl rfl).trans ?_
  exact s_getf rfl
theorem r_X6_tries_22 {d : Nat} {s0 s1 : Int32} {l0 l1 l2 l3 l4 l5 l6 : Option Value} {h : AH} : R_X6_tries d 22 [l0, l1, l2, l3, l4, l5, l6] [.int (s1), .int (s0)] h = if s1 < s0 then R_X6_tries d 26 [l0, l1, l2, l3, l4, l5, l6] [] h else R_X6_tries d 25 [l0, l1, l2, l3, l4, l5, l6] [] h := (s_icmp (g := (fun x y => decide (y < x))) (t := 26) (nx := 25) rfl).trans bif_dec
theorem r_X6_tries_55 {d : Nat} {s0 : Int32} {b1 : Nat} {l0 l1 l2 l3 l4 l5 l6 : Option Value} {h : AH} : R_X6_tries d 55 [l0, l1, l2, l3, l4, l5, l6] [.ref b1, .int (s0)] h = (hgf h [0] b1 0).bind fun v => R_X6_tries d 58 [l0, l1, l2, l3, l4, l5, l6] [v, .int (s0)] h := s_getf rfl
theorem r_X6_tries_26 {d : Nat} {a0 : Nat} {x3 : Int32} {l1 l2 l4 l5 l6 : Option Value} {h : AH} : R_X6_tries d 26 [some (.ref a0), l1, l2, some (.int (x3)), l4, l5, l6] [] h = (hpf h [4] a0 3 (.int (x3))).bind fun h1 => R_X6_tries d 31 [some (.ref a0), l1, l2, some (.int (x3)), l4, l5, l6] [] h1 := by
  refine (p_aload rfl rfl).trans ?_
  refine (p_iload rfl rfl).trans ?_
  exact s_putT rfl rfl
theorem r_X6_tries_25 {d : Nat} {l0 l1 l2 l3 l4 l5 l6 : Option Value} {h : AH} : R_X6_tries d 25 [l0, l1, l2, l3, l4, l5, l6] [] h = some (.inl none, h) := s_vret rfl
theorem r_X6_tries_58 {d : Nat} {s0 : Int32} {b1 : Nat} {l0 l1 l2 l3 l4 l5 l6 : Option Value} {h : AH} : R_X6_tries d 58 [l0, l1, l2, l3, l4, l5, l6] [.ref b1, .int (s0)] h = (hgf h [1] b1 12).bind fun v => R_X6_tries d 61 [l0, l1, l2, l3, l4, l5, l6] [v, .int (s0)] h := s_getf rfl
theorem r_X6_tries_31 {d : Nat} {a0 : Nat} {l1 l2 l3 l4 l5 l6 : Option Value} {h : AH} : R_X6_tries d 31 [some (.ref a0), l1, l2, l3, l4, l5, l6] [] h = (hgf h [4] a0 1).bind fun v => R_X6_tries d 35 [some (.ref a0), l1, l2, l3, l4, l5, l6] [v] h := by
  refine (p_aload rfl rfl).trans ?_
  exact s_getf rfl
theorem r_X6_tries_61 {d : Nat} {s0 : Int32} {b1 : Nat} {l0 l1 l2 l3 l4 l5 l6 : Option Value} {h : AH} : R_X6_tries d 61 [l0, l1, l2, l3, l4, l5, l6] [.ref b1, .int (s0)] h = ((hci h b1).bind (lkN [(19, 113)])).bind fun y => aK (exec tTab d y [.ref b1] h) (fun v h1 => R_X6_tries d 64 [l0, l1, l2, l3, l4, l5, l6] (v.toList ++ [.int (s0)]) h1) (fun E h1 => some (.inr E, h1)) := s_callV (L := [(19, 113)]) (n := 0) (b := b1) (rest := [.int (s0)]) rfl rfl rfl
theorem r_X6_tries_35 {d : Nat} {b0 a0 : Nat} {l1 l2 l3 l4 l5 l6 : Option Value} {h : AH} : R_X6_tries d 35 [some (.ref a0), l1, l2, l3, l4, l5, l6] [.ref b0] h = (hgf h [4] a0 2).bind fun v => R_X6_tries d 40 [some (.ref a0), l1, l2, l3, l4, l5, l6] [v, .int ((nI 0)), .ref b0] h := by
  refine (p_const rfl).trans ?_
  refine (p_aload rfl rfl).trans ?_
  exact s_getf rfl
theorem r_X6_tries_35N {d : Nat} {a0 : Nat} {l1 l2 l3 l4 l5 l6 : Option Value} {h : AH} : R_X6_tries d 35 [some (.ref a0), l1, l2, l3, l4, l5, l6] [.null] h = (hgf h [4] a0 2).bind fun v => R_X6_tries d 40 [some (.ref a0), l1, l2, l3, l4, l5, l6] [v, .int ((nI 0)), .null] h := by
  refine (p_const rfl).trans ?_
  refine (p_aload rfl rfl).trans ?_
  exact s_getf rfl
theorem r_X6_tries_64 {d : Nat} {s0 s1 : Int32} {l0 l1 l2 l3 l4 l5 l6 : Option Value} {h : AH} : R_X6_tries d 64 [l0, l1, l2, l3, l4, l5, l6] [.int (s1), .int (s0)] h = if s1 ≤ s0 then R_X6_tries d 160 [l0, l1, l2, l3, l4, l5, l6] [] h else R_X6_tries d 67 [l0, l1, l2, l3, l4, l5, l6] [] h := (s_icmp (g := (fun x y => decide (y ≤ x))) (t := 160) (nx := 67) rfl).trans bif_dec
theorem r_X6_tries_40 {d : Nat} {b0 b2 : Nat} {s1 x1 : Int32} {l0 l2 l3 l4 l5 l6 : Option Value} {h : AH} : R_X6_tries d 40 [l0, some (.int (x1)), l2, l3, l4, l5, l6] [.ref b2, .int (s1), .ref b0] h = (hcpy h anyC anyT b0 b2 s1 (nI 0) x1).bind fun h1 => R_X6_tries d 45 [l0, some (.int (x1)), l2, l3, l4, l5, l6] [] h1 := by
  refine (p_const rfl).trans ?_
  refine (p_iload rfl rfl).trans ?_
  exact s_copy rfl rfl
theorem r_X6_tries_160 {d : Nat} {l0 l1 l2 l3 l4 l5 l6 : Option Value} {h : AH} : R_X6_tries d 160 [l0, l1, l2, l3, l4, l5, l6] [] h = some (.inl none, h) := s_vret rfl
theorem r_X6_tries_67 {d : Nat} {x2 x4 : Int32} {l0 l1 l3 l5 l6 : Option Value} {h : AH} : R_X6_tries d 67 [l0, l1, some (.int (x2)), l3, some (.int (x4)), l5, l6] [] h = if ¬ ((x2 >>> (x4 &&& 31)) &&& (nI 1)) = (nI 1) then R_X6_tries d 80 [l0, l1, some (.int (x2)), l3, some (.int (x4)), l5, l6] [] h else R_X6_tries d 77 [l0, l1, some (.int (x2)), l3, some (.int (x4)), l5, l6] [] h := by
  refine (p_iload rfl rfl).trans ?_
  refine (p_iload rfl rfl).trans ?_
  refine (p_bin rfl).trans ?_
  refine (p_const rfl).trans ?_
  refine (p_bin rfl).trans ?_
  refine (p_const rfl).trans ?_
  exact (s_icmp (g := (fun x y => decide (¬ x = y))) (t := 80) (nx := 77) rfl).trans bif_dec
theorem r_X6_tries_45 {d : Nat} {l0 l1 l2 l3 l4 l5 l6 : Option Value} {h : AH} : R_X6_tries d 45 [l0, l1, l2, l3, l4, l5, l6] [] h = some (.inl none, h) := s_vret rfl
theorem r_X6_tries_80 {d : Nat} {a0 : Nat} {l1 l2 l3 l4 l5 l6 : Option Value} {h : AH} : R_X6_tries d 80 [some (.ref a0), l1, l2, l3, l4, l5, l6] [] h = (hgf h [4] a0 4).bind fun v => R_X6_tries d 84 [some (.ref a0), l1, l2, l3, l4, l5, l6] [v] h := by
  refine (p_aload rfl rfl).trans ?_
  exact s_getf rfl
theorem r_X6_tries_77 {d : Nat} {x4 : Int32} {l0 l1 l2 l3 l5 l6 : Option Value} {h : AH} : R_X6_tries d 77 [l0, l1, l2, l3, some (.int (x4)), l5, l6] [] h = R_X6_tries d 49 [l0, l1, l2, l3, some (.int (x4 + (nI 1))), l5, l6] [] h := by
  refine (p_goto rfl).trans ?_
  refine (p_iinc rfl rfl rfl).trans ?_
  refine (p_goto rfl).trans ?_
  exact rfl
theorem r_X6_tries_84 {d : Nat} {b0 : Nat} {l0 l1 l2 l3 l4 l5 l6 : Option Value} {h : AH} : R_X6_tries d 84 [l0, l1, l2, l3, l4, l5, l6] [.ref b0] h = (hgf h [0] b0 0).bind fun v => R_X6_tries d 87 [l0, l1, l2, l3, l4, l5, l6] [v] h := s_getf rfl
theorem r_X6_tries_87 {d : Nat} {b0 : Nat} {l0 l1 l2 l3 l4 l5 l6 : Option Value} {h : AH} : R_X6_tries d 87 [l0, l1, l2, l3, l4, l5, l6] [.ref b0] h = (hgf h [1] b0 12).bind fun v => R_X6_tries d 90 [l0, l1, l2, l3, l4, l5, l6] [v] h := s_getf rfl
theorem r_X6_tries_90 {d : Nat} {b0 : Nat} {x4 : Int32} {l0 l1 l2 l3 l5 l6 : Option Value} {h : AH} : R_X6_tries d 90 [l0, l1, l2, l3, some (.int (x4)), l5, l6] [.ref b0] h = ((hci h b0).bind (lkN [(19, 114)])).bind fun y => aK (exec tTab d y [.ref b0, .int (x4)] h) (fun v h1 => R_X6_tries d 95 [l0, l1, l2, l3, some (.int (x4)), l5, l6] (v.toList ++ []) h1) (fun E h1 => some (.inr E, h1)) := by
  refine (p_iload rfl rfl).trans ?_
  exact s_callV (L := [(19, 114)]) (n := 1) (b := b0) (rest := []) rfl rfl rfl
theorem r_X6_tries_95 {d : Nat} {b0 : Nat} {l0 l1 l2 l3 l4 l5 l6 : Option Value} {h : AH} : R_X6_tries d 95 [l0, l1, l2, l3, l4, l5, l6] [.ref b0] h = bif hck h [] [0] b0 then R_X6_tries d 98 [l0, l1, l2, l3, l4, l5, l6] [.ref b0] h else none := s_cast rfl
theorem r_X6_tries_95N {d : Nat} {a0 : Nat} {l1 l2 l3 l4 l5 l6 : Option Value} {h : AH} : R_X6_tries d 95 [some (.ref a0), l1, l2, l3, l4, l5, l6] [.null] h = ((hci h a0).bind (lkN [(4, 147)])).bind fun y => aK (exec tTab d y [.ref a0, .null] h) (fun v h1 => R_X6_tries d 106 [some (.ref a0), l1, l2, l3, l4, some (.null), l6] (v.toList ++ []) h1) (fun E h1 => some (.inr E, h1)) := by
  refine (p_castN rfl).trans ?_
  refine (p_astoreN rfl rfl rfl).trans ?_
  refine (p_aload rfl rfl).trans ?_
  refine (p_aloadN rfl rfl).trans ?_
  exact s_callV (L := [(4, 147)]) (n := 1) (b := a0) (rest := []) rfl rfl rfl
theorem r_X6_tries_98 {d : Nat} {b0 a0 : Nat} {l1 l2 l3 l4 l5 l6 : Option Value} {h : AH} : R_X6_tries d 98 [some (.ref a0), l1, l2, l3, l4, l5, l6] [.ref b0] h = ((hci h a0).bind (lkN [(4, 147)])).bind fun y => aK (exec tTab d y [.ref a0, .ref b0] h) (fun v h1 => R_X6_tries d 106 [some (.ref a0), l1, l2, l3, l4, some (.ref b0), l6] (v.toList ++ []) h1) (fun E h1 => some (.inr E, h1)) := by
  refine (p_astore rfl rfl rfl).trans ?_
  refine (p_aload rfl rfl).trans ?_
  refine (p_aload rfl rfl).trans ?_
  exact s_callV (L := [(4, 147)]) (n := 1) (b := a0) (rest := []) rfl rfl rfl
theorem r_X6_tries_98N {d : Nat} {a0 : Nat} {l1 l2 l3 l4 l5 l6 : Option Value} {h : AH} : R_X6_tries d 98 [some (.ref a0), l1, l2, l3, l4, l5, l6] [.null] h = ((hci h a0).bind (lkN [(4, 147)])).bind fun y => aK (exec tTab d y [.ref a0, .null] h) (fun v h1 => R_X6_tries d 106 [some (.ref a0), l1, l2, l3, l4, some (.null), l6] (v.toList ++ []) h1) (fun E h1 => some (.inr E, h1)) := by
  refine (p_astoreN rfl rfl rfl).trans ?_
  refine (p_aload rfl rfl).trans ?_
  refine (p_aloadN rfl rfl).trans ?_
  exact s_callV (L := [(4, 147)]) (n := 1) (b := a0) (rest := []) rfl rfl rfl
theorem r_X6_tries_106 {d : Nat} {s0 : Int32} {a0 a5 : Nat} {l1 l2 l3 l4 l6 : Option Value} {h : AH} : R_X6_tries d 106 [some (.ref a0), l1, l2, l3, l4, some (.ref a5), l6] [.int (s0)] h = ((hci h a0).bind (lkN [(4, 148)])).bind fun y => aK (exec tTab d y [.ref a0, .ref a5, .int (s0)] h) (fun v h1 => R_X6_tries d 116 [some (.ref a0), l1, l2, l3, l4, some (.ref a5), some (.int (s0))] (v.toList ++ []) h1) (fun E h1 => some (.inr E, h1)) := by
  refine (p_istore rfl rfl rfl).trans ?_
  refine (p_aload rfl rfl).trans ?_
  refine (p_aload rfl rfl).trans ?_
  refine (p_iload rfl rfl).trans ?_
  exact s_callV (L := [(4, 148)]) (n := 2) (b := a0) (rest := []) rfl rfl rfl
theorem r_X6_tries_116 {d : Nat} {a0 : Nat} {l1 l2 l3 l4 l5 l6 : Option Value} {h : AH} : R_X6_tries d 116 [some (.ref a0), l1, l2, l3, l4, l5, l6] [] h = (hgf h [4] a0 1).bind fun v => R_X6_tries d 120 [some (.ref a0), l1, l2, l3, l4, l5, l6] [v] h := by
  refine (p_aload rfl rfl).trans ?_
  exact s_getf rfl
theorem r_X6_tries_120 {d : Nat} {b0 : Nat} {x1 x4 : Int32} {l0 l2 l3 l5 l6 : Option Value} {h : AH} : R_X6_tries d 120 [l0, some (.int (x1)), l2, l3, some (.int (x4)), l5, l6] [.ref b0] h = (hsi h 0 b0 x1 x4).bind fun h1 => R_X6_tries d 124 [l0, some (.int (x1)), l2, l3, some (.int (x4)), l5, l6] [] h1 := by
  refine (p_iload rfl rfl).trans ?_
  refine (p_iload rfl rfl).trans ?_
  exact s_iast (t := 0) (nar := (fun y => y)) rfl
theorem r_X6_tries_124 {d : Nat} {a0 a5 : Nat} {x1 x2 x4 x3 x6 : Int32} {h : AH} : R_X6_tries d 124 [some (.ref a0), some (.int (x1)), some (.int (x2)), some (.int (x3)), some (.int (x4)), some (.ref a5), some (.int (x6))] [] h = (hal h a5).bind fun v => R_X6_tries d 140 [some (.ref a0), some (.int (x1)), some (.int (x2)), some (.int (x3)), some (.int (x4)), some (.ref a5), some (.int (x6))] [.int (nI v), .int (x6), .int (x3), .int (x2 ||| ((nI 1) <<< (x4 &&& 31))), .int (x1 + (nI 1)), .ref a0] h := by
  refine (p_aload rfl rfl).trans ?_
  refine (p_iload rfl rfl).trans ?_
  refine (p_const rfl).trans ?_
  refine (p_bin rfl).trans ?_
  refine (p_iload rfl rfl).trans ?_
  refine (p_const rfl).trans ?_
  refine (p_iload rfl rfl).trans ?_
  refine (p_bin rfl).trans ?_
  refine (p_bin rfl).trans ?_
  refine (p_iload rfl rfl).trans ?_
  refine (p_iload rfl rfl).trans ?_
  refine (p_aload rfl rfl).trans ?_
  exact s_alen rfl
theorem r_X6_tries_140 {d : Nat} {b0 : Nat} {s1 s2 s3 s4 s5 : Int32} {l0 l1 l2 l3 l4 l5 l6 : Option Value} {h : AH} : R_X6_tries d 140 [l0, l1, l2, l3, l4, l5, l6] [.int (s5), .int (s4), .int (s3), .int (s2), .int (s1), .ref b0] h = ((hci h b0).bind (lkN [(4, 146)])).bind fun y => aK (exec tTab d y [.ref b0, .int (s1), .int (s2), .int (s3 + (s4 * s5))] h) (fun v h1 => R_X6_tries d 145 [l0, l1, l2, l3, l4, l5, l6] (v.toList ++ []) h1) (fun E h1 => some (.inr E, h1)) := by
  refine (p_bin rfl).trans ?_
  refine (p_bin rfl).trans ?_
  exact s_callV (L := [(4, 146)]) (n := 3) (b := b0) (rest := []) rfl rfl rfl
theorem r_X6_tries_145 {d : Nat} {a0 a5 : Nat} {x6 : Int32} {l1 l2 l3 l4 : Option Value} {h : AH} : R_X6_tries d 145 [some (.ref a0), l1, l2, l3, l4, some (.ref a5), some (.int (x6))] [] h = ((hci h a0).bind (lkN [(4, 148)])).bind fun y => aK (exec tTab d y [.ref a0, .ref a5, .int (-x6)] h) (fun v h1 => R_X6_tries d 154 [some (.ref a0), l1, l2, l3, l4, some (.ref a5), some (.int (x6))] (v.toList ++ []) h1) (fun E h1 => some (.inr E, h1)) := by
  refine (p_aload rfl rfl).trans ?_
  refine (p_aload rfl rfl).trans ?_
  refine (p_iload rfl rfl).trans ?_
  refine (p_un rfl).trans ?_
  exact s_callV (L := [(4, 148)]) (n := 2) (b := a0) (rest := []) rfl rfl rfl
theorem r_X6_tries_154 {d : Nat} {x4 : Int32} {l0 l1 l2 l3 l5 l6 : Option Value} {h : AH} : R_X6_tries d 154 [l0, l1, l2, l3, some (.int (x4)), l5, l6] [] h = R_X6_tries d 49 [l0, l1, l2, l3, some (.int (x4 + (nI 1))), l5, l6] [] h := by
  refine (p_iinc rfl rfl rfl).trans ?_
  refine (p_goto rfl).trans ?_
  exact rfl
theorem e_X6_tries {d : Nat} {a0 : Nat} {x1 x2 x3 : Int32} {h : AH} : exec tTab (d + 1) K_X6_tries [.ref a0, .int x1, .int x2, .int x3] h = R_X6_tries d 0 [some (.ref a0), some (.int x1), some (.int x2), some (.int x3), none, none, none] [] h := exec_eq (cd := k_X6_tries) (hd := (fun _ _ => some none)) (L := 7) rfl rfl rfl
/-- FavourTown$Clearing.least([I)I -/
abbrev K_X6_least : Nat := 147
noncomputable def R_X6_least (d pc : Nat) (ls : ALs) (st : List Value) (h : AH) : Option (AOut × AH) := aR (exec tTab d) k_X6_least (fun _ _ => some none) (pc, ls, st, h)
theorem r_X6_least_0 {d : Nat} {l0 l1 l2 l3 : Option Value} {h : AH} : R_X6_least d 0 [l0, l1, l2, l3] [] h = R_X6_least d 5 [l0, l1, some (.int ((2147483647 : Int32))), some (.int ((nI 0)))] [] h := by
  refine (p_const rfl).trans ?_
  refine (p_istore rfl rfl rfl).trans ?_
  refine (p_const rfl).trans ?_
  refine (p_istore rfl rfl rfl).trans ?_
  exact rfl
theorem q_X6_least_5 {d : Nat} {x3 : Int32} {a1 : Nat} {l0 l2 : Option Value} {h : AH} : R_X6_least d 5 [l0, some (.ref a1), l2, some (.int (x3))] [] h = (hal h a1).bind fun v => R_X6_least d 8 [l0, some (.ref a1), l2, some (.int (x3))] [.int (nI v), .int (x3)] h := by
  refine (p_iload rfl rfl).trans ?_
  refine (p_aload rfl rfl).trans ?_
  exact s_alen rfl
theorem r_X6_least_8 {d : Nat} {s0 s1 : Int32} {l0 l1 l2 l3 : Option Value} {h : AH} : R_X6_least d 8 [l0, l1, l2, l3] [.int (s1), .int (s0)] h = if s1 ≤ s0 then R_X6_least d 39 [l0, l1, l2, l3] [] h else R_X6_least d 11 [l0, l1, l2, l3] [] h := (s_icmp (g := (fun x y => decide (y ≤ x))) (t := 39) (nx := 11) rfl).trans bif_dec
theorem r_X6_least_39 {d : Nat} {x2 : Int32} {l0 l1 l3 : Option Value} {h : AH} : R_X6_least d 39 [l0, l1, some (.int (x2)), l3] [] h = some (.inl (some (.int (x2))), h) := by
  refine (p_iload rfl rfl).trans ?_
  exact s_iretT rfl rfl
theorem r_X6_least_11 {d : Nat} {x2 : Int32} {a0 : Nat} {l1 l3 : Option Value} {h : AH} : R_X6_least d 11 [some (.ref a0), l1, some (.int (x2)), l3] [] h = (hgf h [4] a0 0).bind fun v => R_X6_least d 16 [some (.ref a0), l1, some (.int (x2)), l3] [v, .int (x2)] h := by
  refine (p_iload rfl rfl).trans ?_
  refine (p_aload rfl rfl).trans ?_
  exact s_getf rfl
theorem r_X6_least_16 {d : Nat} {s0 x3 : Int32} {b1 a1 : Nat} {l0 l2 : Option Value} {h : AH} : R_X6_least d 16 [l0, some (.ref a1), l2, some (.int (x3))] [.ref b1, .int (s0)] h = (hai h 0 a1 x3).bind fun v => R_X6_least d 19 [l0, some (.ref a1), l2, some (.int (x3))] [.int v, .ref b1, .int (s0)] h := by
  refine (p_aload rfl rfl).trans ?_
  refine (p_iload rfl rfl).trans ?_
  exact s_iald rfl
theorem r_X6_least_16N {d : Nat} {s0 x3 : Int32} {a1 : Nat} {l0 l2 : Option Value} {h : AH} : R_X6_least d 16 [l0, some (.ref a1), l2, some (.int (x3))] [.null, .int (s0)] h = (hai h 0 a1 x3).bind fun v => R_X6_least d 19 [l0, some (.ref a1), l2, some (.int (x3))] [.int v, .null, .int (s0)] h := by
  refine (p_aload rfl rfl).trans ?_
  refine (p_iload rfl rfl).trans ?_
  exact s_iald rfl
theorem r_X6_least_19 {d : Nat} {s0 s2 : Int32} {b1 : Nat} {l0 l1 l2 l3 : Option Value} {h : AH} : R_X6_least d 19 [l0, l1, l2, l3] [.int (s2), .ref b1, .int (s0)] h = (haqs h [3, 4, 5] b1 s2).bind fun v => R_X6_least d 20 [l0, l1, l2, l3] [va_rf v, .int (s0)] h := s_aald rfl
theorem r_X6_least_20 {d : Nat} {s0 x3 : Int32} {b1 a1 : Nat} {l0 l2 : Option Value} {h : AH} : R_X6_least d 20 [l0, some (.ref a1), l2, some (.int (x3))] [.ref b1, .int (s0)] h = (hal h a1).bind fun v => R_X6_least d 26 [l0, some (.ref a1), l2, some (.int (x3))] [.int (nI v), .int (x3 + (nI 1)), .ref a1, .ref b1, .int (s0)] h := by
  refine (p_aload rfl rfl).trans ?_
  refine (p_iload rfl rfl).trans ?_
  refine (p_const rfl).trans ?_
  refine (p_bin rfl).trans ?_
  refine (p_aload rfl rfl).trans ?_
  exact s_alen rfl
theorem r_X6_least_20N {d : Nat} {s0 x3 : Int32} {a1 : Nat} {l0 l2 : Option Value} {h : AH} : R_X6_least d 20 [l0, some (.ref a1), l2, some (.int (x3))] [.null, .int (s0)] h = (hal h a1).bind fun v => R_X6_least d 26 [l0, some (.ref a1), l2, some (.int (x3))] [.int (nI v), .int (x3 + (nI 1)), .ref a1, .null, .int (s0)] h := by
  refine (p_aload rfl rfl).trans ?_
  refine (p_iload rfl rfl).trans ?_
  refine (p_const rfl).trans ?_
  refine (p_bin rfl).trans ?_
  refine (p_aload rfl rfl).trans ?_
  exact s_alen rfl
theorem r_X6_least_26 {d : Nat} {s0 s3 s4 : Int32} {b1 b2 : Nat} {l0 l1 l2 l3 : Option Value} {h : AH} : R_X6_least d 26 [l0, l1, l2, l3] [.int (s4), .int (s3), .ref b2, .ref b1, .int (s0)] h = if s4 = 0 then none else R_X6_least d 27 [l0, l1, l2, l3] [.int (s3 - s3 / s4 * s4), .ref b2, .ref b1, .int (s0)] h := s_div (g := (fun x y => x - x / y * y)) rfl
theorem r_X6_least_27 {d : Nat} {s0 s3 : Int32} {b1 b2 : Nat} {l0 l1 l2 l3 : Option Value} {h : AH} : R_X6_least d 27 [l0, l1, l2, l3] [.int (s3), .ref b2, .ref b1, .int (s0)] h = (hai h 0 b2 s3).bind fun v => R_X6_least d 28 [l0, l1, l2, l3] [.int v, .ref b1, .int (s0)] h := s_iald rfl
theorem r_X6_least_28 {d : Nat} {s0 s2 : Int32} {b1 : Nat} {l0 l1 l2 l3 : Option Value} {h : AH} : R_X6_least d 28 [l0, l1, l2, l3] [.int (s2), .ref b1, .int (s0)] h = (hai h 0 b1 s2).bind fun v => R_X6_least d 29 [l0, l1, l2, l3] [.int v, .int (s0)] h := s_iald rfl
theorem r_X6_least_29 {d : Nat} {s0 s1 x3 : Int32} {l0 l1 l2 : Option Value} {h : AH} : R_X6_least d 29 [l0, l1, l2, some (.int (x3))] [.int (s1), .int (s0)] h = R_X6_least d 5 [l0, l1, some (.int (if s1 < s0 then s1 else s0)), some (.int (x3 + (nI 1)))] [] h := by
  refine (s_mth rfl rfl).trans ?_
  refine (p_istore rfl rfl rfl).trans ?_
  refine (p_iinc rfl rfl rfl).trans ?_
  refine (p_goto rfl).trans ?_
  exact rfl
theorem e_X6_least {d : Nat} {a0 a1 : Nat} {h : AH} : exec tTab (d + 1) K_X6_least [.ref a0, .ref a1] h = R_X6_least d 0 [some (.ref a0), some (.ref a1), none, none] [] h := exec_eq (cd := k_X6_least) (hd := (fun _ _ => some none)) (L := 4) rfl rfl rfl
/-- FavourTown$Clearing.takes([II)V -/
abbrev K_X6_takes : Nat := 148
noncomputable def R_X6_takes (d pc : Nat) (ls : ALs) (st : List Value) (h : AH) : Option (AOut × AH) := aR (exec tTab d) k_X6_takes (fun _ _ => some none) (pc, ls, st, h)
theorem r_X6_takes_0 {d : Nat} {l0 l1 l2 l3 : Option Value} {h : AH} : R_X6_takes d 0 [l0, l1, l2, l3] [] h = R_X6_takes d 2 [l0, l1, l2, some (.int ((nI 0)))] [] h := by
  refine (p_const rfl).trans ?_
  refine (p_istore rfl rfl rfl).trans ?_
  exact rfl
theorem q_X6_takes_2 {d : Nat} {x3 : Int32} {a1 : Nat} {l0 l2 : Option Value} {h : AH} : R_X6_takes d 2 [l0, some (.ref a1), l2, some (.int (x3))] [] h = (hal h a1).bind fun v => R_X6_takes d 5 [l0, some (.ref a1), l2, some (.int (x3))] [.int (nI v), .int (x3)] h := by
  refine (p_iload rfl rfl).trans ?_
  refine (p_aload rfl rfl).trans ?_
  exact s_alen rfl
theorem r_X6_takes_5 {d : Nat} {s0 s1 : Int32} {l0 l1 l2 l3 : Option Value} {h : AH} : R_X6_takes d 5 [l0, l1, l2, l3] [.int (s1), .int (s0)] h = if s1 ≤ s0 then R_X6_takes d 35 [l0, l1, l2, l3] [] h else R_X6_takes d 8 [l0, l1, l2, l3] [] h := (s_icmp (g := (fun x y => decide (y ≤ x))) (t := 35) (nx := 8) rfl).trans bif_dec
theorem r_X6_takes_35 {d : Nat} {l0 l1 l2 l3 : Option Value} {h : AH} : R_X6_takes d 35 [l0, l1, l2, l3] [] h = some (.inl none, h) := s_vret rfl
theorem r_X6_takes_8 {d : Nat} {a0 : Nat} {l1 l2 l3 : Option Value} {h : AH} : R_X6_takes d 8 [some (.ref a0), l1, l2, l3] [] h = (hgf h [4] a0 0).bind fun v => R_X6_takes d 12 [some (.ref a0), l1, l2, l3] [v] h := by
  refine (p_aload rfl rfl).trans ?_
  exact s_getf rfl
theorem r_X6_takes_12 {d : Nat} {b0 a1 : Nat} {x3 : Int32} {l0 l2 : Option Value} {h : AH} : R_X6_takes d 12 [l0, some (.ref a1), l2, some (.int (x3))] [.ref b0] h = (hai h 0 a1 x3).bind fun v => R_X6_takes d 15 [l0, some (.ref a1), l2, some (.int (x3))] [.int v, .ref b0] h := by
  refine (p_aload rfl rfl).trans ?_
  refine (p_iload rfl rfl).trans ?_
  exact s_iald rfl
theorem r_X6_takes_12N {d : Nat} {a1 : Nat} {x3 : Int32} {l0 l2 : Option Value} {h : AH} : R_X6_takes d 12 [l0, some (.ref a1), l2, some (.int (x3))] [.null] h = (hai h 0 a1 x3).bind fun v => R_X6_takes d 15 [l0, some (.ref a1), l2, some (.int (x3))] [.int v, .null] h := by
  refine (p_aload rfl rfl).trans ?_
  refine (p_iload rfl rfl).trans ?_
  exact s_iald rfl
theorem r_X6_takes_15 {d : Nat} {b0 : Nat} {s1 : Int32} {l0 l1 l2 l3 : Option Value} {h : AH} : R_X6_takes d 15 [l0, l1, l2, l3] [.int (s1), .ref b0] h = (haqs h [3, 4, 5] b0 s1).bind fun v => R_X6_takes d 16 [l0, l1, l2, l3] [va_rf v] h := s_aald rfl
theorem r_X6_takes_16 {d : Nat} {b0 a1 : Nat} {x3 : Int32} {l0 l2 : Option Value} {h : AH} : R_X6_takes d 16 [l0, some (.ref a1), l2, some (.int (x3))] [.ref b0] h = (hal h a1).bind fun v => R_X6_takes d 22 [l0, some (.ref a1), l2, some (.int (x3))] [.int (nI v), .int (x3 + (nI 1)), .ref a1, .ref b0] h := by
  refine (p_aload rfl rfl).trans ?_
  refine (p_iload rfl rfl).trans ?_
  refine (p_const rfl).trans ?_
  refine (p_bin rfl).trans ?_
  refine (p_aload rfl rfl).trans ?_
  exact s_alen rfl
theorem r_X6_takes_16N {d : Nat} {a1 : Nat} {x3 : Int32} {l0 l2 : Option Value} {h : AH} : R_X6_takes d 16 [l0, some (.ref a1), l2, some (.int (x3))] [.null] h = (hal h a1).bind fun v => R_X6_takes d 22 [l0, some (.ref a1), l2, some (.int (x3))] [.int (nI v), .int (x3 + (nI 1)), .ref a1, .null] h := by
  refine (p_aload rfl rfl).trans ?_
  refine (p_iload rfl rfl).trans ?_
  refine (p_const rfl).trans ?_
  refine (p_bin rfl).trans ?_
  refine (p_aload rfl rfl).trans ?_
  exact s_alen rfl
theorem r_X6_takes_22 {d : Nat} {b0 b1 : Nat} {s2 s3 : Int32} {l0 l1 l2 l3 : Option Value} {h : AH} : R_X6_takes d 22 [l0, l1, l2, l3] [.int (s3), .int (s2), .ref b1, .ref b0] h = if s3 = 0 then none else R_X6_takes d 23 [l0, l1, l2, l3] [.int (s2 - s2 / s3 * s3), .ref b1, .ref b0] h := s_div (g := (fun x y => x - x / y * y)) rfl
theorem r_X6_takes_23 {d : Nat} {b0 b1 : Nat} {s2 : Int32} {l0 l1 l2 l3 : Option Value} {h : AH} : R_X6_takes d 23 [l0, l1, l2, l3] [.int (s2), .ref b1, .ref b0] h = (hai h 0 b1 s2).bind fun v => R_X6_takes d 24 [l0, l1, l2, l3] [.int v, .ref b0] h := s_iald rfl
theorem r_X6_takes_24 {d : Nat} {b0 : Nat} {s1 : Int32} {l0 l1 l2 l3 : Option Value} {h : AH} : R_X6_takes d 24 [l0, l1, l2, l3] [.int (s1), .ref b0] h = (hai h 0 b0 s1).bind fun v => R_X6_takes d 26 [l0, l1, l2, l3] [.int v, .int (s1), .ref b0] h := by
  refine (p_dup2 rfl rfl).trans ?_
  exact s_iald rfl
theorem r_X6_takes_26 {d : Nat} {b0 : Nat} {s1 s2 x2 : Int32} {l0 l1 l3 : Option Value} {h : AH} : R_X6_takes d 26 [l0, l1, some (.int (x2)), l3] [.int (s2), .int (s1), .ref b0] h = (hsi h 0 b0 s1 (s2 - x2)).bind fun h1 => R_X6_takes d 29 [l0, l1, some (.int (x2)), l3] [] h1 := by
  refine (p_iload rfl rfl).trans ?_
  refine (p_bin rfl).trans ?_
  exact s_iast (t := 0) (nar := (fun y => y)) rfl
theorem r_X6_takes_29 {d : Nat} {x3 : Int32} {l0 l1 l2 : Option Value} {h : AH} : R_X6_takes d 29 [l0, l1, l2, some (.int (x3))] [] h = R_X6_takes d 2 [l0, l1, l2, some (.int (x3 + (nI 1)))] [] h := by
  refine (p_iinc rfl rfl rfl).trans ?_
  refine (p_goto rfl).trans ?_
  exact rfl
theorem e_X6_takes {d : Nat} {a0 a1 : Nat} {x2 : Int32} {h : AH} : exec tTab (d + 1) K_X6_takes [.ref a0, .ref a1, .int x2] h = R_X6_takes d 0 [some (.ref a0), some (.ref a1), some (.int x2), none] [] h := exec_eq (cd := k_X6_takes) (hd := (fun _ _ => some none)) (L := 4) rfl rfl rfl
/-- FavourTown$Favour.end()I -/
abbrev K_X8_end : Nat := 242
noncomputable def R_X8_end (d pc : Nat) (ls : ALs) (st : List Value) (h : AH) : Option (AOut × AH) := aR (exec tTab d) k_X8_end (fun _ _ => some none) (pc, ls, st, h)
theorem r_X8_end_0 {d : Nat} {l0 : Option Value} {h : AH} : R_X8_end d 0 [l0] [] h = some (.inl (some (.int ((-1)))), h) := by
  refine (p_const rfl).trans ?_
  exact s_iretT rfl rfl
theorem e_X8_end {d : Nat} {a0 : Nat} {h : AH} : exec tTab (d + 1) K_X8_end [.ref a0] h = R_X8_end d 0 [some (.ref a0)] [] h := exec_eq (cd := k_X8_end) (hd := (fun _ _ => some none)) (L := 1) rfl rfl rfl
/-- FavourTown$Favour.worthAt(I)I -/
abbrev K_X8_worthAt : Nat := 243
noncomputable def R_X8_worthAt (d pc : Nat) (ls : ALs) (st : List Value) (h : AH) : Option (AOut × AH) := aR (exec tTab d) k_X8_worthAt (fun _ _ => some none) (pc, ls, st, h)
theorem r_X8_worthAt_0 {d : Nat} {a0 : Nat} {l1 : Option Value} {h : AH} : R_X8_worthAt d 0 [some (.ref a0), l1] [] h = (hgf h [5, 6] a0 1).bind fun v => R_X8_worthAt d 4 [some (.ref a0), l1] [v] h := by
  refine (p_aload rfl rfl).trans ?_
  exact s_getf rfl
theorem r_X8_worthAt_4 {d : Nat} {s0 x1 : Int32} {l0 : Option Value} {h : AH} : R_X8_worthAt d 4 [l0, some (.int (x1))] [.int (s0)] h = some (.inl (some (.int ((s0 * (nI 1024)) >>> (x1 &&& 31)))), h) := by
  refine (p_const rfl).trans ?_
  refine (p_bin rfl).trans ?_
  refine (p_iload rfl rfl).trans ?_
  refine (p_bin rfl).trans ?_
  exact s_iretT rfl rfl
theorem e_X8_worthAt {d : Nat} {a0 : Nat} {x1 : Int32} {h : AH} : exec tTab (d + 1) K_X8_worthAt [.ref a0, .int x1] h = R_X8_worthAt d 0 [some (.ref a0), some (.int x1)] [] h := exec_eq (cd := k_X8_worthAt) (hd := (fun _ _ => some none)) (L := 2) rfl rfl rfl
/-- FavourTown$Favour.wasHeldBy(I)Z -/
abbrev K_X8_wasHeldBy : Nat := 244
noncomputable def R_X8_wasHeldBy (d pc : Nat) (ls : ALs) (st : List Value) (h : AH) : Option (AOut × AH) := aR (exec tTab d) k_X8_wasHeldBy (fun _ _ => some none) (pc, ls, st, h)
theorem r_X8_wasHeldBy_0 {d : Nat} {l0 l1 l2 : Option Value} {h : AH} : R_X8_wasHeldBy d 0 [l0, l1, l2] [] h = R_X8_wasHeldBy d 2 [l0, l1, some (.int ((nI 1)))] [] h := by
  refine (p_const rfl).trans ?_
  refine (p_istore rfl rfl rfl).trans ?_
  exact rfl
theorem q_X8_wasHeldBy_2 {d : Nat} {x2 : Int32} {a0 : Nat} {l1 : Option Value} {h : AH} : R_X8_wasHeldBy d 2 [some (.ref a0), l1, some (.int (x2))] [] h = (hgf h [5, 6] a0 5).bind fun v => R_X8_wasHeldBy d 7 [some (.ref a0), l1, some (.int (x2))] [v, .int (x2)] h := by
  refine (p_iload rfl rfl).trans ?_
  refine (p_aload rfl rfl).trans ?_
  exact s_getf rfl
theorem r_X8_wasHeldBy_7 {d : Nat} {s0 s1 : Int32} {l0 l1 l2 : Option Value} {h : AH} : R_X8_wasHeldBy d 7 [l0, l1, l2] [.int (s1), .int (s0)] h = if (s1 + (nI 1)) < s0 then R_X8_wasHeldBy d 30 [l0, l1, l2] [] h else R_X8_wasHeldBy d 12 [l0, l1, l2] [] h := by
  refine (p_const rfl).trans ?_
  refine (p_bin rfl).trans ?_
  exact (s_icmp (g := (fun x y => decide (y < x))) (t := 30) (nx := 12) rfl).trans bif_dec
theorem r_X8_wasHeldBy_30 {d : Nat} {l0 l1 l2 : Option Value} {h : AH} : R_X8_wasHeldBy d 30 [l0, l1, l2] [] h = some (.inl (some (.int ((nI 0)))), h) := by
  refine (p_const rfl).trans ?_
  exact s_iretT rfl rfl
theorem r_X8_wasHeldBy_12 {d : Nat} {a0 : Nat} {l1 l2 : Option Value} {h : AH} : R_X8_wasHeldBy d 12 [some (.ref a0), l1, l2] [] h = (hgf h [5, 6] a0 3).bind fun v => R_X8_wasHeldBy d 16 [some (.ref a0), l1, l2] [v] h := by
  refine (p_aload rfl rfl).trans ?_
  exact s_getf rfl
theorem r_X8_wasHeldBy_16 {d : Nat} {b0 : Nat} {x2 : Int32} {l0 l1 : Option Value} {h : AH} : R_X8_wasHeldBy d 16 [l0, l1, some (.int (x2))] [.ref b0] h = (hai h 0 b0 x2).bind fun v => R_X8_wasHeldBy d 18 [l0, l1, some (.int (x2))] [.int v] h := by
  refine (p_iload rfl rfl).trans ?_
  exact s_iald rfl
theorem r_X8_wasHeldBy_18 {d : Nat} {s0 x1 : Int32} {l0 l2 : Option Value} {h : AH} : R_X8_wasHeldBy d 18 [l0, some (.int (x1)), l2] [.int (s0)] h = if ¬ s0 = x1 then R_X8_wasHeldBy d 24 [l0, some (.int (x1)), l2] [] h else R_X8_wasHeldBy d 22 [l0, some (.int (x1)), l2] [] h := by
  refine (p_iload rfl rfl).trans ?_
  exact (s_icmp (g := (fun x y => decide (¬ x = y))) (t := 24) (nx := 22) rfl).trans bif_dec
theorem r_X8_wasHeldBy_24 {d : Nat} {x2 : Int32} {l0 l1 : Option Value} {h : AH} : R_X8_wasHeldBy d 24 [l0, l1, some (.int (x2))] [] h = R_X8_wasHeldBy d 2 [l0, l1, some (.int (x2 + (nI 1)))] [] h := by
  refine (p_iinc rfl rfl rfl).trans ?_
  refine (p_goto rfl).trans ?_
  exact rfl
theorem r_X8_wasHeldBy_22 {d : Nat} {l0 l1 l2 : Option Value} {h : AH} : R_X8_wasHeldBy d 22 [l0, l1, l2] [] h = some (.inl (some (.int ((nI 1)))), h) := by
  refine (p_const rfl).trans ?_
  exact s_iretT rfl rfl
theorem e_X8_wasHeldBy {d : Nat} {a0 : Nat} {x1 : Int32} {h : AH} : exec tTab (d + 1) K_X8_wasHeldBy [.ref a0, .int x1] h = R_X8_wasHeldBy d 0 [some (.ref a0), some (.int x1), none] [] h := exec_eq (cd := k_X8_wasHeldBy) (hd := (fun _ _ => some none)) (L := 3) rfl rfl rfl
/-- FavourTown$Favour.<init>(IIIZ)V -/
abbrev K_X8_init : Nat := 245
noncomputable def R_X8_init (d pc : Nat) (ls : ALs) (st : List Value) (h : AH) : Option (AOut × AH) := aR (exec tTab d) k_X8_init (fun _ _ => some none) (pc, ls, st, h)
theorem r_X8_init_0 {d : Nat} {a0 : Nat} {l1 l2 l3 l4 : Option Value} {h : AH} : R_X8_init d 0 [some (.ref a0), l1, l2, l3, l4] [] h = bif hin (nI 12) 65537 then R_X8_init d 9 [some (.ref a0), l1, l2, l3, l4] [.ref h.2.1, .ref a0] (hnew h (true, .inl (0, ((nI 12)).toNatClampNeg, (.inl (fun _ => 0)))) ((nI 12)).toNatClampNeg) else none := by
  refine (p_aload rfl rfl).trans ?_
  refine (s_objI rfl rfl).trans ?_
  refine (p_aload rfl rfl).trans ?_
  refine (p_const rfl).trans ?_
  exact s_newa (t := 0) (z := (.inl (fun _ => 0))) rfl
theorem r_X8_init_9 {d : Nat} {b0 b1 : Nat} {l0 l1 l2 l3 l4 : Option Value} {h : AH} : R_X8_init d 9 [l0, l1, l2, l3, l4] [.ref b1, .ref b0] h = (hpf h [5, 6] b0 3 (.ref b1)).bind fun h1 => R_X8_init d 12 [l0, l1, l2, l3, l4] [] h1 := s_putT rfl rfl
theorem r_X8_init_9N {d : Nat} {b0 : Nat} {l0 l1 l2 l3 l4 : Option Value} {h : AH} : R_X8_init d 9 [l0, l1, l2, l3, l4] [.null, .ref b0] h = (hpf h [5, 6] b0 3 (.null)).bind fun h1 => R_X8_init d 12 [l0, l1, l2, l3, l4] [] h1 := s_putT rfl rfl
theorem r_X8_init_12 {d : Nat} {a0 : Nat} {x1 : Int32} {l2 l3 l4 : Option Value} {h : AH} : R_X8_init d 12 [some (.ref a0), some (.int (x1)), l2, l3, l4] [] h = (hpf h [5, 6] a0 0 (.int (x1))).bind fun h1 => R_X8_init d 17 [some (.ref a0), some (.int (x1)), l2, l3, l4] [] h1 := by
  refine (p_aload rfl rfl).trans ?_
  refine (p_iload rfl rfl).trans ?_
  exact s_putT rfl rfl
theorem r_X8_init_17 {d : Nat} {a0 : Nat} {x3 : Int32} {l1 l2 l4 : Option Value} {h : AH} : R_X8_init d 17 [some (.ref a0), l1, l2, some (.int (x3)), l4] [] h = (hpf h [5, 6] a0 1 (.int (x3))).bind fun h1 => R_X8_init d 22 [some (.ref a0), l1, l2, some (.int (x3)), l4] [] h1 := by
  refine (p_aload rfl rfl).trans ?_
  refine (p_iload rfl rfl).trans ?_
  exact s_putT rfl rfl
theorem r_X8_init_22 {d : Nat} {a0 : Nat} {x4 : Int32} {l1 l2 l3 : Option Value} {h : AH} : R_X8_init d 22 [some (.ref a0), l1, l2, l3, some (.int (x4))] [] h = bif vZ (.int (x4)) then (hpf h [5, 6] a0 2 (.int (x4))).bind fun h1 => R_X8_init d 28 [some (.ref a0), l1, l2, l3, some (.int (x4))] [] h1 else none := by
  refine (p_aload rfl rfl).trans ?_
  refine (p_iload rfl rfl).trans ?_
  exact s_putf rfl
theorem r_X8_init_28 {d : Nat} {a0 : Nat} {l1 l2 l3 l4 : Option Value} {h : AH} : R_X8_init d 28 [some (.ref a0), l1, l2, l3, l4] [] h = (hgf h [5, 6] a0 3).bind fun v => R_X8_init d 32 [some (.ref a0), l1, l2, l3, l4] [v] h := by
  refine (p_aload rfl rfl).trans ?_
  exact s_getf rfl
theorem r_X8_init_32 {d : Nat} {b0 : Nat} {x1 : Int32} {l0 l2 l3 l4 : Option Value} {h : AH} : R_X8_init d 32 [l0, some (.int (x1)), l2, l3, l4] [.ref b0] h = (hsi h 0 b0 (nI 0) x1).bind fun h1 => R_X8_init d 35 [l0, some (.int (x1)), l2, l3, l4] [] h1 := by
  refine (p_const rfl).trans ?_
  refine (p_iload rfl rfl).trans ?_
  exact s_iast (t := 0) (nar := (fun y => y)) rfl
theorem r_X8_init_35 {d : Nat} {a0 : Nat} {l1 l2 l3 l4 : Option Value} {h : AH} : R_X8_init d 35 [some (.ref a0), l1, l2, l3, l4] [] h = (hgf h [5, 6] a0 3).bind fun v => R_X8_init d 39 [some (.ref a0), l1, l2, l3, l4] [v] h := by
  refine (p_aload rfl rfl).trans ?_
  exact s_getf rfl
theorem r_X8_init_39 {d : Nat} {b0 : Nat} {x2 : Int32} {l0 l1 l3 l4 : Option Value} {h : AH} : R_X8_init d 39 [l0, l1, some (.int (x2)), l3, l4] [.ref b0] h = (hsi h 0 b0 (nI 1) x2).bind fun h1 => R_X8_init d 42 [l0, l1, some (.int (x2)), l3, l4] [] h1 := by
  refine (p_const rfl).trans ?_
  refine (p_iload rfl rfl).trans ?_
  exact s_iast (t := 0) (nar := (fun y => y)) rfl
theorem r_X8_init_42 {d : Nat} {a0 : Nat} {x2 : Int32} {l1 l3 l4 : Option Value} {h : AH} : R_X8_init d 42 [some (.ref a0), l1, some (.int (x2)), l3, l4] [] h = (hpf h [5, 6] a0 4 (.int (x2))).bind fun h1 => R_X8_init d 47 [some (.ref a0), l1, some (.int (x2)), l3, l4] [] h1 := by
  refine (p_aload rfl rfl).trans ?_
  refine (p_iload rfl rfl).trans ?_
  exact s_putT rfl rfl
theorem r_X8_init_47 {d : Nat} {l0 l1 l2 l3 l4 : Option Value} {h : AH} : R_X8_init d 47 [l0, l1, l2, l3, l4] [] h = some (.inl none, h) := s_vret rfl
theorem e_X8_init {d : Nat} {a0 : Nat} {x1 x2 x3 x4 : Int32} {h : AH} : exec tTab (d + 1) K_X8_init [.ref a0, .int x1, .int x2, .int x3, .int x4] h = R_X8_init d 0 [some (.ref a0), some (.int x1), some (.int x2), some (.int x3), some (.int x4)] [] h := exec_eq (cd := k_X8_init) (hd := (fun _ _ => some none)) (L := 5) rfl rfl rfl
/-- FavourTown$Favour.takes(LFavourTown$Favour;)LFavourTown$Favour; -/
abbrev K_X8_takes : Nat := 246
noncomputable def R_X8_takes (d pc : Nat) (ls : ALs) (st : List Value) (h : AH) : Option (AOut × AH) := aR (exec tTab d) k_X8_takes (fun _ _ => some none) (pc, ls, st, h)
theorem r_X8_takes_0 {d : Nat} {a0 : Nat} {l1 : Option Value} {h : AH} : R_X8_takes d 0 [some (.ref a0), l1] [] h = (hgf h [5, 6] a0 3).bind fun v => R_X8_takes d 4 [some (.ref a0), l1] [v] h := by
  refine (p_aload rfl rfl).trans ?_
  exact s_getf rfl
theorem r_X8_takes_4 {d : Nat} {b0 a1 : Nat} {l0 : Option Value} {h : AH} : R_X8_takes d 4 [l0, some (.ref a1)] [.ref b0] h = (hgf h [5, 6] a1 3).bind fun v => R_X8_takes d 9 [l0, some (.ref a1)] [v, .int ((nI 0)), .ref b0] h := by
  refine (p_const rfl).trans ?_
  refine (p_aload rfl rfl).trans ?_
  exact s_getf rfl
theorem r_X8_takes_4N {d : Nat} {a1 : Nat} {l0 : Option Value} {h : AH} : R_X8_takes d 4 [l0, some (.ref a1)] [.null] h = (hgf h [5, 6] a1 3).bind fun v => R_X8_takes d 9 [l0, some (.ref a1)] [v, .int ((nI 0)), .null] h := by
  refine (p_const rfl).trans ?_
  refine (p_aload rfl rfl).trans ?_
  exact s_getf rfl
theorem r_X8_takes_9 {d : Nat} {b0 b2 a0 : Nat} {s1 : Int32} {l1 : Option Value} {h : AH} : R_X8_takes d 9 [some (.ref a0), l1] [.ref b2, .int (s1), .ref b0] h = (hgf h [5, 6] a0 3).bind fun v => R_X8_takes d 14 [some (.ref a0), l1] [v, .int ((nI 0)), .ref b2, .int (s1), .ref b0] h := by
  refine (p_const rfl).trans ?_
  refine (p_aload rfl rfl).trans ?_
  exact s_getf rfl
theorem r_X8_takes_9N {d : Nat} {b0 a0 : Nat} {s1 : Int32} {l1 : Option Value} {h : AH} : R_X8_takes d 9 [some (.ref a0), l1] [.null, .int (s1), .ref b0] h = (hgf h [5, 6] a0 3).bind fun v => R_X8_takes d 14 [some (.ref a0), l1] [v, .int ((nI 0)), .null, .int (s1), .ref b0] h := by
  refine (p_const rfl).trans ?_
  refine (p_aload rfl rfl).trans ?_
  exact s_getf rfl
theorem r_X8_takes_14 {d : Nat} {b0 b2 b4 : Nat} {s1 s3 : Int32} {l0 l1 : Option Value} {h : AH} : R_X8_takes d 14 [l0, l1] [.ref b4, .int (s3), .ref b2, .int (s1), .ref b0] h = (hal h b4).bind fun v => R_X8_takes d 15 [l0, l1] [.int (nI v), .int (s3), .ref b2, .int (s1), .ref b0] h := s_alen rfl
theorem r_X8_takes_15 {d : Nat} {b0 b2 : Nat} {s1 s3 s4 : Int32} {l0 l1 : Option Value} {h : AH} : R_X8_takes d 15 [l0, l1] [.int (s4), .int (s3), .ref b2, .int (s1), .ref b0] h = (hcpy h anyC anyT b0 b2 s1 s3 s4).bind fun h1 => R_X8_takes d 18 [l0, l1] [] h1 := s_copy rfl rfl
theorem r_X8_takes_18 {d : Nat} {a1 a0 : Nat} {h : AH} : R_X8_takes d 18 [some (.ref a0), some (.ref a1)] [] h = (hgf h [5, 6] a0 4).bind fun v => R_X8_takes d 23 [some (.ref a0), some (.ref a1)] [v, .ref a1] h := by
  refine (p_aload rfl rfl).trans ?_
  refine (p_aload rfl rfl).trans ?_
  exact s_getf rfl
theorem r_X8_takes_23 {d : Nat} {b0 : Nat} {s1 : Int32} {l0 l1 : Option Value} {h : AH} : R_X8_takes d 23 [l0, l1] [.int (s1), .ref b0] h = (hpf h [5, 6] b0 4 (.int (s1))).bind fun h1 => R_X8_takes d 26 [l0, l1] [] h1 := s_putT rfl rfl
theorem r_X8_takes_26 {d : Nat} {a1 a0 : Nat} {h : AH} : R_X8_takes d 26 [some (.ref a0), some (.ref a1)] [] h = (hgf h [5, 6] a0 5).bind fun v => R_X8_takes d 31 [some (.ref a0), some (.ref a1)] [v, .ref a1] h := by
  refine (p_aload rfl rfl).trans ?_
  refine (p_aload rfl rfl).trans ?_
  exact s_getf rfl
theorem r_X8_takes_31 {d : Nat} {b0 : Nat} {s1 : Int32} {l0 l1 : Option Value} {h : AH} : R_X8_takes d 31 [l0, l1] [.int (s1), .ref b0] h = (hpf h [5, 6] b0 5 (.int (s1))).bind fun h1 => R_X8_takes d 34 [l0, l1] [] h1 := s_putT rfl rfl
theorem r_X8_takes_34 {d : Nat} {a1 : Nat} {l0 : Option Value} {h : AH} : R_X8_takes d 34 [l0, some (.ref a1)] [] h = some (.inl (some (.ref a1)), h) := by
  refine (p_aload rfl rfl).trans ?_
  exact s_aret rfl
theorem e_X8_takes {d : Nat} {a0 a1 : Nat} {h : AH} : exec tTab (d + 1) K_X8_takes [.ref a0, .ref a1] h = R_X8_takes d 0 [some (.ref a0), some (.ref a1)] [] h := exec_eq (cd := k_X8_takes) (hd := (fun _ _ => some none)) (L := 2) rfl rfl rfl
/-- FavourTown$Favour.copy()LFavourTown$Favour; -/
abbrev K_X8_copy : Nat := 247
noncomputable def R_X8_copy (d pc : Nat) (ls : ALs) (st : List Value) (h : AH) : Option (AOut × AH) := aR (exec tTab d) k_X8_copy (fun _ _ => some none) (pc, ls, st, h)
theorem r_X8_copy_0 {d : Nat} {a0 : Nat} {h : AH} : R_X8_copy d 0 [some (.ref a0)] [] h = R_X8_copy d 4 [some (.ref a0)] [.ref h.2.1, .ref a0] (hnew h (true, .inr (5, [.int 0, .int 0, .int 0, .null, .int 0, .int 0])) 6) := by
  refine (p_aload rfl rfl).trans ?_
  exact p_new rfl
theorem r_X8_copy_4 {d : Nat} {b0 b1 a0 : Nat} {h : AH} : R_X8_copy d 4 [some (.ref a0)] [.ref b1, .ref b0] h = (hgf h [5, 6] a0 0).bind fun v => R_X8_copy d 9 [some (.ref a0)] [v, .ref b1, .ref b1, .ref b0] h := by
  refine (p_dup rfl rfl).trans ?_
  refine (p_aload rfl rfl).trans ?_
  exact s_getf rfl
theorem r_X8_copy_4N {d : Nat} {b0 a0 : Nat} {h : AH} : R_X8_copy d 4 [some (.ref a0)] [.null, .ref b0] h = (hgf h [5, 6] a0 0).bind fun v => R_X8_copy d 9 [some (.ref a0)] [v, .null, .null, .ref b0] h := by
  refine (p_dup rfl rfl).trans ?_
  refine (p_aload rfl rfl).trans ?_
  exact s_getf rfl
theorem r_X8_copy_9 {d : Nat} {b0 b1 b2 a0 : Nat} {s3 : Int32} {h : AH} : R_X8_copy d 9 [some (.ref a0)] [.int (s3), .ref b2, .ref b1, .ref b0] h = (hgf h [5, 6] a0 3).bind fun v => R_X8_copy d 13 [some (.ref a0)] [v, .int (s3), .ref b2, .ref b1, .ref b0] h := by
  refine (p_aload rfl rfl).trans ?_
  exact s_getf rfl
theorem r_X8_copy_13 {d : Nat} {b0 b1 b2 b4 : Nat} {s3 : Int32} {l0 : Option Value} {h : AH} : R_X8_copy d 13 [l0] [.ref b4, .int (s3), .ref b2, .ref b1, .ref b0] h = (hai h 0 b4 (nI 1)).bind fun v => R_X8_copy d 15 [l0] [.int v, .int (s3), .ref b2, .ref b1, .ref b0] h := by
  refine (p_const rfl).trans ?_
  exact s_iald rfl
theorem r_X8_copy_15 {d : Nat} {b0 b1 b2 a0 : Nat} {s3 s4 : Int32} {h : AH} : R_X8_copy d 15 [some (.ref a0)] [.int (s4), .int (s3), .ref b2, .ref b1, .ref b0] h = (hgf h [5, 6] a0 1).bind fun v => R_X8_copy d 19 [some (.ref a0)] [v, .int (s4), .int (s3), .ref b2, .ref b1, .ref b0] h := by
  refine (p_aload rfl rfl).trans ?_
  exact s_getf rfl
theorem r_X8_copy_19 {d : Nat} {b0 b1 b2 a0 : Nat} {s3 s4 s5 : Int32} {h : AH} : R_X8_copy d 19 [some (.ref a0)] [.int (s5), .int (s4), .int (s3), .ref b2, .ref b1, .ref b0] h = (hgf h [5, 6] a0 2).bind fun v => R_X8_copy d 23 [some (.ref a0)] [v, .int (s5), .int (s4), .int (s3), .ref b2, .ref b1, .ref b0] h := by
  refine (p_aload rfl rfl).trans ?_
  exact s_getf rfl
theorem r_X8_copy_23 {d : Nat} {b0 b1 b2 : Nat} {s3 s4 s5 s6 : Int32} {l0 : Option Value} {h : AH} : R_X8_copy d 23 [l0] [.int (s6), .int (s5), .int (s4), .int (s3), .ref b2, .ref b1, .ref b0] h = aK (exec tTab d 245 [.ref b2, .int (s3), .int (s4), .int (s5), .int (s6)] h) (fun v h1 => R_X8_copy d 26 [l0] (v.toList ++ [.ref b1, .ref b0]) h1) (fun E h1 => some (.inr E, h1)) := s_callI (y := 245) (n := 4) (b := b2) (rest := [.ref b1, .ref b0]) rfl rfl rfl
theorem r_X8_copy_26 {d : Nat} {b0 b1 : Nat} {l0 : Option Value} {h : AH} : R_X8_copy d 26 [l0] [.ref b1, .ref b0] h = ((hci h b0).bind (lkN [(5, 246), (6, 246)])).bind fun y => aK (exec tTab d y [.ref b0, .ref b1] h) (fun v h1 => R_X8_copy d 29 [l0] (v.toList ++ []) h1) (fun E h1 => some (.inr E, h1)) := s_callV (L := [(5, 246), (6, 246)]) (n := 1) (b := b0) (rest := []) rfl rfl rfl
theorem r_X8_copy_26N {d : Nat} {b0 : Nat} {l0 : Option Value} {h : AH} : R_X8_copy d 26 [l0] [.null, .ref b0] h = ((hci h b0).bind (lkN [(5, 246), (6, 246)])).bind fun y => aK (exec tTab d y [.ref b0, .null] h) (fun v h1 => R_X8_copy d 29 [l0] (v.toList ++ []) h1) (fun E h1 => some (.inr E, h1)) := s_callV (L := [(5, 246), (6, 246)]) (n := 1) (b := b0) (rest := []) rfl rfl rfl
theorem r_X8_copy_29 {d : Nat} {b0 : Nat} {l0 : Option Value} {h : AH} : R_X8_copy d 29 [l0] [.ref b0] h = some (.inl (some (.ref b0)), h) := s_aret rfl
theorem r_X8_copy_29N {d : Nat} {l0 : Option Value} {h : AH} : R_X8_copy d 29 [l0] [.null] h = some (.inl (some (.null)), h) := s_aretN rfl
theorem e_X8_copy {d : Nat} {a0 : Nat} {h : AH} : exec tTab (d + 1) K_X8_copy [.ref a0] h = R_X8_copy d 0 [some (.ref a0)] [] h := exec_eq (cd := k_X8_copy) (hd := (fun _ _ => some none)) (L := 1) rfl rfl rfl
/-- FavourTown$Favour.goes(I)V -/
abbrev K_X8_goes : Nat := 248
noncomputable def R_X8_goes (d pc : Nat) (ls : ALs) (st : List Value) (h : AH) : Option (AOut × AH) := aR (exec tTab d) k_X8_goes (fun _ _ => some none) (pc, ls, st, h)
theorem r_X8_goes_0 {d : Nat} {a0 : Nat} {l1 : Option Value} {h : AH} : R_X8_goes d 0 [some (.ref a0), l1] [] h = (hgf h [5, 6] a0 5).bind fun v => R_X8_goes d 5 [some (.ref a0), l1] [v, .ref a0] h := by
  refine (p_aload rfl rfl).trans ?_
  refine (p_dup rfl rfl).trans ?_
  exact s_getf rfl
theorem r_X8_goes_5 {d : Nat} {b0 : Nat} {s1 : Int32} {l0 l1 : Option Value} {h : AH} : R_X8_goes d 5 [l0, l1] [.int (s1), .ref b0] h = (hpf h [5, 6] b0 5 (.int (s1 + (nI 1)))).bind fun h1 => R_X8_goes d 10 [l0, l1] [] h1 := by
  refine (p_const rfl).trans ?_
  refine (p_bin rfl).trans ?_
  exact s_putT rfl rfl
theorem r_X8_goes_10 {d : Nat} {a0 : Nat} {l1 : Option Value} {h : AH} : R_X8_goes d 10 [some (.ref a0), l1] [] h = (hgf h [5, 6] a0 3).bind fun v => R_X8_goes d 14 [some (.ref a0), l1] [v] h := by
  refine (p_aload rfl rfl).trans ?_
  exact s_getf rfl
theorem r_X8_goes_14 {d : Nat} {b0 a0 : Nat} {l1 : Option Value} {h : AH} : R_X8_goes d 14 [some (.ref a0), l1] [.ref b0] h = (hgf h [5, 6] a0 5).bind fun v => R_X8_goes d 18 [some (.ref a0), l1] [v, .ref b0] h := by
  refine (p_aload rfl rfl).trans ?_
  exact s_getf rfl
theorem r_X8_goes_14N {d : Nat} {a0 : Nat} {l1 : Option Value} {h : AH} : R_X8_goes d 14 [some (.ref a0), l1] [.null] h = (hgf h [5, 6] a0 5).bind fun v => R_X8_goes d 18 [some (.ref a0), l1] [v, .null] h := by
  refine (p_aload rfl rfl).trans ?_
  exact s_getf rfl
theorem r_X8_goes_18 {d : Nat} {b0 : Nat} {s1 x1 : Int32} {l0 : Option Value} {h : AH} : R_X8_goes d 18 [l0, some (.int (x1))] [.int (s1), .ref b0] h = (hsi h 0 b0 (s1 + (nI 1)) x1).bind fun h1 => R_X8_goes d 22 [l0, some (.int (x1))] [] h1 := by
  refine (p_const rfl).trans ?_
  refine (p_bin rfl).trans ?_
  refine (p_iload rfl rfl).trans ?_
  exact s_iast (t := 0) (nar := (fun y => y)) rfl
theorem r_X8_goes_22 {d : Nat} {a0 : Nat} {x1 : Int32} {h : AH} : R_X8_goes d 22 [some (.ref a0), some (.int (x1))] [] h = (hgf h [5, 6] a0 0).bind fun v => R_X8_goes d 28 [some (.ref a0), some (.int (x1))] [v, .int (x1), .ref a0] h := by
  refine (p_aload rfl rfl).trans ?_
  refine (p_iload rfl rfl).trans ?_
  refine (p_aload rfl rfl).trans ?_
  exact s_getf rfl
theorem r_X8_goes_28 {d : Nat} {b0 : Nat} {s1 s2 : Int32} {l0 l1 : Option Value} {h : AH} : R_X8_goes d 28 [l0, l1] [.int (s2), .int (s1), .ref b0] h = if ¬ s1 = s2 then R_X8_goes d 35 [l0, l1] [.ref b0] h else R_X8_goes d 31 [l0, l1] [.ref b0] h := (s_icmp (g := (fun x y => decide (¬ x = y))) (t := 35) (nx := 31) rfl).trans bif_dec
theorem r_X8_goes_35 {d : Nat} {b0 : Nat} {x1 : Int32} {l0 : Option Value} {h : AH} : R_X8_goes d 35 [l0, some (.int (x1))] [.ref b0] h = (hpf h [5, 6] b0 4 (.int (x1))).bind fun h1 => R_X8_goes d 39 [l0, some (.int (x1))] [] h1 := by
  refine (p_iload rfl rfl).trans ?_
  exact s_putT rfl rfl
theorem r_X8_goes_31 {d : Nat} {b0 : Nat} {l0 l1 : Option Value} {h : AH} : R_X8_goes d 31 [l0, l1] [.ref b0] h = (hpf h [5, 6] b0 4 (.int ((-1)))).bind fun h1 => R_X8_goes d 39 [l0, l1] [] h1 := by
  refine (p_const rfl).trans ?_
  refine (p_goto rfl).trans ?_
  exact s_putT rfl rfl
theorem r_X8_goes_39 {d : Nat} {l0 l1 : Option Value} {h : AH} : R_X8_goes d 39 [l0, l1] [] h = some (.inl none, h) := s_vret rfl
theorem e_X8_goes {d : Nat} {a0 : Nat} {x1 : Int32} {h : AH} : exec tTab (d + 1) K_X8_goes [.ref a0, .int x1] h = R_X8_goes d 0 [some (.ref a0), some (.int x1)] [] h := exec_eq (cd := k_X8_goes) (hd := (fun _ _ => some none)) (L := 2) rfl rfl rfl
/-- FavourTown$Timed.end()I -/
abbrev K_X9_end : Nat := 249
noncomputable def R_X9_end (d pc : Nat) (ls : ALs) (st : List Value) (h : AH) : Option (AOut × AH) := aR (exec tTab d) k_X9_end (fun _ _ => some none) (pc, ls, st, h)
theorem r_X9_end_0 {d : Nat} {a0 : Nat} {h : AH} : R_X9_end d 0 [some (.ref a0)] [] h = (hgf h [6] a0 6).bind fun v => R_X9_end d 4 [some (.ref a0)] [v] h := by
  refine (p_aload rfl rfl).trans ?_
  exact s_getf rfl
theorem r_X9_end_4 {d : Nat} {s0 : Int32} {l0 : Option Value} {h : AH} : R_X9_end d 4 [l0] [.int (s0)] h = some (.inl (some (.int (s0))), h) := s_iretT rfl rfl
theorem e_X9_end {d : Nat} {a0 : Nat} {h : AH} : exec tTab (d + 1) K_X9_end [.ref a0] h = R_X9_end d 0 [some (.ref a0)] [] h := exec_eq (cd := k_X9_end) (hd := (fun _ _ => some none)) (L := 1) rfl rfl rfl
/-- FavourTown$Timed.copy()LFavourTown$Favour; -/
abbrev K_X9_copy : Nat := 250
noncomputable def R_X9_copy (d pc : Nat) (ls : ALs) (st : List Value) (h : AH) : Option (AOut × AH) := aR (exec tTab d) k_X9_copy (fun _ _ => some none) (pc, ls, st, h)
theorem r_X9_copy_0 {d : Nat} {a0 : Nat} {h : AH} : R_X9_copy d 0 [some (.ref a0)] [] h = R_X9_copy d 4 [some (.ref a0)] [.ref h.2.1, .ref a0] (hnew h (true, .inr (6, [.int 0, .int 0, .int 0, .null, .int 0, .int 0, .int 0])) 7) := by
  refine (p_aload rfl rfl).trans ?_
  exact p_new rfl
theorem r_X9_copy_4 {d : Nat} {b0 b1 a0 : Nat} {h : AH} : R_X9_copy d 4 [some (.ref a0)] [.ref b1, .ref b0] h = (hgf h [5, 6] a0 0).bind fun v => R_X9_copy d 9 [some (.ref a0)] [v, .ref b1, .ref b1, .ref b0] h := by
  refine (p_dup rfl rfl).trans ?_
  refine (p_aload rfl rfl).trans ?_
  exact s_getf rfl
theorem r_X9_copy_4N {d : Nat} {b0 a0 : Nat} {h : AH} : R_X9_copy d 4 [some (.ref a0)] [.null, .ref b0] h = (hgf h [5, 6] a0 0).bind fun v => R_X9_copy d 9 [some (.ref a0)] [v, .null, .null, .ref b0] h := by
  refine (p_dup rfl rfl).trans ?_
  refine (p_aload rfl rfl).trans ?_
  exact s_getf rfl
theorem r_X9_copy_9 {d : Nat} {b0 b1 b2 a0 : Nat} {s3 : Int32} {h : AH} : R_X9_copy d 9 [some (.ref a0)] [.int (s3), .ref b2, .ref b1, .ref b0] h = (hgf h [5, 6] a0 3).bind fun v => R_X9_copy d 13 [some (.ref a0)] [v, .int (s3), .ref b2, .ref b1, .ref b0] h := by
  refine (p_aload rfl rfl).trans ?_
  exact s_getf rfl
theorem r_X9_copy_13 {d : Nat} {b0 b1 b2 b4 : Nat} {s3 : Int32} {l0 : Option Value} {h : AH} : R_X9_copy d 13 [l0] [.ref b4, .int (s3), .ref b2, .ref b1, .ref b0] h = (hai h 0 b4 (nI 1)).bind fun v => R_X9_copy d 15 [l0] [.int v, .int (s3), .ref b2, .ref b1, .ref b0] h := by
  refine (p_const rfl).trans ?_
  exact s_iald rfl
theorem r_X9_copy_15 {d : Nat} {b0 b1 b2 a0 : Nat} {s3 s4 : Int32} {h : AH} : R_X9_copy d 15 [some (.ref a0)] [.int (s4), .int (s3), .ref b2, .ref b1, .ref b0] h = (hgf h [5, 6] a0 1).bind fun v => R_X9_copy d 19 [some (.ref a0)] [v, .int (s4), .int (s3), .ref b2, .ref b1, .ref b0] h := by
  refine (p_aload rfl rfl).trans ?_
  exact s_getf rfl
theorem r_X9_copy_19 {d : Nat} {b0 b1 b2 a0 : Nat} {s3 s4 s5 : Int32} {h : AH} : R_X9_copy d 19 [some (.ref a0)] [.int (s5), .int (s4), .int (s3), .ref b2, .ref b1, .ref b0] h = (hgf h [5, 6] a0 2).bind fun v => R_X9_copy d 23 [some (.ref a0)] [v, .int (s5), .int (s4), .int (s3), .ref b2, .ref b1, .ref b0] h := by
  refine (p_aload rfl rfl).trans ?_
  exact s_getf rfl
theorem r_X9_copy_23 {d : Nat} {b0 b1 b2 a0 : Nat} {s3 s4 s5 s6 : Int32} {h : AH} : R_X9_copy d 23 [some (.ref a0)] [.int (s6), .int (s5), .int (s4), .int (s3), .ref b2, .ref b1, .ref b0] h = (hgf h [6] a0 6).bind fun v => R_X9_copy d 27 [some (.ref a0)] [v, .int (s6), .int (s5), .int (s4), .int (s3), .ref b2, .ref b1, .ref b0] h := by
  refine (p_aload rfl rfl).trans ?_
  exact s_getf rfl
theorem r_X9_copy_27 {d : Nat} {b0 b1 b2 : Nat} {s3 s4 s5 s6 s7 : Int32} {l0 : Option Value} {h : AH} : R_X9_copy d 27 [l0] [.int (s7), .int (s6), .int (s5), .int (s4), .int (s3), .ref b2, .ref b1, .ref b0] h = aK (exec tTab d 251 [.ref b2, .int (s3), .int (s4), .int (s5), .int (s6), .int (s7)] h) (fun v h1 => R_X9_copy d 30 [l0] (v.toList ++ [.ref b1, .ref b0]) h1) (fun E h1 => some (.inr E, h1)) := s_callI (y := 251) (n := 5) (b := b2) (rest := [.ref b1, .ref b0]) rfl rfl rfl
theorem r_X9_copy_30 {d : Nat} {b0 b1 : Nat} {l0 : Option Value} {h : AH} : R_X9_copy d 30 [l0] [.ref b1, .ref b0] h = ((hci h b0).bind (lkN [(6, 246)])).bind fun y => aK (exec tTab d y [.ref b0, .ref b1] h) (fun v h1 => R_X9_copy d 33 [l0] (v.toList ++ []) h1) (fun E h1 => some (.inr E, h1)) := s_callV (L := [(6, 246)]) (n := 1) (b := b0) (rest := []) rfl rfl rfl
theorem r_X9_copy_30N {d : Nat} {b0 : Nat} {l0 : Option Value} {h : AH} : R_X9_copy d 30 [l0] [.null, .ref b0] h = ((hci h b0).bind (lkN [(6, 246)])).bind fun y => aK (exec tTab d y [.ref b0, .null] h) (fun v h1 => R_X9_copy d 33 [l0] (v.toList ++ []) h1) (fun E h1 => some (.inr E, h1)) := s_callV (L := [(6, 246)]) (n := 1) (b := b0) (rest := []) rfl rfl rfl
theorem r_X9_copy_33 {d : Nat} {b0 : Nat} {l0 : Option Value} {h : AH} : R_X9_copy d 33 [l0] [.ref b0] h = some (.inl (some (.ref b0)), h) := s_aret rfl
theorem r_X9_copy_33N {d : Nat} {l0 : Option Value} {h : AH} : R_X9_copy d 33 [l0] [.null] h = some (.inl (some (.null)), h) := s_aretN rfl
theorem e_X9_copy {d : Nat} {a0 : Nat} {h : AH} : exec tTab (d + 1) K_X9_copy [.ref a0] h = R_X9_copy d 0 [some (.ref a0)] [] h := exec_eq (cd := k_X9_copy) (hd := (fun _ _ => some none)) (L := 1) rfl rfl rfl
/-- FavourTown$Timed.<init>(IIIZI)V -/
abbrev K_X9_init : Nat := 251
noncomputable def R_X9_init (d pc : Nat) (ls : ALs) (st : List Value) (h : AH) : Option (AOut × AH) := aR (exec tTab d) k_X9_init (fun _ _ => some none) (pc, ls, st, h)
theorem r_X9_init_0 {d : Nat} {a0 : Nat} {x1 x2 x3 x4 : Int32} {l5 : Option Value} {h : AH} : R_X9_init d 0 [some (.ref a0), some (.int (x1)), some (.int (x2)), some (.int (x3)), some (.int (x4)), l5] [] h = aK (exec tTab d 245 [.ref a0, .int (x1), .int (x2), .int (x3), .int (x4)] h) (fun v h1 => R_X9_init d 9 [some (.ref a0), some (.int (x1)), some (.int (x2)), some (.int (x3)), some (.int (x4)), l5] (v.toList ++ []) h1) (fun E h1 => some (.inr E, h1)) := by
  refine (p_aload rfl rfl).trans ?_
  refine (p_iload rfl rfl).trans ?_
  refine (p_iload rfl rfl).trans ?_
  refine (p_iload rfl rfl).trans ?_
  refine (p_iload rfl rfl).trans ?_
  exact s_callI (y := 245) (n := 4) (b := a0) (rest := []) rfl rfl rfl
theorem r_X9_init_9 {d : Nat} {a0 : Nat} {x5 : Int32} {l1 l2 l3 l4 : Option Value} {h : AH} : R_X9_init d 9 [some (.ref a0), l1, l2, l3, l4, some (.int (x5))] [] h = (hpf h [6] a0 6 (.int (x5))).bind fun h1 => R_X9_init d 15 [some (.ref a0), l1, l2, l3, l4, some (.int (x5))] [] h1 := by
  refine (p_aload rfl rfl).trans ?_
  refine (p_iload rfl rfl).trans ?_
  exact s_putT rfl rfl
theorem r_X9_init_15 {d : Nat} {l0 l1 l2 l3 l4 l5 : Option Value} {h : AH} : R_X9_init d 15 [l0, l1, l2, l3, l4, l5] [] h = some (.inl none, h) := s_vret rfl
theorem e_X9_init {d : Nat} {a0 : Nat} {x1 x2 x3 x4 x5 : Int32} {h : AH} : exec tTab (d + 1) K_X9_init [.ref a0, .int x1, .int x2, .int x3, .int x4, .int x5] h = R_X9_init d 0 [some (.ref a0), some (.int x1), some (.int x2), some (.int x3), some (.int x4), some (.int x5)] [] h := exec_eq (cd := k_X9_init) (hd := (fun _ _ => some none)) (L := 6) rfl rfl rfl
/-- FavourTown$Wrong.<init>()V -/
abbrev K_X10_init : Nat := 303
noncomputable def R_X10_init (d pc : Nat) (ls : ALs) (st : List Value) (h : AH) : Option (AOut × AH) := aR (exec tTab d) k_X10_init (fun _ _ => some none) (pc, ls, st, h)
theorem r_X10_init_0 {d : Nat} {a0 : Nat} {h : AH} : R_X10_init d 0 [some (.ref a0)] [] h = aK (exec tTab d 296 [.ref a0, .null, .null, .int ((nI 0)), .int ((nI 0))] h) (fun v h1 => R_X10_init d 8 [some (.ref a0)] (v.toList ++ []) h1) (fun E h1 => some (.inr E, h1)) := by
  refine (p_aload rfl rfl).trans ?_
  refine (p_const rfl).trans ?_
  refine (p_const rfl).trans ?_
  refine (p_const rfl).trans ?_
  refine (p_const rfl).trans ?_
  exact s_callI (y := 296) (n := 4) (b := a0) (rest := []) rfl rfl rfl
theorem r_X10_init_8 {d : Nat} {l0 : Option Value} {h : AH} : R_X10_init d 8 [l0] [] h = some (.inl none, h) := s_vret rfl
theorem e_X10_init {d : Nat} {a0 : Nat} {h : AH} : exec tTab (d + 1) K_X10_init [.ref a0] h = R_X10_init d 0 [some (.ref a0)] [] h := exec_eq (cd := k_X10_init) (hd := (fun _ _ => some none)) (L := 1) rfl rfl rfl
/-- FavourTown$Need.<init>(III)V -/
abbrev K_X11_init : Nat := 305
noncomputable def R_X11_init (d pc : Nat) (ls : ALs) (st : List Value) (h : AH) : Option (AOut × AH) := aR (exec tTab d) k_X11_init (fun _ _ => some none) (pc, ls, st, h)
theorem r_X11_init_0 {d : Nat} {a0 : Nat} {x1 : Int32} {l2 l3 : Option Value} {h : AH} : R_X11_init d 0 [some (.ref a0), some (.int (x1)), l2, l3] [] h = (hpf h [7] a0 0 (.int (x1))).bind fun h1 => R_X11_init d 9 [some (.ref a0), some (.int (x1)), l2, l3] [] h1 := by
  refine (p_aload rfl rfl).trans ?_
  refine (s_objI rfl rfl).trans ?_
  refine (p_aload rfl rfl).trans ?_
  refine (p_iload rfl rfl).trans ?_
  exact s_putT rfl rfl
theorem r_X11_init_9 {d : Nat} {a0 : Nat} {x2 : Int32} {l1 l3 : Option Value} {h : AH} : R_X11_init d 9 [some (.ref a0), l1, some (.int (x2)), l3] [] h = (hpf h [7] a0 1 (.int (x2))).bind fun h1 => R_X11_init d 14 [some (.ref a0), l1, some (.int (x2)), l3] [] h1 := by
  refine (p_aload rfl rfl).trans ?_
  refine (p_iload rfl rfl).trans ?_
  exact s_putT rfl rfl
theorem r_X11_init_14 {d : Nat} {a0 : Nat} {x3 : Int32} {l1 l2 : Option Value} {h : AH} : R_X11_init d 14 [some (.ref a0), l1, l2, some (.int (x3))] [] h = (hpf h [7] a0 2 (.int (x3))).bind fun h1 => R_X11_init d 19 [some (.ref a0), l1, l2, some (.int (x3))] [] h1 := by
  refine (p_aload rfl rfl).trans ?_
  refine (p_iload rfl rfl).trans ?_
  exact s_putT rfl rfl
theorem r_X11_init_19 {d : Nat} {l0 l1 l2 l3 : Option Value} {h : AH} : R_X11_init d 19 [l0, l1, l2, l3] [] h = some (.inl none, h) := s_vret rfl
theorem e_X11_init {d : Nat} {a0 : Nat} {x1 x2 x3 : Int32} {h : AH} : exec tTab (d + 1) K_X11_init [.ref a0, .int x1, .int x2, .int x3] h = R_X11_init d 0 [some (.ref a0), some (.int x1), some (.int x2), some (.int x3)] [] h := exec_eq (cd := k_X11_init) (hd := (fun _ _ => some none)) (L := 4) rfl rfl rfl
/-- FavourTown$Temper.takes(LFavourTown$Scene;)Z -/
abbrev K_X12_takes : Nat := 307
noncomputable def R_X12_takes (d pc : Nat) (ls : ALs) (st : List Value) (h : AH) : Option (AOut × AH) := aR (exec tTab d) k_X12_takes (fun _ _ => some none) (pc, ls, st, h)
theorem r_X12_takes_0 {d : Nat} {l0 l1 l2 l3 : Option Value} {h : AH} : R_X12_takes d 0 [l0, l1, l2, l3] [] h = R_X12_takes d 2 [l0, l1, some (.int ((nI 0))), l3] [] h := by
  refine (p_const rfl).trans ?_
  refine (p_istore rfl rfl rfl).trans ?_
  exact rfl
theorem q_X12_takes_2 {d : Nat} {x2 : Int32} {a0 : Nat} {l1 l3 : Option Value} {h : AH} : R_X12_takes d 2 [some (.ref a0), l1, some (.int (x2)), l3] [] h = (hgf h [9] a0 0).bind fun v => R_X12_takes d 7 [some (.ref a0), l1, some (.int (x2)), l3] [v, .int (x2)] h := by
  refine (p_iload rfl rfl).trans ?_
  refine (p_aload rfl rfl).trans ?_
  exact s_getf rfl
theorem r_X12_takes_7 {d : Nat} {s0 : Int32} {b1 : Nat} {l0 l1 l2 l3 : Option Value} {h : AH} : R_X12_takes d 7 [l0, l1, l2, l3] [.ref b1, .int (s0)] h = ((hci h b1).bind (lkN [(19, 113)])).bind fun y => aK (exec tTab d y [.ref b1] h) (fun v h1 => R_X12_takes d 10 [l0, l1, l2, l3] (v.toList ++ [.int (s0)]) h1) (fun E h1 => some (.inr E, h1)) := s_callV (L := [(19, 113)]) (n := 0) (b := b1) (rest := [.int (s0)]) rfl rfl rfl
theorem r_X12_takes_10 {d : Nat} {s0 s1 : Int32} {l0 l1 l2 l3 : Option Value} {h : AH} : R_X12_takes d 10 [l0, l1, l2, l3] [.int (s1), .int (s0)] h = if s1 ≤ s0 then R_X12_takes d 56 [l0, l1, l2, l3] [] h else R_X12_takes d 13 [l0, l1, l2, l3] [] h := (s_icmp (g := (fun x y => decide (y ≤ x))) (t := 56) (nx := 13) rfl).trans bif_dec
theorem r_X12_takes_56 {d : Nat} {l0 l1 l2 l3 : Option Value} {h : AH} : R_X12_takes d 56 [l0, l1, l2, l3] [] h = some (.inl (some (.int ((nI 0)))), h) := by
  refine (p_const rfl).trans ?_
  exact s_iretT rfl rfl
theorem r_X12_takes_13 {d : Nat} {a0 : Nat} {l1 l2 l3 : Option Value} {h : AH} : R_X12_takes d 13 [some (.ref a0), l1, l2, l3] [] h = (hgf h [9] a0 0).bind fun v => R_X12_takes d 17 [some (.ref a0), l1, l2, l3] [v] h := by
  refine (p_aload rfl rfl).trans ?_
  exact s_getf rfl
theorem r_X12_takes_17 {d : Nat} {b0 : Nat} {x2 : Int32} {l0 l1 l3 : Option Value} {h : AH} : R_X12_takes d 17 [l0, l1, some (.int (x2)), l3] [.ref b0] h = ((hci h b0).bind (lkN [(19, 114)])).bind fun y => aK (exec tTab d y [.ref b0, .int (x2)] h) (fun v h1 => R_X12_takes d 21 [l0, l1, some (.int (x2)), l3] (v.toList ++ []) h1) (fun E h1 => some (.inr E, h1)) := by
  refine (p_iload rfl rfl).trans ?_
  exact s_callV (L := [(19, 114)]) (n := 1) (b := b0) (rest := []) rfl rfl rfl
theorem r_X12_takes_21 {d : Nat} {b0 : Nat} {l0 l1 l2 l3 : Option Value} {h : AH} : R_X12_takes d 21 [l0, l1, l2, l3] [.ref b0] h = bif hck h [10] [] b0 then R_X12_takes d 24 [l0, l1, l2, l3] [.ref b0] h else none := s_cast rfl
theorem r_X12_takes_24 {d : Nat} {b0 : Nat} {l0 l1 l2 l3 : Option Value} {h : AH} : R_X12_takes d 24 [l0, l1, l2, l3] [.ref b0] h = (hgf h [10] b0 1).bind fun v => R_X12_takes d 29 [l0, l1, l2, some (.ref b0)] [v] h := by
  refine (p_astore rfl rfl rfl).trans ?_
  refine (p_aload rfl rfl).trans ?_
  exact s_getf rfl
theorem r_X12_takes_29 {d : Nat} {b0 a3 : Nat} {l0 l1 l2 : Option Value} {h : AH} : R_X12_takes d 29 [l0, l1, l2, some (.ref a3)] [.ref b0] h = (hgf h [10] a3 1).bind fun v => R_X12_takes d 36 [l0, l1, l2, some (.ref a3)] [v] h := by
  refine (p_nullR rfl).trans ?_
  refine (p_aload rfl rfl).trans ?_
  exact s_getf rfl
theorem r_X12_takes_29N {d : Nat} {a3 : Nat} {l0 l1 l2 : Option Value} {h : AH} : R_X12_takes d 29 [l0, l1, l2, some (.ref a3)] [.null] h = (hgf h [10] a3 0).bind fun v => R_X12_takes d 49 [l0, l1, l2, some (.ref a3)] [v] h := by
  refine (p_nullN rfl).trans ?_
  refine (p_aload rfl rfl).trans ?_
  exact s_getf rfl
theorem r_X12_takes_36 {d : Nat} {b0 a1 : Nat} {l0 l2 l3 : Option Value} {h : AH} : R_X12_takes d 36 [l0, some (.ref a1), l2, l3] [.ref b0] h = ((hci h b0).bind (lkN [(11, 310), (12, 312), (13, 314), (16, 322)])).bind fun y => aK (exec tTab d y [.ref b0, .ref a1] h) (fun v h1 => R_X12_takes d 42 [l0, some (.ref a1), l2, l3] (v.toList ++ []) h1) (fun E h1 => some (.inr E, h1)) := by
  refine (p_aload rfl rfl).trans ?_
  exact s_callV (L := [(11, 310), (12, 312), (13, 314), (16, 322)]) (n := 1) (b := b0) (rest := []) rfl rfl rfl
theorem r_X12_takes_49 {d : Nat} {s0 : Int32} {l0 l1 l2 l3 : Option Value} {h : AH} : R_X12_takes d 49 [l0, l1, l2, l3] [.int (s0)] h = bif s0 == 0 || s0 == 1 then some (.inl (some (.int (s0))), h) else none := s_iret (ok := (fun x => x == 0 || x == 1)) rfl
theorem r_X12_takes_42 {d : Nat} {s0 : Int32} {l0 l1 l2 l3 : Option Value} {h : AH} : R_X12_takes d 42 [l0, l1, l2, l3] [.int (s0)] h = if s0 = 0 then R_X12_takes d 50 [l0, l1, l2, l3] [] h else R_X12_takes d 45 [l0, l1, l2, l3] [] h := (s_if (g := (fun x => decide (x = 0))) (t := 50) (nx := 45) rfl).trans bif_dec
theorem r_X12_takes_50 {d : Nat} {x2 : Int32} {l0 l1 l3 : Option Value} {h : AH} : R_X12_takes d 50 [l0, l1, some (.int (x2)), l3] [] h = R_X12_takes d 2 [l0, l1, some (.int (x2 + (nI 1))), l3] [] h := by
  refine (p_iinc rfl rfl rfl).trans ?_
  refine (p_goto rfl).trans ?_
  exact rfl
theorem r_X12_takes_45 {d : Nat} {a3 : Nat} {l0 l1 l2 : Option Value} {h : AH} : R_X12_takes d 45 [l0, l1, l2, some (.ref a3)] [] h = (hgf h [10] a3 0).bind fun v => R_X12_takes d 49 [l0, l1, l2, some (.ref a3)] [v] h := by
  refine (p_aload rfl rfl).trans ?_
  exact s_getf rfl
theorem e_X12_takes {d : Nat} {a0 a1 : Nat} {h : AH} : exec tTab (d + 1) K_X12_takes [.ref a0, .ref a1] h = R_X12_takes d 0 [some (.ref a0), some (.ref a1), none, none] [] h := exec_eq (cd := k_X12_takes) (hd := (fun _ _ => some none)) (L := 4) rfl rfl rfl
/-- FavourTown$Temper.<init>()V -/
abbrev K_X12_init : Nat := 308
noncomputable def R_X12_init (d pc : Nat) (ls : ALs) (st : List Value) (h : AH) : Option (AOut × AH) := aR (exec tTab d) k_X12_init (fun _ _ => some none) (pc, ls, st, h)
theorem r_X12_init_0 {d : Nat} {a0 : Nat} {h : AH} : R_X12_init d 0 [some (.ref a0)] [] h = R_X12_init d 8 [some (.ref a0)] [.ref h.2.1, .ref a0] (hnew h (true, .inr (19, [.int 0, .null, .int 0])) 3) := by
  refine (p_aload rfl rfl).trans ?_
  refine (s_objI rfl rfl).trans ?_
  refine (p_aload rfl rfl).trans ?_
  exact p_new rfl
theorem r_X12_init_8 {d : Nat} {b0 b1 : Nat} {l0 : Option Value} {h : AH} : R_X12_init d 8 [l0] [.ref b1, .ref b0] h = aK (exec tTab d 112 [.ref b1] h) (fun v h1 => R_X12_init d 12 [l0] (v.toList ++ [.ref b1, .ref b0]) h1) (fun E h1 => some (.inr E, h1)) := by
  refine (p_dup rfl rfl).trans ?_
  exact s_callI (y := 112) (n := 0) (b := b1) (rest := [.ref b1, .ref b0]) rfl rfl rfl
theorem r_X12_init_12 {d : Nat} {b0 b1 : Nat} {l0 : Option Value} {h : AH} : R_X12_init d 12 [l0] [.ref b1, .ref b0] h = (hpf h [9] b0 0 (.ref b1)).bind fun h1 => R_X12_init d 15 [l0] [] h1 := s_putT rfl rfl
theorem r_X12_init_12N {d : Nat} {b0 : Nat} {l0 : Option Value} {h : AH} : R_X12_init d 12 [l0] [.null, .ref b0] h = (hpf h [9] b0 0 (.null)).bind fun h1 => R_X12_init d 15 [l0] [] h1 := s_putT rfl rfl
theorem r_X12_init_15 {d : Nat} {l0 : Option Value} {h : AH} : R_X12_init d 15 [l0] [] h = some (.inl none, h) := s_vret rfl
theorem e_X12_init {d : Nat} {a0 : Nat} {h : AH} : exec tTab (d + 1) K_X12_init [.ref a0] h = R_X12_init d 0 [some (.ref a0)] [] h := exec_eq (cd := k_X12_init) (hd := (fun _ _ => some none)) (L := 1) rfl rfl rfl
/-- FavourTown$Line.<init>(ZLFavourTown$Cond;)V -/
abbrev K_X13_init : Nat := 309
noncomputable def R_X13_init (d pc : Nat) (ls : ALs) (st : List Value) (h : AH) : Option (AOut × AH) := aR (exec tTab d) k_X13_init (fun _ _ => some none) (pc, ls, st, h)
theorem r_X13_init_0 {d : Nat} {a0 : Nat} {x1 : Int32} {l2 : Option Value} {h : AH} : R_X13_init d 0 [some (.ref a0), some (.int (x1)), l2] [] h = bif vZ (.int (x1)) then (hpf h [10] a0 0 (.int (x1))).bind fun h1 => R_X13_init d 9 [some (.ref a0), some (.int (x1)), l2] [] h1 else none := by
  refine (p_aload rfl rfl).trans ?_
  refine (s_objI rfl rfl).trans ?_
  refine (p_aload rfl rfl).trans ?_
  refine (p_iload rfl rfl).trans ?_
  exact s_putf rfl
theorem r_X13_init_9 {d : Nat} {a0 a2 : Nat} {l1 : Option Value} {h : AH} : R_X13_init d 9 [some (.ref a0), l1, some (.ref a2)] [] h = (hpf h [10] a0 1 (.ref a2)).bind fun h1 => R_X13_init d 14 [some (.ref a0), l1, some (.ref a2)] [] h1 := by
  refine (p_aload rfl rfl).trans ?_
  refine (p_aload rfl rfl).trans ?_
  exact s_putT rfl rfl
theorem r_X13_init_9L2 {d : Nat} {a0 : Nat} {l1 : Option Value} {h : AH} : R_X13_init d 9 [some (.ref a0), l1, some (.null)] [] h = (hpf h [10] a0 1 (.null)).bind fun h1 => R_X13_init d 14 [some (.ref a0), l1, some (.null)] [] h1 := by
  refine (p_aload rfl rfl).trans ?_
  refine (p_aloadN rfl rfl).trans ?_
  exact s_putT rfl rfl
theorem r_X13_init_14 {d : Nat} {l0 l1 l2 : Option Value} {h : AH} : R_X13_init d 14 [l0, l1, l2] [] h = some (.inl none, h) := s_vret rfl
theorem e_X13_init {d : Nat} {a0 a2 : Nat} {x1 : Int32} {h : AH} : exec tTab (d + 1) K_X13_init [.ref a0, .int x1, .ref a2] h = R_X13_init d 0 [some (.ref a0), some (.int x1), some (.ref a2)] [] h := exec_eq (cd := k_X13_init) (hd := (fun _ _ => some none)) (L := 3) rfl rfl rfl
theorem e_X13_init_N {d : Nat} {a0 : Nat} {x1 : Int32} {h : AH} : exec tTab (d + 1) K_X13_init [.ref a0, .int x1, .null] h = R_X13_init d 0 [some (.ref a0), some (.int x1), some (.null)] [] h := exec_eq (cd := k_X13_init) (hd := (fun _ _ => some none)) (L := 3) rfl rfl rfl
/-- FavourTown$Row.holds(LFavourTown$Scene;)Z -/
abbrev K_X14_holds : Nat := 310
noncomputable def R_X14_holds (d pc : Nat) (ls : ALs) (st : List Value) (h : AH) : Option (AOut × AH) := aR (exec tTab d) k_X14_holds (fun _ _ => some none) (pc, ls, st, h)
theorem r_X14_holds_0 {d : Nat} {l0 l1 l2 : Option Value} {h : AH} : R_X14_holds d 0 [l0, l1, l2] [] h = R_X14_holds d 2 [l0, l1, some (.int ((nI 0)))] [] h := by
  refine (p_const rfl).trans ?_
  refine (p_istore rfl rfl rfl).trans ?_
  exact rfl
theorem q_X14_holds_2 {d : Nat} {x2 : Int32} {a0 : Nat} {l1 : Option Value} {h : AH} : R_X14_holds d 2 [some (.ref a0), l1, some (.int (x2))] [] h = (hgf h [11] a0 1).bind fun v => R_X14_holds d 7 [some (.ref a0), l1, some (.int (x2))] [v, .int (x2)] h := by
  refine (p_iload rfl rfl).trans ?_
  refine (p_aload rfl rfl).trans ?_
  exact s_getf rfl
theorem r_X14_holds_7 {d : Nat} {s0 : Int32} {b1 : Nat} {l0 l1 l2 : Option Value} {h : AH} : R_X14_holds d 7 [l0, l1, l2] [.ref b1, .int (s0)] h = ((hci h b1).bind (lkN [(19, 113)])).bind fun y => aK (exec tTab d y [.ref b1] h) (fun v h1 => R_X14_holds d 10 [l0, l1, l2] (v.toList ++ [.int (s0)]) h1) (fun E h1 => some (.inr E, h1)) := s_callV (L := [(19, 113)]) (n := 0) (b := b1) (rest := [.int (s0)]) rfl rfl rfl
theorem r_X14_holds_10 {d : Nat} {s0 s1 : Int32} {l0 l1 l2 : Option Value} {h : AH} : R_X14_holds d 10 [l0, l1, l2] [.int (s1), .int (s0)] h = if s1 ≤ s0 then R_X14_holds d 56 [l0, l1, l2] [] h else R_X14_holds d 13 [l0, l1, l2] [] h := (s_icmp (g := (fun x y => decide (y ≤ x))) (t := 56) (nx := 13) rfl).trans bif_dec
theorem r_X14_holds_56 {d : Nat} {a0 : Nat} {l1 l2 : Option Value} {h : AH} : R_X14_holds d 56 [some (.ref a0), l1, l2] [] h = (hgf h [11] a0 0).bind fun v => R_X14_holds d 60 [some (.ref a0), l1, l2] [v] h := by
  refine (p_aload rfl rfl).trans ?_
  exact s_getf rfl
theorem r_X14_holds_13 {d : Nat} {a0 : Nat} {l1 l2 : Option Value} {h : AH} : R_X14_holds d 13 [some (.ref a0), l1, l2] [] h = (hgf h [11] a0 1).bind fun v => R_X14_holds d 17 [some (.ref a0), l1, l2] [v] h := by
  refine (p_aload rfl rfl).trans ?_
  exact s_getf rfl
theorem r_X14_holds_60 {d : Nat} {s0 : Int32} {l0 l1 l2 : Option Value} {h : AH} : R_X14_holds d 60 [l0, l1, l2] [.int (s0)] h = bif s0 == 0 || s0 == 1 then some (.inl (some (.int (s0))), h) else none := s_iret (ok := (fun x => x == 0 || x == 1)) rfl
theorem r_X14_holds_17 {d : Nat} {b0 : Nat} {x2 : Int32} {l0 l1 : Option Value} {h : AH} : R_X14_holds d 17 [l0, l1, some (.int (x2))] [.ref b0] h = ((hci h b0).bind (lkN [(19, 114)])).bind fun y => aK (exec tTab d y [.ref b0, .int (x2)] h) (fun v h1 => R_X14_holds d 21 [l0, l1, some (.int (x2))] (v.toList ++ []) h1) (fun E h1 => some (.inr E, h1)) := by
  refine (p_iload rfl rfl).trans ?_
  exact s_callV (L := [(19, 114)]) (n := 1) (b := b0) (rest := []) rfl rfl rfl
theorem r_X14_holds_21 {d : Nat} {b0 : Nat} {l0 l1 l2 : Option Value} {h : AH} : R_X14_holds d 21 [l0, l1, l2] [.ref b0] h = bif hck h [11, 12, 13, 16] [] b0 then R_X14_holds d 24 [l0, l1, l2] [.ref b0] h else none := s_cast rfl
theorem r_X14_holds_24 {d : Nat} {b0 a1 : Nat} {l0 l2 : Option Value} {h : AH} : R_X14_holds d 24 [l0, some (.ref a1), l2] [.ref b0] h = ((hci h b0).bind (lkN [(11, 310), (12, 312), (13, 314), (16, 322)])).bind fun y => aK (exec tTab d y [.ref b0, .ref a1] h) (fun v h1 => R_X14_holds d 30 [l0, some (.ref a1), l2] (v.toList ++ []) h1) (fun E h1 => some (.inr E, h1)) := by
  refine (p_aload rfl rfl).trans ?_
  exact s_callV (L := [(11, 310), (12, 312), (13, 314), (16, 322)]) (n := 1) (b := b0) (rest := []) rfl rfl rfl
theorem r_X14_holds_30 {d : Nat} {s0 : Int32} {a0 : Nat} {l1 l2 : Option Value} {h : AH} : R_X14_holds d 30 [some (.ref a0), l1, l2] [.int (s0)] h = (hgf h [11] a0 0).bind fun v => R_X14_holds d 34 [some (.ref a0), l1, l2] [v, .int (s0)] h := by
  refine (p_aload rfl rfl).trans ?_
  exact s_getf rfl
theorem r_X14_holds_34 {d : Nat} {s0 s1 : Int32} {l0 l1 l2 : Option Value} {h : AH} : R_X14_holds d 34 [l0, l1, l2] [.int (s1), .int (s0)] h = if s0 = s1 then R_X14_holds d 50 [l0, l1, l2] [] h else R_X14_holds d 37 [l0, l1, l2] [] h := (s_icmp (g := (fun x y => decide (x = y))) (t := 50) (nx := 37) rfl).trans bif_dec
theorem r_X14_holds_50 {d : Nat} {x2 : Int32} {l0 l1 : Option Value} {h : AH} : R_X14_holds d 50 [l0, l1, some (.int (x2))] [] h = R_X14_holds d 2 [l0, l1, some (.int (x2 + (nI 1)))] [] h := by
  refine (p_iinc rfl rfl rfl).trans ?_
  refine (p_goto rfl).trans ?_
  exact rfl
theorem r_X14_holds_37 {d : Nat} {a0 : Nat} {l1 l2 : Option Value} {h : AH} : R_X14_holds d 37 [some (.ref a0), l1, l2] [] h = (hgf h [11] a0 0).bind fun v => R_X14_holds d 41 [some (.ref a0), l1, l2] [v] h := by
  refine (p_aload rfl rfl).trans ?_
  exact s_getf rfl
theorem r_X14_holds_41 {d : Nat} {s0 : Int32} {l0 l1 l2 : Option Value} {h : AH} : R_X14_holds d 41 [l0, l1, l2] [.int (s0)] h = if ¬ s0 = 0 then R_X14_holds d 48 [l0, l1, l2] [] h else R_X14_holds d 44 [l0, l1, l2] [] h := (s_if (g := (fun x => decide (¬ x = 0))) (t := 48) (nx := 44) rfl).trans bif_dec
theorem r_X14_holds_48 {d : Nat} {l0 l1 l2 : Option Value} {h : AH} : R_X14_holds d 48 [l0, l1, l2] [] h = some (.inl (some (.int ((nI 0)))), h) := by
  refine (p_const rfl).trans ?_
  exact s_iretT rfl rfl
theorem r_X14_holds_44 {d : Nat} {l0 l1 l2 : Option Value} {h : AH} : R_X14_holds d 44 [l0, l1, l2] [] h = some (.inl (some (.int ((nI 1)))), h) := by
  refine (p_const rfl).trans ?_
  refine (p_goto rfl).trans ?_
  exact s_iretT rfl rfl
theorem e_X14_holds {d : Nat} {a0 a1 : Nat} {h : AH} : exec tTab (d + 1) K_X14_holds [.ref a0, .ref a1] h = R_X14_holds d 0 [some (.ref a0), some (.ref a1), none] [] h := exec_eq (cd := k_X14_holds) (hd := (fun _ _ => some none)) (L := 3) rfl rfl rfl
/-- FavourTown$Row.<init>(Z)V -/
abbrev K_X14_init : Nat := 311
noncomputable def R_X14_init (d pc : Nat) (ls : ALs) (st : List Value) (h : AH) : Option (AOut × AH) := aR (exec tTab d) k_X14_init (fun _ _ => some none) (pc, ls, st, h)
theorem r_X14_init_0 {d : Nat} {a0 : Nat} {l1 : Option Value} {h : AH} : R_X14_init d 0 [some (.ref a0), l1] [] h = R_X14_init d 8 [some (.ref a0), l1] [.ref h.2.1, .ref a0] (hnew h (true, .inr (19, [.int 0, .null, .int 0])) 3) := by
  refine (p_aload rfl rfl).trans ?_
  refine (s_objI rfl rfl).trans ?_
  refine (p_aload rfl rfl).trans ?_
  exact p_new rfl
theorem r_X14_init_8 {d : Nat} {b0 b1 : Nat} {l0 l1 : Option Value} {h : AH} : R_X14_init d 8 [l0, l1] [.ref b1, .ref b0] h = aK (exec tTab d 112 [.ref b1] h) (fun v h1 => R_X14_init d 12 [l0, l1] (v.toList ++ [.ref b1, .ref b0]) h1) (fun E h1 => some (.inr E, h1)) := by
  refine (p_dup rfl rfl).trans ?_
  exact s_callI (y := 112) (n := 0) (b := b1) (rest := [.ref b1, .ref b0]) rfl rfl rfl
theorem r_X14_init_12 {d : Nat} {b0 b1 : Nat} {l0 l1 : Option Value} {h : AH} : R_X14_init d 12 [l0, l1] [.ref b1, .ref b0] h = (hpf h [11] b0 1 (.ref b1)).bind fun h1 => R_X14_init d 15 [l0, l1] [] h1 := s_putT rfl rfl
theorem r_X14_init_12N {d : Nat} {b0 : Nat} {l0 l1 : Option Value} {h : AH} : R_X14_init d 12 [l0, l1] [.null, .ref b0] h = (hpf h [11] b0 1 (.null)).bind fun h1 => R_X14_init d 15 [l0, l1] [] h1 := s_putT rfl rfl
theorem r_X14_init_15 {d : Nat} {a0 : Nat} {x1 : Int32} {h : AH} : R_X14_init d 15 [some (.ref a0), some (.int (x1))] [] h = bif vZ (.int (x1)) then (hpf h [11] a0 0 (.int (x1))).bind fun h1 => R_X14_init d 20 [some (.ref a0), some (.int (x1))] [] h1 else none := by
  refine (p_aload rfl rfl).trans ?_
  refine (p_iload rfl rfl).trans ?_
  exact s_putf rfl
theorem r_X14_init_20 {d : Nat} {l0 l1 : Option Value} {h : AH} : R_X14_init d 20 [l0, l1] [] h = some (.inl none, h) := s_vret rfl
theorem e_X14_init {d : Nat} {a0 : Nat} {x1 : Int32} {h : AH} : exec tTab (d + 1) K_X14_init [.ref a0, .int x1] h = R_X14_init d 0 [some (.ref a0), some (.int x1)] [] h := exec_eq (cd := k_X14_init) (hd := (fun _ _ => some none)) (L := 2) rfl rfl rfl
/-- FavourTown$Not.holds(LFavourTown$Scene;)Z -/
abbrev K_X15_holds : Nat := 312
noncomputable def R_X15_holds (d pc : Nat) (ls : ALs) (st : List Value) (h : AH) : Option (AOut × AH) := aR (exec tTab d) k_X15_holds (fun _ _ => some none) (pc, ls, st, h)
theorem r_X15_holds_0 {d : Nat} {a0 : Nat} {l1 : Option Value} {h : AH} : R_X15_holds d 0 [some (.ref a0), l1] [] h = (hgf h [12] a0 0).bind fun v => R_X15_holds d 4 [some (.ref a0), l1] [v] h := by
  refine (p_aload rfl rfl).trans ?_
  exact s_getf rfl
theorem r_X15_holds_4 {d : Nat} {b0 a1 : Nat} {l0 : Option Value} {h : AH} : R_X15_holds d 4 [l0, some (.ref a1)] [.ref b0] h = ((hci h b0).bind (lkN [(11, 310), (12, 312), (13, 314), (16, 322)])).bind fun y => aK (exec tTab d y [.ref b0, .ref a1] h) (fun v h1 => R_X15_holds d 10 [l0, some (.ref a1)] (v.toList ++ []) h1) (fun E h1 => some (.inr E, h1)) := by
  refine (p_aload rfl rfl).trans ?_
  exact s_callV (L := [(11, 310), (12, 312), (13, 314), (16, 322)]) (n := 1) (b := b0) (rest := []) rfl rfl rfl
theorem r_X15_holds_10 {d : Nat} {s0 : Int32} {l0 l1 : Option Value} {h : AH} : R_X15_holds d 10 [l0, l1] [.int (s0)] h = if ¬ s0 = 0 then R_X15_holds d 17 [l0, l1] [] h else R_X15_holds d 13 [l0, l1] [] h := (s_if (g := (fun x => decide (¬ x = 0))) (t := 17) (nx := 13) rfl).trans bif_dec
theorem r_X15_holds_17 {d : Nat} {l0 l1 : Option Value} {h : AH} : R_X15_holds d 17 [l0, l1] [] h = some (.inl (some (.int ((nI 0)))), h) := by
  refine (p_const rfl).trans ?_
  exact s_iretT rfl rfl
theorem r_X15_holds_13 {d : Nat} {l0 l1 : Option Value} {h : AH} : R_X15_holds d 13 [l0, l1] [] h = some (.inl (some (.int ((nI 1)))), h) := by
  refine (p_const rfl).trans ?_
  refine (p_goto rfl).trans ?_
  exact s_iretT rfl rfl
theorem e_X15_holds {d : Nat} {a0 a1 : Nat} {h : AH} : exec tTab (d + 1) K_X15_holds [.ref a0, .ref a1] h = R_X15_holds d 0 [some (.ref a0), some (.ref a1)] [] h := exec_eq (cd := k_X15_holds) (hd := (fun _ _ => some none)) (L := 2) rfl rfl rfl
/-- FavourTown$Not.<init>(LFavourTown$Cond;)V -/
abbrev K_X15_init : Nat := 313
noncomputable def R_X15_init (d pc : Nat) (ls : ALs) (st : List Value) (h : AH) : Option (AOut × AH) := aR (exec tTab d) k_X15_init (fun _ _ => some none) (pc, ls, st, h)
theorem r_X15_init_0 {d : Nat} {a0 a1 : Nat} {h : AH} : R_X15_init d 0 [some (.ref a0), some (.ref a1)] [] h = (hpf h [12] a0 0 (.ref a1)).bind fun h1 => R_X15_init d 9 [some (.ref a0), some (.ref a1)] [] h1 := by
  refine (p_aload rfl rfl).trans ?_
  refine (s_objI rfl rfl).trans ?_
  refine (p_aload rfl rfl).trans ?_
  refine (p_aload rfl rfl).trans ?_
  exact s_putT rfl rfl
theorem r_X15_init_0L1 {d : Nat} {a0 : Nat} {h : AH} : R_X15_init d 0 [some (.ref a0), some (.null)] [] h = (hpf h [12] a0 0 (.null)).bind fun h1 => R_X15_init d 9 [some (.ref a0), some (.null)] [] h1 := by
  refine (p_aload rfl rfl).trans ?_
  refine (s_objI rfl rfl).trans ?_
  refine (p_aload rfl rfl).trans ?_
  refine (p_aloadN rfl rfl).trans ?_
  exact s_putT rfl rfl
theorem r_X15_init_9 {d : Nat} {l0 l1 : Option Value} {h : AH} : R_X15_init d 9 [l0, l1] [] h = some (.inl none, h) := s_vret rfl
theorem e_X15_init {d : Nat} {a0 a1 : Nat} {h : AH} : exec tTab (d + 1) K_X15_init [.ref a0, .ref a1] h = R_X15_init d 0 [some (.ref a0), some (.ref a1)] [] h := exec_eq (cd := k_X15_init) (hd := (fun _ _ => some none)) (L := 2) rfl rfl rfl
theorem e_X15_init_N {d : Nat} {a0 : Nat} {h : AH} : exec tTab (d + 1) K_X15_init [.ref a0, .null] h = R_X15_init d 0 [some (.ref a0), some (.null)] [] h := exec_eq (cd := k_X15_init) (hd := (fun _ _ => some none)) (L := 2) rfl rfl rfl
/-- FavourTown$Is.holds(LFavourTown$Scene;)Z -/
abbrev K_X16_holds : Nat := 314
noncomputable def R_X16_holds (d pc : Nat) (ls : ALs) (st : List Value) (h : AH) : Option (AOut × AH) := aR (exec tTab d) k_X16_holds (fun _ _ => some none) (pc, ls, st, h)
theorem r_X16_holds_0 {d : Nat} {a1 a0 : Nat} {h : AH} : R_X16_holds d 0 [some (.ref a0), some (.ref a1)] [] h = (hgf h [13] a0 0).bind fun v => R_X16_holds d 5 [some (.ref a0), some (.ref a1)] [v, .ref a1] h := by
  refine (p_aload rfl rfl).trans ?_
  refine (p_aload rfl rfl).trans ?_
  exact s_getf rfl
theorem r_X16_holds_5 {d : Nat} {b0 b1 : Nat} {l0 l1 : Option Value} {h : AH} : R_X16_holds d 5 [l0, l1] [.ref b1, .ref b0] h = ((hci h b0).bind (lkN [(8, 123)])).bind fun y => aK (exec tTab d y [.ref b0, .ref b1] h) (fun v h1 => R_X16_holds d 8 [l0, l1] (v.toList ++ []) h1) (fun E h1 => some (.inr E, h1)) := s_callV (L := [(8, 123)]) (n := 1) (b := b0) (rest := []) rfl rfl rfl
theorem r_X16_holds_5N {d : Nat} {b0 : Nat} {l0 l1 : Option Value} {h : AH} : R_X16_holds d 5 [l0, l1] [.null, .ref b0] h = ((hci h b0).bind (lkN [(8, 123)])).bind fun y => aK (exec tTab d y [.ref b0, .null] h) (fun v h1 => R_X16_holds d 8 [l0, l1] (v.toList ++ []) h1) (fun E h1 => some (.inr E, h1)) := s_callV (L := [(8, 123)]) (n := 1) (b := b0) (rest := []) rfl rfl rfl
theorem r_X16_holds_8 {d : Nat} {s0 : Int32} {l0 l1 : Option Value} {h : AH} : R_X16_holds d 8 [l0, l1] [.int (s0)] h = bif s0 == 0 || s0 == 1 then some (.inl (some (.int (s0))), h) else none := s_iret (ok := (fun x => x == 0 || x == 1)) rfl
theorem e_X16_holds {d : Nat} {a0 a1 : Nat} {h : AH} : exec tTab (d + 1) K_X16_holds [.ref a0, .ref a1] h = R_X16_holds d 0 [some (.ref a0), some (.ref a1)] [] h := exec_eq (cd := k_X16_holds) (hd := (fun _ _ => some none)) (L := 2) rfl rfl rfl
/-- FavourTown$Is.<init>(LFavourTown$Tag;)V -/
abbrev K_X16_init : Nat := 315
noncomputable def R_X16_init (d pc : Nat) (ls : ALs) (st : List Value) (h : AH) : Option (AOut × AH) := aR (exec tTab d) k_X16_init (fun _ _ => some none) (pc, ls, st, h)
theorem r_X16_init_0 {d : Nat} {a0 a1 : Nat} {h : AH} : R_X16_init d 0 [some (.ref a0), some (.ref a1)] [] h = (hpf h [13] a0 0 (.ref a1)).bind fun h1 => R_X16_init d 9 [some (.ref a0), some (.ref a1)] [] h1 := by
  refine (p_aload rfl rfl).trans ?_
  refine (s_objI rfl rfl).trans ?_
  refine (p_aload rfl rfl).trans ?_
  refine (p_aload rfl rfl).trans ?_
  exact s_putT rfl rfl
theorem r_X16_init_9 {d : Nat} {l0 l1 : Option Value} {h : AH} : R_X16_init d 9 [l0, l1] [] h = some (.inl none, h) := s_vret rfl
theorem e_X16_init {d : Nat} {a0 a1 : Nat} {h : AH} : exec tTab (d + 1) K_X16_init [.ref a0, .ref a1] h = R_X16_init d 0 [some (.ref a0), some (.ref a1)] [] h := exec_eq (cd := k_X16_init) (hd := (fun _ _ => some none)) (L := 2) rfl rfl rfl
/-- FavourTown$Sum.in(LFavourTown$Scene;)I -/
abbrev K_X17_in : Nat := 316
noncomputable def R_X17_in (d pc : Nat) (ls : ALs) (st : List Value) (h : AH) : Option (AOut × AH) := aR (exec tTab d) k_X17_in (fun _ _ => some none) (pc, ls, st, h)
theorem r_X17_in_0 {d : Nat} {l0 l1 l2 l3 : Option Value} {h : AH} : R_X17_in d 0 [l0, l1, l2, l3] [] h = R_X17_in d 4 [l0, l1, some (.int ((nI 0))), some (.int ((nI 0)))] [] h := by
  refine (p_const rfl).trans ?_
  refine (p_istore rfl rfl rfl).trans ?_
  refine (p_const rfl).trans ?_
  refine (p_istore rfl rfl rfl).trans ?_
  exact rfl
theorem q_X17_in_4 {d : Nat} {x3 : Int32} {a0 : Nat} {l1 l2 : Option Value} {h : AH} : R_X17_in d 4 [some (.ref a0), l1, l2, some (.int (x3))] [] h = (hgf h [14] a0 0).bind fun v => R_X17_in d 9 [some (.ref a0), l1, l2, some (.int (x3))] [v, .int (x3)] h := by
  refine (p_iload rfl rfl).trans ?_
  refine (p_aload rfl rfl).trans ?_
  exact s_getf rfl
theorem r_X17_in_9 {d : Nat} {s0 : Int32} {b1 : Nat} {l0 l1 l2 l3 : Option Value} {h : AH} : R_X17_in d 9 [l0, l1, l2, l3] [.ref b1, .int (s0)] h = ((hci h b1).bind (lkN [(19, 113)])).bind fun y => aK (exec tTab d y [.ref b1] h) (fun v h1 => R_X17_in d 12 [l0, l1, l2, l3] (v.toList ++ [.int (s0)]) h1) (fun E h1 => some (.inr E, h1)) := s_callV (L := [(19, 113)]) (n := 0) (b := b1) (rest := [.int (s0)]) rfl rfl rfl
theorem r_X17_in_12 {d : Nat} {s0 s1 : Int32} {l0 l1 l2 l3 : Option Value} {h : AH} : R_X17_in d 12 [l0, l1, l2, l3] [.int (s1), .int (s0)] h = if s1 ≤ s0 then R_X17_in d 39 [l0, l1, l2, l3] [] h else R_X17_in d 15 [l0, l1, l2, l3] [] h := (s_icmp (g := (fun x y => decide (y ≤ x))) (t := 39) (nx := 15) rfl).trans bif_dec
theorem r_X17_in_39 {d : Nat} {x2 : Int32} {l0 l1 l3 : Option Value} {h : AH} : R_X17_in d 39 [l0, l1, some (.int (x2)), l3] [] h = some (.inl (some (.int (x2))), h) := by
  refine (p_iload rfl rfl).trans ?_
  exact s_iretT rfl rfl
theorem r_X17_in_15 {d : Nat} {x2 : Int32} {a0 : Nat} {l1 l3 : Option Value} {h : AH} : R_X17_in d 15 [some (.ref a0), l1, some (.int (x2)), l3] [] h = (hgf h [14] a0 0).bind fun v => R_X17_in d 20 [some (.ref a0), l1, some (.int (x2)), l3] [v, .int (x2)] h := by
  refine (p_iload rfl rfl).trans ?_
  refine (p_aload rfl rfl).trans ?_
  exact s_getf rfl
theorem r_X17_in_20 {d : Nat} {s0 x3 : Int32} {b1 : Nat} {l0 l1 l2 : Option Value} {h : AH} : R_X17_in d 20 [l0, l1, l2, some (.int (x3))] [.ref b1, .int (s0)] h = ((hci h b1).bind (lkN [(19, 114)])).bind fun y => aK (exec tTab d y [.ref b1, .int (x3)] h) (fun v h1 => R_X17_in d 24 [l0, l1, l2, some (.int (x3))] (v.toList ++ [.int (s0)]) h1) (fun E h1 => some (.inr E, h1)) := by
  refine (p_iload rfl rfl).trans ?_
  exact s_callV (L := [(19, 114)]) (n := 1) (b := b1) (rest := [.int (s0)]) rfl rfl rfl
theorem r_X17_in_24 {d : Nat} {s0 : Int32} {b1 : Nat} {l0 l1 l2 l3 : Option Value} {h : AH} : R_X17_in d 24 [l0, l1, l2, l3] [.ref b1, .int (s0)] h = bif hck h [15] [] b1 then R_X17_in d 27 [l0, l1, l2, l3] [.ref b1, .int (s0)] h else none := s_cast rfl
theorem r_X17_in_27 {d : Nat} {s0 : Int32} {b1 a1 : Nat} {l0 l2 l3 : Option Value} {h : AH} : R_X17_in d 27 [l0, some (.ref a1), l2, l3] [.ref b1, .int (s0)] h = ((hci h b1).bind (lkN [(15, 318)])).bind fun y => aK (exec tTab d y [.ref b1, .ref a1] h) (fun v h1 => R_X17_in d 31 [l0, some (.ref a1), l2, l3] (v.toList ++ [.int (s0)]) h1) (fun E h1 => some (.inr E, h1)) := by
  refine (p_aload rfl rfl).trans ?_
  exact s_callV (L := [(15, 318)]) (n := 1) (b := b1) (rest := [.int (s0)]) rfl rfl rfl
theorem r_X17_in_31 {d : Nat} {s0 s1 x3 : Int32} {l0 l1 l2 : Option Value} {h : AH} : R_X17_in d 31 [l0, l1, l2, some (.int (x3))] [.int (s1), .int (s0)] h = R_X17_in d 4 [l0, l1, some (.int (s0 + s1)), some (.int (x3 + (nI 1)))] [] h := by
  refine (p_bin rfl).trans ?_
  refine (p_istore rfl rfl rfl).trans ?_
  refine (p_iinc rfl rfl rfl).trans ?_
  refine (p_goto rfl).trans ?_
  exact rfl
theorem e_X17_in {d : Nat} {a0 a1 : Nat} {h : AH} : exec tTab (d + 1) K_X17_in [.ref a0, .ref a1] h = R_X17_in d 0 [some (.ref a0), some (.ref a1), none, none] [] h := exec_eq (cd := k_X17_in) (hd := (fun _ _ => some none)) (L := 4) rfl rfl rfl
/-- FavourTown$Sum.<init>()V -/
abbrev K_X17_init : Nat := 317
noncomputable def R_X17_init (d pc : Nat) (ls : ALs) (st : List Value) (h : AH) : Option (AOut × AH) := aR (exec tTab d) k_X17_init (fun _ _ => some none) (pc, ls, st, h)
theorem r_X17_init_0 {d : Nat} {a0 : Nat} {h : AH} : R_X17_init d 0 [some (.ref a0)] [] h = R_X17_init d 8 [some (.ref a0)] [.ref h.2.1, .ref a0] (hnew h (true, .inr (19, [.int 0, .null, .int 0])) 3) := by
  refine (p_aload rfl rfl).trans ?_
  refine (s_objI rfl rfl).trans ?_
  refine (p_aload rfl rfl).trans ?_
  exact p_new rfl
theorem r_X17_init_8 {d : Nat} {b0 b1 : Nat} {l0 : Option Value} {h : AH} : R_X17_init d 8 [l0] [.ref b1, .ref b0] h = aK (exec tTab d 112 [.ref b1] h) (fun v h1 => R_X17_init d 12 [l0] (v.toList ++ [.ref b1, .ref b0]) h1) (fun E h1 => some (.inr E, h1)) := by
  refine (p_dup rfl rfl).trans ?_
  exact s_callI (y := 112) (n := 0) (b := b1) (rest := [.ref b1, .ref b0]) rfl rfl rfl
theorem r_X17_init_12 {d : Nat} {b0 b1 : Nat} {l0 : Option Value} {h : AH} : R_X17_init d 12 [l0] [.ref b1, .ref b0] h = (hpf h [14] b0 0 (.ref b1)).bind fun h1 => R_X17_init d 15 [l0] [] h1 := s_putT rfl rfl
theorem r_X17_init_12N {d : Nat} {b0 : Nat} {l0 : Option Value} {h : AH} : R_X17_init d 12 [l0] [.null, .ref b0] h = (hpf h [14] b0 0 (.null)).bind fun h1 => R_X17_init d 15 [l0] [] h1 := s_putT rfl rfl
theorem r_X17_init_15 {d : Nat} {l0 : Option Value} {h : AH} : R_X17_init d 15 [l0] [] h = some (.inl none, h) := s_vret rfl
theorem e_X17_init {d : Nat} {a0 : Nat} {h : AH} : exec tTab (d + 1) K_X17_init [.ref a0] h = R_X17_init d 0 [some (.ref a0)] [] h := exec_eq (cd := k_X17_init) (hd := (fun _ _ => some none)) (L := 1) rfl rfl rfl
/-- FavourTown$Part.in(LFavourTown$Scene;)I -/
abbrev K_X18_in : Nat := 318
noncomputable def R_X18_in (d pc : Nat) (ls : ALs) (st : List Value) (h : AH) : Option (AOut × AH) := aR (exec tTab d) k_X18_in (fun _ _ => some none) (pc, ls, st, h)
theorem r_X18_in_0 {d : Nat} {a0 : Nat} {l1 : Option Value} {h : AH} : R_X18_in d 0 [some (.ref a0), l1] [] h = (hgf h [15] a0 1).bind fun v => R_X18_in d 4 [some (.ref a0), l1] [v] h := by
  refine (p_aload rfl rfl).trans ?_
  exact s_getf rfl
theorem r_X18_in_4 {d : Nat} {b0 a1 a0 : Nat} {h : AH} : R_X18_in d 4 [some (.ref a0), some (.ref a1)] [.ref b0] h = (hgf h [15] a0 1).bind fun v => R_X18_in d 19 [some (.ref a0), some (.ref a1)] [v, .ref a1] h := by
  refine (p_nullR rfl).trans ?_
  refine (p_aload rfl rfl).trans ?_
  refine (p_aload rfl rfl).trans ?_
  exact s_getf rfl
theorem r_X18_in_4N {d : Nat} {a0 : Nat} {l1 : Option Value} {h : AH} : R_X18_in d 4 [some (.ref a0), l1] [.null] h = (hgf h [15] a0 0).bind fun v => R_X18_in d 11 [some (.ref a0), l1] [v] h := by
  refine (p_nullN rfl).trans ?_
  refine (p_aload rfl rfl).trans ?_
  exact s_getf rfl
theorem r_X18_in_19 {d : Nat} {b0 b1 : Nat} {l0 l1 : Option Value} {h : AH} : R_X18_in d 19 [l0, l1] [.ref b1, .ref b0] h = ((hci h b0).bind (lkN [(8, 124)])).bind fun y => aK (exec tTab d y [.ref b0, .ref b1] h) (fun v h1 => R_X18_in d 22 [l0, l1] (v.toList ++ []) h1) (fun E h1 => some (.inr E, h1)) := s_callV (L := [(8, 124)]) (n := 1) (b := b0) (rest := []) rfl rfl rfl
theorem r_X18_in_19N {d : Nat} {b0 : Nat} {l0 l1 : Option Value} {h : AH} : R_X18_in d 19 [l0, l1] [.null, .ref b0] h = ((hci h b0).bind (lkN [(8, 124)])).bind fun y => aK (exec tTab d y [.ref b0, .null] h) (fun v h1 => R_X18_in d 22 [l0, l1] (v.toList ++ []) h1) (fun E h1 => some (.inr E, h1)) := s_callV (L := [(8, 124)]) (n := 1) (b := b0) (rest := []) rfl rfl rfl
theorem r_X18_in_11 {d : Nat} {s0 : Int32} {l0 l1 : Option Value} {h : AH} : R_X18_in d 11 [l0, l1] [.int (s0)] h = some (.inl (some (.int (s0))), h) := by
  refine (p_goto rfl).trans ?_
  exact s_iretT rfl rfl
theorem r_X18_in_22 {d : Nat} {s0 : Int32} {l0 l1 : Option Value} {h : AH} : R_X18_in d 22 [l0, l1] [.int (s0)] h = some (.inl (some (.int (s0))), h) := s_iretT rfl rfl
theorem e_X18_in {d : Nat} {a0 a1 : Nat} {h : AH} : exec tTab (d + 1) K_X18_in [.ref a0, .ref a1] h = R_X18_in d 0 [some (.ref a0), some (.ref a1)] [] h := exec_eq (cd := k_X18_in) (hd := (fun _ _ => some none)) (L := 2) rfl rfl rfl
/-- FavourTown$Part.<init>(ILFavourTown$Fact;)V -/
abbrev K_X18_init : Nat := 319
noncomputable def R_X18_init (d pc : Nat) (ls : ALs) (st : List Value) (h : AH) : Option (AOut × AH) := aR (exec tTab d) k_X18_init (fun _ _ => some none) (pc, ls, st, h)
theorem r_X18_init_0 {d : Nat} {a0 : Nat} {x1 : Int32} {l2 : Option Value} {h : AH} : R_X18_init d 0 [some (.ref a0), some (.int (x1)), l2] [] h = (hpf h [15] a0 0 (.int (x1))).bind fun h1 => R_X18_init d 9 [some (.ref a0), some (.int (x1)), l2] [] h1 := by
  refine (p_aload rfl rfl).trans ?_
  refine (s_objI rfl rfl).trans ?_
  refine (p_aload rfl rfl).trans ?_
  refine (p_iload rfl rfl).trans ?_
  exact s_putT rfl rfl
theorem r_X18_init_9 {d : Nat} {a0 a2 : Nat} {l1 : Option Value} {h : AH} : R_X18_init d 9 [some (.ref a0), l1, some (.ref a2)] [] h = (hpf h [15] a0 1 (.ref a2)).bind fun h1 => R_X18_init d 14 [some (.ref a0), l1, some (.ref a2)] [] h1 := by
  refine (p_aload rfl rfl).trans ?_
  refine (p_aload rfl rfl).trans ?_
  exact s_putT rfl rfl
theorem r_X18_init_9L2 {d : Nat} {a0 : Nat} {l1 : Option Value} {h : AH} : R_X18_init d 9 [some (.ref a0), l1, some (.null)] [] h = (hpf h [15] a0 1 (.null)).bind fun h1 => R_X18_init d 14 [some (.ref a0), l1, some (.null)] [] h1 := by
  refine (p_aload rfl rfl).trans ?_
  refine (p_aloadN rfl rfl).trans ?_
  exact s_putT rfl rfl
theorem r_X18_init_14 {d : Nat} {l0 l1 l2 : Option Value} {h : AH} : R_X18_init d 14 [l0, l1, l2] [] h = some (.inl none, h) := s_vret rfl
theorem e_X18_init {d : Nat} {a0 a2 : Nat} {x1 : Int32} {h : AH} : exec tTab (d + 1) K_X18_init [.ref a0, .int x1, .ref a2] h = R_X18_init d 0 [some (.ref a0), some (.int x1), some (.ref a2)] [] h := exec_eq (cd := k_X18_init) (hd := (fun _ _ => some none)) (L := 3) rfl rfl rfl
theorem e_X18_init_N {d : Nat} {a0 : Nat} {x1 : Int32} {h : AH} : exec tTab (d + 1) K_X18_init [.ref a0, .int x1, .null] h = R_X18_init d 0 [some (.ref a0), some (.int x1), some (.null)] [] h := exec_eq (cd := k_X18_init) (hd := (fun _ _ => some none)) (L := 3) rfl rfl rfl
/-- FavourTown$Fact.of(Ljava/lang/String;)LFavourTown$Fact; -/
abbrev K_X19_of : Nat := 320
noncomputable def R_X19_of (d pc : Nat) (ls : ALs) (st : List Value) (h : AH) : Option (AOut × AH) := aR (exec tTab d) k_X19_of (fun _ _ => some none) (pc, ls, st, h)
theorem r_X19_of_0 {d : Nat} {l0 l1 l2 l3 l4 : Option Value} {h : AH} : R_X19_of d 0 [l0, l1, l2, l3, l4] [] h = aK (exec tTab d 321 [] h) (fun v h1 => R_X19_of d 3 [l0, l1, l2, l3, l4] (v.toList ++ []) h1) (fun E h1 => some (.inr E, h1)) := s_callS (y := 321) (n := 0) rfl rfl
theorem r_X19_of_3 {d : Nat} {b0 : Nat} {l0 l1 l2 l3 l4 : Option Value} {h : AH} : R_X19_of d 3 [l0, l1, l2, l3, l4] [.ref b0] h = (hal h b0).bind fun v => R_X19_of d 6 [l0, some (.ref b0), l2, l3, l4] [.int (nI v)] h := by
  refine (p_astore rfl rfl rfl).trans ?_
  refine (p_aload rfl rfl).trans ?_
  exact s_alen rfl
theorem r_X19_of_6 {d : Nat} {s0 : Int32} {l0 l1 l2 l3 l4 : Option Value} {h : AH} : R_X19_of d 6 [l0, l1, l2, l3, l4] [.int (s0)] h = R_X19_of d 9 [l0, l1, some (.int (s0)), some (.int ((nI 0))), l4] [] h := by
  refine (p_istore rfl rfl rfl).trans ?_
  refine (p_const rfl).trans ?_
  refine (p_istore rfl rfl rfl).trans ?_
  exact rfl
theorem q_X19_of_9 {d : Nat} {x3 x2 : Int32} {l0 l1 l4 : Option Value} {h : AH} : R_X19_of d 9 [l0, l1, some (.int (x2)), some (.int (x3)), l4] [] h = if x2 ≤ x3 then R_X19_of d 40 [l0, l1, some (.int (x2)), some (.int (x3)), l4] [] h else R_X19_of d 14 [l0, l1, some (.int (x2)), some (.int (x3)), l4] [] h := by
  refine (p_iload rfl rfl).trans ?_
  refine (p_iload rfl rfl).trans ?_
  exact (s_icmp (g := (fun x y => decide (y ≤ x))) (t := 40) (nx := 14) rfl).trans bif_dec
theorem r_X19_of_40 {d : Nat} {l0 l1 l2 l3 l4 : Option Value} {h : AH} : R_X19_of d 40 [l0, l1, l2, l3, l4] [] h = some (.inl (some (.null)), h) := by
  refine (p_const rfl).trans ?_
  exact s_aretN rfl
theorem r_X19_of_14 {d : Nat} {a1 : Nat} {x3 : Int32} {l0 l2 l4 : Option Value} {h : AH} : R_X19_of d 14 [l0, some (.ref a1), l2, some (.int (x3)), l4] [] h = (haqs h [3, 4, 5] a1 x3).bind fun v => R_X19_of d 17 [l0, some (.ref a1), l2, some (.int (x3)), l4] [va_rf v] h := by
  refine (p_aload rfl rfl).trans ?_
  refine (p_iload rfl rfl).trans ?_
  exact s_aald rfl
theorem r_X19_of_17 {d : Nat} {b0 : Nat} {l0 l1 l2 l3 l4 : Option Value} {h : AH} : R_X19_of d 17 [l0, l1, l2, l3, l4] [.ref b0] h = (hgf h [26] b0 1).bind fun v => R_X19_of d 24 [l0, l1, l2, l3, some (.ref b0)] [v] h := by
  refine (p_astore rfl rfl rfl).trans ?_
  refine (p_aload rfl rfl).trans ?_
  exact s_getf rfl
theorem r_X19_of_24 {d : Nat} {b0 a0 : Nat} {l1 l2 l3 l4 : Option Value} {h : AH} : R_X19_of d 24 [some (.ref a0), l1, l2, l3, l4] [.ref b0] h = ((hci h b0).bind (lkN [(21, 285)])).bind fun y => aK (exec tTab d y [.ref b0, .ref a0] h) (fun v h1 => R_X19_of d 28 [some (.ref a0), l1, l2, l3, l4] (v.toList ++ []) h1) (fun E h1 => some (.inr E, h1)) := by
  refine (p_aload rfl rfl).trans ?_
  exact s_callV (L := [(21, 285)]) (n := 1) (b := b0) (rest := []) rfl rfl rfl
theorem r_X19_of_28 {d : Nat} {s0 : Int32} {l0 l1 l2 l3 l4 : Option Value} {h : AH} : R_X19_of d 28 [l0, l1, l2, l3, l4] [.int (s0)] h = if s0 = 0 then R_X19_of d 34 [l0, l1, l2, l3, l4] [] h else R_X19_of d 31 [l0, l1, l2, l3, l4] [] h := (s_if (g := (fun x => decide (x = 0))) (t := 34) (nx := 31) rfl).trans bif_dec
theorem r_X19_of_34 {d : Nat} {x3 : Int32} {l0 l1 l2 l4 : Option Value} {h : AH} : R_X19_of d 34 [l0, l1, l2, some (.int (x3)), l4] [] h = R_X19_of d 9 [l0, l1, l2, some (.int (x3 + (nI 1))), l4] [] h := by
  refine (p_iinc rfl rfl rfl).trans ?_
  refine (p_goto rfl).trans ?_
  exact rfl
theorem r_X19_of_31 {d : Nat} {a4 : Nat} {l0 l1 l2 l3 : Option Value} {h : AH} : R_X19_of d 31 [l0, l1, l2, l3, some (.ref a4)] [] h = some (.inl (some (.ref a4)), h) := by
  refine (p_aload rfl rfl).trans ?_
  exact s_aret rfl
theorem e_X19_of {d : Nat} {a0 : Nat} {h : AH} : exec tTab (d + 1) K_X19_of [.ref a0] h = R_X19_of d 0 [some (.ref a0), none, none, none, none] [] h := exec_eq (cd := k_X19_of) (hd := (fun _ _ => some none)) (L := 5) rfl rfl rfl
/-- FavourTown$Fact.values()[LFavourTown$Fact; -/
abbrev K_X19_values : Nat := 321
noncomputable def R_X19_values (d pc : Nat) (ls : ALs) (st : List Value) (h : AH) : Option (AOut × AH) := aR (exec tTab d) k_X19_values (fun _ _ => some none) (pc, ls, st, h)
theorem r_X19_values_0 {d : Nat}  {h : AH} : R_X19_values d 0 [] [] h = R_X19_values d 3 [] [h.2.2.2 0] h := p_stat rfl
theorem r_X19_values_3 {d : Nat} {b0 : Nat} {h : AH} : R_X19_values d 3 [] [.ref b0] h = (hclo h b0).bind fun h1 => R_X19_values d 6 [] [.ref h.2.1] h1 := s_clone rfl rfl
theorem r_X19_values_6 {d : Nat} {b0 : Nat} {h : AH} : R_X19_values d 6 [] [.ref b0] h = bif hck h [] [5] b0 then R_X19_values d 9 [] [.ref b0] h else none := s_cast rfl
theorem r_X19_values_6N {d : Nat}  {h : AH} : R_X19_values d 6 [] [.null] h = some (.inl (some (.null)), h) := by
  refine (p_castN rfl).trans ?_
  exact s_aretN rfl
theorem r_X19_values_9 {d : Nat} {b0 : Nat} {h : AH} : R_X19_values d 9 [] [.ref b0] h = some (.inl (some (.ref b0)), h) := s_aret rfl
theorem r_X19_values_9N {d : Nat}  {h : AH} : R_X19_values d 9 [] [.null] h = some (.inl (some (.null)), h) := s_aretN rfl
theorem e_X19_values {d : Nat}  {h : AH} : exec tTab (d + 1) K_X19_values [] h = R_X19_values d 0 [] [] h := exec_eq (cd := k_X19_values) (hd := (fun _ _ => some none)) (L := 0) rfl rfl rfl
/-- FavourTown$Less.holds(LFavourTown$Scene;)Z -/
abbrev K_X20_holds : Nat := 322
noncomputable def R_X20_holds (d pc : Nat) (ls : ALs) (st : List Value) (h : AH) : Option (AOut × AH) := aR (exec tTab d) k_X20_holds (fun _ _ => some none) (pc, ls, st, h)
theorem r_X20_holds_0 {d : Nat} {a0 : Nat} {l1 : Option Value} {h : AH} : R_X20_holds d 0 [some (.ref a0), l1] [] h = (hgf h [16] a0 0).bind fun v => R_X20_holds d 4 [some (.ref a0), l1] [v] h := by
  refine (p_aload rfl rfl).trans ?_
  exact s_getf rfl
theorem r_X20_holds_4 {d : Nat} {b0 a1 : Nat} {l0 : Option Value} {h : AH} : R_X20_holds d 4 [l0, some (.ref a1)] [.ref b0] h = ((hci h b0).bind (lkN [(14, 316)])).bind fun y => aK (exec tTab d y [.ref b0, .ref a1] h) (fun v h1 => R_X20_holds d 8 [l0, some (.ref a1)] (v.toList ++ []) h1) (fun E h1 => some (.inr E, h1)) := by
  refine (p_aload rfl rfl).trans ?_
  exact s_callV (L := [(14, 316)]) (n := 1) (b := b0) (rest := []) rfl rfl rfl
theorem r_X20_holds_8 {d : Nat} {s0 : Int32} {a0 : Nat} {l1 : Option Value} {h : AH} : R_X20_holds d 8 [some (.ref a0), l1] [.int (s0)] h = (hgf h [16] a0 1).bind fun v => R_X20_holds d 12 [some (.ref a0), l1] [v, .int (s0)] h := by
  refine (p_aload rfl rfl).trans ?_
  exact s_getf rfl
theorem r_X20_holds_12 {d : Nat} {s0 : Int32} {b1 a1 : Nat} {l0 : Option Value} {h : AH} : R_X20_holds d 12 [l0, some (.ref a1)] [.ref b1, .int (s0)] h = ((hci h b1).bind (lkN [(14, 316)])).bind fun y => aK (exec tTab d y [.ref b1, .ref a1] h) (fun v h1 => R_X20_holds d 16 [l0, some (.ref a1)] (v.toList ++ [.int (s0)]) h1) (fun E h1 => some (.inr E, h1)) := by
  refine (p_aload rfl rfl).trans ?_
  exact s_callV (L := [(14, 316)]) (n := 1) (b := b1) (rest := [.int (s0)]) rfl rfl rfl
theorem r_X20_holds_16 {d : Nat} {s0 s1 : Int32} {l0 l1 : Option Value} {h : AH} : R_X20_holds d 16 [l0, l1] [.int (s1), .int (s0)] h = if s1 ≤ s0 then R_X20_holds d 23 [l0, l1] [] h else R_X20_holds d 19 [l0, l1] [] h := (s_icmp (g := (fun x y => decide (y ≤ x))) (t := 23) (nx := 19) rfl).trans bif_dec
theorem r_X20_holds_23 {d : Nat} {l0 l1 : Option Value} {h : AH} : R_X20_holds d 23 [l0, l1] [] h = some (.inl (some (.int ((nI 0)))), h) := by
  refine (p_const rfl).trans ?_
  exact s_iretT rfl rfl
theorem r_X20_holds_19 {d : Nat} {l0 l1 : Option Value} {h : AH} : R_X20_holds d 19 [l0, l1] [] h = some (.inl (some (.int ((nI 1)))), h) := by
  refine (p_const rfl).trans ?_
  refine (p_goto rfl).trans ?_
  exact s_iretT rfl rfl
theorem e_X20_holds {d : Nat} {a0 a1 : Nat} {h : AH} : exec tTab (d + 1) K_X20_holds [.ref a0, .ref a1] h = R_X20_holds d 0 [some (.ref a0), some (.ref a1)] [] h := exec_eq (cd := k_X20_holds) (hd := (fun _ _ => some none)) (L := 2) rfl rfl rfl
/-- FavourTown$Less.<init>(LFavourTown$Sum;LFavourTown$Sum;)V -/
abbrev K_X20_init : Nat := 323
noncomputable def R_X20_init (d pc : Nat) (ls : ALs) (st : List Value) (h : AH) : Option (AOut × AH) := aR (exec tTab d) k_X20_init (fun _ _ => some none) (pc, ls, st, h)
theorem r_X20_init_0 {d : Nat} {a0 a1 : Nat} {l2 : Option Value} {h : AH} : R_X20_init d 0 [some (.ref a0), some (.ref a1), l2] [] h = (hpf h [16] a0 0 (.ref a1)).bind fun h1 => R_X20_init d 9 [some (.ref a0), some (.ref a1), l2] [] h1 := by
  refine (p_aload rfl rfl).trans ?_
  refine (s_objI rfl rfl).trans ?_
  refine (p_aload rfl rfl).trans ?_
  refine (p_aload rfl rfl).trans ?_
  exact s_putT rfl rfl
theorem r_X20_init_9 {d : Nat} {a0 a2 : Nat} {l1 : Option Value} {h : AH} : R_X20_init d 9 [some (.ref a0), l1, some (.ref a2)] [] h = (hpf h [16] a0 1 (.ref a2)).bind fun h1 => R_X20_init d 14 [some (.ref a0), l1, some (.ref a2)] [] h1 := by
  refine (p_aload rfl rfl).trans ?_
  refine (p_aload rfl rfl).trans ?_
  exact s_putT rfl rfl
theorem r_X20_init_14 {d : Nat} {l0 l1 l2 : Option Value} {h : AH} : R_X20_init d 14 [l0, l1, l2] [] h = some (.inl none, h) := s_vret rfl
theorem e_X20_init {d : Nat} {a0 a1 a2 : Nat} {h : AH} : exec tTab (d + 1) K_X20_init [.ref a0, .ref a1, .ref a2] h = R_X20_init d 0 [some (.ref a0), some (.ref a1), some (.ref a2)] [] h := exec_eq (cd := k_X20_init) (hd := (fun _ _ => some none)) (L := 3) rfl rfl rfl
