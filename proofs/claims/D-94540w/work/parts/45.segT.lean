set_option maxRecDepth 100000
/-- FavourTown.<init>()V -/
abbrev K_X1_init : Nat := 26
noncomputable def R_X1_init (d pc : Nat) (ls : ALs) (st : List Value) (h : AH) : Option (AOut × AH) := aR (exec tTab d) k_X1_init (fun _ _ => some none) (pc, ls, st, h)
theorem r_X1_init_0 {d : Nat} {a0 : Nat} {h : AH} : R_X1_init d 0 [some (.ref a0)] [] h = R_X1_init d 8 [some (.ref a0)] [.ref h.2.1, .ref a0] (hnew h (true, .inr (1, [.int 0, .int 0, .int 0, .int 0, .int 0, .null, .null, .null, .null, .null, .null, .null, .null, .null])) 14) := by
  refine (p_aload rfl rfl).trans ?_
  refine (s_objI rfl rfl).trans ?_
  refine (p_aload rfl rfl).trans ?_
  exact p_new rfl
theorem r_X1_init_8 {d : Nat} {b0 b1 : Nat} {l0 : Option Value} {h : AH} : R_X1_init d 8 [l0] [.ref b1, .ref b0] h = aK (exec tTab d 89 [.ref b1] h) (fun v h1 => R_X1_init d 12 [l0] (v.toList ++ [.ref b1, .ref b0]) h1) (fun E h1 => some (.inr E, h1)) := by
  refine (p_dup rfl rfl).trans ?_
  exact s_callI (y := 89) (n := 0) (b := b1) (rest := [.ref b1, .ref b0]) rfl rfl rfl
theorem r_X1_init_12 {d : Nat} {b0 b1 : Nat} {l0 : Option Value} {h : AH} : R_X1_init d 12 [l0] [.ref b1, .ref b0] h = (hpf h [0] b0 0 (.ref b1)).bind fun h1 => R_X1_init d 15 [l0] [] h1 := s_putT rfl rfl
theorem r_X1_init_12N {d : Nat} {b0 : Nat} {l0 : Option Value} {h : AH} : R_X1_init d 12 [l0] [.null, .ref b0] h = (hpf h [0] b0 0 (.null)).bind fun h1 => R_X1_init d 15 [l0] [] h1 := s_putT rfl rfl
theorem r_X1_init_15 {d : Nat} {a0 : Nat} {h : AH} : R_X1_init d 15 [some (.ref a0)] [] h = R_X1_init d 19 [some (.ref a0)] [.ref h.2.1, .ref a0] (hnew h (true, .inr (2, [.null, .int 0, .int 0, .int 0, .int 0, .int 0, .int 0])) 7) := by
  refine (p_aload rfl rfl).trans ?_
  exact p_new rfl
theorem r_X1_init_19 {d : Nat} {b0 b1 : Nat} {l0 : Option Value} {h : AH} : R_X1_init d 19 [l0] [.ref b1, .ref b0] h = aK (exec tTab d 125 [.ref b1] h) (fun v h1 => R_X1_init d 23 [l0] (v.toList ++ [.ref b1, .ref b0]) h1) (fun E h1 => some (.inr E, h1)) := by
  refine (p_dup rfl rfl).trans ?_
  exact s_callI (y := 125) (n := 0) (b := b1) (rest := [.ref b1, .ref b0]) rfl rfl rfl
theorem r_X1_init_23 {d : Nat} {b0 b1 : Nat} {l0 : Option Value} {h : AH} : R_X1_init d 23 [l0] [.ref b1, .ref b0] h = (hpf h [0] b0 2 (.ref b1)).bind fun h1 => R_X1_init d 26 [l0] [] h1 := s_putT rfl rfl
theorem r_X1_init_23N {d : Nat} {b0 : Nat} {l0 : Option Value} {h : AH} : R_X1_init d 23 [l0] [.null, .ref b0] h = (hpf h [0] b0 2 (.null)).bind fun h1 => R_X1_init d 26 [l0] [] h1 := s_putT rfl rfl
theorem r_X1_init_26 {d : Nat} {a0 : Nat} {h : AH} : R_X1_init d 26 [some (.ref a0)] [] h = R_X1_init d 30 [some (.ref a0)] [.ref h.2.1, .ref a0] (hnew h (true, .inr (3, [.null, .null, .null, .null])) 4) := by
  refine (p_aload rfl rfl).trans ?_
  exact p_new rfl
theorem r_X1_init_30 {d : Nat} {b0 b1 a0 : Nat} {h : AH} : R_X1_init d 30 [some (.ref a0)] [.ref b1, .ref b0] h = aK (exec tTab d 140 [.ref b1, .ref a0] h) (fun v h1 => R_X1_init d 35 [some (.ref a0)] (v.toList ++ [.ref b1, .ref b0]) h1) (fun E h1 => some (.inr E, h1)) := by
  refine (p_dup rfl rfl).trans ?_
  refine (p_aload rfl rfl).trans ?_
  exact s_callI (y := 140) (n := 1) (b := b1) (rest := [.ref b1, .ref b0]) rfl rfl rfl
theorem r_X1_init_35 {d : Nat} {b0 b1 : Nat} {l0 : Option Value} {h : AH} : R_X1_init d 35 [l0] [.ref b1, .ref b0] h = (hpf h [0] b0 3 (.ref b1)).bind fun h1 => R_X1_init d 38 [l0] [] h1 := s_putT rfl rfl
theorem r_X1_init_35N {d : Nat} {b0 : Nat} {l0 : Option Value} {h : AH} : R_X1_init d 35 [l0] [.null, .ref b0] h = (hpf h [0] b0 3 (.null)).bind fun h1 => R_X1_init d 38 [l0] [] h1 := s_putT rfl rfl
theorem r_X1_init_38 {d : Nat} {a0 : Nat} {h : AH} : R_X1_init d 38 [some (.ref a0)] [] h = bif hin (nI 12) 65537 then R_X1_init d 43 [some (.ref a0)] [.ref h.2.1, .ref a0] (hnew h (true, .inl (0, ((nI 12)).toNatClampNeg, (.inl (fun _ => 0)))) ((nI 12)).toNatClampNeg) else none := by
  refine (p_aload rfl rfl).trans ?_
  refine (p_const rfl).trans ?_
  exact s_newa (t := 0) (z := (.inl (fun _ => 0))) rfl
theorem r_X1_init_43 {d : Nat} {b0 b1 : Nat} {l0 : Option Value} {h : AH} : R_X1_init d 43 [l0] [.ref b1, .ref b0] h = (hpf h [0] b0 4 (.ref b1)).bind fun h1 => R_X1_init d 46 [l0] [] h1 := s_putT rfl rfl
theorem r_X1_init_43N {d : Nat} {b0 : Nat} {l0 : Option Value} {h : AH} : R_X1_init d 43 [l0] [.null, .ref b0] h = (hpf h [0] b0 4 (.null)).bind fun h1 => R_X1_init d 46 [l0] [] h1 := s_putT rfl rfl
theorem r_X1_init_46 {d : Nat} {a0 : Nat} {h : AH} : R_X1_init d 46 [some (.ref a0)] [] h = R_X1_init d 50 [some (.ref a0)] [.ref h.2.1, .ref a0] (hnew h (true, .inr (4, [.null, .null, .null, .int 0, .null])) 5) := by
  refine (p_aload rfl rfl).trans ?_
  exact p_new rfl
theorem r_X1_init_50 {d : Nat} {b0 b1 a0 : Nat} {h : AH} : R_X1_init d 50 [some (.ref a0)] [.ref b1, .ref b0] h = aK (exec tTab d 144 [.ref b1, .ref a0] h) (fun v h1 => R_X1_init d 55 [some (.ref a0)] (v.toList ++ [.ref b1, .ref b0]) h1) (fun E h1 => some (.inr E, h1)) := by
  refine (p_dup rfl rfl).trans ?_
  refine (p_aload rfl rfl).trans ?_
  exact s_callI (y := 144) (n := 1) (b := b1) (rest := [.ref b1, .ref b0]) rfl rfl rfl
theorem r_X1_init_55 {d : Nat} {b0 b1 : Nat} {l0 : Option Value} {h : AH} : R_X1_init d 55 [l0] [.ref b1, .ref b0] h = (hpf h [0] b0 5 (.ref b1)).bind fun h1 => R_X1_init d 58 [l0] [] h1 := s_putT rfl rfl
theorem r_X1_init_55N {d : Nat} {b0 : Nat} {l0 : Option Value} {h : AH} : R_X1_init d 55 [l0] [.null, .ref b0] h = (hpf h [0] b0 5 (.null)).bind fun h1 => R_X1_init d 58 [l0] [] h1 := s_putT rfl rfl
theorem r_X1_init_58 {d : Nat} {l0 : Option Value} {h : AH} : R_X1_init d 58 [l0] [] h = some (.inl none, h) := s_vret rfl
theorem e_X1_init {d : Nat} {a0 : Nat} {h : AH} : exec tTab (d + 1) K_X1_init [.ref a0] h = R_X1_init d 0 [some (.ref a0)] [] h := exec_eq (cd := k_X1_init) (hd := (fun _ _ => some none)) (L := 1) rfl rfl rfl
/-- FavourTown.feed(IIIII)I -/
abbrev K_X1_feed : Nat := 27
noncomputable def R_X1_feed (d pc : Nat) (ls : ALs) (st : List Value) (h : AH) : Option (AOut × AH) := aR (exec tTab d) k_X1_feed (fun _ _ => some none) (pc, ls, st, h)
theorem r_X1_feed_0 {d : Nat} {a0 : Nat} {l1 l2 l3 l4 l5 : Option Value} {h : AH} : R_X1_feed d 0 [some (.ref a0), l1, l2, l3, l4, l5] [] h = (hgf h [0] a0 2).bind fun v => R_X1_feed d 4 [some (.ref a0), l1, l2, l3, l4, l5] [v] h := by
  refine (p_aload rfl rfl).trans ?_
  exact s_getf rfl
theorem r_X1_feed_4 {d : Nat} {b0 : Nat} {l0 l1 l2 l3 l4 l5 : Option Value} {h : AH} : R_X1_feed d 4 [l0, l1, l2, l3, l4, l5] [.ref b0] h = bif hin (nI 5) 65537 then R_X1_feed d 7 [l0, l1, l2, l3, l4, l5] [.ref h.2.1, .ref b0] (hnew h (true, .inl (0, ((nI 5)).toNatClampNeg, (.inl (fun _ => 0)))) ((nI 5)).toNatClampNeg) else none := by
  refine (p_const rfl).trans ?_
  exact s_newa (t := 0) (z := (.inl (fun _ => 0))) rfl
theorem r_X1_feed_4N {d : Nat} {l0 l1 l2 l3 l4 l5 : Option Value} {h : AH} : R_X1_feed d 4 [l0, l1, l2, l3, l4, l5] [.null] h = bif hin (nI 5) 65537 then R_X1_feed d 7 [l0, l1, l2, l3, l4, l5] [.ref h.2.1, .null] (hnew h (true, .inl (0, ((nI 5)).toNatClampNeg, (.inl (fun _ => 0)))) ((nI 5)).toNatClampNeg) else none := by
  refine (p_const rfl).trans ?_
  exact s_newa (t := 0) (z := (.inl (fun _ => 0))) rfl
theorem r_X1_feed_7 {d : Nat} {b0 b1 : Nat} {x1 : Int32} {l0 l2 l3 l4 l5 : Option Value} {h : AH} : R_X1_feed d 7 [l0, some (.int (x1)), l2, l3, l4, l5] [.ref b1, .ref b0] h = (hsi h 0 b1 (nI 0) x1).bind fun h1 => R_X1_feed d 11 [l0, some (.int (x1)), l2, l3, l4, l5] [.ref b1, .ref b0] h1 := by
  refine (p_dup rfl rfl).trans ?_
  refine (p_const rfl).trans ?_
  refine (p_iload rfl rfl).trans ?_
  exact s_iast (t := 0) (nar := (fun y => y)) rfl
theorem r_X1_feed_11 {d : Nat} {b0 b1 : Nat} {x2 : Int32} {l0 l1 l3 l4 l5 : Option Value} {h : AH} : R_X1_feed d 11 [l0, l1, some (.int (x2)), l3, l4, l5] [.ref b1, .ref b0] h = (hsi h 0 b1 (nI 1) x2).bind fun h1 => R_X1_feed d 15 [l0, l1, some (.int (x2)), l3, l4, l5] [.ref b1, .ref b0] h1 := by
  refine (p_dup rfl rfl).trans ?_
  refine (p_const rfl).trans ?_
  refine (p_iload rfl rfl).trans ?_
  exact s_iast (t := 0) (nar := (fun y => y)) rfl
theorem r_X1_feed_15 {d : Nat} {b0 b1 : Nat} {x3 : Int32} {l0 l1 l2 l4 l5 : Option Value} {h : AH} : R_X1_feed d 15 [l0, l1, l2, some (.int (x3)), l4, l5] [.ref b1, .ref b0] h = (hsi h 0 b1 (nI 2) x3).bind fun h1 => R_X1_feed d 19 [l0, l1, l2, some (.int (x3)), l4, l5] [.ref b1, .ref b0] h1 := by
  refine (p_dup rfl rfl).trans ?_
  refine (p_const rfl).trans ?_
  refine (p_iload rfl rfl).trans ?_
  exact s_iast (t := 0) (nar := (fun y => y)) rfl
theorem r_X1_feed_19 {d : Nat} {b0 b1 : Nat} {x4 : Int32} {l0 l1 l2 l3 l5 : Option Value} {h : AH} : R_X1_feed d 19 [l0, l1, l2, l3, some (.int (x4)), l5] [.ref b1, .ref b0] h = (hsi h 0 b1 (nI 3) x4).bind fun h1 => R_X1_feed d 24 [l0, l1, l2, l3, some (.int (x4)), l5] [.ref b1, .ref b0] h1 := by
  refine (p_dup rfl rfl).trans ?_
  refine (p_const rfl).trans ?_
  refine (p_iload rfl rfl).trans ?_
  exact s_iast (t := 0) (nar := (fun y => y)) rfl
theorem r_X1_feed_24 {d : Nat} {b0 b1 : Nat} {x5 : Int32} {l0 l1 l2 l3 l4 : Option Value} {h : AH} : R_X1_feed d 24 [l0, l1, l2, l3, l4, some (.int (x5))] [.ref b1, .ref b0] h = (hsi h 0 b1 (nI 4) x5).bind fun h1 => R_X1_feed d 29 [l0, l1, l2, l3, l4, some (.int (x5))] [.ref b1, .ref b0] h1 := by
  refine (p_dup rfl rfl).trans ?_
  refine (p_const rfl).trans ?_
  refine (p_iload rfl rfl).trans ?_
  exact s_iast (t := 0) (nar := (fun y => y)) rfl
theorem r_X1_feed_29 {d : Nat} {b0 b1 : Nat} {l0 l1 l2 l3 l4 l5 : Option Value} {h : AH} : R_X1_feed d 29 [l0, l1, l2, l3, l4, l5] [.ref b1, .ref b0] h = ((hci h b0).bind (lkN [(2, 126)])).bind fun y => aK (exec tTab d y [.ref b0, .ref b1] h) (fun v h1 => R_X1_feed d 32 [l0, l1, l2, l3, l4, l5] (v.toList ++ []) h1) (fun E h1 => some (.inr E, h1)) := s_callV (L := [(2, 126)]) (n := 1) (b := b0) (rest := []) rfl rfl rfl
theorem r_X1_feed_29N {d : Nat} {b0 : Nat} {l0 l1 l2 l3 l4 l5 : Option Value} {h : AH} : R_X1_feed d 29 [l0, l1, l2, l3, l4, l5] [.null, .ref b0] h = ((hci h b0).bind (lkN [(2, 126)])).bind fun y => aK (exec tTab d y [.ref b0, .null] h) (fun v h1 => R_X1_feed d 32 [l0, l1, l2, l3, l4, l5] (v.toList ++ []) h1) (fun E h1 => some (.inr E, h1)) := s_callV (L := [(2, 126)]) (n := 1) (b := b0) (rest := []) rfl rfl rfl
theorem r_X1_feed_32 {d : Nat} {s0 : Int32} {l0 l1 l2 l3 l4 l5 : Option Value} {h : AH} : R_X1_feed d 32 [l0, l1, l2, l3, l4, l5] [.int (s0)] h = some (.inl (some (.int (s0))), h) := s_iretT rfl rfl
theorem e_X1_feed {d : Nat} {a0 : Nat} {x1 x2 x3 x4 x5 : Int32} {h : AH} : exec tTab (d + 1) K_X1_feed [.ref a0, .int x1, .int x2, .int x3, .int x4, .int x5] h = R_X1_feed d 0 [some (.ref a0), some (.int x1), some (.int x2), some (.int x3), some (.int x4), some (.int x5)] [] h := exec_eq (cd := k_X1_feed) (hd := (fun _ _ => some none)) (L := 6) rfl rfl rfl
/-- FavourTown.end(I)Z -/
abbrev K_X1_end : Nat := 28
noncomputable def R_X1_end (d pc : Nat) (ls : ALs) (st : List Value) (h : AH) : Option (AOut × AH) := aR (exec tTab d) k_X1_end (fun _ _ => some none) (pc, ls, st, h)
theorem r_X1_end_0 {d : Nat} {a0 : Nat} {l1 : Option Value} {h : AH} : R_X1_end d 0 [some (.ref a0), l1] [] h = (hgf h [0] a0 2).bind fun v => R_X1_end d 4 [some (.ref a0), l1] [v] h := by
  refine (p_aload rfl rfl).trans ?_
  exact s_getf rfl
theorem r_X1_end_4 {d : Nat} {b0 : Nat} {x1 : Int32} {l0 : Option Value} {h : AH} : R_X1_end d 4 [l0, some (.int (x1))] [.ref b0] h = ((hci h b0).bind (lkN [(2, 127)])).bind fun y => aK (exec tTab d y [.ref b0, .int (x1)] h) (fun v h1 => R_X1_end d 8 [l0, some (.int (x1))] (v.toList ++ []) h1) (fun E h1 => some (.inr E, h1)) := by
  refine (p_iload rfl rfl).trans ?_
  exact s_callV (L := [(2, 127)]) (n := 1) (b := b0) (rest := []) rfl rfl rfl
theorem r_X1_end_8 {d : Nat} {s0 : Int32} {l0 l1 : Option Value} {h : AH} : R_X1_end d 8 [l0, l1] [.int (s0)] h = bif s0 == 0 || s0 == 1 then some (.inl (some (.int (s0))), h) else none := s_iret (ok := (fun x => x == 0 || x == 1)) rfl
theorem e_X1_end {d : Nat} {a0 : Nat} {x1 : Int32} {h : AH} : exec tTab (d + 1) K_X1_end [.ref a0, .int x1] h = R_X1_end d 0 [some (.ref a0), some (.int x1)] [] h := exec_eq (cd := k_X1_end) (hd := (fun _ _ => some none)) (L := 2) rfl rfl rfl
/-- FavourTown.fault()I -/
abbrev K_X1_fault : Nat := 29
noncomputable def R_X1_fault (d pc : Nat) (ls : ALs) (st : List Value) (h : AH) : Option (AOut × AH) := aR (exec tTab d) k_X1_fault (fun _ _ => some none) (pc, ls, st, h)
theorem r_X1_fault_0 {d : Nat} {a0 : Nat} {h : AH} : R_X1_fault d 0 [some (.ref a0)] [] h = (hgf h [0] a0 2).bind fun v => R_X1_fault d 4 [some (.ref a0)] [v] h := by
  refine (p_aload rfl rfl).trans ?_
  exact s_getf rfl
theorem r_X1_fault_4 {d : Nat} {b0 : Nat} {l0 : Option Value} {h : AH} : R_X1_fault d 4 [l0] [.ref b0] h = (hgf h [2] b0 5).bind fun v => R_X1_fault d 7 [l0] [v] h := s_getf rfl
theorem r_X1_fault_7 {d : Nat} {s0 : Int32} {l0 : Option Value} {h : AH} : R_X1_fault d 7 [l0] [.int (s0)] h = some (.inl (some (.int (s0))), h) := s_iretT rfl rfl
theorem e_X1_fault {d : Nat} {a0 : Nat} {h : AH} : exec tTab (d + 1) K_X1_fault [.ref a0] h = R_X1_fault d 0 [some (.ref a0)] [] h := exec_eq (cd := k_X1_fault) (hd := (fun _ _ => some none)) (L := 1) rfl rfl rfl
/-- FavourTown.enough(I)Z -/
abbrev K_X1_enough : Nat := 30
noncomputable def R_X1_enough (d pc : Nat) (ls : ALs) (st : List Value) (h : AH) : Option (AOut × AH) := aR (exec tTab d) k_X1_enough (fun _ _ => some none) (pc, ls, st, h)
theorem r_X1_enough_0 {d : Nat} {a0 : Nat} {l1 : Option Value} {h : AH} : R_X1_enough d 0 [some (.ref a0), l1] [] h = (hgf h [0] a0 0).bind fun v => R_X1_enough d 4 [some (.ref a0), l1] [v] h := by
  refine (p_aload rfl rfl).trans ?_
  exact s_getf rfl
theorem r_X1_enough_4 {d : Nat} {b0 : Nat} {x1 : Int32} {l0 : Option Value} {h : AH} : R_X1_enough d 4 [l0, some (.int (x1))] [.ref b0] h = ((hci h b0).bind (lkN [(1, 90)])).bind fun y => aK (exec tTab d y [.ref b0, .int (x1)] h) (fun v h1 => R_X1_enough d 8 [l0, some (.int (x1))] (v.toList ++ []) h1) (fun E h1 => some (.inr E, h1)) := by
  refine (p_iload rfl rfl).trans ?_
  exact s_callV (L := [(1, 90)]) (n := 1) (b := b0) (rest := []) rfl rfl rfl
theorem r_X1_enough_8 {d : Nat} {s0 : Int32} {l0 l1 : Option Value} {h : AH} : R_X1_enough d 8 [l0, l1] [.int (s0)] h = if ¬ s0 = (-1) then R_X1_enough d 16 [l0, l1] [] h else R_X1_enough d 12 [l0, l1] [] h := by
  refine (p_const rfl).trans ?_
  exact (s_icmp (g := (fun x y => decide (¬ x = y))) (t := 16) (nx := 12) rfl).trans bif_dec
theorem r_X1_enough_16 {d : Nat} {l0 l1 : Option Value} {h : AH} : R_X1_enough d 16 [l0, l1] [] h = some (.inl (some (.int ((nI 0)))), h) := by
  refine (p_const rfl).trans ?_
  exact s_iretT rfl rfl
theorem r_X1_enough_12 {d : Nat} {l0 l1 : Option Value} {h : AH} : R_X1_enough d 12 [l0, l1] [] h = some (.inl (some (.int ((nI 1)))), h) := by
  refine (p_const rfl).trans ?_
  refine (p_goto rfl).trans ?_
  exact s_iretT rfl rfl
theorem e_X1_enough {d : Nat} {a0 : Nat} {x1 : Int32} {h : AH} : exec tTab (d + 1) K_X1_enough [.ref a0, .int x1] h = R_X1_enough d 0 [some (.ref a0), some (.int x1)] [] h := exec_eq (cd := k_X1_enough) (hd := (fun _ _ => some none)) (L := 2) rfl rfl rfl
/-- FavourTown.witness(I)I -/
abbrev K_X1_witness : Nat := 31
noncomputable def R_X1_witness (d pc : Nat) (ls : ALs) (st : List Value) (h : AH) : Option (AOut × AH) := aR (exec tTab d) k_X1_witness (fun _ _ => some none) (pc, ls, st, h)
theorem r_X1_witness_0 {d : Nat} {a0 : Nat} {l1 : Option Value} {h : AH} : R_X1_witness d 0 [some (.ref a0), l1] [] h = (hgf h [0] a0 0).bind fun v => R_X1_witness d 4 [some (.ref a0), l1] [v] h := by
  refine (p_aload rfl rfl).trans ?_
  exact s_getf rfl
theorem r_X1_witness_4 {d : Nat} {b0 : Nat} {x1 : Int32} {l0 : Option Value} {h : AH} : R_X1_witness d 4 [l0, some (.int (x1))] [.ref b0] h = ((hci h b0).bind (lkN [(1, 90)])).bind fun y => aK (exec tTab d y [.ref b0, .int (x1)] h) (fun v h1 => R_X1_witness d 8 [l0, some (.int (x1))] (v.toList ++ []) h1) (fun E h1 => some (.inr E, h1)) := by
  refine (p_iload rfl rfl).trans ?_
  exact s_callV (L := [(1, 90)]) (n := 1) (b := b0) (rest := []) rfl rfl rfl
theorem r_X1_witness_8 {d : Nat} {s0 : Int32} {l0 l1 : Option Value} {h : AH} : R_X1_witness d 8 [l0, l1] [.int (s0)] h = some (.inl (some (.int (s0))), h) := s_iretT rfl rfl
theorem e_X1_witness {d : Nat} {a0 : Nat} {x1 : Int32} {h : AH} : exec tTab (d + 1) K_X1_witness [.ref a0, .int x1] h = R_X1_witness d 0 [some (.ref a0), some (.int x1)] [] h := exec_eq (cd := k_X1_witness) (hd := (fun _ _ => some none)) (L := 2) rfl rfl rfl
/-- FavourTown.fewest()I -/
abbrev K_X1_fewest : Nat := 32
noncomputable def R_X1_fewest (d pc : Nat) (ls : ALs) (st : List Value) (h : AH) : Option (AOut × AH) := aR (exec tTab d) k_X1_fewest (fun _ _ => some none) (pc, ls, st, h)
theorem r_X1_fewest_0 {d : Nat} {l0 l1 l2 : Option Value} {h : AH} : R_X1_fewest d 0 [l0, l1, l2] [] h = R_X1_fewest d 4 [l0, some (.int ((-1))), some (.int ((nI 0)))] [] h := by
  refine (p_const rfl).trans ?_
  refine (p_istore rfl rfl rfl).trans ?_
  refine (p_const rfl).trans ?_
  refine (p_istore rfl rfl rfl).trans ?_
  exact rfl
theorem q_X1_fewest_4 {d : Nat} {x2 : Int32} {a0 : Nat} {l1 : Option Value} {h : AH} : R_X1_fewest d 4 [some (.ref a0), l1, some (.int (x2))] [] h = (hgf h [0] a0 0).bind fun v => R_X1_fewest d 10 [some (.ref a0), l1, some (.int (x2))] [v, .int ((nI 1)), .int (x2)] h := by
  refine (p_iload rfl rfl).trans ?_
  refine (p_const rfl).trans ?_
  refine (p_aload rfl rfl).trans ?_
  exact s_getf rfl
theorem r_X1_fewest_10 {d : Nat} {s0 s1 : Int32} {b2 : Nat} {l0 l1 l2 : Option Value} {h : AH} : R_X1_fewest d 10 [l0, l1, l2] [.ref b2, .int (s1), .int (s0)] h = (hgf h [1] b2 3).bind fun v => R_X1_fewest d 13 [l0, l1, l2] [v, .int (s1), .int (s0)] h := s_getf rfl
theorem r_X1_fewest_13 {d : Nat} {s0 s1 s2 : Int32} {l0 l1 l2 : Option Value} {h : AH} : R_X1_fewest d 13 [l0, l1, l2] [.int (s2), .int (s1), .int (s0)] h = if (s1 <<< (s2 &&& 31)) ≤ s0 then R_X1_fewest d 53 [l0, l1, l2] [] h else R_X1_fewest d 17 [l0, l1, l2] [] h := by
  refine (p_bin rfl).trans ?_
  exact (s_icmp (g := (fun x y => decide (y ≤ x))) (t := 53) (nx := 17) rfl).trans bif_dec
theorem r_X1_fewest_53 {d : Nat} {x1 : Int32} {l0 l2 : Option Value} {h : AH} : R_X1_fewest d 53 [l0, some (.int (x1)), l2] [] h = some (.inl (some (.int (x1))), h) := by
  refine (p_iload rfl rfl).trans ?_
  exact s_iretT rfl rfl
theorem r_X1_fewest_17 {d : Nat} {x1 : Int32} {l0 l2 : Option Value} {h : AH} : R_X1_fewest d 17 [l0, some (.int (x1)), l2] [] h = if x1 = (-1) then R_X1_fewest d 33 [l0, some (.int (x1)), l2] [] h else R_X1_fewest d 22 [l0, some (.int (x1)), l2] [] h := by
  refine (p_iload rfl rfl).trans ?_
  refine (p_const rfl).trans ?_
  exact (s_icmp (g := (fun x y => decide (x = y))) (t := 33) (nx := 22) rfl).trans bif_dec
theorem r_X1_fewest_33 {d : Nat} {a0 : Nat} {l1 l2 : Option Value} {h : AH} : R_X1_fewest d 33 [some (.ref a0), l1, l2] [] h = (hgf h [0] a0 0).bind fun v => R_X1_fewest d 37 [some (.ref a0), l1, l2] [v] h := by
  refine (p_aload rfl rfl).trans ?_
  exact s_getf rfl
theorem r_X1_fewest_22 {d : Nat} {x2 : Int32} {l0 l1 : Option Value} {h : AH} : R_X1_fewest d 22 [l0, l1, some (.int (x2))] [] h = aK (exec tTab d 302 [.int (x2)] h) (fun v h1 => R_X1_fewest d 26 [l0, l1, some (.int (x2))] (v.toList ++ []) h1) (fun E h1 => some (.inr E, h1)) := by
  refine (p_iload rfl rfl).trans ?_
  exact s_callS (y := 302) (n := 1) rfl rfl
theorem r_X1_fewest_37 {d : Nat} {b0 : Nat} {x2 : Int32} {l0 l1 : Option Value} {h : AH} : R_X1_fewest d 37 [l0, l1, some (.int (x2))] [.ref b0] h = ((hci h b0).bind (lkN [(1, 90)])).bind fun y => aK (exec tTab d y [.ref b0, .int (x2)] h) (fun v h1 => R_X1_fewest d 41 [l0, l1, some (.int (x2))] (v.toList ++ []) h1) (fun E h1 => some (.inr E, h1)) := by
  refine (p_iload rfl rfl).trans ?_
  exact s_callV (L := [(1, 90)]) (n := 1) (b := b0) (rest := []) rfl rfl rfl
theorem r_X1_fewest_26 {d : Nat} {s0 x1 : Int32} {l0 l2 : Option Value} {h : AH} : R_X1_fewest d 26 [l0, some (.int (x1)), l2] [.int (s0)] h = aK (exec tTab d 302 [.int (x1)] h) (fun v h1 => R_X1_fewest d 30 [l0, some (.int (x1)), l2] (v.toList ++ [.int (s0)]) h1) (fun E h1 => some (.inr E, h1)) := by
  refine (p_iload rfl rfl).trans ?_
  exact s_callS (y := 302) (n := 1) rfl rfl
theorem r_X1_fewest_41 {d : Nat} {s0 : Int32} {l0 l1 l2 : Option Value} {h : AH} : R_X1_fewest d 41 [l0, l1, l2] [.int (s0)] h = if ¬ s0 = (-1) then R_X1_fewest d 47 [l0, l1, l2] [] h else R_X1_fewest d 45 [l0, l1, l2] [] h := by
  refine (p_const rfl).trans ?_
  exact (s_icmp (g := (fun x y => decide (¬ x = y))) (t := 47) (nx := 45) rfl).trans bif_dec
theorem r_X1_fewest_30 {d : Nat} {s0 s1 : Int32} {l0 l1 l2 : Option Value} {h : AH} : R_X1_fewest d 30 [l0, l1, l2] [.int (s1), .int (s0)] h = if s1 ≤ s0 then R_X1_fewest d 47 [l0, l1, l2] [] h else R_X1_fewest d 33 [l0, l1, l2] [] h := (s_icmp (g := (fun x y => decide (y ≤ x))) (t := 47) (nx := 33) rfl).trans bif_dec
theorem r_X1_fewest_47 {d : Nat} {x2 : Int32} {l0 l1 : Option Value} {h : AH} : R_X1_fewest d 47 [l0, l1, some (.int (x2))] [] h = R_X1_fewest d 4 [l0, l1, some (.int (x2 + (nI 1)))] [] h := by
  refine (p_iinc rfl rfl rfl).trans ?_
  refine (p_goto rfl).trans ?_
  exact rfl
theorem r_X1_fewest_45 {d : Nat} {x2 : Int32} {l0 l1 : Option Value} {h : AH} : R_X1_fewest d 45 [l0, l1, some (.int (x2))] [] h = R_X1_fewest d 4 [l0, some (.int (x2)), some (.int (x2 + (nI 1)))] [] h := by
  refine (p_iload rfl rfl).trans ?_
  refine (p_istore rfl rfl rfl).trans ?_
  refine (p_iinc rfl rfl rfl).trans ?_
  refine (p_goto rfl).trans ?_
  exact rfl
theorem e_X1_fewest {d : Nat} {a0 : Nat} {h : AH} : exec tTab (d + 1) K_X1_fewest [.ref a0] h = R_X1_fewest d 0 [some (.ref a0), none, none] [] h := exec_eq (cd := k_X1_fewest) (hd := (fun _ _ => some none)) (L := 3) rfl rfl rfl
/-- FavourTown.forgive(I)I -/
abbrev K_X1_forgive : Nat := 33
noncomputable def R_X1_forgive (d pc : Nat) (ls : ALs) (st : List Value) (h : AH) : Option (AOut × AH) := aR (exec tTab d) k_X1_forgive (fun _ _ => some none) (pc, ls, st, h)
theorem r_X1_forgive_0 {d : Nat} {l0 l1 l2 l3 l4 : Option Value} {h : AH} : R_X1_forgive d 0 [l0, l1, l2, l3, l4] [] h = R_X1_forgive d 4 [l0, l1, some (.int ((nI 0))), some (.int ((nI 0))), l4] [] h := by
  refine (p_const rfl).trans ?_
  refine (p_istore rfl rfl rfl).trans ?_
  refine (p_const rfl).trans ?_
  refine (p_istore rfl rfl rfl).trans ?_
  exact rfl
theorem q_X1_forgive_4 {d : Nat} {x3 : Int32} {a0 : Nat} {l1 l2 l4 : Option Value} {h : AH} : R_X1_forgive d 4 [some (.ref a0), l1, l2, some (.int (x3)), l4] [] h = (hgf h [0] a0 0).bind fun v => R_X1_forgive d 9 [some (.ref a0), l1, l2, some (.int (x3)), l4] [v, .int (x3)] h := by
  refine (p_iload rfl rfl).trans ?_
  refine (p_aload rfl rfl).trans ?_
  exact s_getf rfl
theorem r_X1_forgive_9 {d : Nat} {s0 : Int32} {b1 : Nat} {l0 l1 l2 l3 l4 : Option Value} {h : AH} : R_X1_forgive d 9 [l0, l1, l2, l3, l4] [.ref b1, .int (s0)] h = (hgf h [1] b1 9).bind fun v => R_X1_forgive d 12 [l0, l1, l2, l3, l4] [v, .int (s0)] h := s_getf rfl
theorem r_X1_forgive_12 {d : Nat} {s0 : Int32} {b1 : Nat} {l0 l1 l2 l3 l4 : Option Value} {h : AH} : R_X1_forgive d 12 [l0, l1, l2, l3, l4] [.ref b1, .int (s0)] h = ((hci h b1).bind (lkN [(19, 113)])).bind fun y => aK (exec tTab d y [.ref b1] h) (fun v h1 => R_X1_forgive d 15 [l0, l1, l2, l3, l4] (v.toList ++ [.int (s0)]) h1) (fun E h1 => some (.inr E, h1)) := s_callV (L := [(19, 113)]) (n := 0) (b := b1) (rest := [.int (s0)]) rfl rfl rfl
theorem r_X1_forgive_15 {d : Nat} {s0 s1 : Int32} {l0 l1 l2 l3 l4 : Option Value} {h : AH} : R_X1_forgive d 15 [l0, l1, l2, l3, l4] [.int (s1), .int (s0)] h = if s1 ≤ s0 then R_X1_forgive d 73 [l0, l1, l2, l3, l4] [] h else R_X1_forgive d 18 [l0, l1, l2, l3, l4] [] h := (s_icmp (g := (fun x y => decide (y ≤ x))) (t := 73) (nx := 18) rfl).trans bif_dec
theorem r_X1_forgive_73 {d : Nat} {x2 : Int32} {l0 l1 l3 l4 : Option Value} {h : AH} : R_X1_forgive d 73 [l0, l1, some (.int (x2)), l3, l4] [] h = some (.inl (some (.int (x2))), h) := by
  refine (p_iload rfl rfl).trans ?_
  exact s_iretT rfl rfl
theorem r_X1_forgive_18 {d : Nat} {a0 : Nat} {l1 l2 l3 l4 : Option Value} {h : AH} : R_X1_forgive d 18 [some (.ref a0), l1, l2, l3, l4] [] h = (hgf h [0] a0 0).bind fun v => R_X1_forgive d 22 [some (.ref a0), l1, l2, l3, l4] [v] h := by
  refine (p_aload rfl rfl).trans ?_
  exact s_getf rfl
theorem r_X1_forgive_22 {d : Nat} {b0 : Nat} {l0 l1 l2 l3 l4 : Option Value} {h : AH} : R_X1_forgive d 22 [l0, l1, l2, l3, l4] [.ref b0] h = (hgf h [1] b0 9).bind fun v => R_X1_forgive d 25 [l0, l1, l2, l3, l4] [v] h := s_getf rfl
theorem r_X1_forgive_25 {d : Nat} {b0 : Nat} {x3 : Int32} {l0 l1 l2 l4 : Option Value} {h : AH} : R_X1_forgive d 25 [l0, l1, l2, some (.int (x3)), l4] [.ref b0] h = ((hci h b0).bind (lkN [(19, 114)])).bind fun y => aK (exec tTab d y [.ref b0, .int (x3)] h) (fun v h1 => R_X1_forgive d 29 [l0, l1, l2, some (.int (x3)), l4] (v.toList ++ []) h1) (fun E h1 => some (.inr E, h1)) := by
  refine (p_iload rfl rfl).trans ?_
  exact s_callV (L := [(19, 114)]) (n := 1) (b := b0) (rest := []) rfl rfl rfl
theorem r_X1_forgive_29 {d : Nat} {b0 : Nat} {l0 l1 l2 l3 l4 : Option Value} {h : AH} : R_X1_forgive d 29 [l0, l1, l2, l3, l4] [.ref b0] h = bif hck h [5, 6] [] b0 then R_X1_forgive d 32 [l0, l1, l2, l3, l4] [.ref b0] h else none := s_cast rfl
theorem r_X1_forgive_32 {d : Nat} {b0 : Nat} {l0 l1 l2 l3 l4 : Option Value} {h : AH} : R_X1_forgive d 32 [l0, l1, l2, l3, l4] [.ref b0] h = (hgf h [5, 6] b0 4).bind fun v => R_X1_forgive d 39 [l0, l1, l2, l3, some (.ref b0)] [v] h := by
  refine (p_astore rfl rfl rfl).trans ?_
  refine (p_aload rfl rfl).trans ?_
  exact s_getf rfl
theorem r_X1_forgive_39 {d : Nat} {s0 : Int32} {l0 l1 l2 l3 l4 : Option Value} {h : AH} : R_X1_forgive d 39 [l0, l1, l2, l3, l4] [.int (s0)] h = if s0 = (-1) then R_X1_forgive d 67 [l0, l1, l2, l3, l4] [] h else R_X1_forgive d 43 [l0, l1, l2, l3, l4] [] h := by
  refine (p_const rfl).trans ?_
  exact (s_icmp (g := (fun x y => decide (x = y))) (t := 67) (nx := 43) rfl).trans bif_dec
theorem r_X1_forgive_67 {d : Nat} {x3 : Int32} {l0 l1 l2 l4 : Option Value} {h : AH} : R_X1_forgive d 67 [l0, l1, l2, some (.int (x3)), l4] [] h = R_X1_forgive d 4 [l0, l1, l2, some (.int (x3 + (nI 1))), l4] [] h := by
  refine (p_iinc rfl rfl rfl).trans ?_
  refine (p_goto rfl).trans ?_
  exact rfl
theorem r_X1_forgive_43 {d : Nat} {x1 : Int32} {a4 : Nat} {l0 l2 l3 : Option Value} {h : AH} : R_X1_forgive d 43 [l0, some (.int (x1)), l2, l3, some (.ref a4)] [] h = (hgf h [5, 6] a4 4).bind fun v => R_X1_forgive d 49 [l0, some (.int (x1)), l2, l3, some (.ref a4)] [v, .int (x1)] h := by
  refine (p_iload rfl rfl).trans ?_
  refine (p_aload rfl rfl).trans ?_
  exact s_getf rfl
theorem r_X1_forgive_49 {d : Nat} {s0 s1 : Int32} {l0 l1 l2 l3 l4 : Option Value} {h : AH} : R_X1_forgive d 49 [l0, l1, l2, l3, l4] [.int (s1), .int (s0)] h = if ¬ ((s0 >>> (s1 &&& 31)) &&& (nI 1)) = 0 then R_X1_forgive d 58 [l0, l1, l2, l3, l4] [] h else R_X1_forgive d 55 [l0, l1, l2, l3, l4] [] h := by
  refine (p_bin rfl).trans ?_
  refine (p_const rfl).trans ?_
  refine (p_bin rfl).trans ?_
  exact (s_if (g := (fun x => decide (¬ x = 0))) (t := 58) (nx := 55) rfl).trans bif_dec
theorem r_X1_forgive_58 {d : Nat} {a4 : Nat} {l0 l1 l2 l3 : Option Value} {h : AH} : R_X1_forgive d 58 [l0, l1, l2, l3, some (.ref a4)] [] h = (hpf h [5, 6] a4 4 (.int ((-1)))).bind fun h1 => R_X1_forgive d 64 [l0, l1, l2, l3, some (.ref a4)] [] h1 := by
  refine (p_aload rfl rfl).trans ?_
  refine (p_const rfl).trans ?_
  exact s_putT rfl rfl
theorem r_X1_forgive_55 {d : Nat} {x3 : Int32} {l0 l1 l2 l4 : Option Value} {h : AH} : R_X1_forgive d 55 [l0, l1, l2, some (.int (x3)), l4] [] h = R_X1_forgive d 4 [l0, l1, l2, some (.int (x3 + (nI 1))), l4] [] h := by
  refine (p_goto rfl).trans ?_
  refine (p_iinc rfl rfl rfl).trans ?_
  refine (p_goto rfl).trans ?_
  exact rfl
theorem r_X1_forgive_64 {d : Nat} {x2 x3 : Int32} {l0 l1 l4 : Option Value} {h : AH} : R_X1_forgive d 64 [l0, l1, some (.int (x2)), some (.int (x3)), l4] [] h = R_X1_forgive d 4 [l0, l1, some (.int (x2 + (nI 1))), some (.int (x3 + (nI 1))), l4] [] h := by
  refine (p_iinc rfl rfl rfl).trans ?_
  refine (p_iinc rfl rfl rfl).trans ?_
  refine (p_goto rfl).trans ?_
  exact rfl
theorem e_X1_forgive {d : Nat} {a0 : Nat} {x1 : Int32} {h : AH} : exec tTab (d + 1) K_X1_forgive [.ref a0, .int x1] h = R_X1_forgive d 0 [some (.ref a0), some (.int x1), none, none, none] [] h := exec_eq (cd := k_X1_forgive) (hd := (fun _ _ => some none)) (L := 5) rfl rfl rfl
/-- FavourTown.image()V -/
abbrev K_X1_image : Nat := 34
noncomputable def R_X1_image (d pc : Nat) (ls : ALs) (st : List Value) (h : AH) : Option (AOut × AH) := aR (exec tTab d) k_X1_image (fun _ _ => some none) (pc, ls, st, h)
theorem r_X1_image_0 {d : Nat} {a0 : Nat} {h : AH} : R_X1_image d 0 [some (.ref a0)] [] h = (hgf h [0] a0 0).bind fun v => R_X1_image d 5 [some (.ref a0)] [v, .ref a0] h := by
  refine (p_aload rfl rfl).trans ?_
  refine (p_aload rfl rfl).trans ?_
  exact s_getf rfl
theorem r_X1_image_5 {d : Nat} {b0 b1 : Nat} {l0 : Option Value} {h : AH} : R_X1_image d 5 [l0] [.ref b1, .ref b0] h = ((hci h b1).bind (lkN [(1, 101)])).bind fun y => aK (exec tTab d y [.ref b1] h) (fun v h1 => R_X1_image d 8 [l0] (v.toList ++ [.ref b0]) h1) (fun E h1 => some (.inr E, h1)) := s_callV (L := [(1, 101)]) (n := 0) (b := b1) (rest := [.ref b0]) rfl rfl rfl
theorem r_X1_image_8 {d : Nat} {b0 b1 : Nat} {l0 : Option Value} {h : AH} : R_X1_image d 8 [l0] [.ref b1, .ref b0] h = (hpf h [0] b0 1 (.ref b1)).bind fun h1 => R_X1_image d 11 [l0] [] h1 := s_putT rfl rfl
theorem r_X1_image_8N {d : Nat} {b0 : Nat} {l0 : Option Value} {h : AH} : R_X1_image d 8 [l0] [.null, .ref b0] h = (hpf h [0] b0 1 (.null)).bind fun h1 => R_X1_image d 11 [l0] [] h1 := s_putT rfl rfl
theorem r_X1_image_11 {d : Nat} {l0 : Option Value} {h : AH} : R_X1_image d 11 [l0] [] h = some (.inl none, h) := s_vret rfl
theorem e_X1_image {d : Nat} {a0 : Nat} {h : AH} : exec tTab (d + 1) K_X1_image [.ref a0] h = R_X1_image d 0 [some (.ref a0)] [] h := exec_eq (cd := k_X1_image) (hd := (fun _ _ => some none)) (L := 1) rfl rfl rfl
/-- FavourTown.back()Z -/
abbrev K_X1_back : Nat := 35
noncomputable def R_X1_back (d pc : Nat) (ls : ALs) (st : List Value) (h : AH) : Option (AOut × AH) := aR (exec tTab d) k_X1_back (fun _ _ => some none) (pc, ls, st, h)
theorem r_X1_back_0 {d : Nat} {a0 : Nat} {h : AH} : R_X1_back d 0 [some (.ref a0)] [] h = (hgf h [0] a0 1).bind fun v => R_X1_back d 4 [some (.ref a0)] [v] h := by
  refine (p_aload rfl rfl).trans ?_
  exact s_getf rfl
theorem r_X1_back_4 {d : Nat} {b0 a0 : Nat} {h : AH} : R_X1_back d 4 [some (.ref a0)] [.ref b0] h = (hgf h [0] a0 1).bind fun v => R_X1_back d 14 [some (.ref a0)] [v, .ref a0] h := by
  refine (p_nullR rfl).trans ?_
  refine (p_aload rfl rfl).trans ?_
  refine (p_aload rfl rfl).trans ?_
  exact s_getf rfl
theorem r_X1_back_4N {d : Nat} {l0 : Option Value} {h : AH} : R_X1_back d 4 [l0] [.null] h = some (.inl (some (.int ((nI 0)))), h) := by
  refine (p_nullN rfl).trans ?_
  refine (p_const rfl).trans ?_
  exact s_iretT rfl rfl
theorem r_X1_back_14 {d : Nat} {b0 b1 : Nat} {l0 : Option Value} {h : AH} : R_X1_back d 14 [l0] [.ref b1, .ref b0] h = ((hci h b1).bind (lkN [(1, 101)])).bind fun y => aK (exec tTab d y [.ref b1] h) (fun v h1 => R_X1_back d 17 [l0] (v.toList ++ [.ref b0]) h1) (fun E h1 => some (.inr E, h1)) := s_callV (L := [(1, 101)]) (n := 0) (b := b1) (rest := [.ref b0]) rfl rfl rfl
theorem r_X1_back_17 {d : Nat} {b0 b1 : Nat} {l0 : Option Value} {h : AH} : R_X1_back d 17 [l0] [.ref b1, .ref b0] h = (hpf h [0] b0 0 (.ref b1)).bind fun h1 => R_X1_back d 20 [l0] [] h1 := s_putT rfl rfl
theorem r_X1_back_17N {d : Nat} {b0 : Nat} {l0 : Option Value} {h : AH} : R_X1_back d 17 [l0] [.null, .ref b0] h = (hpf h [0] b0 0 (.null)).bind fun h1 => R_X1_back d 20 [l0] [] h1 := s_putT rfl rfl
theorem r_X1_back_20 {d : Nat} {l0 : Option Value} {h : AH} : R_X1_back d 20 [l0] [] h = some (.inl (some (.int ((nI 1)))), h) := by
  refine (p_const rfl).trans ?_
  exact s_iretT rfl rfl
theorem e_X1_back {d : Nat} {a0 : Nat} {h : AH} : exec tTab (d + 1) K_X1_back [.ref a0] h = R_X1_back d 0 [some (.ref a0)] [] h := exec_eq (cd := k_X1_back) (hd := (fun _ _ => some none)) (L := 1) rfl rfl rfl
/-- FavourTown.count(I)I -/
abbrev K_X1_count : Nat := 36
noncomputable def R_X1_count (d pc : Nat) (ls : ALs) (st : List Value) (h : AH) : Option (AOut × AH) := aR (exec tTab d) k_X1_count (fun _ _ => some none) (pc, ls, st, h)
theorem r_X1_count_0 {d : Nat} {x1 : Int32} {l0 : Option Value} {h : AH} : R_X1_count d 0 [l0, some (.int (x1))] [] h = R_X1_count d (if x1.toInt < 0 ∨ 9 < x1.toInt then 148 else [56, 64, 72, 83, 94, 102, 113, 124, 132, 140].getD (x1.toInt - 0).toNat 0) [l0, some (.int (x1))] [] h := by
  refine (p_iload rfl rfl).trans ?_
  exact p_sw (g := (fun x => if x.toInt < 0 ∨ 9 < x.toInt then 148 else [56, 64, 72, 83, 94, 102, 113, 124, 132, 140].getD (x.toInt - 0).toNat 0)) rfl
theorem r_X1_count_56 {d : Nat} {a0 : Nat} {l1 : Option Value} {h : AH} : R_X1_count d 56 [some (.ref a0), l1] [] h = (hgf h [0] a0 0).bind fun v => R_X1_count d 60 [some (.ref a0), l1] [v] h := by
  refine (p_aload rfl rfl).trans ?_
  exact s_getf rfl
theorem r_X1_count_64 {d : Nat} {a0 : Nat} {l1 : Option Value} {h : AH} : R_X1_count d 64 [some (.ref a0), l1] [] h = (hgf h [0] a0 0).bind fun v => R_X1_count d 68 [some (.ref a0), l1] [v] h := by
  refine (p_aload rfl rfl).trans ?_
  exact s_getf rfl
theorem r_X1_count_72 {d : Nat} {a0 : Nat} {l1 : Option Value} {h : AH} : R_X1_count d 72 [some (.ref a0), l1] [] h = (hgf h [0] a0 0).bind fun v => R_X1_count d 76 [some (.ref a0), l1] [v] h := by
  refine (p_aload rfl rfl).trans ?_
  exact s_getf rfl
theorem r_X1_count_83 {d : Nat} {a0 : Nat} {l1 : Option Value} {h : AH} : R_X1_count d 83 [some (.ref a0), l1] [] h = (hgf h [0] a0 0).bind fun v => R_X1_count d 87 [some (.ref a0), l1] [v] h := by
  refine (p_aload rfl rfl).trans ?_
  exact s_getf rfl
theorem r_X1_count_94 {d : Nat} {a0 : Nat} {l1 : Option Value} {h : AH} : R_X1_count d 94 [some (.ref a0), l1] [] h = (hgf h [0] a0 0).bind fun v => R_X1_count d 98 [some (.ref a0), l1] [v] h := by
  refine (p_aload rfl rfl).trans ?_
  exact s_getf rfl
theorem r_X1_count_102 {d : Nat} {a0 : Nat} {l1 : Option Value} {h : AH} : R_X1_count d 102 [some (.ref a0), l1] [] h = (hgf h [0] a0 0).bind fun v => R_X1_count d 106 [some (.ref a0), l1] [v] h := by
  refine (p_aload rfl rfl).trans ?_
  exact s_getf rfl
theorem r_X1_count_113 {d : Nat} {a0 : Nat} {l1 : Option Value} {h : AH} : R_X1_count d 113 [some (.ref a0), l1] [] h = (hgf h [0] a0 0).bind fun v => R_X1_count d 117 [some (.ref a0), l1] [v] h := by
  refine (p_aload rfl rfl).trans ?_
  exact s_getf rfl
theorem r_X1_count_124 {d : Nat} {a0 : Nat} {l1 : Option Value} {h : AH} : R_X1_count d 124 [some (.ref a0), l1] [] h = (hgf h [0] a0 0).bind fun v => R_X1_count d 128 [some (.ref a0), l1] [v] h := by
  refine (p_aload rfl rfl).trans ?_
  exact s_getf rfl
theorem r_X1_count_132 {d : Nat} {a0 : Nat} {l1 : Option Value} {h : AH} : R_X1_count d 132 [some (.ref a0), l1] [] h = (hgf h [0] a0 0).bind fun v => R_X1_count d 136 [some (.ref a0), l1] [v] h := by
  refine (p_aload rfl rfl).trans ?_
  exact s_getf rfl
theorem r_X1_count_140 {d : Nat} {a0 : Nat} {l1 : Option Value} {h : AH} : R_X1_count d 140 [some (.ref a0), l1] [] h = (hgf h [0] a0 0).bind fun v => R_X1_count d 144 [some (.ref a0), l1] [v] h := by
  refine (p_aload rfl rfl).trans ?_
  exact s_getf rfl
theorem r_X1_count_148 {d : Nat} {l0 l1 : Option Value} {h : AH} : R_X1_count d 148 [l0, l1] [] h = some (.inl (some (.int ((-1)))), h) := by
  refine (p_const rfl).trans ?_
  exact s_iretT rfl rfl
theorem r_X1_count_60 {d : Nat} {b0 : Nat} {l0 l1 : Option Value} {h : AH} : R_X1_count d 60 [l0, l1] [.ref b0] h = (hgf h [1] b0 3).bind fun v => R_X1_count d 63 [l0, l1] [v] h := s_getf rfl
theorem r_X1_count_68 {d : Nat} {b0 : Nat} {l0 l1 : Option Value} {h : AH} : R_X1_count d 68 [l0, l1] [.ref b0] h = (hgf h [1] b0 0).bind fun v => R_X1_count d 71 [l0, l1] [v] h := s_getf rfl
theorem r_X1_count_76 {d : Nat} {b0 : Nat} {l0 l1 : Option Value} {h : AH} : R_X1_count d 76 [l0, l1] [.ref b0] h = (hgf h [1] b0 11).bind fun v => R_X1_count d 79 [l0, l1] [v] h := s_getf rfl
theorem r_X1_count_87 {d : Nat} {b0 : Nat} {l0 l1 : Option Value} {h : AH} : R_X1_count d 87 [l0, l1] [.ref b0] h = (hgf h [1] b0 9).bind fun v => R_X1_count d 90 [l0, l1] [v] h := s_getf rfl
theorem r_X1_count_98 {d : Nat} {b0 : Nat} {l0 l1 : Option Value} {h : AH} : R_X1_count d 98 [l0, l1] [.ref b0] h = ((hci h b0).bind (lkN [(1, 102)])).bind fun y => aK (exec tTab d y [.ref b0] h) (fun v h1 => R_X1_count d 101 [l0, l1] (v.toList ++ []) h1) (fun E h1 => some (.inr E, h1)) := s_callV (L := [(1, 102)]) (n := 0) (b := b0) (rest := []) rfl rfl rfl
theorem r_X1_count_106 {d : Nat} {b0 : Nat} {l0 l1 : Option Value} {h : AH} : R_X1_count d 106 [l0, l1] [.ref b0] h = (hgf h [1] b0 10).bind fun v => R_X1_count d 109 [l0, l1] [v] h := s_getf rfl
theorem r_X1_count_117 {d : Nat} {b0 : Nat} {l0 l1 : Option Value} {h : AH} : R_X1_count d 117 [l0, l1] [.ref b0] h = (hgf h [1] b0 12).bind fun v => R_X1_count d 120 [l0, l1] [v] h := s_getf rfl
theorem r_X1_count_128 {d : Nat} {b0 : Nat} {l0 l1 : Option Value} {h : AH} : R_X1_count d 128 [l0, l1] [.ref b0] h = (hgf h [1] b0 1).bind fun v => R_X1_count d 131 [l0, l1] [v] h := s_getf rfl
theorem r_X1_count_136 {d : Nat} {b0 : Nat} {l0 l1 : Option Value} {h : AH} : R_X1_count d 136 [l0, l1] [.ref b0] h = (hgf h [1] b0 2).bind fun v => R_X1_count d 139 [l0, l1] [v] h := s_getf rfl
theorem r_X1_count_144 {d : Nat} {b0 : Nat} {l0 l1 : Option Value} {h : AH} : R_X1_count d 144 [l0, l1] [.ref b0] h = ((hci h b0).bind (lkN [(1, 103)])).bind fun y => aK (exec tTab d y [.ref b0] h) (fun v h1 => R_X1_count d 147 [l0, l1] (v.toList ++ []) h1) (fun E h1 => some (.inr E, h1)) := s_callV (L := [(1, 103)]) (n := 0) (b := b0) (rest := []) rfl rfl rfl
theorem r_X1_count_63 {d : Nat} {s0 : Int32} {l0 l1 : Option Value} {h : AH} : R_X1_count d 63 [l0, l1] [.int (s0)] h = some (.inl (some (.int (s0))), h) := s_iretT rfl rfl
theorem r_X1_count_71 {d : Nat} {s0 : Int32} {l0 l1 : Option Value} {h : AH} : R_X1_count d 71 [l0, l1] [.int (s0)] h = some (.inl (some (.int (s0))), h) := s_iretT rfl rfl
theorem r_X1_count_79 {d : Nat} {b0 : Nat} {l0 l1 : Option Value} {h : AH} : R_X1_count d 79 [l0, l1] [.ref b0] h = ((hci h b0).bind (lkN [(19, 113)])).bind fun y => aK (exec tTab d y [.ref b0] h) (fun v h1 => R_X1_count d 82 [l0, l1] (v.toList ++ []) h1) (fun E h1 => some (.inr E, h1)) := s_callV (L := [(19, 113)]) (n := 0) (b := b0) (rest := []) rfl rfl rfl
theorem r_X1_count_90 {d : Nat} {b0 : Nat} {l0 l1 : Option Value} {h : AH} : R_X1_count d 90 [l0, l1] [.ref b0] h = ((hci h b0).bind (lkN [(19, 113)])).bind fun y => aK (exec tTab d y [.ref b0] h) (fun v h1 => R_X1_count d 93 [l0, l1] (v.toList ++ []) h1) (fun E h1 => some (.inr E, h1)) := s_callV (L := [(19, 113)]) (n := 0) (b := b0) (rest := []) rfl rfl rfl
theorem r_X1_count_101 {d : Nat} {s0 : Int32} {l0 l1 : Option Value} {h : AH} : R_X1_count d 101 [l0, l1] [.int (s0)] h = some (.inl (some (.int (s0))), h) := s_iretT rfl rfl
theorem r_X1_count_109 {d : Nat} {b0 : Nat} {l0 l1 : Option Value} {h : AH} : R_X1_count d 109 [l0, l1] [.ref b0] h = ((hci h b0).bind (lkN [(19, 113)])).bind fun y => aK (exec tTab d y [.ref b0] h) (fun v h1 => R_X1_count d 112 [l0, l1] (v.toList ++ []) h1) (fun E h1 => some (.inr E, h1)) := s_callV (L := [(19, 113)]) (n := 0) (b := b0) (rest := []) rfl rfl rfl
theorem r_X1_count_120 {d : Nat} {b0 : Nat} {l0 l1 : Option Value} {h : AH} : R_X1_count d 120 [l0, l1] [.ref b0] h = ((hci h b0).bind (lkN [(19, 113)])).bind fun y => aK (exec tTab d y [.ref b0] h) (fun v h1 => R_X1_count d 123 [l0, l1] (v.toList ++ []) h1) (fun E h1 => some (.inr E, h1)) := s_callV (L := [(19, 113)]) (n := 0) (b := b0) (rest := []) rfl rfl rfl
theorem r_X1_count_131 {d : Nat} {s0 : Int32} {l0 l1 : Option Value} {h : AH} : R_X1_count d 131 [l0, l1] [.int (s0)] h = some (.inl (some (.int (s0))), h) := s_iretT rfl rfl
theorem r_X1_count_139 {d : Nat} {s0 : Int32} {l0 l1 : Option Value} {h : AH} : R_X1_count d 139 [l0, l1] [.int (s0)] h = some (.inl (some (.int (s0))), h) := s_iretT rfl rfl
theorem r_X1_count_147 {d : Nat} {s0 : Int32} {l0 l1 : Option Value} {h : AH} : R_X1_count d 147 [l0, l1] [.int (s0)] h = some (.inl (some (.int (s0))), h) := s_iretT rfl rfl
theorem r_X1_count_82 {d : Nat} {s0 : Int32} {l0 l1 : Option Value} {h : AH} : R_X1_count d 82 [l0, l1] [.int (s0)] h = some (.inl (some (.int (s0))), h) := s_iretT rfl rfl
theorem r_X1_count_93 {d : Nat} {s0 : Int32} {l0 l1 : Option Value} {h : AH} : R_X1_count d 93 [l0, l1] [.int (s0)] h = some (.inl (some (.int (s0))), h) := s_iretT rfl rfl
theorem r_X1_count_112 {d : Nat} {s0 : Int32} {l0 l1 : Option Value} {h : AH} : R_X1_count d 112 [l0, l1] [.int (s0)] h = some (.inl (some (.int (s0))), h) := s_iretT rfl rfl
theorem r_X1_count_123 {d : Nat} {s0 : Int32} {l0 l1 : Option Value} {h : AH} : R_X1_count d 123 [l0, l1] [.int (s0)] h = some (.inl (some (.int (s0))), h) := s_iretT rfl rfl
theorem e_X1_count {d : Nat} {a0 : Nat} {x1 : Int32} {h : AH} : exec tTab (d + 1) K_X1_count [.ref a0, .int x1] h = R_X1_count d 0 [some (.ref a0), some (.int x1)] [] h := exec_eq (cd := k_X1_count) (hd := (fun _ _ => some none)) (L := 2) rfl rfl rfl
/-- FavourTown.town()I -/
abbrev K_X1_town : Nat := 37
noncomputable def R_X1_town (d pc : Nat) (ls : ALs) (st : List Value) (h : AH) : Option (AOut × AH) := aR (exec tTab d) k_X1_town hd_X1_town (pc, ls, st, h)
theorem r_X1_town_0 {d : Nat} {a0 : Nat} {l1 l2 : Option Value} {h : AH} : R_X1_town d 0 [some (.ref a0), l1, l2] [] h = (hgf h [0] a0 2).bind fun v => R_X1_town d 4 [some (.ref a0), l1, l2] [v] h := by
  refine (p_aload rfl rfl).trans ?_
  exact s_getf rfl
theorem r_X1_town_32 {d : Nat} {a0 : Nat} {l1 l2 : Option Value} {h : AH} : R_X1_town d 32 [some (.ref a0), l1, l2] [] h = ((hci h a0).bind (lkN [(0, 48)])).bind fun y => aK (exec tTab d y [.ref a0] h) (fun v h1 => R_X1_town d 36 [some (.ref a0), l1, l2] (v.toList ++ []) h1) (fun E h1 => aT (exec tTab d) k_X1_town hd_X1_town 33 [some (.ref a0), l1, l2] E h1) := by
  refine (p_aload rfl rfl).trans ?_
  exact s_callV (L := [(0, 48)]) (n := 0) (b := a0) (rest := []) rfl rfl rfl
theorem r_X1_town_4 {d : Nat} {b0 : Nat} {l0 l1 l2 : Option Value} {h : AH} : R_X1_town d 4 [l0, l1, l2] [.ref b0] h = ((hci h b0).bind (lkN [(2, 128)])).bind fun y => aK (exec tTab d y [.ref b0] h) (fun v h1 => R_X1_town d 7 [l0, l1, l2] (v.toList ++ []) h1) (fun E h1 => aT (exec tTab d) k_X1_town hd_X1_town 4 [l0, l1, l2] E h1) := s_callV (L := [(2, 128)]) (n := 0) (b := b0) (rest := []) rfl rfl rfl
theorem r_X1_town_36 {d : Nat} {a0 : Nat} {l1 l2 : Option Value} {h : AH} : R_X1_town d 36 [some (.ref a0), l1, l2] [] h = (hgf h [0] a0 0).bind fun v => R_X1_town d 40 [some (.ref a0), l1, l2] [v] h := by
  refine (p_aload rfl rfl).trans ?_
  exact s_getf rfl
theorem r_X1_town_7 {d : Nat} {a0 : Nat} {l1 l2 : Option Value} {h : AH} : R_X1_town d 7 [some (.ref a0), l1, l2] [] h = (hgf h [0] a0 0).bind fun v => R_X1_town d 11 [some (.ref a0), l1, l2] [v] h := by
  refine (p_aload rfl rfl).trans ?_
  exact s_getf rfl
theorem r_X1_town_40 {d : Nat} {b0 : Nat} {l0 l1 l2 : Option Value} {h : AH} : R_X1_town d 40 [l0, l1, l2] [.ref b0] h = (hgf h [1] b0 0).bind fun v => R_X1_town d 43 [l0, l1, l2] [v] h := s_getf rfl
theorem r_X1_town_11 {d : Nat} {b0 : Nat} {l0 l1 l2 : Option Value} {h : AH} : R_X1_town d 11 [l0, l1, l2] [.ref b0] h = ((hci h b0).bind (lkN [(1, 101)])).bind fun y => aK (exec tTab d y [.ref b0] h) (fun v h1 => R_X1_town d 14 [l0, l1, l2] (v.toList ++ []) h1) (fun E h1 => aT (exec tTab d) k_X1_town hd_X1_town 11 [l0, l1, l2] E h1) := s_callV (L := [(1, 101)]) (n := 0) (b := b0) (rest := []) rfl rfl rfl
theorem r_X1_town_43 {d : Nat} {s0 : Int32} {l0 l1 l2 : Option Value} {h : AH} : R_X1_town d 43 [l0, l1, l2] [.int (s0)] h = if ¬ s0 = (nI 10) then R_X1_town d 56 [l0, l1, l2] [] h else R_X1_town d 48 [l0, l1, l2] [] h := by
  refine (p_const rfl).trans ?_
  exact (s_icmp (g := (fun x y => decide (¬ x = y))) (t := 56) (nx := 48) rfl).trans bif_dec
theorem r_X1_town_14 {d : Nat} {b0 a0 : Nat} {l1 l2 : Option Value} {h : AH} : R_X1_town d 14 [some (.ref a0), l1, l2] [.ref b0] h = ((hci h a0).bind (lkN [(0, 38)])).bind fun y => aK (exec tTab d y [.ref a0, .ref b0] h) (fun v h1 => R_X1_town d 20 [some (.ref a0), some (.ref b0), l2] (v.toList ++ []) h1) (fun E h1 => aT (exec tTab d) k_X1_town hd_X1_town 17 [some (.ref a0), some (.ref b0), l2] E h1) := by
  refine (p_astore rfl rfl rfl).trans ?_
  refine (p_aload rfl rfl).trans ?_
  refine (p_aload rfl rfl).trans ?_
  exact s_callV (L := [(0, 38)]) (n := 1) (b := a0) (rest := []) rfl rfl rfl
theorem r_X1_town_14N {d : Nat} {a0 : Nat} {l1 l2 : Option Value} {h : AH} : R_X1_town d 14 [some (.ref a0), l1, l2] [.null] h = ((hci h a0).bind (lkN [(0, 38)])).bind fun y => aK (exec tTab d y [.ref a0, .null] h) (fun v h1 => R_X1_town d 20 [some (.ref a0), some (.null), l2] (v.toList ++ []) h1) (fun E h1 => aT (exec tTab d) k_X1_town hd_X1_town 17 [some (.ref a0), some (.null), l2] E h1) := by
  refine (p_astoreN rfl rfl rfl).trans ?_
  refine (p_aload rfl rfl).trans ?_
  refine (p_aloadN rfl rfl).trans ?_
  exact s_callV (L := [(0, 38)]) (n := 1) (b := a0) (rest := []) rfl rfl rfl
theorem r_X1_town_56 {d : Nat} {a1 : Nat} {l0 l2 : Option Value} {h : AH} : R_X1_town d 56 [l0, some (.ref a1), l2] [] h = (hgf h [1] a1 0).bind fun v => R_X1_town d 61 [l0, some (.ref a1), l2] [v, .ref a1] h := by
  refine (p_aload rfl rfl).trans ?_
  refine (p_dup rfl rfl).trans ?_
  exact s_getf rfl
theorem r_X1_town_48 {d : Nat} {l0 l1 l2 : Option Value} {h : AH} : R_X1_town d 48 [l0, l1, l2] [] h = R_X1_town d 55 [l0, l1, l2] [.ref h.2.1] (hnew h (true, .inr (23, [])) 6) := s_make rfl rfl
theorem r_X1_town_20 {d : Nat} {a0 : Nat} {l1 l2 : Option Value} {h : AH} : R_X1_town d 20 [some (.ref a0), l1, l2] [] h = (hgf h [0] a0 2).bind fun v => R_X1_town d 24 [some (.ref a0), l1, l2] [v] h := by
  refine (p_aload rfl rfl).trans ?_
  exact s_getf rfl
theorem r_X1_town_61 {d : Nat} {b0 : Nat} {s1 : Int32} {l0 l1 l2 : Option Value} {h : AH} : R_X1_town d 61 [l0, l1, l2] [.int (s1), .ref b0] h = (hpf h [1] b0 0 (.int (s1 + (nI 1)))).bind fun h1 => R_X1_town d 66 [l0, l1, l2] [] h1 := by
  refine (p_const rfl).trans ?_
  refine (p_bin rfl).trans ?_
  exact s_putT rfl rfl
theorem r_X1_town_55 {d : Nat} {b0 : Nat} {l0 l1 l2 : Option Value} {h : AH} : R_X1_town d 55 [l0, l1, l2] [.ref b0] h = (hex h [17, 22, 23, 24, 25] b0).bind fun E => (fun E h1 => aT (exec tTab d) k_X1_town hd_X1_town 55 [l0, l1, l2] E h1) E h := s_athrow rfl
theorem r_X1_town_24 {d : Nat} {b0 : Nat} {l0 l1 l2 : Option Value} {h : AH} : R_X1_town d 24 [l0, l1, l2] [.ref b0] h = (hpf h [2] b0 5 (.int ((-1)))).bind fun h1 => R_X1_town d 28 [l0, l1, l2] [] h1 := by
  refine (p_const rfl).trans ?_
  exact s_putT rfl rfl
theorem r_X1_town_66 {d : Nat} {a0 a1 : Nat} {l2 : Option Value} {h : AH} : R_X1_town d 66 [some (.ref a0), some (.ref a1), l2] [] h = (hpf h [0] a0 0 (.ref a1)).bind fun h1 => R_X1_town d 71 [some (.ref a0), some (.ref a1), l2] [] h1 := by
  refine (p_aload rfl rfl).trans ?_
  refine (p_aload rfl rfl).trans ?_
  exact s_putT rfl rfl
theorem r_X1_town_28 {d : Nat} {a0 : Nat} {l1 l2 : Option Value} {h : AH} : R_X1_town d 28 [some (.ref a0), l1, l2] [] h = (hgf h [0] a0 0).bind fun v => R_X1_town d 40 [some (.ref a0), l1, l2] [v] h := by
  refine (p_goto rfl).trans ?_
  refine (p_aload rfl rfl).trans ?_
  exact s_getf rfl
theorem r_X1_town_71 {d : Nat} {a0 : Nat} {l1 l2 : Option Value} {h : AH} : R_X1_town d 71 [some (.ref a0), l1, l2] [] h = (hgf h [0] a0 0).bind fun v => R_X1_town d 75 [some (.ref a0), l1, l2] [v] h := by
  refine (p_aload rfl rfl).trans ?_
  exact s_getf rfl
theorem r_X1_town_75 {d : Nat} {b0 : Nat} {l0 l1 l2 : Option Value} {h : AH} : R_X1_town d 75 [l0, l1, l2] [.ref b0] h = (hgf h [1] b0 0).bind fun v => R_X1_town d 78 [l0, l1, l2] [v] h := s_getf rfl
theorem r_X1_town_78 {d : Nat} {s0 : Int32} {l0 l1 l2 : Option Value} {h : AH} : R_X1_town d 78 [l0, l1, l2] [.int (s0)] h = some (.inl (some (.int (s0))), h) := s_iretT rfl rfl
theorem e_X1_town {d : Nat} {a0 : Nat} {h : AH} : exec tTab (d + 1) K_X1_town [.ref a0] h = R_X1_town d 0 [some (.ref a0), none, none] [] h := exec_eq (cd := k_X1_town) (hd := hd_X1_town) (L := 3) rfl rfl rfl
theorem h_X1_town_4 {d : Nat} {ls : ALs} {E : Nat} {h : AH} : aT (exec tTab d) k_X1_town hd_X1_town 4 ls E h = some (.inr E, h) := rfl
theorem h_X1_town_11 {d : Nat} {ls : ALs} {E : Nat} {h : AH} : aT (exec tTab d) k_X1_town hd_X1_town 11 ls E h = some (.inr E, h) := rfl
theorem h_X1_town_17_17 {d : Nat} {ls : ALs} {h : AH} : aT (exec tTab d) k_X1_town hd_X1_town 17 ls 17 h = R_X1_town d 32 (ls.set 2 none) [] h := rfl
theorem h_X1_town_33 {d : Nat} {ls : ALs} {E : Nat} {h : AH} : aT (exec tTab d) k_X1_town hd_X1_town 33 ls E h = some (.inr E, h) := rfl
theorem h_X1_town_55 {d : Nat} {ls : ALs} {E : Nat} {h : AH} : aT (exec tTab d) k_X1_town hd_X1_town 55 ls E h = some (.inr E, h) := rfl
/-- FavourTown.townText(LFavourTown$World;)V -/
abbrev K_X1_townText : Nat := 38
noncomputable def R_X1_townText (d pc : Nat) (ls : ALs) (st : List Value) (h : AH) : Option (AOut × AH) := aR (exec tTab d) k_X1_townText (fun _ _ => some none) (pc, ls, st, h)
theorem r_X1_townText_0 {d : Nat} {a0 : Nat} {l1 l2 : Option Value} {h : AH} : R_X1_townText d 0 [some (.ref a0), l1, l2] [] h = (hgf h [0] a0 2).bind fun v => R_X1_townText d 4 [some (.ref a0), l1, l2] [v] h := by
  refine (p_aload rfl rfl).trans ?_
  exact s_getf rfl
theorem r_X1_townText_4 {d : Nat} {b0 : Nat} {l0 l1 l2 : Option Value} {h : AH} : R_X1_townText d 4 [l0, l1, l2] [.ref b0] h = ((hci h b0).bind (lkN [(2, 129)])).bind fun y => aK (exec tTab d y [.ref b0] h) (fun v h1 => R_X1_townText d 7 [l0, l1, l2] (v.toList ++ []) h1) (fun E h1 => some (.inr E, h1)) := s_callV (L := [(2, 129)]) (n := 0) (b := b0) (rest := []) rfl rfl rfl
theorem r_X1_townText_7 {d : Nat} {s0 : Int32} {l0 l1 l2 : Option Value} {h : AH} : R_X1_townText d 7 [l0, l1, l2] [.int (s0)] h = if s0 = 0 then R_X1_townText d 11 [l0, l1, l2] [] h else R_X1_townText d 10 [l0, l1, l2] [] h := (s_if (g := (fun x => decide (x = 0))) (t := 11) (nx := 10) rfl).trans bif_dec
theorem r_X1_townText_11 {d : Nat} {l0 l1 l2 : Option Value} {h : AH} : R_X1_townText d 11 [l0, l1, l2] [] h = R_X1_townText d 13 [l0, l1, some (.int ((nI 0)))] [] h := by
  refine (p_const rfl).trans ?_
  refine (p_istore rfl rfl rfl).trans ?_
  exact rfl
theorem r_X1_townText_10 {d : Nat} {l0 l1 l2 : Option Value} {h : AH} : R_X1_townText d 10 [l0, l1, l2] [] h = some (.inl none, h) := s_vret rfl
theorem q_X1_townText_13 {d : Nat} {a0 : Nat} {x2 : Int32} {l1 : Option Value} {h : AH} : R_X1_townText d 13 [some (.ref a0), l1, some (.int (x2))] [] h = ((hci h a0).bind (lkN [(0, 39)])).bind fun y => aK (exec tTab d y [.ref a0, .int (x2), .int ((nI 14))] h) (fun v h1 => R_X1_townText d 20 [some (.ref a0), l1, some (.int (x2))] (v.toList ++ []) h1) (fun E h1 => some (.inr E, h1)) := by
  refine (p_aload rfl rfl).trans ?_
  refine (p_iload rfl rfl).trans ?_
  refine (p_const rfl).trans ?_
  exact s_callV (L := [(0, 39)]) (n := 2) (b := a0) (rest := []) rfl rfl rfl
theorem r_X1_townText_20 {d : Nat} {a0 a1 : Nat} {l2 : Option Value} {h : AH} : R_X1_townText d 20 [some (.ref a0), some (.ref a1), l2] [] h = ((hci h a0).bind (lkN [(0, 41)])).bind fun y => aK (exec tTab d y [.ref a0, .ref a1] h) (fun v h1 => R_X1_townText d 25 [some (.ref a0), some (.ref a1), l2] (v.toList ++ []) h1) (fun E h1 => some (.inr E, h1)) := by
  refine (p_aload rfl rfl).trans ?_
  refine (p_aload rfl rfl).trans ?_
  exact s_callV (L := [(0, 41)]) (n := 1) (b := a0) (rest := []) rfl rfl rfl
theorem r_X1_townText_25 {d : Nat} {x2 : Int32} {a0 : Nat} {l1 : Option Value} {h : AH} : R_X1_townText d 25 [some (.ref a0), l1, some (.int (x2))] [] h = ((hci h a0).bind (lkN [(0, 47)])).bind fun y => aK (exec tTab d y [.ref a0] h) (fun v h1 => R_X1_townText d 32 [some (.ref a0), l1, some (.int (x2 + (nI 1)))] (v.toList ++ []) h1) (fun E h1 => some (.inr E, h1)) := by
  refine (p_iinc rfl rfl rfl).trans ?_
  refine (p_aload rfl rfl).trans ?_
  exact s_callV (L := [(0, 47)]) (n := 0) (b := a0) (rest := []) rfl rfl rfl
theorem r_X1_townText_32 {d : Nat} {s0 : Int32} {l0 l1 l2 : Option Value} {h : AH} : R_X1_townText d 32 [l0, l1, l2] [.int (s0)] h = if ¬ s0 = 0 then R_X1_townText d 13 [l0, l1, l2] [] h else R_X1_townText d 35 [l0, l1, l2] [] h := (s_if (g := (fun x => decide (¬ x = 0))) (t := 13) (nx := 35) rfl).trans bif_dec
theorem r_X1_townText_35 {d : Nat} {l0 l1 l2 : Option Value} {h : AH} : R_X1_townText d 35 [l0, l1, l2] [] h = some (.inl none, h) := s_vret rfl
theorem e_X1_townText {d : Nat} {a0 a1 : Nat} {h : AH} : exec tTab (d + 1) K_X1_townText [.ref a0, .ref a1] h = R_X1_townText d 0 [some (.ref a0), some (.ref a1), none] [] h := exec_eq (cd := k_X1_townText) (hd := (fun _ _ => some none)) (L := 3) rfl rfl rfl
/-- FavourTown.noMore(II)V -/
abbrev K_X1_noMore : Nat := 39
noncomputable def R_X1_noMore (d pc : Nat) (ls : ALs) (st : List Value) (h : AH) : Option (AOut × AH) := aR (exec tTab d) k_X1_noMore (fun _ _ => some none) (pc, ls, st, h)
theorem r_X1_noMore_0 {d : Nat} {x1 x2 : Int32} {l0 : Option Value} {h : AH} : R_X1_noMore d 0 [l0, some (.int (x1)), some (.int (x2))] [] h = if x2 ≤ x1 then R_X1_noMore d 6 [l0, some (.int (x1)), some (.int (x2))] [] h else R_X1_noMore d 5 [l0, some (.int (x1)), some (.int (x2))] [] h := by
  refine (p_iload rfl rfl).trans ?_
  refine (p_iload rfl rfl).trans ?_
  exact (s_icmp (g := (fun x y => decide (y ≤ x))) (t := 6) (nx := 5) rfl).trans bif_dec
theorem r_X1_noMore_6 {d : Nat} {a0 : Nat} {l1 l2 : Option Value} {h : AH} : R_X1_noMore d 6 [some (.ref a0), l1, l2] [] h = (hgf h [0] a0 2).bind fun v => R_X1_noMore d 10 [some (.ref a0), l1, l2] [v] h := by
  refine (p_aload rfl rfl).trans ?_
  exact s_getf rfl
theorem r_X1_noMore_5 {d : Nat} {l0 l1 l2 : Option Value} {h : AH} : R_X1_noMore d 5 [l0, l1, l2] [] h = some (.inl none, h) := s_vret rfl
theorem r_X1_noMore_10 {d : Nat} {b0 : Nat} {l0 l1 l2 : Option Value} {h : AH} : R_X1_noMore d 10 [l0, l1, l2] [.ref b0] h = ((hci h b0).bind (lkN [(2, 132)])).bind fun y => aK (exec tTab d y [.ref b0] h) (fun v h1 => R_X1_noMore d 13 [l0, l1, l2] (v.toList ++ []) h1) (fun E h1 => some (.inr E, h1)) := s_callV (L := [(2, 132)]) (n := 0) (b := b0) (rest := []) rfl rfl rfl
theorem r_X1_noMore_13 {d : Nat} {b0 a0 : Nat} {l1 l2 : Option Value} {h : AH} : R_X1_noMore d 13 [some (.ref a0), l1, l2] [.ref b0] h = (hgf h [0] a0 2).bind fun v => R_X1_noMore d 18 [some (.ref a0), l1, l2] [v] h := by
  refine (p_pop rfl rfl).trans ?_
  refine (p_aload rfl rfl).trans ?_
  exact s_getf rfl
theorem r_X1_noMore_13N {d : Nat} {a0 : Nat} {l1 l2 : Option Value} {h : AH} : R_X1_noMore d 13 [some (.ref a0), l1, l2] [.null] h = (hgf h [0] a0 2).bind fun v => R_X1_noMore d 18 [some (.ref a0), l1, l2] [v] h := by
  refine (p_pop rfl rfl).trans ?_
  refine (p_aload rfl rfl).trans ?_
  exact s_getf rfl
theorem r_X1_noMore_18 {d : Nat} {b0 : Nat} {l0 l1 l2 : Option Value} {h : AH} : R_X1_noMore d 18 [l0, l1, l2] [.ref b0] h = ((hci h b0).bind (lkN [(2, 133)])).bind fun y => aK (exec tTab d y [.ref b0] h) (fun v h1 => R_X1_noMore d 21 [l0, l1, l2] (v.toList ++ []) h1) (fun E h1 => some (.inr E, h1)) := s_callV (L := [(2, 133)]) (n := 0) (b := b0) (rest := []) rfl rfl rfl
theorem r_X1_noMore_21 {d : Nat} {b0 : Nat} {l0 l1 l2 : Option Value} {h : AH} : R_X1_noMore d 21 [l0, l1, l2] [.ref b0] h = (hex h [17, 22, 23, 24, 25] b0).bind fun E => (fun E h1 => some (.inr E, h1)) E h := s_athrow rfl
theorem e_X1_noMore {d : Nat} {a0 : Nat} {x1 x2 : Int32} {h : AH} : exec tTab (d + 1) K_X1_noMore [.ref a0, .int x1, .int x2] h = R_X1_noMore d 0 [some (.ref a0), some (.int x1), some (.int x2)] [] h := exec_eq (cd := k_X1_noMore) (hd := (fun _ _ => some none)) (L := 3) rfl rfl rfl
/-- FavourTown.in(III)Z -/
abbrev K_X1_in : Nat := 40
noncomputable def R_X1_in (d pc : Nat) (ls : ALs) (st : List Value) (h : AH) : Option (AOut × AH) := aR (exec tTab d) k_X1_in (fun _ _ => some none) (pc, ls, st, h)
theorem r_X1_in_0 {d : Nat} {x0 x1 : Int32} {l2 : Option Value} {h : AH} : R_X1_in d 0 [some (.int (x0)), some (.int (x1)), l2] [] h = if x0 < x1 then R_X1_in d 14 [some (.int (x0)), some (.int (x1)), l2] [] h else R_X1_in d 5 [some (.int (x0)), some (.int (x1)), l2] [] h := by
  refine (p_iload rfl rfl).trans ?_
  refine (p_iload rfl rfl).trans ?_
  exact (s_icmp (g := (fun x y => decide (x < y))) (t := 14) (nx := 5) rfl).trans bif_dec
theorem r_X1_in_14 {d : Nat} {l0 l1 l2 : Option Value} {h : AH} : R_X1_in d 14 [l0, l1, l2] [] h = some (.inl (some (.int ((nI 0)))), h) := by
  refine (p_const rfl).trans ?_
  exact s_iretT rfl rfl
theorem r_X1_in_5 {d : Nat} {x0 x2 : Int32} {l1 : Option Value} {h : AH} : R_X1_in d 5 [some (.int (x0)), l1, some (.int (x2))] [] h = if x2 < x0 then R_X1_in d 14 [some (.int (x0)), l1, some (.int (x2))] [] h else R_X1_in d 10 [some (.int (x0)), l1, some (.int (x2))] [] h := by
  refine (p_iload rfl rfl).trans ?_
  refine (p_iload rfl rfl).trans ?_
  exact (s_icmp (g := (fun x y => decide (y < x))) (t := 14) (nx := 10) rfl).trans bif_dec
theorem r_X1_in_10 {d : Nat} {l0 l1 l2 : Option Value} {h : AH} : R_X1_in d 10 [l0, l1, l2] [] h = some (.inl (some (.int ((nI 1)))), h) := by
  refine (p_const rfl).trans ?_
  refine (p_goto rfl).trans ?_
  exact s_iretT rfl rfl
theorem e_X1_in {d : Nat} {x0 x1 x2 : Int32} {h : AH} : exec tTab (d + 1) K_X1_in [.int x0, .int x1, .int x2] h = R_X1_in d 0 [some (.int x0), some (.int x1), some (.int x2)] [] h := exec_eq (cd := k_X1_in) (hd := (fun _ _ => some none)) (L := 3) rfl rfl rfl
/-- FavourTown.townLine(LFavourTown$World;)V -/
abbrev K_X1_townLine : Nat := 41
noncomputable def R_X1_townLine (d pc : Nat) (ls : ALs) (st : List Value) (h : AH) : Option (AOut × AH) := aR (exec tTab d) k_X1_townLine (fun _ _ => some none) (pc, ls, st, h)
theorem r_X1_townLine_0 {d : Nat} {a0 : Nat} {l1 l2 l3 l4 l5 l6 l7 l8 l9 l10 : Option Value} {h : AH} : R_X1_townLine d 0 [some (.ref a0), l1, l2, l3, l4, l5, l6, l7, l8, l9, l10] [] h = (hgf h [0] a0 2).bind fun v => R_X1_townLine d 4 [some (.ref a0), l1, l2, l3, l4, l5, l6, l7, l8, l9, l10] [v] h := by
  refine (p_aload rfl rfl).trans ?_
  exact s_getf rfl
theorem r_X1_townLine_4 {d : Nat} {b0 : Nat} {l0 l1 l2 l3 l4 l5 l6 l7 l8 l9 l10 : Option Value} {h : AH} : R_X1_townLine d 4 [l0, l1, l2, l3, l4, l5, l6, l7, l8, l9, l10] [.ref b0] h = ((hci h b0).bind (lkN [(2, 132)])).bind fun y => aK (exec tTab d y [.ref b0] h) (fun v h1 => R_X1_townLine d 9 [l0, l1, some (.ref b0), l3, l4, l5, l6, l7, l8, l9, l10] (v.toList ++ []) h1) (fun E h1 => some (.inr E, h1)) := by
  refine (p_astore rfl rfl rfl).trans ?_
  refine (p_aload rfl rfl).trans ?_
  exact s_callV (L := [(2, 132)]) (n := 0) (b := b0) (rest := []) rfl rfl rfl
theorem r_X1_townLine_9 {d : Nat} {b0 : Nat} {l0 l1 l2 l3 l4 l5 l6 l7 l8 l9 l10 : Option Value} {h : AH} : R_X1_townLine d 9 [l0, l1, l2, l3, l4, l5, l6, l7, l8, l9, l10] [.ref b0] h = ((hci h b0).bind (lkN [(21, 283)])).bind fun y => aK (exec tTab d y [.ref b0] h) (fun v h1 => R_X1_townLine d 17 [l0, l1, l2, some (.ref b0), some (.int ((-1))), l5, l6, l7, l8, l9, l10] (v.toList ++ []) h1) (fun E h1 => some (.inr E, h1)) := by
  refine (p_astore rfl rfl rfl).trans ?_
  refine (p_const rfl).trans ?_
  refine (p_istore rfl rfl rfl).trans ?_
  refine (p_aload rfl rfl).trans ?_
  exact s_callV (L := [(21, 283)]) (n := 0) (b := b0) (rest := []) rfl rfl rfl
theorem r_X1_townLine_17 {d : Nat} {s0 : Int32} {l0 l1 l2 l3 l4 l5 l6 l7 l8 l9 l10 : Option Value} {h : AH} : R_X1_townLine d 17 [l0, l1, l2, l3, l4, l5, l6, l7, l8, l9, l10] [.int (s0)] h = R_X1_townLine d (if (-991716523 : Int) = s0.toInt then 92 else if (106914 : Int) = s0.toInt then 122 else if (3045982 : Int) = s0.toInt then 167 else if (3076183 : Int) = s0.toInt then 182 else if (3173137 : Int) = s0.toInt then 137 else if (3377192 : Int) = s0.toInt then 107 else if (3377302 : Int) = s0.toInt then 198 else if (3433489 : Int) = s0.toInt then 152 else 211) [l0, l1, l2, l3, l4, l5, l6, l7, l8, l9, l10] [] h := p_sw (g := (fun x => if (-991716523 : Int) = x.toInt then 92 else if (106914 : Int) = x.toInt then 122 else if (3045982 : Int) = x.toInt then 167 else if (3076183 : Int) = x.toInt then 182 else if (3173137 : Int) = x.toInt then 137 else if (3377192 : Int) = x.toInt then 107 else if (3377302 : Int) = x.toInt then 198 else if (3433489 : Int) = x.toInt then 152 else 211)) rfl
theorem r_X1_townLine_92 {d : Nat} {a3 : Nat} {l0 l1 l2 l4 l5 l6 l7 l8 l9 l10 : Option Value} {h : AH} : R_X1_townLine d 92 [l0, l1, l2, some (.ref a3), l4, l5, l6, l7, l8, l9, l10] [] h = R_X1_townLine d 95 [l0, l1, l2, some (.ref a3), l4, l5, l6, l7, l8, l9, l10] [h.2.2.2 10, .ref a3] h := by
  refine (p_aload rfl rfl).trans ?_
  exact p_stat rfl
theorem r_X1_townLine_107 {d : Nat} {a3 : Nat} {l0 l1 l2 l4 l5 l6 l7 l8 l9 l10 : Option Value} {h : AH} : R_X1_townLine d 107 [l0, l1, l2, some (.ref a3), l4, l5, l6, l7, l8, l9, l10] [] h = R_X1_townLine d 110 [l0, l1, l2, some (.ref a3), l4, l5, l6, l7, l8, l9, l10] [h.2.2.2 11, .ref a3] h := by
  refine (p_aload rfl rfl).trans ?_
  exact p_stat rfl
theorem r_X1_townLine_122 {d : Nat} {a3 : Nat} {l0 l1 l2 l4 l5 l6 l7 l8 l9 l10 : Option Value} {h : AH} : R_X1_townLine d 122 [l0, l1, l2, some (.ref a3), l4, l5, l6, l7, l8, l9, l10] [] h = R_X1_townLine d 125 [l0, l1, l2, some (.ref a3), l4, l5, l6, l7, l8, l9, l10] [h.2.2.2 12, .ref a3] h := by
  refine (p_aload rfl rfl).trans ?_
  exact p_stat rfl
theorem r_X1_townLine_137 {d : Nat} {a3 : Nat} {l0 l1 l2 l4 l5 l6 l7 l8 l9 l10 : Option Value} {h : AH} : R_X1_townLine d 137 [l0, l1, l2, some (.ref a3), l4, l5, l6, l7, l8, l9, l10] [] h = R_X1_townLine d 140 [l0, l1, l2, some (.ref a3), l4, l5, l6, l7, l8, l9, l10] [h.2.2.2 13, .ref a3] h := by
  refine (p_aload rfl rfl).trans ?_
  exact p_stat rfl
theorem r_X1_townLine_152 {d : Nat} {a3 : Nat} {l0 l1 l2 l4 l5 l6 l7 l8 l9 l10 : Option Value} {h : AH} : R_X1_townLine d 152 [l0, l1, l2, some (.ref a3), l4, l5, l6, l7, l8, l9, l10] [] h = R_X1_townLine d 155 [l0, l1, l2, some (.ref a3), l4, l5, l6, l7, l8, l9, l10] [h.2.2.2 14, .ref a3] h := by
  refine (p_aload rfl rfl).trans ?_
  exact p_stat rfl
theorem r_X1_townLine_167 {d : Nat} {a3 : Nat} {l0 l1 l2 l4 l5 l6 l7 l8 l9 l10 : Option Value} {h : AH} : R_X1_townLine d 167 [l0, l1, l2, some (.ref a3), l4, l5, l6, l7, l8, l9, l10] [] h = R_X1_townLine d 170 [l0, l1, l2, some (.ref a3), l4, l5, l6, l7, l8, l9, l10] [h.2.2.2 15, .ref a3] h := by
  refine (p_aload rfl rfl).trans ?_
  exact p_stat rfl
theorem r_X1_townLine_182 {d : Nat} {a3 : Nat} {l0 l1 l2 l4 l5 l6 l7 l8 l9 l10 : Option Value} {h : AH} : R_X1_townLine d 182 [l0, l1, l2, some (.ref a3), l4, l5, l6, l7, l8, l9, l10] [] h = R_X1_townLine d 185 [l0, l1, l2, some (.ref a3), l4, l5, l6, l7, l8, l9, l10] [h.2.2.2 16, .ref a3] h := by
  refine (p_aload rfl rfl).trans ?_
  exact p_stat rfl
theorem r_X1_townLine_198 {d : Nat} {a3 : Nat} {l0 l1 l2 l4 l5 l6 l7 l8 l9 l10 : Option Value} {h : AH} : R_X1_townLine d 198 [l0, l1, l2, some (.ref a3), l4, l5, l6, l7, l8, l9, l10] [] h = R_X1_townLine d 201 [l0, l1, l2, some (.ref a3), l4, l5, l6, l7, l8, l9, l10] [h.2.2.2 17, .ref a3] h := by
  refine (p_aload rfl rfl).trans ?_
  exact p_stat rfl
theorem r_X1_townLine_211 {d : Nat} {x4 : Int32} {l0 l1 l2 l3 l5 l6 l7 l8 l9 l10 : Option Value} {h : AH} : R_X1_townLine d 211 [l0, l1, l2, l3, some (.int (x4)), l5, l6, l7, l8, l9, l10] [] h = R_X1_townLine d (if x4.toInt < 0 ∨ 7 < x4.toInt then 504 else [260, 312, 357, 369, 375, 415, 425, 438].getD (x4.toInt - 0).toNat 0) [l0, l1, l2, l3, some (.int (x4)), l5, l6, l7, l8, l9, l10] [] h := by
  refine (p_iload rfl rfl).trans ?_
  exact p_sw (g := (fun x => if x.toInt < 0 ∨ 7 < x.toInt then 504 else [260, 312, 357, 369, 375, 415, 425, 438].getD (x.toInt - 0).toNat 0)) rfl
theorem r_X1_townLine_95 {d : Nat} {b0 b1 : Nat} {l0 l1 l2 l3 l4 l5 l6 l7 l8 l9 l10 : Option Value} {h : AH} : R_X1_townLine d 95 [l0, l1, l2, l3, l4, l5, l6, l7, l8, l9, l10] [.ref b1, .ref b0] h = ((hci h b0).bind (lkN [(21, 285)])).bind fun y => aK (exec tTab d y [.ref b0, .ref b1] h) (fun v h1 => R_X1_townLine d 98 [l0, l1, l2, l3, l4, l5, l6, l7, l8, l9, l10] (v.toList ++ []) h1) (fun E h1 => some (.inr E, h1)) := s_callV (L := [(21, 285)]) (n := 1) (b := b0) (rest := []) rfl rfl rfl
theorem r_X1_townLine_95N {d : Nat} {b0 : Nat} {l0 l1 l2 l3 l4 l5 l6 l7 l8 l9 l10 : Option Value} {h : AH} : R_X1_townLine d 95 [l0, l1, l2, l3, l4, l5, l6, l7, l8, l9, l10] [.null, .ref b0] h = ((hci h b0).bind (lkN [(21, 285)])).bind fun y => aK (exec tTab d y [.ref b0, .null] h) (fun v h1 => R_X1_townLine d 98 [l0, l1, l2, l3, l4, l5, l6, l7, l8, l9, l10] (v.toList ++ []) h1) (fun E h1 => some (.inr E, h1)) := s_callV (L := [(21, 285)]) (n := 1) (b := b0) (rest := []) rfl rfl rfl
theorem r_X1_townLine_110 {d : Nat} {b0 b1 : Nat} {l0 l1 l2 l3 l4 l5 l6 l7 l8 l9 l10 : Option Value} {h : AH} : R_X1_townLine d 110 [l0, l1, l2, l3, l4, l5, l6, l7, l8, l9, l10] [.ref b1, .ref b0] h = ((hci h b0).bind (lkN [(21, 285)])).bind fun y => aK (exec tTab d y [.ref b0, .ref b1] h) (fun v h1 => R_X1_townLine d 113 [l0, l1, l2, l3, l4, l5, l6, l7, l8, l9, l10] (v.toList ++ []) h1) (fun E h1 => some (.inr E, h1)) := s_callV (L := [(21, 285)]) (n := 1) (b := b0) (rest := []) rfl rfl rfl
theorem r_X1_townLine_110N {d : Nat} {b0 : Nat} {l0 l1 l2 l3 l4 l5 l6 l7 l8 l9 l10 : Option Value} {h : AH} : R_X1_townLine d 110 [l0, l1, l2, l3, l4, l5, l6, l7, l8, l9, l10] [.null, .ref b0] h = ((hci h b0).bind (lkN [(21, 285)])).bind fun y => aK (exec tTab d y [.ref b0, .null] h) (fun v h1 => R_X1_townLine d 113 [l0, l1, l2, l3, l4, l5, l6, l7, l8, l9, l10] (v.toList ++ []) h1) (fun E h1 => some (.inr E, h1)) := s_callV (L := [(21, 285)]) (n := 1) (b := b0) (rest := []) rfl rfl rfl
theorem r_X1_townLine_125 {d : Nat} {b0 b1 : Nat} {l0 l1 l2 l3 l4 l5 l6 l7 l8 l9 l10 : Option Value} {h : AH} : R_X1_townLine d 125 [l0, l1, l2, l3, l4, l5, l6, l7, l8, l9, l10] [.ref b1, .ref b0] h = ((hci h b0).bind (lkN [(21, 285)])).bind fun y => aK (exec tTab d y [.ref b0, .ref b1] h) (fun v h1 => R_X1_townLine d 128 [l0, l1, l2, l3, l4, l5, l6, l7, l8, l9, l10] (v.toList ++ []) h1) (fun E h1 => some (.inr E, h1)) := s_callV (L := [(21, 285)]) (n := 1) (b := b0) (rest := []) rfl rfl rfl
theorem r_X1_townLine_125N {d : Nat} {b0 : Nat} {l0 l1 l2 l3 l4 l5 l6 l7 l8 l9 l10 : Option Value} {h : AH} : R_X1_townLine d 125 [l0, l1, l2, l3, l4, l5, l6, l7, l8, l9, l10] [.null, .ref b0] h = ((hci h b0).bind (lkN [(21, 285)])).bind fun y => aK (exec tTab d y [.ref b0, .null] h) (fun v h1 => R_X1_townLine d 128 [l0, l1, l2, l3, l4, l5, l6, l7, l8, l9, l10] (v.toList ++ []) h1) (fun E h1 => some (.inr E, h1)) := s_callV (L := [(21, 285)]) (n := 1) (b := b0) (rest := []) rfl rfl rfl
theorem r_X1_townLine_140 {d : Nat} {b0 b1 : Nat} {l0 l1 l2 l3 l4 l5 l6 l7 l8 l9 l10 : Option Value} {h : AH} : R_X1_townLine d 140 [l0, l1, l2, l3, l4, l5, l6, l7, l8, l9, l10] [.ref b1, .ref b0] h = ((hci h b0).bind (lkN [(21, 285)])).bind fun y => aK (exec tTab d y [.ref b0, .ref b1] h) (fun v h1 => R_X1_townLine d 143 [l0, l1, l2, l3, l4, l5, l6, l7, l8, l9, l10] (v.toList ++ []) h1) (fun E h1 => some (.inr E, h1)) := s_callV (L := [(21, 285)]) (n := 1) (b := b0) (rest := []) rfl rfl rfl
theorem r_X1_townLine_140N {d : Nat} {b0 : Nat} {l0 l1 l2 l3 l4 l5 l6 l7 l8 l9 l10 : Option Value} {h : AH} : R_X1_townLine d 140 [l0, l1, l2, l3, l4, l5, l6, l7, l8, l9, l10] [.null, .ref b0] h = ((hci h b0).bind (lkN [(21, 285)])).bind fun y => aK (exec tTab d y [.ref b0, .null] h) (fun v h1 => R_X1_townLine d 143 [l0, l1, l2, l3, l4, l5, l6, l7, l8, l9, l10] (v.toList ++ []) h1) (fun E h1 => some (.inr E, h1)) := s_callV (L := [(21, 285)]) (n := 1) (b := b0) (rest := []) rfl rfl rfl
theorem r_X1_townLine_155 {d : Nat} {b0 b1 : Nat} {l0 l1 l2 l3 l4 l5 l6 l7 l8 l9 l10 : Option Value} {h : AH} : R_X1_townLine d 155 [l0, l1, l2, l3, l4, l5, l6, l7, l8, l9, l10] [.ref b1, .ref b0] h = ((hci h b0).bind (lkN [(21, 285)])).bind fun y => aK (exec tTab d y [.ref b0, .ref b1] h) (fun v h1 => R_X1_townLine d 158 [l0, l1, l2, l3, l4, l5, l6, l7, l8, l9, l10] (v.toList ++ []) h1) (fun E h1 => some (.inr E, h1)) := s_callV (L := [(21, 285)]) (n := 1) (b := b0) (rest := []) rfl rfl rfl
theorem r_X1_townLine_155N {d : Nat} {b0 : Nat} {l0 l1 l2 l3 l4 l5 l6 l7 l8 l9 l10 : Option Value} {h : AH} : R_X1_townLine d 155 [l0, l1, l2, l3, l4, l5, l6, l7, l8, l9, l10] [.null, .ref b0] h = ((hci h b0).bind (lkN [(21, 285)])).bind fun y => aK (exec tTab d y [.ref b0, .null] h) (fun v h1 => R_X1_townLine d 158 [l0, l1, l2, l3, l4, l5, l6, l7, l8, l9, l10] (v.toList ++ []) h1) (fun E h1 => some (.inr E, h1)) := s_callV (L := [(21, 285)]) (n := 1) (b := b0) (rest := []) rfl rfl rfl
theorem r_X1_townLine_170 {d : Nat} {b0 b1 : Nat} {l0 l1 l2 l3 l4 l5 l6 l7 l8 l9 l10 : Option Value} {h : AH} : R_X1_townLine d 170 [l0, l1, l2, l3, l4, l5, l6, l7, l8, l9, l10] [.ref b1, .ref b0] h = ((hci h b0).bind (lkN [(21, 285)])).bind fun y => aK (exec tTab d y [.ref b0, .ref b1] h) (fun v h1 => R_X1_townLine d 173 [l0, l1, l2, l3, l4, l5, l6, l7, l8, l9, l10] (v.toList ++ []) h1) (fun E h1 => some (.inr E, h1)) := s_callV (L := [(21, 285)]) (n := 1) (b := b0) (rest := []) rfl rfl rfl
theorem r_X1_townLine_170N {d : Nat} {b0 : Nat} {l0 l1 l2 l3 l4 l5 l6 l7 l8 l9 l10 : Option Value} {h : AH} : R_X1_townLine d 170 [l0, l1, l2, l3, l4, l5, l6, l7, l8, l9, l10] [.null, .ref b0] h = ((hci h b0).bind (lkN [(21, 285)])).bind fun y => aK (exec tTab d y [.ref b0, .null] h) (fun v h1 => R_X1_townLine d 173 [l0, l1, l2, l3, l4, l5, l6, l7, l8, l9, l10] (v.toList ++ []) h1) (fun E h1 => some (.inr E, h1)) := s_callV (L := [(21, 285)]) (n := 1) (b := b0) (rest := []) rfl rfl rfl
theorem r_X1_townLine_185 {d : Nat} {b0 b1 : Nat} {l0 l1 l2 l3 l4 l5 l6 l7 l8 l9 l10 : Option Value} {h : AH} : R_X1_townLine d 185 [l0, l1, l2, l3, l4, l5, l6, l7, l8, l9, l10] [.ref b1, .ref b0] h = ((hci h b0).bind (lkN [(21, 285)])).bind fun y => aK (exec tTab d y [.ref b0, .ref b1] h) (fun v h1 => R_X1_townLine d 188 [l0, l1, l2, l3, l4, l5, l6, l7, l8, l9, l10] (v.toList ++ []) h1) (fun E h1 => some (.inr E, h1)) := s_callV (L := [(21, 285)]) (n := 1) (b := b0) (rest := []) rfl rfl rfl
theorem r_X1_townLine_185N {d : Nat} {b0 : Nat} {l0 l1 l2 l3 l4 l5 l6 l7 l8 l9 l10 : Option Value} {h : AH} : R_X1_townLine d 185 [l0, l1, l2, l3, l4, l5, l6, l7, l8, l9, l10] [.null, .ref b0] h = ((hci h b0).bind (lkN [(21, 285)])).bind fun y => aK (exec tTab d y [.ref b0, .null] h) (fun v h1 => R_X1_townLine d 188 [l0, l1, l2, l3, l4, l5, l6, l7, l8, l9, l10] (v.toList ++ []) h1) (fun E h1 => some (.inr E, h1)) := s_callV (L := [(21, 285)]) (n := 1) (b := b0) (rest := []) rfl rfl rfl
theorem r_X1_townLine_201 {d : Nat} {b0 b1 : Nat} {l0 l1 l2 l3 l4 l5 l6 l7 l8 l9 l10 : Option Value} {h : AH} : R_X1_townLine d 201 [l0, l1, l2, l3, l4, l5, l6, l7, l8, l9, l10] [.ref b1, .ref b0] h = ((hci h b0).bind (lkN [(21, 285)])).bind fun y => aK (exec tTab d y [.ref b0, .ref b1] h) (fun v h1 => R_X1_townLine d 204 [l0, l1, l2, l3, l4, l5, l6, l7, l8, l9, l10] (v.toList ++ []) h1) (fun E h1 => some (.inr E, h1)) := s_callV (L := [(21, 285)]) (n := 1) (b := b0) (rest := []) rfl rfl rfl
theorem r_X1_townLine_201N {d : Nat} {b0 : Nat} {l0 l1 l2 l3 l4 l5 l6 l7 l8 l9 l10 : Option Value} {h : AH} : R_X1_townLine d 201 [l0, l1, l2, l3, l4, l5, l6, l7, l8, l9, l10] [.null, .ref b0] h = ((hci h b0).bind (lkN [(21, 285)])).bind fun y => aK (exec tTab d y [.ref b0, .null] h) (fun v h1 => R_X1_townLine d 204 [l0, l1, l2, l3, l4, l5, l6, l7, l8, l9, l10] (v.toList ++ []) h1) (fun E h1 => some (.inr E, h1)) := s_callV (L := [(21, 285)]) (n := 1) (b := b0) (rest := []) rfl rfl rfl
theorem r_X1_townLine_260 {d : Nat} {a1 : Nat} {l0 l2 l3 l4 l5 l6 l7 l8 l9 l10 : Option Value} {h : AH} : R_X1_townLine d 260 [l0, some (.ref a1), l2, l3, l4, l5, l6, l7, l8, l9, l10] [] h = (hgf h [1] a1 3).bind fun v => R_X1_townLine d 264 [l0, some (.ref a1), l2, l3, l4, l5, l6, l7, l8, l9, l10] [v] h := by
  refine (p_aload rfl rfl).trans ?_
  exact s_getf rfl
theorem r_X1_townLine_312 {d : Nat} {a0 a1 : Nat} {l2 l3 l4 l5 l6 l7 l8 l9 l10 : Option Value} {h : AH} : R_X1_townLine d 312 [some (.ref a0), some (.ref a1), l2, l3, l4, l5, l6, l7, l8, l9, l10] [] h = ((hci h a0).bind (lkN [(0, 42)])).bind fun y => aK (exec tTab d y [.ref a0, .ref a1] h) (fun v h1 => R_X1_townLine d 317 [some (.ref a0), some (.ref a1), l2, l3, l4, l5, l6, l7, l8, l9, l10] (v.toList ++ []) h1) (fun E h1 => some (.inr E, h1)) := by
  refine (p_aload rfl rfl).trans ?_
  refine (p_aload rfl rfl).trans ?_
  exact s_callV (L := [(0, 42)]) (n := 1) (b := a0) (rest := []) rfl rfl rfl
theorem r_X1_townLine_357 {d : Nat} {a1 a2 : Nat} {l0 l3 l4 l5 l6 l7 l8 l9 l10 : Option Value} {h : AH} : R_X1_townLine d 357 [l0, some (.ref a1), some (.ref a2), l3, l4, l5, l6, l7, l8, l9, l10] [] h = ((hci h a2).bind (lkN [(2, 134)])).bind fun y => aK (exec tTab d y [.ref a2, .int ((nI 0)), .int ((nI 10))] h) (fun v h1 => R_X1_townLine d 365 [l0, some (.ref a1), some (.ref a2), l3, l4, l5, l6, l7, l8, l9, l10] (v.toList ++ [.ref a1]) h1) (fun E h1 => some (.inr E, h1)) := by
  refine (p_aload rfl rfl).trans ?_
  refine (p_aload rfl rfl).trans ?_
  refine (p_const rfl).trans ?_
  refine (p_const rfl).trans ?_
  exact s_callV (L := [(2, 134)]) (n := 2) (b := a2) (rest := [.ref a1]) rfl rfl rfl
theorem r_X1_townLine_369 {d : Nat} {a0 a1 : Nat} {l2 l3 l4 l5 l6 l7 l8 l9 l10 : Option Value} {h : AH} : R_X1_townLine d 369 [some (.ref a0), some (.ref a1), l2, l3, l4, l5, l6, l7, l8, l9, l10] [] h = ((hci h a0).bind (lkN [(0, 44)])).bind fun y => aK (exec tTab d y [.ref a0, .ref a1] h) (fun v h1 => R_X1_townLine d 374 [some (.ref a0), some (.ref a1), l2, l3, l4, l5, l6, l7, l8, l9, l10] (v.toList ++ []) h1) (fun E h1 => some (.inr E, h1)) := by
  refine (p_aload rfl rfl).trans ?_
  refine (p_aload rfl rfl).trans ?_
  exact s_callV (L := [(0, 44)]) (n := 1) (b := a0) (rest := []) rfl rfl rfl
theorem r_X1_townLine_375 {d : Nat} {a0 a1 : Nat} {l2 l3 l4 l5 l6 l7 l8 l9 l10 : Option Value} {h : AH} : R_X1_townLine d 375 [some (.ref a0), some (.ref a1), l2, l3, l4, l5, l6, l7, l8, l9, l10] [] h = ((hci h a0).bind (lkN [(0, 46)])).bind fun y => aK (exec tTab d y [.ref a0, .ref a1] h) (fun v h1 => R_X1_townLine d 380 [some (.ref a0), some (.ref a1), l2, l3, l4, l5, l6, l7, l8, l9, l10] (v.toList ++ []) h1) (fun E h1 => some (.inr E, h1)) := by
  refine (p_aload rfl rfl).trans ?_
  refine (p_aload rfl rfl).trans ?_
  exact s_callV (L := [(0, 46)]) (n := 1) (b := a0) (rest := []) rfl rfl rfl
theorem r_X1_townLine_415 {d : Nat} {a0 a1 : Nat} {l2 l3 l4 l5 l6 l7 l8 l9 l10 : Option Value} {h : AH} : R_X1_townLine d 415 [some (.ref a0), some (.ref a1), l2, l3, l4, l5, l6, l7, l8, l9, l10] [] h = ((hci h a0).bind (lkN [(0, 46)])).bind fun y => aK (exec tTab d y [.ref a0, .ref a1] h) (fun v h1 => R_X1_townLine d 420 [some (.ref a0), some (.ref a1), l2, l3, l4, l5, l6, l7, l8, l9, l10] (v.toList ++ []) h1) (fun E h1 => some (.inr E, h1)) := by
  refine (p_aload rfl rfl).trans ?_
  refine (p_aload rfl rfl).trans ?_
  exact s_callV (L := [(0, 46)]) (n := 1) (b := a0) (rest := []) rfl rfl rfl
theorem r_X1_townLine_425 {d : Nat} {a1 a2 : Nat} {l0 l3 l4 l5 l6 l7 l8 l9 l10 : Option Value} {h : AH} : R_X1_townLine d 425 [l0, some (.ref a1), some (.ref a2), l3, l4, l5, l6, l7, l8, l9, l10] [] h = ((hci h a2).bind (lkN [(2, 134)])).bind fun y => aK (exec tTab d y [.ref a2, .int ((nI 1)), .int ((nI 99))] h) (fun v h1 => R_X1_townLine d 433 [l0, some (.ref a1), some (.ref a2), l3, l4, l5, l6, l7, l8, l9, l10] (v.toList ++ [.ref a1]) h1) (fun E h1 => some (.inr E, h1)) := by
  refine (p_aload rfl rfl).trans ?_
  refine (p_aload rfl rfl).trans ?_
  refine (p_const rfl).trans ?_
  refine (p_const rfl).trans ?_
  exact s_callV (L := [(2, 134)]) (n := 2) (b := a2) (rest := [.ref a1]) rfl rfl rfl
theorem r_X1_townLine_438 {d : Nat} {a1 : Nat} {l0 l2 l3 l4 l5 l6 l7 l8 l9 l10 : Option Value} {h : AH} : R_X1_townLine d 438 [l0, some (.ref a1), l2, l3, l4, l5, l6, l7, l8, l9, l10] [] h = (hgf h [1] a1 10).bind fun v => R_X1_townLine d 442 [l0, some (.ref a1), l2, l3, l4, l5, l6, l7, l8, l9, l10] [v] h := by
  refine (p_aload rfl rfl).trans ?_
  exact s_getf rfl
theorem r_X1_townLine_504 {d : Nat} {a2 : Nat} {l0 l1 l3 l4 l5 l6 l7 l8 l9 l10 : Option Value} {h : AH} : R_X1_townLine d 504 [l0, l1, some (.ref a2), l3, l4, l5, l6, l7, l8, l9, l10] [] h = ((hci h a2).bind (lkN [(2, 133)])).bind fun y => aK (exec tTab d y [.ref a2] h) (fun v h1 => R_X1_townLine d 508 [l0, l1, some (.ref a2), l3, l4, l5, l6, l7, l8, l9, l10] (v.toList ++ []) h1) (fun E h1 => some (.inr E, h1)) := by
  refine (p_aload rfl rfl).trans ?_
  exact s_callV (L := [(2, 133)]) (n := 0) (b := a2) (rest := []) rfl rfl rfl
theorem r_X1_townLine_98 {d : Nat} {s0 : Int32} {l0 l1 l2 l3 l4 l5 l6 l7 l8 l9 l10 : Option Value} {h : AH} : R_X1_townLine d 98 [l0, l1, l2, l3, l4, l5, l6, l7, l8, l9, l10] [.int (s0)] h = if s0 = 0 then R_X1_townLine d 211 [l0, l1, l2, l3, l4, l5, l6, l7, l8, l9, l10] [] h else R_X1_townLine d 101 [l0, l1, l2, l3, l4, l5, l6, l7, l8, l9, l10] [] h := (s_if (g := (fun x => decide (x = 0))) (t := 211) (nx := 101) rfl).trans bif_dec
theorem r_X1_townLine_113 {d : Nat} {s0 : Int32} {l0 l1 l2 l3 l4 l5 l6 l7 l8 l9 l10 : Option Value} {h : AH} : R_X1_townLine d 113 [l0, l1, l2, l3, l4, l5, l6, l7, l8, l9, l10] [.int (s0)] h = if s0 = 0 then R_X1_townLine d 211 [l0, l1, l2, l3, l4, l5, l6, l7, l8, l9, l10] [] h else R_X1_townLine d 116 [l0, l1, l2, l3, l4, l5, l6, l7, l8, l9, l10] [] h := (s_if (g := (fun x => decide (x = 0))) (t := 211) (nx := 116) rfl).trans bif_dec
theorem r_X1_townLine_128 {d : Nat} {s0 : Int32} {l0 l1 l2 l3 l4 l5 l6 l7 l8 l9 l10 : Option Value} {h : AH} : R_X1_townLine d 128 [l0, l1, l2, l3, l4, l5, l6, l7, l8, l9, l10] [.int (s0)] h = if s0 = 0 then R_X1_townLine d 211 [l0, l1, l2, l3, l4, l5, l6, l7, l8, l9, l10] [] h else R_X1_townLine d 131 [l0, l1, l2, l3, l4, l5, l6, l7, l8, l9, l10] [] h := (s_if (g := (fun x => decide (x = 0))) (t := 211) (nx := 131) rfl).trans bif_dec
theorem r_X1_townLine_143 {d : Nat} {s0 : Int32} {l0 l1 l2 l3 l4 l5 l6 l7 l8 l9 l10 : Option Value} {h : AH} : R_X1_townLine d 143 [l0, l1, l2, l3, l4, l5, l6, l7, l8, l9, l10] [.int (s0)] h = if s0 = 0 then R_X1_townLine d 211 [l0, l1, l2, l3, l4, l5, l6, l7, l8, l9, l10] [] h else R_X1_townLine d 146 [l0, l1, l2, l3, l4, l5, l6, l7, l8, l9, l10] [] h := (s_if (g := (fun x => decide (x = 0))) (t := 211) (nx := 146) rfl).trans bif_dec
theorem r_X1_townLine_158 {d : Nat} {s0 : Int32} {l0 l1 l2 l3 l4 l5 l6 l7 l8 l9 l10 : Option Value} {h : AH} : R_X1_townLine d 158 [l0, l1, l2, l3, l4, l5, l6, l7, l8, l9, l10] [.int (s0)] h = if s0 = 0 then R_X1_townLine d 211 [l0, l1, l2, l3, l4, l5, l6, l7, l8, l9, l10] [] h else R_X1_townLine d 161 [l0, l1, l2, l3, l4, l5, l6, l7, l8, l9, l10] [] h := (s_if (g := (fun x => decide (x = 0))) (t := 211) (nx := 161) rfl).trans bif_dec
theorem r_X1_townLine_173 {d : Nat} {s0 : Int32} {l0 l1 l2 l3 l4 l5 l6 l7 l8 l9 l10 : Option Value} {h : AH} : R_X1_townLine d 173 [l0, l1, l2, l3, l4, l5, l6, l7, l8, l9, l10] [.int (s0)] h = if s0 = 0 then R_X1_townLine d 211 [l0, l1, l2, l3, l4, l5, l6, l7, l8, l9, l10] [] h else R_X1_townLine d 176 [l0, l1, l2, l3, l4, l5, l6, l7, l8, l9, l10] [] h := (s_if (g := (fun x => decide (x = 0))) (t := 211) (nx := 176) rfl).trans bif_dec
theorem r_X1_townLine_188 {d : Nat} {s0 : Int32} {l0 l1 l2 l3 l4 l5 l6 l7 l8 l9 l10 : Option Value} {h : AH} : R_X1_townLine d 188 [l0, l1, l2, l3, l4, l5, l6, l7, l8, l9, l10] [.int (s0)] h = if s0 = 0 then R_X1_townLine d 211 [l0, l1, l2, l3, l4, l5, l6, l7, l8, l9, l10] [] h else R_X1_townLine d 191 [l0, l1, l2, l3, l4, l5, l6, l7, l8, l9, l10] [] h := (s_if (g := (fun x => decide (x = 0))) (t := 211) (nx := 191) rfl).trans bif_dec
theorem r_X1_townLine_204 {d : Nat} {s0 : Int32} {l0 l1 l2 l3 l4 l5 l6 l7 l8 l9 l10 : Option Value} {h : AH} : R_X1_townLine d 204 [l0, l1, l2, l3, l4, l5, l6, l7, l8, l9, l10] [.int (s0)] h = if s0 = 0 then R_X1_townLine d 211 [l0, l1, l2, l3, l4, l5, l6, l7, l8, l9, l10] [] h else R_X1_townLine d 207 [l0, l1, l2, l3, l4, l5, l6, l7, l8, l9, l10] [] h := (s_if (g := (fun x => decide (x = 0))) (t := 211) (nx := 207) rfl).trans bif_dec
theorem r_X1_townLine_264 {d : Nat} {s0 : Int32} {l0 l1 l2 l3 l4 l5 l6 l7 l8 l9 l10 : Option Value} {h : AH} : R_X1_townLine d 264 [l0, l1, l2, l3, l4, l5, l6, l7, l8, l9, l10] [.int (s0)] h = if ¬ s0 = (nI 12) then R_X1_townLine d 274 [l0, l1, l2, l3, l4, l5, l6, l7, l8, l9, l10] [] h else R_X1_townLine d 269 [l0, l1, l2, l3, l4, l5, l6, l7, l8, l9, l10] [] h := by
  refine (p_const rfl).trans ?_
  exact (s_icmp (g := (fun x y => decide (¬ x = y))) (t := 274) (nx := 269) rfl).trans bif_dec
theorem r_X1_townLine_317 {d : Nat} {s0 : Int32} {a0 a1 : Nat} {l2 l3 l4 l5 l6 l7 l8 l9 l10 : Option Value} {h : AH} : R_X1_townLine d 317 [some (.ref a0), some (.ref a1), l2, l3, l4, l5, l6, l7, l8, l9, l10] [.int (s0)] h = ((hci h a0).bind (lkN [(0, 43)])).bind fun y => aK (exec tTab d y [.ref a0, .ref a1, .int (s0)] h) (fun v h1 => R_X1_townLine d 326 [some (.ref a0), some (.ref a1), l2, l3, l4, some (.int (s0)), l6, l7, l8, l9, l10] (v.toList ++ []) h1) (fun E h1 => some (.inr E, h1)) := by
  refine (p_istore rfl rfl rfl).trans ?_
  refine (p_aload rfl rfl).trans ?_
  refine (p_aload rfl rfl).trans ?_
  refine (p_iload rfl rfl).trans ?_
  exact s_callV (L := [(0, 43)]) (n := 2) (b := a0) (rest := []) rfl rfl rfl
theorem r_X1_townLine_365 {d : Nat} {b0 : Nat} {s1 : Int32} {l0 l1 l2 l3 l4 l5 l6 l7 l8 l9 l10 : Option Value} {h : AH} : R_X1_townLine d 365 [l0, l1, l2, l3, l4, l5, l6, l7, l8, l9, l10] [.int (s1), .ref b0] h = (hpf h [1] b0 2 (.int (s1))).bind fun h1 => R_X1_townLine d 368 [l0, l1, l2, l3, l4, l5, l6, l7, l8, l9, l10] [] h1 := s_putT rfl rfl
theorem r_X1_townLine_374 {d : Nat} {l0 l1 l2 l3 l4 l5 l6 l7 l8 l9 l10 : Option Value} {h : AH} : R_X1_townLine d 374 [l0, l1, l2, l3, l4, l5, l6, l7, l8, l9, l10] [] h = some (.inl none, h) := s_vret rfl
theorem r_X1_townLine_380 {d : Nat} {b0 a0 : Nat} {l1 l2 l3 l4 l5 l6 l7 l8 l9 l10 : Option Value} {h : AH} : R_X1_townLine d 380 [some (.ref a0), l1, l2, l3, l4, l5, l6, l7, l8, l9, l10] [.ref b0] h = R_X1_townLine d 385 [some (.ref a0), l1, l2, l3, l4, l5, l6, some (.ref b0), l8, l9, l10] [h.2.2.2 18, .ref a0] h := by
  refine (p_astore rfl rfl rfl).trans ?_
  refine (p_aload rfl rfl).trans ?_
  exact p_stat rfl
theorem r_X1_townLine_380N {d : Nat} {a0 : Nat} {l1 l2 l3 l4 l5 l6 l7 l8 l9 l10 : Option Value} {h : AH} : R_X1_townLine d 380 [some (.ref a0), l1, l2, l3, l4, l5, l6, l7, l8, l9, l10] [.null] h = R_X1_townLine d 385 [some (.ref a0), l1, l2, l3, l4, l5, l6, some (.null), l8, l9, l10] [h.2.2.2 18, .ref a0] h := by
  refine (p_astoreN rfl rfl rfl).trans ?_
  refine (p_aload rfl rfl).trans ?_
  exact p_stat rfl
theorem r_X1_townLine_420 {d : Nat} {b0 : Nat} {l0 l1 l2 l3 l4 l5 l6 l7 l8 l9 l10 : Option Value} {h : AH} : R_X1_townLine d 420 [l0, l1, l2, l3, l4, l5, l6, l7, l8, l9, l10] [.ref b0] h = (hpf h [5, 6] b0 4 (.int ((-1)))).bind fun h1 => R_X1_townLine d 424 [l0, l1, l2, l3, l4, l5, l6, l7, l8, l9, l10] [] h1 := by
  refine (p_const rfl).trans ?_
  exact s_putT rfl rfl
theorem r_X1_townLine_433 {d : Nat} {b0 : Nat} {s1 : Int32} {l0 l1 l2 l3 l4 l5 l6 l7 l8 l9 l10 : Option Value} {h : AH} : R_X1_townLine d 433 [l0, l1, l2, l3, l4, l5, l6, l7, l8, l9, l10] [.int (s1), .ref b0] h = ((hci h b0).bind (lkN [(1, 106)])).bind fun y => aK (exec tTab d y [.ref b0, .int (s1)] h) (fun v h1 => R_X1_townLine d 436 [l0, l1, l2, l3, l4, l5, l6, l7, l8, l9, l10] (v.toList ++ []) h1) (fun E h1 => some (.inr E, h1)) := s_callV (L := [(1, 106)]) (n := 1) (b := b0) (rest := []) rfl rfl rfl
theorem r_X1_townLine_442 {d : Nat} {b0 : Nat} {l0 l1 l2 l3 l4 l5 l6 l7 l8 l9 l10 : Option Value} {h : AH} : R_X1_townLine d 442 [l0, l1, l2, l3, l4, l5, l6, l7, l8, l9, l10] [.ref b0] h = ((hci h b0).bind (lkN [(19, 113)])).bind fun y => aK (exec tTab d y [.ref b0] h) (fun v h1 => R_X1_townLine d 445 [l0, l1, l2, l3, l4, l5, l6, l7, l8, l9, l10] (v.toList ++ []) h1) (fun E h1 => some (.inr E, h1)) := s_callV (L := [(19, 113)]) (n := 0) (b := b0) (rest := []) rfl rfl rfl
theorem r_X1_townLine_508 {d : Nat} {b0 : Nat} {l0 l1 l2 l3 l4 l5 l6 l7 l8 l9 l10 : Option Value} {h : AH} : R_X1_townLine d 508 [l0, l1, l2, l3, l4, l5, l6, l7, l8, l9, l10] [.ref b0] h = (hex h [17, 22, 23, 24, 25] b0).bind fun E => (fun E h1 => some (.inr E, h1)) E h := s_athrow rfl
theorem r_X1_townLine_101 {d : Nat} {l0 l1 l2 l3 l4 l5 l6 l7 l8 l9 l10 : Option Value} {h : AH} : R_X1_townLine d 101 [l0, l1, l2, l3, l4, l5, l6, l7, l8, l9, l10] [] h = R_X1_townLine d (if (nI 0).toInt < 0 ∨ 7 < (nI 0).toInt then 504 else [260, 312, 357, 369, 375, 415, 425, 438].getD ((nI 0).toInt - 0).toNat 0) [l0, l1, l2, l3, some (.int ((nI 0))), l5, l6, l7, l8, l9, l10] [] h := by
  refine (p_const rfl).trans ?_
  refine (p_istore rfl rfl rfl).trans ?_
  refine (p_goto rfl).trans ?_
  refine (p_iload rfl rfl).trans ?_
  exact p_sw (g := (fun x => if x.toInt < 0 ∨ 7 < x.toInt then 504 else [260, 312, 357, 369, 375, 415, 425, 438].getD (x.toInt - 0).toNat 0)) rfl
theorem r_X1_townLine_116 {d : Nat} {l0 l1 l2 l3 l4 l5 l6 l7 l8 l9 l10 : Option Value} {h : AH} : R_X1_townLine d 116 [l0, l1, l2, l3, l4, l5, l6, l7, l8, l9, l10] [] h = R_X1_townLine d (if (nI 1).toInt < 0 ∨ 7 < (nI 1).toInt then 504 else [260, 312, 357, 369, 375, 415, 425, 438].getD ((nI 1).toInt - 0).toNat 0) [l0, l1, l2, l3, some (.int ((nI 1))), l5, l6, l7, l8, l9, l10] [] h := by
  refine (p_const rfl).trans ?_
  refine (p_istore rfl rfl rfl).trans ?_
  refine (p_goto rfl).trans ?_
  refine (p_iload rfl rfl).trans ?_
  exact p_sw (g := (fun x => if x.toInt < 0 ∨ 7 < x.toInt then 504 else [260, 312, 357, 369, 375, 415, 425, 438].getD (x.toInt - 0).toNat 0)) rfl
theorem r_X1_townLine_131 {d : Nat} {l0 l1 l2 l3 l4 l5 l6 l7 l8 l9 l10 : Option Value} {h : AH} : R_X1_townLine d 131 [l0, l1, l2, l3, l4, l5, l6, l7, l8, l9, l10] [] h = R_X1_townLine d (if (nI 2).toInt < 0 ∨ 7 < (nI 2).toInt then 504 else [260, 312, 357, 369, 375, 415, 425, 438].getD ((nI 2).toInt - 0).toNat 0) [l0, l1, l2, l3, some (.int ((nI 2))), l5, l6, l7, l8, l9, l10] [] h := by
  refine (p_const rfl).trans ?_
  refine (p_istore rfl rfl rfl).trans ?_
  refine (p_goto rfl).trans ?_
  refine (p_iload rfl rfl).trans ?_
  exact p_sw (g := (fun x => if x.toInt < 0 ∨ 7 < x.toInt then 504 else [260, 312, 357, 369, 375, 415, 425, 438].getD (x.toInt - 0).toNat 0)) rfl
theorem r_X1_townLine_146 {d : Nat} {l0 l1 l2 l3 l4 l5 l6 l7 l8 l9 l10 : Option Value} {h : AH} : R_X1_townLine d 146 [l0, l1, l2, l3, l4, l5, l6, l7, l8, l9, l10] [] h = R_X1_townLine d (if (nI 3).toInt < 0 ∨ 7 < (nI 3).toInt then 504 else [260, 312, 357, 369, 375, 415, 425, 438].getD ((nI 3).toInt - 0).toNat 0) [l0, l1, l2, l3, some (.int ((nI 3))), l5, l6, l7, l8, l9, l10] [] h := by
  refine (p_const rfl).trans ?_
  refine (p_istore rfl rfl rfl).trans ?_
  refine (p_goto rfl).trans ?_
  refine (p_iload rfl rfl).trans ?_
  exact p_sw (g := (fun x => if x.toInt < 0 ∨ 7 < x.toInt then 504 else [260, 312, 357, 369, 375, 415, 425, 438].getD (x.toInt - 0).toNat 0)) rfl
theorem r_X1_townLine_161 {d : Nat} {l0 l1 l2 l3 l4 l5 l6 l7 l8 l9 l10 : Option Value} {h : AH} : R_X1_townLine d 161 [l0, l1, l2, l3, l4, l5, l6, l7, l8, l9, l10] [] h = R_X1_townLine d (if (nI 4).toInt < 0 ∨ 7 < (nI 4).toInt then 504 else [260, 312, 357, 369, 375, 415, 425, 438].getD ((nI 4).toInt - 0).toNat 0) [l0, l1, l2, l3, some (.int ((nI 4))), l5, l6, l7, l8, l9, l10] [] h := by
  refine (p_const rfl).trans ?_
  refine (p_istore rfl rfl rfl).trans ?_
  refine (p_goto rfl).trans ?_
  refine (p_iload rfl rfl).trans ?_
  exact p_sw (g := (fun x => if x.toInt < 0 ∨ 7 < x.toInt then 504 else [260, 312, 357, 369, 375, 415, 425, 438].getD (x.toInt - 0).toNat 0)) rfl
theorem r_X1_townLine_176 {d : Nat} {l0 l1 l2 l3 l4 l5 l6 l7 l8 l9 l10 : Option Value} {h : AH} : R_X1_townLine d 176 [l0, l1, l2, l3, l4, l5, l6, l7, l8, l9, l10] [] h = R_X1_townLine d (if (nI 5).toInt < 0 ∨ 7 < (nI 5).toInt then 504 else [260, 312, 357, 369, 375, 415, 425, 438].getD ((nI 5).toInt - 0).toNat 0) [l0, l1, l2, l3, some (.int ((nI 5))), l5, l6, l7, l8, l9, l10] [] h := by
  refine (p_const rfl).trans ?_
  refine (p_istore rfl rfl rfl).trans ?_
  refine (p_goto rfl).trans ?_
  refine (p_iload rfl rfl).trans ?_
  exact p_sw (g := (fun x => if x.toInt < 0 ∨ 7 < x.toInt then 504 else [260, 312, 357, 369, 375, 415, 425, 438].getD (x.toInt - 0).toNat 0)) rfl
theorem r_X1_townLine_191 {d : Nat} {l0 l1 l2 l3 l4 l5 l6 l7 l8 l9 l10 : Option Value} {h : AH} : R_X1_townLine d 191 [l0, l1, l2, l3, l4, l5, l6, l7, l8, l9, l10] [] h = R_X1_townLine d (if (nI 6).toInt < 0 ∨ 7 < (nI 6).toInt then 504 else [260, 312, 357, 369, 375, 415, 425, 438].getD ((nI 6).toInt - 0).toNat 0) [l0, l1, l2, l3, some (.int ((nI 6))), l5, l6, l7, l8, l9, l10] [] h := by
  refine (p_const rfl).trans ?_
  refine (p_istore rfl rfl rfl).trans ?_
  refine (p_goto rfl).trans ?_
  refine (p_iload rfl rfl).trans ?_
  exact p_sw (g := (fun x => if x.toInt < 0 ∨ 7 < x.toInt then 504 else [260, 312, 357, 369, 375, 415, 425, 438].getD (x.toInt - 0).toNat 0)) rfl
theorem r_X1_townLine_207 {d : Nat} {l0 l1 l2 l3 l4 l5 l6 l7 l8 l9 l10 : Option Value} {h : AH} : R_X1_townLine d 207 [l0, l1, l2, l3, l4, l5, l6, l7, l8, l9, l10] [] h = R_X1_townLine d (if (nI 7).toInt < 0 ∨ 7 < (nI 7).toInt then 504 else [260, 312, 357, 369, 375, 415, 425, 438].getD ((nI 7).toInt - 0).toNat 0) [l0, l1, l2, l3, some (.int ((nI 7))), l5, l6, l7, l8, l9, l10] [] h := by
  refine (p_const rfl).trans ?_
  refine (p_istore rfl rfl rfl).trans ?_
  refine (p_iload rfl rfl).trans ?_
  exact p_sw (g := (fun x => if x.toInt < 0 ∨ 7 < x.toInt then 504 else [260, 312, 357, 369, 375, 415, 425, 438].getD (x.toInt - 0).toNat 0)) rfl
theorem r_X1_townLine_274 {d : Nat} {a1 : Nat} {l0 l2 l3 l4 l5 l6 l7 l8 l9 l10 : Option Value} {h : AH} : R_X1_townLine d 274 [l0, some (.ref a1), l2, l3, l4, l5, l6, l7, l8, l9, l10] [] h = (hgf h [1] a1 5).bind fun v => R_X1_townLine d 278 [l0, some (.ref a1), l2, l3, l4, l5, l6, l7, l8, l9, l10] [v] h := by
  refine (p_aload rfl rfl).trans ?_
  exact s_getf rfl
theorem r_X1_townLine_269 {d : Nat} {a2 : Nat} {l0 l1 l3 l4 l5 l6 l7 l8 l9 l10 : Option Value} {h : AH} : R_X1_townLine d 269 [l0, l1, some (.ref a2), l3, l4, l5, l6, l7, l8, l9, l10] [] h = ((hci h a2).bind (lkN [(2, 133)])).bind fun y => aK (exec tTab d y [.ref a2] h) (fun v h1 => R_X1_townLine d 273 [l0, l1, some (.ref a2), l3, l4, l5, l6, l7, l8, l9, l10] (v.toList ++ []) h1) (fun E h1 => some (.inr E, h1)) := by
  refine (p_aload rfl rfl).trans ?_
  exact s_callV (L := [(2, 133)]) (n := 0) (b := a2) (rest := []) rfl rfl rfl
theorem r_X1_townLine_326 {d : Nat} {s0 : Int32} {a1 : Nat} {l0 l2 l3 l4 l5 l6 l7 l8 l9 l10 : Option Value} {h : AH} : R_X1_townLine d 326 [l0, some (.ref a1), l2, l3, l4, l5, l6, l7, l8, l9, l10] [.int (s0)] h = (hgf h [1] a1 6).bind fun v => R_X1_townLine d 332 [l0, some (.ref a1), l2, l3, l4, l5, some (.int (s0)), l7, l8, l9, l10] [v] h := by
  refine (p_istore rfl rfl rfl).trans ?_
  refine (p_aload rfl rfl).trans ?_
  exact s_getf rfl
theorem r_X1_townLine_368 {d : Nat} {l0 l1 l2 l3 l4 l5 l6 l7 l8 l9 l10 : Option Value} {h : AH} : R_X1_townLine d 368 [l0, l1, l2, l3, l4, l5, l6, l7, l8, l9, l10] [] h = some (.inl none, h) := s_vret rfl
theorem r_X1_townLine_385 {d : Nat} {b0 b1 : Nat} {l0 l1 l2 l3 l4 l5 l6 l7 l8 l9 l10 : Option Value} {h : AH} : R_X1_townLine d 385 [l0, l1, l2, l3, l4, l5, l6, l7, l8, l9, l10] [.ref b1, .ref b0] h = ((hci h b0).bind (lkN [(0, 45)])).bind fun y => aK (exec tTab d y [.ref b0, .ref b1] h) (fun v h1 => R_X1_townLine d 388 [l0, l1, l2, l3, l4, l5, l6, l7, l8, l9, l10] (v.toList ++ []) h1) (fun E h1 => some (.inr E, h1)) := s_callV (L := [(0, 45)]) (n := 1) (b := b0) (rest := []) rfl rfl rfl
theorem r_X1_townLine_385N {d : Nat} {b0 : Nat} {l0 l1 l2 l3 l4 l5 l6 l7 l8 l9 l10 : Option Value} {h : AH} : R_X1_townLine d 385 [l0, l1, l2, l3, l4, l5, l6, l7, l8, l9, l10] [.null, .ref b0] h = ((hci h b0).bind (lkN [(0, 45)])).bind fun y => aK (exec tTab d y [.ref b0, .null] h) (fun v h1 => R_X1_townLine d 388 [l0, l1, l2, l3, l4, l5, l6, l7, l8, l9, l10] (v.toList ++ []) h1) (fun E h1 => some (.inr E, h1)) := s_callV (L := [(0, 45)]) (n := 1) (b := b0) (rest := []) rfl rfl rfl
theorem r_X1_townLine_424 {d : Nat} {l0 l1 l2 l3 l4 l5 l6 l7 l8 l9 l10 : Option Value} {h : AH} : R_X1_townLine d 424 [l0, l1, l2, l3, l4, l5, l6, l7, l8, l9, l10] [] h = some (.inl none, h) := s_vret rfl
theorem r_X1_townLine_436 {d : Nat} {s0 : Int32} {l0 l1 l2 l3 l4 l5 l6 l7 l8 l9 l10 : Option Value} {h : AH} : R_X1_townLine d 436 [l0, l1, l2, l3, l4, l5, l6, l7, l8, l9, l10] [.int (s0)] h = some (.inl none, h) := by
  refine (p_pop rfl rfl).trans ?_
  exact s_vret rfl
theorem r_X1_townLine_445 {d : Nat} {s0 : Int32} {l0 l1 l2 l3 l4 l5 l6 l7 l8 l9 l10 : Option Value} {h : AH} : R_X1_townLine d 445 [l0, l1, l2, l3, l4, l5, l6, l7, l8, l9, l10] [.int (s0)] h = if ¬ s0 = (nI 12) then R_X1_townLine d 455 [l0, l1, l2, l3, l4, l5, l6, l7, l8, l9, l10] [] h else R_X1_townLine d 450 [l0, l1, l2, l3, l4, l5, l6, l7, l8, l9, l10] [] h := by
  refine (p_const rfl).trans ?_
  exact (s_icmp (g := (fun x y => decide (¬ x = y))) (t := 455) (nx := 450) rfl).trans bif_dec
theorem r_X1_townLine_278 {d : Nat} {b0 a1 : Nat} {l0 l2 l3 l4 l5 l6 l7 l8 l9 l10 : Option Value} {h : AH} : R_X1_townLine d 278 [l0, some (.ref a1), l2, l3, l4, l5, l6, l7, l8, l9, l10] [.ref b0] h = (hgf h [1] a1 3).bind fun v => R_X1_townLine d 282 [l0, some (.ref a1), l2, l3, l4, l5, l6, l7, l8, l9, l10] [v, .ref b0] h := by
  refine (p_aload rfl rfl).trans ?_
  exact s_getf rfl
theorem r_X1_townLine_278N {d : Nat} {a1 : Nat} {l0 l2 l3 l4 l5 l6 l7 l8 l9 l10 : Option Value} {h : AH} : R_X1_townLine d 278 [l0, some (.ref a1), l2, l3, l4, l5, l6, l7, l8, l9, l10] [.null] h = (hgf h [1] a1 3).bind fun v => R_X1_townLine d 282 [l0, some (.ref a1), l2, l3, l4, l5, l6, l7, l8, l9, l10] [v, .null] h := by
  refine (p_aload rfl rfl).trans ?_
  exact s_getf rfl
theorem r_X1_townLine_273 {d : Nat} {b0 : Nat} {l0 l1 l2 l3 l4 l5 l6 l7 l8 l9 l10 : Option Value} {h : AH} : R_X1_townLine d 273 [l0, l1, l2, l3, l4, l5, l6, l7, l8, l9, l10] [.ref b0] h = (hex h [17, 22, 23, 24, 25] b0).bind fun E => (fun E h1 => some (.inr E, h1)) E h := s_athrow rfl
theorem r_X1_townLine_332 {d : Nat} {b0 : Nat} {x5 : Int32} {l0 l1 l2 l3 l4 l6 l7 l8 l9 l10 : Option Value} {h : AH} : R_X1_townLine d 332 [l0, l1, l2, l3, l4, some (.int (x5)), l6, l7, l8, l9, l10] [.ref b0] h = (hai h 0 b0 x5).bind fun v => R_X1_townLine d 336 [l0, l1, l2, l3, l4, some (.int (x5)), l6, l7, l8, l9, l10] [.int v, .int (x5), .ref b0] h := by
  refine (p_iload rfl rfl).trans ?_
  refine (p_dup2 rfl rfl).trans ?_
  exact s_iald rfl
theorem r_X1_townLine_388 {d : Nat} {a0 a1 : Nat} {l2 l3 l4 l5 l6 l7 l8 l9 l10 : Option Value} {h : AH} : R_X1_townLine d 388 [some (.ref a0), some (.ref a1), l2, l3, l4, l5, l6, l7, l8, l9, l10] [] h = ((hci h a0).bind (lkN [(0, 42)])).bind fun y => aK (exec tTab d y [.ref a0, .ref a1] h) (fun v h1 => R_X1_townLine d 393 [some (.ref a0), some (.ref a1), l2, l3, l4, l5, l6, l7, l8, l9, l10] (v.toList ++ []) h1) (fun E h1 => some (.inr E, h1)) := by
  refine (p_aload rfl rfl).trans ?_
  refine (p_aload rfl rfl).trans ?_
  exact s_callV (L := [(0, 42)]) (n := 1) (b := a0) (rest := []) rfl rfl rfl
theorem r_X1_townLine_455 {d : Nat} {a0 a1 : Nat} {l2 l3 l4 l5 l6 l7 l8 l9 l10 : Option Value} {h : AH} : R_X1_townLine d 455 [some (.ref a0), some (.ref a1), l2, l3, l4, l5, l6, l7, l8, l9, l10] [] h = ((hci h a0).bind (lkN [(0, 42)])).bind fun y => aK (exec tTab d y [.ref a0, .ref a1] h) (fun v h1 => R_X1_townLine d 460 [some (.ref a0), some (.ref a1), l2, l3, l4, l5, l6, l7, l8, l9, l10] (v.toList ++ []) h1) (fun E h1 => some (.inr E, h1)) := by
  refine (p_aload rfl rfl).trans ?_
  refine (p_aload rfl rfl).trans ?_
  exact s_callV (L := [(0, 42)]) (n := 1) (b := a0) (rest := []) rfl rfl rfl
theorem r_X1_townLine_450 {d : Nat} {a2 : Nat} {l0 l1 l3 l4 l5 l6 l7 l8 l9 l10 : Option Value} {h : AH} : R_X1_townLine d 450 [l0, l1, some (.ref a2), l3, l4, l5, l6, l7, l8, l9, l10] [] h = ((hci h a2).bind (lkN [(2, 133)])).bind fun y => aK (exec tTab d y [.ref a2] h) (fun v h1 => R_X1_townLine d 454 [l0, l1, some (.ref a2), l3, l4, l5, l6, l7, l8, l9, l10] (v.toList ++ []) h1) (fun E h1 => some (.inr E, h1)) := by
  refine (p_aload rfl rfl).trans ?_
  exact s_callV (L := [(2, 133)]) (n := 0) (b := a2) (rest := []) rfl rfl rfl
theorem r_X1_townLine_282 {d : Nat} {b0 a2 : Nat} {s1 : Int32} {l0 l1 l3 l4 l5 l6 l7 l8 l9 l10 : Option Value} {h : AH} : R_X1_townLine d 282 [l0, l1, some (.ref a2), l3, l4, l5, l6, l7, l8, l9, l10] [.int (s1), .ref b0] h = ((hci h a2).bind (lkN [(2, 134)])).bind fun y => aK (exec tTab d y [.ref a2, .int ((nI 0)), .int ((nI 999))] h) (fun v h1 => R_X1_townLine d 290 [l0, l1, some (.ref a2), l3, l4, l5, l6, l7, l8, l9, l10] (v.toList ++ [.int (s1), .ref b0]) h1) (fun E h1 => some (.inr E, h1)) := by
  refine (p_aload rfl rfl).trans ?_
  refine (p_const rfl).trans ?_
  refine (p_const rfl).trans ?_
  exact s_callV (L := [(2, 134)]) (n := 2) (b := a2) (rest := [.int (s1), .ref b0]) rfl rfl rfl
theorem r_X1_townLine_336 {d : Nat} {b0 : Nat} {s1 s2 x6 : Int32} {l0 l1 l2 l3 l4 l5 l7 l8 l9 l10 : Option Value} {h : AH} : R_X1_townLine d 336 [l0, l1, l2, l3, l4, l5, some (.int (x6)), l7, l8, l9, l10] [.int (s2), .int (s1), .ref b0] h = (hsi h 0 b0 s1 (s2 ||| ((nI 1) <<< (x6 &&& 31)))).bind fun h1 => R_X1_townLine d 342 [l0, l1, l2, l3, l4, l5, some (.int (x6)), l7, l8, l9, l10] [] h1 := by
  refine (p_const rfl).trans ?_
  refine (p_iload rfl rfl).trans ?_
  refine (p_bin rfl).trans ?_
  refine (p_bin rfl).trans ?_
  exact s_iast (t := 0) (nar := (fun y => y)) rfl
theorem r_X1_townLine_393 {d : Nat} {s0 : Int32} {a7 : Nat} {l0 l1 l2 l3 l4 l5 l6 l8 l9 l10 : Option Value} {h : AH} : R_X1_townLine d 393 [l0, l1, l2, l3, l4, l5, l6, some (.ref a7), l8, l9, l10] [.int (s0)] h = (hgf h [5, 6] a7 4).bind fun v => R_X1_townLine d 400 [l0, l1, l2, l3, l4, l5, l6, some (.ref a7), some (.int (s0)), l9, l10] [v] h := by
  refine (p_istore rfl rfl rfl).trans ?_
  refine (p_aload rfl rfl).trans ?_
  exact s_getf rfl
theorem r_X1_townLine_460 {d : Nat} {s0 : Int32} {a0 : Nat} {l1 l2 l3 l4 l5 l6 l7 l8 l9 l10 : Option Value} {h : AH} : R_X1_townLine d 460 [some (.ref a0), l1, l2, l3, l4, l5, l6, l7, l8, l9, l10] [.int (s0)] h = R_X1_townLine d 465 [some (.ref a0), l1, l2, l3, l4, l5, l6, l7, l8, some (.int (s0)), l10] [h.2.2.2 19, .ref a0] h := by
  refine (p_istore rfl rfl rfl).trans ?_
  refine (p_aload rfl rfl).trans ?_
  exact p_stat rfl
theorem r_X1_townLine_454 {d : Nat} {b0 : Nat} {l0 l1 l2 l3 l4 l5 l6 l7 l8 l9 l10 : Option Value} {h : AH} : R_X1_townLine d 454 [l0, l1, l2, l3, l4, l5, l6, l7, l8, l9, l10] [.ref b0] h = (hex h [17, 22, 23, 24, 25] b0).bind fun E => (fun E h1 => some (.inr E, h1)) E h := s_athrow rfl
theorem r_X1_townLine_290 {d : Nat} {b0 : Nat} {s1 s2 : Int32} {l0 l1 l2 l3 l4 l5 l6 l7 l8 l9 l10 : Option Value} {h : AH} : R_X1_townLine d 290 [l0, l1, l2, l3, l4, l5, l6, l7, l8, l9, l10] [.int (s2), .int (s1), .ref b0] h = (hsi h 0 b0 s1 s2).bind fun h1 => R_X1_townLine d 291 [l0, l1, l2, l3, l4, l5, l6, l7, l8, l9, l10] [] h1 := s_iast (t := 0) (nar := (fun y => y)) rfl
theorem r_X1_townLine_342 {d : Nat} {a1 : Nat} {l0 l2 l3 l4 l5 l6 l7 l8 l9 l10 : Option Value} {h : AH} : R_X1_townLine d 342 [l0, some (.ref a1), l2, l3, l4, l5, l6, l7, l8, l9, l10] [] h = (hgf h [1] a1 6).bind fun v => R_X1_townLine d 346 [l0, some (.ref a1), l2, l3, l4, l5, l6, l7, l8, l9, l10] [v] h := by
  refine (p_aload rfl rfl).trans ?_
  exact s_getf rfl
theorem r_X1_townLine_400 {d : Nat} {s0 x8 : Int32} {l0 l1 l2 l3 l4 l5 l6 l7 l9 l10 : Option Value} {h : AH} : R_X1_townLine d 400 [l0, l1, l2, l3, l4, l5, l6, l7, some (.int (x8)), l9, l10] [.int (s0)] h = if s0 = x8 then R_X1_townLine d 414 [l0, l1, l2, l3, l4, l5, l6, l7, some (.int (x8)), l9, l10] [] h else R_X1_townLine d 405 [l0, l1, l2, l3, l4, l5, l6, l7, some (.int (x8)), l9, l10] [] h := by
  refine (p_iload rfl rfl).trans ?_
  exact (s_icmp (g := (fun x y => decide (x = y))) (t := 414) (nx := 405) rfl).trans bif_dec
theorem r_X1_townLine_465 {d : Nat} {b0 b1 : Nat} {l0 l1 l2 l3 l4 l5 l6 l7 l8 l9 l10 : Option Value} {h : AH} : R_X1_townLine d 465 [l0, l1, l2, l3, l4, l5, l6, l7, l8, l9, l10] [.ref b1, .ref b0] h = ((hci h b0).bind (lkN [(0, 45)])).bind fun y => aK (exec tTab d y [.ref b0, .ref b1] h) (fun v h1 => R_X1_townLine d 468 [l0, l1, l2, l3, l4, l5, l6, l7, l8, l9, l10] (v.toList ++ []) h1) (fun E h1 => some (.inr E, h1)) := s_callV (L := [(0, 45)]) (n := 1) (b := b0) (rest := []) rfl rfl rfl
theorem r_X1_townLine_465N {d : Nat} {b0 : Nat} {l0 l1 l2 l3 l4 l5 l6 l7 l8 l9 l10 : Option Value} {h : AH} : R_X1_townLine d 465 [l0, l1, l2, l3, l4, l5, l6, l7, l8, l9, l10] [.null, .ref b0] h = ((hci h b0).bind (lkN [(0, 45)])).bind fun y => aK (exec tTab d y [.ref b0, .null] h) (fun v h1 => R_X1_townLine d 468 [l0, l1, l2, l3, l4, l5, l6, l7, l8, l9, l10] (v.toList ++ []) h1) (fun E h1 => some (.inr E, h1)) := s_callV (L := [(0, 45)]) (n := 1) (b := b0) (rest := []) rfl rfl rfl
theorem r_X1_townLine_291 {d : Nat} {a1 : Nat} {l0 l2 l3 l4 l5 l6 l7 l8 l9 l10 : Option Value} {h : AH} : R_X1_townLine d 291 [l0, some (.ref a1), l2, l3, l4, l5, l6, l7, l8, l9, l10] [] h = (hgf h [1] a1 7).bind fun v => R_X1_townLine d 295 [l0, some (.ref a1), l2, l3, l4, l5, l6, l7, l8, l9, l10] [v] h := by
  refine (p_aload rfl rfl).trans ?_
  exact s_getf rfl
theorem r_X1_townLine_346 {d : Nat} {b0 : Nat} {x6 : Int32} {l0 l1 l2 l3 l4 l5 l7 l8 l9 l10 : Option Value} {h : AH} : R_X1_townLine d 346 [l0, l1, l2, l3, l4, l5, some (.int (x6)), l7, l8, l9, l10] [.ref b0] h = (hai h 0 b0 x6).bind fun v => R_X1_townLine d 350 [l0, l1, l2, l3, l4, l5, some (.int (x6)), l7, l8, l9, l10] [.int v, .int (x6), .ref b0] h := by
  refine (p_iload rfl rfl).trans ?_
  refine (p_dup2 rfl rfl).trans ?_
  exact s_iald rfl
theorem r_X1_townLine_414 {d : Nat} {l0 l1 l2 l3 l4 l5 l6 l7 l8 l9 l10 : Option Value} {h : AH} : R_X1_townLine d 414 [l0, l1, l2, l3, l4, l5, l6, l7, l8, l9, l10] [] h = some (.inl none, h) := s_vret rfl
theorem r_X1_townLine_405 {d : Nat} {a1 a7 : Nat} {x8 : Int32} {l0 l2 l3 l4 l5 l6 l9 l10 : Option Value} {h : AH} : R_X1_townLine d 405 [l0, some (.ref a1), l2, l3, l4, l5, l6, some (.ref a7), some (.int (x8)), l9, l10] [] h = ((hci h a1).bind (lkN [(1, 105)])).bind fun y => aK (exec tTab d y [.ref a1, .ref a7, .int (x8)] h) (fun v h1 => R_X1_townLine d 413 [l0, some (.ref a1), l2, l3, l4, l5, l6, some (.ref a7), some (.int (x8)), l9, l10] (v.toList ++ []) h1) (fun E h1 => some (.inr E, h1)) := by
  refine (p_aload rfl rfl).trans ?_
  refine (p_aload rfl rfl).trans ?_
  refine (p_iload rfl rfl).trans ?_
  exact s_callV (L := [(1, 105)]) (n := 2) (b := a1) (rest := []) rfl rfl rfl
theorem r_X1_townLine_468 {d : Nat} {a0 a1 : Nat} {x9 : Int32} {l2 l3 l4 l5 l6 l7 l8 l10 : Option Value} {h : AH} : R_X1_townLine d 468 [some (.ref a0), some (.ref a1), l2, l3, l4, l5, l6, l7, l8, some (.int (x9)), l10] [] h = ((hci h a0).bind (lkN [(0, 43)])).bind fun y => aK (exec tTab d y [.ref a0, .ref a1, .int (x9)] h) (fun v h1 => R_X1_townLine d 475 [some (.ref a0), some (.ref a1), l2, l3, l4, l5, l6, l7, l8, some (.int (x9)), l10] (v.toList ++ []) h1) (fun E h1 => some (.inr E, h1)) := by
  refine (p_aload rfl rfl).trans ?_
  refine (p_aload rfl rfl).trans ?_
  refine (p_iload rfl rfl).trans ?_
  exact s_callV (L := [(0, 43)]) (n := 2) (b := a0) (rest := []) rfl rfl rfl
theorem r_X1_townLine_295 {d : Nat} {b0 a1 : Nat} {l0 l2 l3 l4 l5 l6 l7 l8 l9 l10 : Option Value} {h : AH} : R_X1_townLine d 295 [l0, some (.ref a1), l2, l3, l4, l5, l6, l7, l8, l9, l10] [.ref b0] h = (hgf h [1] a1 3).bind fun v => R_X1_townLine d 299 [l0, some (.ref a1), l2, l3, l4, l5, l6, l7, l8, l9, l10] [v, .ref b0] h := by
  refine (p_aload rfl rfl).trans ?_
  exact s_getf rfl
theorem r_X1_townLine_295N {d : Nat} {a1 : Nat} {l0 l2 l3 l4 l5 l6 l7 l8 l9 l10 : Option Value} {h : AH} : R_X1_townLine d 295 [l0, some (.ref a1), l2, l3, l4, l5, l6, l7, l8, l9, l10] [.null] h = (hgf h [1] a1 3).bind fun v => R_X1_townLine d 299 [l0, some (.ref a1), l2, l3, l4, l5, l6, l7, l8, l9, l10] [v, .null] h := by
  refine (p_aload rfl rfl).trans ?_
  exact s_getf rfl
theorem r_X1_townLine_350 {d : Nat} {b0 : Nat} {s1 s2 x5 : Int32} {l0 l1 l2 l3 l4 l6 l7 l8 l9 l10 : Option Value} {h : AH} : R_X1_townLine d 350 [l0, l1, l2, l3, l4, some (.int (x5)), l6, l7, l8, l9, l10] [.int (s2), .int (s1), .ref b0] h = (hsi h 0 b0 s1 (s2 ||| ((nI 1) <<< (x5 &&& 31)))).bind fun h1 => R_X1_townLine d 356 [l0, l1, l2, l3, l4, some (.int (x5)), l6, l7, l8, l9, l10] [] h1 := by
  refine (p_const rfl).trans ?_
  refine (p_iload rfl rfl).trans ?_
  refine (p_bin rfl).trans ?_
  refine (p_bin rfl).trans ?_
  exact s_iast (t := 0) (nar := (fun y => y)) rfl
theorem r_X1_townLine_413 {d : Nat} {s0 : Int32} {l0 l1 l2 l3 l4 l5 l6 l7 l8 l9 l10 : Option Value} {h : AH} : R_X1_townLine d 413 [l0, l1, l2, l3, l4, l5, l6, l7, l8, l9, l10] [.int (s0)] h = some (.inl none, h) := by
  refine (p_pop rfl rfl).trans ?_
  exact s_vret rfl
theorem r_X1_townLine_475 {d : Nat} {s0 : Int32} {a1 : Nat} {l0 l2 l3 l4 l5 l6 l7 l8 l9 l10 : Option Value} {h : AH} : R_X1_townLine d 475 [l0, some (.ref a1), l2, l3, l4, l5, l6, l7, l8, l9, l10] [.int (s0)] h = (hgf h [1] a1 10).bind fun v => R_X1_townLine d 481 [l0, some (.ref a1), l2, l3, l4, l5, l6, l7, l8, l9, some (.int (s0))] [v] h := by
  refine (p_istore rfl rfl rfl).trans ?_
  refine (p_aload rfl rfl).trans ?_
  exact s_getf rfl
theorem r_X1_townLine_299 {d : Nat} {b0 : Nat} {s1 : Int32} {l0 l1 l2 l3 l4 l5 l6 l7 l8 l9 l10 : Option Value} {h : AH} : R_X1_townLine d 299 [l0, l1, l2, l3, l4, l5, l6, l7, l8, l9, l10] [.int (s1), .ref b0] h = (hsi h 0 b0 s1 (-1)).bind fun h1 => R_X1_townLine d 301 [l0, l1, l2, l3, l4, l5, l6, l7, l8, l9, l10] [] h1 := by
  refine (p_const rfl).trans ?_
  exact s_iast (t := 0) (nar := (fun y => y)) rfl
theorem r_X1_townLine_356 {d : Nat} {l0 l1 l2 l3 l4 l5 l6 l7 l8 l9 l10 : Option Value} {h : AH} : R_X1_townLine d 356 [l0, l1, l2, l3, l4, l5, l6, l7, l8, l9, l10] [] h = some (.inl none, h) := s_vret rfl
theorem r_X1_townLine_481 {d : Nat} {b0 : Nat} {l0 l1 l2 l3 l4 l5 l6 l7 l8 l9 l10 : Option Value} {h : AH} : R_X1_townLine d 481 [l0, l1, l2, l3, l4, l5, l6, l7, l8, l9, l10] [.ref b0] h = R_X1_townLine d 484 [l0, l1, l2, l3, l4, l5, l6, l7, l8, l9, l10] [.ref h.2.1, .ref b0] (hnew h (true, .inr (7, [.int 0, .int 0, .int 0])) 3) := p_new rfl
theorem r_X1_townLine_481N {d : Nat} {l0 l1 l2 l3 l4 l5 l6 l7 l8 l9 l10 : Option Value} {h : AH} : R_X1_townLine d 481 [l0, l1, l2, l3, l4, l5, l6, l7, l8, l9, l10] [.null] h = R_X1_townLine d 484 [l0, l1, l2, l3, l4, l5, l6, l7, l8, l9, l10] [.ref h.2.1, .null] (hnew h (true, .inr (7, [.int 0, .int 0, .int 0])) 3) := p_new rfl
theorem r_X1_townLine_301 {d : Nat} {a1 : Nat} {l0 l2 l3 l4 l5 l6 l7 l8 l9 l10 : Option Value} {h : AH} : R_X1_townLine d 301 [l0, some (.ref a1), l2, l3, l4, l5, l6, l7, l8, l9, l10] [] h = (hgf h [1] a1 3).bind fun v => R_X1_townLine d 306 [l0, some (.ref a1), l2, l3, l4, l5, l6, l7, l8, l9, l10] [v, .ref a1] h := by
  refine (p_aload rfl rfl).trans ?_
  refine (p_dup rfl rfl).trans ?_
  exact s_getf rfl
theorem r_X1_townLine_484 {d : Nat} {b0 b1 a2 : Nat} {x9 x10 : Int32} {l0 l1 l3 l4 l5 l6 l7 l8 : Option Value} {h : AH} : R_X1_townLine d 484 [l0, l1, some (.ref a2), l3, l4, l5, l6, l7, l8, some (.int (x9)), some (.int (x10))] [.ref b1, .ref b0] h = ((hci h a2).bind (lkN [(2, 134)])).bind fun y => aK (exec tTab d y [.ref a2, .int ((nI 1)), .int ((nI 99))] h) (fun v h1 => R_X1_townLine d 496 [l0, l1, some (.ref a2), l3, l4, l5, l6, l7, l8, some (.int (x9)), some (.int (x10))] (v.toList ++ [.int (x10), .int (x9), .ref b1, .ref b1, .ref b0]) h1) (fun E h1 => some (.inr E, h1)) := by
  refine (p_dup rfl rfl).trans ?_
  refine (p_iload rfl rfl).trans ?_
  refine (p_iload rfl rfl).trans ?_
  refine (p_aload rfl rfl).trans ?_
  refine (p_const rfl).trans ?_
  refine (p_const rfl).trans ?_
  exact s_callV (L := [(2, 134)]) (n := 2) (b := a2) (rest := [.int (x10), .int (x9), .ref b1, .ref b1, .ref b0]) rfl rfl rfl
theorem r_X1_townLine_484N {d : Nat} {b0 a2 : Nat} {x9 x10 : Int32} {l0 l1 l3 l4 l5 l6 l7 l8 : Option Value} {h : AH} : R_X1_townLine d 484 [l0, l1, some (.ref a2), l3, l4, l5, l6, l7, l8, some (.int (x9)), some (.int (x10))] [.null, .ref b0] h = ((hci h a2).bind (lkN [(2, 134)])).bind fun y => aK (exec tTab d y [.ref a2, .int ((nI 1)), .int ((nI 99))] h) (fun v h1 => R_X1_townLine d 496 [l0, l1, some (.ref a2), l3, l4, l5, l6, l7, l8, some (.int (x9)), some (.int (x10))] (v.toList ++ [.int (x10), .int (x9), .null, .null, .ref b0]) h1) (fun E h1 => some (.inr E, h1)) := by
  refine (p_dup rfl rfl).trans ?_
  refine (p_iload rfl rfl).trans ?_
  refine (p_iload rfl rfl).trans ?_
  refine (p_aload rfl rfl).trans ?_
  refine (p_const rfl).trans ?_
  refine (p_const rfl).trans ?_
  exact s_callV (L := [(2, 134)]) (n := 2) (b := a2) (rest := [.int (x10), .int (x9), .null, .null, .ref b0]) rfl rfl rfl
theorem r_X1_townLine_306 {d : Nat} {b0 : Nat} {s1 : Int32} {l0 l1 l2 l3 l4 l5 l6 l7 l8 l9 l10 : Option Value} {h : AH} : R_X1_townLine d 306 [l0, l1, l2, l3, l4, l5, l6, l7, l8, l9, l10] [.int (s1), .ref b0] h = (hpf h [1] b0 3 (.int (s1 + (nI 1)))).bind fun h1 => R_X1_townLine d 311 [l0, l1, l2, l3, l4, l5, l6, l7, l8, l9, l10] [] h1 := by
  refine (p_const rfl).trans ?_
  refine (p_bin rfl).trans ?_
  exact s_putT rfl rfl
theorem r_X1_townLine_496 {d : Nat} {b0 b1 b2 : Nat} {s3 s4 s5 : Int32} {l0 l1 l2 l3 l4 l5 l6 l7 l8 l9 l10 : Option Value} {h : AH} : R_X1_townLine d 496 [l0, l1, l2, l3, l4, l5, l6, l7, l8, l9, l10] [.int (s5), .int (s4), .int (s3), .ref b2, .ref b1, .ref b0] h = aK (exec tTab d 305 [.ref b2, .int (s3), .int (s4), .int (s5)] h) (fun v h1 => R_X1_townLine d 499 [l0, l1, l2, l3, l4, l5, l6, l7, l8, l9, l10] (v.toList ++ [.ref b1, .ref b0]) h1) (fun E h1 => some (.inr E, h1)) := s_callI (y := 305) (n := 3) (b := b2) (rest := [.ref b1, .ref b0]) rfl rfl rfl
theorem r_X1_townLine_311 {d : Nat} {l0 l1 l2 l3 l4 l5 l6 l7 l8 l9 l10 : Option Value} {h : AH} : R_X1_townLine d 311 [l0, l1, l2, l3, l4, l5, l6, l7, l8, l9, l10] [] h = some (.inl none, h) := s_vret rfl
theorem r_X1_townLine_499 {d : Nat} {b0 b1 : Nat} {l0 l1 l2 l3 l4 l5 l6 l7 l8 l9 l10 : Option Value} {h : AH} : R_X1_townLine d 499 [l0, l1, l2, l3, l4, l5, l6, l7, l8, l9, l10] [.ref b1, .ref b0] h = ((hci h b0).bind (lkN [(19, 116)])).bind fun y => aK (exec tTab d y [.ref b0, .ref b1] h) (fun v h1 => R_X1_townLine d 502 [l0, l1, l2, l3, l4, l5, l6, l7, l8, l9, l10] (v.toList ++ []) h1) (fun E h1 => some (.inr E, h1)) := s_callV (L := [(19, 116)]) (n := 1) (b := b0) (rest := []) rfl rfl rfl
theorem r_X1_townLine_499N {d : Nat} {b0 : Nat} {l0 l1 l2 l3 l4 l5 l6 l7 l8 l9 l10 : Option Value} {h : AH} : R_X1_townLine d 499 [l0, l1, l2, l3, l4, l5, l6, l7, l8, l9, l10] [.null, .ref b0] h = ((hci h b0).bind (lkN [(19, 116)])).bind fun y => aK (exec tTab d y [.ref b0, .null] h) (fun v h1 => R_X1_townLine d 502 [l0, l1, l2, l3, l4, l5, l6, l7, l8, l9, l10] (v.toList ++ []) h1) (fun E h1 => some (.inr E, h1)) := s_callV (L := [(19, 116)]) (n := 1) (b := b0) (rest := []) rfl rfl rfl
theorem r_X1_townLine_502 {d : Nat} {s0 : Int32} {l0 l1 l2 l3 l4 l5 l6 l7 l8 l9 l10 : Option Value} {h : AH} : R_X1_townLine d 502 [l0, l1, l2, l3, l4, l5, l6, l7, l8, l9, l10] [.int (s0)] h = some (.inl none, h) := by
  refine (p_pop rfl rfl).trans ?_
  exact s_vret rfl
theorem e_X1_townLine {d : Nat} {a0 a1 : Nat} {h : AH} : exec tTab (d + 1) K_X1_townLine [.ref a0, .ref a1] h = R_X1_townLine d 0 [some (.ref a0), some (.ref a1), none, none, none, none, none, none, none, none, none] [] h := exec_eq (cd := k_X1_townLine) (hd := (fun _ _ => some none)) (L := 11) rfl rfl rfl
/-- FavourTown.someone(LFavourTown$World;)I -/
abbrev K_X1_someone : Nat := 42
noncomputable def R_X1_someone (d pc : Nat) (ls : ALs) (st : List Value) (h : AH) : Option (AOut × AH) := aR (exec tTab d) k_X1_someone (fun _ _ => some none) (pc, ls, st, h)
theorem r_X1_someone_0 {d : Nat} {a0 : Nat} {l1 : Option Value} {h : AH} : R_X1_someone d 0 [some (.ref a0), l1] [] h = (hgf h [0] a0 2).bind fun v => R_X1_someone d 4 [some (.ref a0), l1] [v] h := by
  refine (p_aload rfl rfl).trans ?_
  exact s_getf rfl
theorem r_X1_someone_4 {d : Nat} {b0 a1 : Nat} {l0 : Option Value} {h : AH} : R_X1_someone d 4 [l0, some (.ref a1)] [.ref b0] h = (hgf h [1] a1 3).bind fun v => R_X1_someone d 9 [l0, some (.ref a1)] [v, .int ((nI 0)), .ref b0] h := by
  refine (p_const rfl).trans ?_
  refine (p_aload rfl rfl).trans ?_
  exact s_getf rfl
theorem r_X1_someone_4N {d : Nat} {a1 : Nat} {l0 : Option Value} {h : AH} : R_X1_someone d 4 [l0, some (.ref a1)] [.null] h = (hgf h [1] a1 3).bind fun v => R_X1_someone d 9 [l0, some (.ref a1)] [v, .int ((nI 0)), .null] h := by
  refine (p_const rfl).trans ?_
  refine (p_aload rfl rfl).trans ?_
  exact s_getf rfl
theorem r_X1_someone_9 {d : Nat} {b0 : Nat} {s1 s2 : Int32} {l0 l1 : Option Value} {h : AH} : R_X1_someone d 9 [l0, l1] [.int (s2), .int (s1), .ref b0] h = ((hci h b0).bind (lkN [(2, 134)])).bind fun y => aK (exec tTab d y [.ref b0, .int (s1), .int (s2 - (nI 1))] h) (fun v h1 => R_X1_someone d 14 [l0, l1] (v.toList ++ []) h1) (fun E h1 => some (.inr E, h1)) := by
  refine (p_const rfl).trans ?_
  refine (p_bin rfl).trans ?_
  exact s_callV (L := [(2, 134)]) (n := 2) (b := b0) (rest := []) rfl rfl rfl
theorem r_X1_someone_14 {d : Nat} {s0 : Int32} {l0 l1 : Option Value} {h : AH} : R_X1_someone d 14 [l0, l1] [.int (s0)] h = some (.inl (some (.int (s0))), h) := s_iretT rfl rfl
theorem e_X1_someone {d : Nat} {a0 a1 : Nat} {h : AH} : exec tTab (d + 1) K_X1_someone [.ref a0, .ref a1] h = R_X1_someone d 0 [some (.ref a0), some (.ref a1)] [] h := exec_eq (cd := k_X1_someone) (hd := (fun _ _ => some none)) (L := 2) rfl rfl rfl
/-- FavourTown.another(LFavourTown$World;I)I -/
abbrev K_X1_another : Nat := 43
noncomputable def R_X1_another (d pc : Nat) (ls : ALs) (st : List Value) (h : AH) : Option (AOut × AH) := aR (exec tTab d) k_X1_another (fun _ _ => some none) (pc, ls, st, h)
theorem r_X1_another_0 {d : Nat} {a0 a1 : Nat} {l2 l3 : Option Value} {h : AH} : R_X1_another d 0 [some (.ref a0), some (.ref a1), l2, l3] [] h = ((hci h a0).bind (lkN [(0, 42)])).bind fun y => aK (exec tTab d y [.ref a0, .ref a1] h) (fun v h1 => R_X1_another d 5 [some (.ref a0), some (.ref a1), l2, l3] (v.toList ++ []) h1) (fun E h1 => some (.inr E, h1)) := by
  refine (p_aload rfl rfl).trans ?_
  refine (p_aload rfl rfl).trans ?_
  exact s_callV (L := [(0, 42)]) (n := 1) (b := a0) (rest := []) rfl rfl rfl
theorem r_X1_another_5 {d : Nat} {s0 x2 : Int32} {l0 l1 l3 : Option Value} {h : AH} : R_X1_another d 5 [l0, l1, some (.int (x2)), l3] [.int (s0)] h = if ¬ s0 = x2 then R_X1_another d 19 [l0, l1, some (.int (x2)), some (.int (s0))] [] h else R_X1_another d 11 [l0, l1, some (.int (x2)), some (.int (s0))] [] h := by
  refine (p_istore rfl rfl rfl).trans ?_
  refine (p_iload rfl rfl).trans ?_
  refine (p_iload rfl rfl).trans ?_
  exact (s_icmp (g := (fun x y => decide (¬ x = y))) (t := 19) (nx := 11) rfl).trans bif_dec
theorem r_X1_another_19 {d : Nat} {x3 : Int32} {l0 l1 l2 : Option Value} {h : AH} : R_X1_another d 19 [l0, l1, l2, some (.int (x3))] [] h = some (.inl (some (.int (x3))), h) := by
  refine (p_iload rfl rfl).trans ?_
  exact s_iretT rfl rfl
theorem r_X1_another_11 {d : Nat} {a0 : Nat} {l1 l2 l3 : Option Value} {h : AH} : R_X1_another d 11 [some (.ref a0), l1, l2, l3] [] h = (hgf h [0] a0 2).bind fun v => R_X1_another d 15 [some (.ref a0), l1, l2, l3] [v] h := by
  refine (p_aload rfl rfl).trans ?_
  exact s_getf rfl
theorem r_X1_another_15 {d : Nat} {b0 : Nat} {l0 l1 l2 l3 : Option Value} {h : AH} : R_X1_another d 15 [l0, l1, l2, l3] [.ref b0] h = ((hci h b0).bind (lkN [(2, 133)])).bind fun y => aK (exec tTab d y [.ref b0] h) (fun v h1 => R_X1_another d 18 [l0, l1, l2, l3] (v.toList ++ []) h1) (fun E h1 => some (.inr E, h1)) := s_callV (L := [(2, 133)]) (n := 0) (b := b0) (rest := []) rfl rfl rfl
theorem r_X1_another_18 {d : Nat} {b0 : Nat} {l0 l1 l2 l3 : Option Value} {h : AH} : R_X1_another d 18 [l0, l1, l2, l3] [.ref b0] h = (hex h [17, 22, 23, 24, 25] b0).bind fun E => (fun E h1 => some (.inr E, h1)) E h := s_athrow rfl
theorem e_X1_another {d : Nat} {a0 a1 : Nat} {x2 : Int32} {h : AH} : exec tTab (d + 1) K_X1_another [.ref a0, .ref a1, .int x2] h = R_X1_another d 0 [some (.ref a0), some (.ref a1), some (.int x2), none] [] h := exec_eq (cd := k_X1_another) (hd := (fun _ _ => some none)) (L := 4) rfl rfl rfl
/-- FavourTown.givesTold(LFavourTown$World;)V -/
abbrev K_X1_givesTold : Nat := 44
noncomputable def R_X1_givesTold (d pc : Nat) (ls : ALs) (st : List Value) (h : AH) : Option (AOut × AH) := aR (exec tTab d) k_X1_givesTold (fun _ _ => some none) (pc, ls, st, h)
theorem r_X1_givesTold_0 {d : Nat} {a0 a1 : Nat} {l2 l3 l4 l5 : Option Value} {h : AH} : R_X1_givesTold d 0 [some (.ref a0), some (.ref a1), l2, l3, l4, l5] [] h = ((hci h a0).bind (lkN [(0, 42)])).bind fun y => aK (exec tTab d y [.ref a0, .ref a1] h) (fun v h1 => R_X1_givesTold d 5 [some (.ref a0), some (.ref a1), l2, l3, l4, l5] (v.toList ++ []) h1) (fun E h1 => some (.inr E, h1)) := by
  refine (p_aload rfl rfl).trans ?_
  refine (p_aload rfl rfl).trans ?_
  exact s_callV (L := [(0, 42)]) (n := 1) (b := a0) (rest := []) rfl rfl rfl
theorem r_X1_givesTold_5 {d : Nat} {s0 : Int32} {a0 : Nat} {l1 l2 l3 l4 l5 : Option Value} {h : AH} : R_X1_givesTold d 5 [some (.ref a0), l1, l2, l3, l4, l5] [.int (s0)] h = R_X1_givesTold d 9 [some (.ref a0), l1, some (.int (s0)), l3, l4, l5] [h.2.2.2 18, .ref a0] h := by
  refine (p_istore rfl rfl rfl).trans ?_
  refine (p_aload rfl rfl).trans ?_
  exact p_stat rfl
theorem r_X1_givesTold_9 {d : Nat} {b0 b1 : Nat} {l0 l1 l2 l3 l4 l5 : Option Value} {h : AH} : R_X1_givesTold d 9 [l0, l1, l2, l3, l4, l5] [.ref b1, .ref b0] h = ((hci h b0).bind (lkN [(0, 45)])).bind fun y => aK (exec tTab d y [.ref b0, .ref b1] h) (fun v h1 => R_X1_givesTold d 12 [l0, l1, l2, l3, l4, l5] (v.toList ++ []) h1) (fun E h1 => some (.inr E, h1)) := s_callV (L := [(0, 45)]) (n := 1) (b := b0) (rest := []) rfl rfl rfl
theorem r_X1_givesTold_9N {d : Nat} {b0 : Nat} {l0 l1 l2 l3 l4 l5 : Option Value} {h : AH} : R_X1_givesTold d 9 [l0, l1, l2, l3, l4, l5] [.null, .ref b0] h = ((hci h b0).bind (lkN [(0, 45)])).bind fun y => aK (exec tTab d y [.ref b0, .null] h) (fun v h1 => R_X1_givesTold d 12 [l0, l1, l2, l3, l4, l5] (v.toList ++ []) h1) (fun E h1 => some (.inr E, h1)) := s_callV (L := [(0, 45)]) (n := 1) (b := b0) (rest := []) rfl rfl rfl
theorem r_X1_givesTold_12 {d : Nat} {a0 a1 : Nat} {x2 : Int32} {l3 l4 l5 : Option Value} {h : AH} : R_X1_givesTold d 12 [some (.ref a0), some (.ref a1), some (.int (x2)), l3, l4, l5] [] h = ((hci h a0).bind (lkN [(0, 43)])).bind fun y => aK (exec tTab d y [.ref a0, .ref a1, .int (x2)] h) (fun v h1 => R_X1_givesTold d 18 [some (.ref a0), some (.ref a1), some (.int (x2)), l3, l4, l5] (v.toList ++ []) h1) (fun E h1 => some (.inr E, h1)) := by
  refine (p_aload rfl rfl).trans ?_
  refine (p_aload rfl rfl).trans ?_
  refine (p_iload rfl rfl).trans ?_
  exact s_callV (L := [(0, 43)]) (n := 2) (b := a0) (rest := []) rfl rfl rfl
theorem r_X1_givesTold_18 {d : Nat} {s0 : Int32} {a0 : Nat} {l1 l2 l3 l4 l5 : Option Value} {h : AH} : R_X1_givesTold d 18 [some (.ref a0), l1, l2, l3, l4, l5] [.int (s0)] h = (hgf h [0] a0 2).bind fun v => R_X1_givesTold d 23 [some (.ref a0), l1, l2, some (.int (s0)), l4, l5] [v] h := by
  refine (p_istore rfl rfl rfl).trans ?_
  refine (p_aload rfl rfl).trans ?_
  exact s_getf rfl
theorem r_X1_givesTold_23 {d : Nat} {b0 : Nat} {l0 l1 l2 l3 l4 l5 : Option Value} {h : AH} : R_X1_givesTold d 23 [l0, l1, l2, l3, l4, l5] [.ref b0] h = ((hci h b0).bind (lkN [(2, 134)])).bind fun y => aK (exec tTab d y [.ref b0, .int ((nI 1)), .int ((nI 99))] h) (fun v h1 => R_X1_givesTold d 29 [l0, l1, l2, l3, l4, l5] (v.toList ++ []) h1) (fun E h1 => some (.inr E, h1)) := by
  refine (p_const rfl).trans ?_
  refine (p_const rfl).trans ?_
  exact s_callV (L := [(2, 134)]) (n := 2) (b := b0) (rest := []) rfl rfl rfl
theorem r_X1_givesTold_29 {d : Nat} {s0 : Int32} {a0 : Nat} {l1 l2 l3 l4 l5 : Option Value} {h : AH} : R_X1_givesTold d 29 [some (.ref a0), l1, l2, l3, l4, l5] [.int (s0)] h = (hgf h [0] a0 2).bind fun v => R_X1_givesTold d 35 [some (.ref a0), l1, l2, l3, some (.int (s0)), l5] [v] h := by
  refine (p_istore rfl rfl rfl).trans ?_
  refine (p_aload rfl rfl).trans ?_
  exact s_getf rfl
theorem r_X1_givesTold_35 {d : Nat} {b0 : Nat} {l0 l1 l2 l3 l4 l5 : Option Value} {h : AH} : R_X1_givesTold d 35 [l0, l1, l2, l3, l4, l5] [.ref b0] h = R_X1_givesTold d 37 [l0, l1, l2, l3, l4, l5] [h.2.2.2 20, .ref b0] h := p_stat rfl
theorem r_X1_givesTold_35N {d : Nat} {l0 l1 l2 l3 l4 l5 : Option Value} {h : AH} : R_X1_givesTold d 35 [l0, l1, l2, l3, l4, l5] [.null] h = R_X1_givesTold d 37 [l0, l1, l2, l3, l4, l5] [h.2.2.2 20, .null] h := p_stat rfl
theorem r_X1_givesTold_37 {d : Nat} {b0 b1 : Nat} {l0 l1 l2 l3 l4 l5 : Option Value} {h : AH} : R_X1_givesTold d 37 [l0, l1, l2, l3, l4, l5] [.ref b1, .ref b0] h = ((hci h b0).bind (lkN [(2, 135)])).bind fun y => aK (exec tTab d y [.ref b0, .ref b1] h) (fun v h1 => R_X1_givesTold d 40 [l0, l1, l2, l3, l4, l5] (v.toList ++ []) h1) (fun E h1 => some (.inr E, h1)) := s_callV (L := [(2, 135)]) (n := 1) (b := b0) (rest := []) rfl rfl rfl
theorem r_X1_givesTold_37N {d : Nat} {b0 : Nat} {l0 l1 l2 l3 l4 l5 : Option Value} {h : AH} : R_X1_givesTold d 37 [l0, l1, l2, l3, l4, l5] [.null, .ref b0] h = ((hci h b0).bind (lkN [(2, 135)])).bind fun y => aK (exec tTab d y [.ref b0, .null] h) (fun v h1 => R_X1_givesTold d 40 [l0, l1, l2, l3, l4, l5] (v.toList ++ []) h1) (fun E h1 => some (.inr E, h1)) := s_callV (L := [(2, 135)]) (n := 1) (b := b0) (rest := []) rfl rfl rfl
theorem r_X1_givesTold_40 {d : Nat} {s0 : Int32} {l0 l1 l2 l3 l4 l5 : Option Value} {h : AH} : R_X1_givesTold d 40 [l0, l1, l2, l3, l4, l5] [.int (s0)] h = if s0 = 0 then R_X1_givesTold d 56 [l0, l1, l2, l3, l4, l5] [] h else R_X1_givesTold d 43 [l0, l1, l2, l3, l4, l5] [] h := (s_if (g := (fun x => decide (x = 0))) (t := 56) (nx := 43) rfl).trans bif_dec
theorem r_X1_givesTold_56 {d : Nat} {a1 a0 : Nat} {x2 x3 x4 : Int32} {l5 : Option Value} {h : AH} : R_X1_givesTold d 56 [some (.ref a0), some (.ref a1), some (.int (x2)), some (.int (x3)), some (.int (x4)), l5] [] h = (hgf h [0] a0 2).bind fun v => R_X1_givesTold d 70 [some (.ref a0), some (.ref a1), some (.int (x2)), some (.int (x3)), some (.int (x4)), some (.int ((nI 0)))] [v, .int ((nI 0)), .int (x4), .int (x3), .int (x2), .ref a1] h := by
  refine (p_const rfl).trans ?_
  refine (p_istore rfl rfl rfl).trans ?_
  refine (p_aload rfl rfl).trans ?_
  refine (p_iload rfl rfl).trans ?_
  refine (p_iload rfl rfl).trans ?_
  refine (p_iload rfl rfl).trans ?_
  refine (p_iload rfl rfl).trans ?_
  refine (p_aload rfl rfl).trans ?_
  exact s_getf rfl
theorem r_X1_givesTold_43 {d : Nat} {a0 : Nat} {l1 l2 l3 l4 l5 : Option Value} {h : AH} : R_X1_givesTold d 43 [some (.ref a0), l1, l2, l3, l4, l5] [] h = (hgf h [0] a0 2).bind fun v => R_X1_givesTold d 47 [some (.ref a0), l1, l2, l3, l4, l5] [v] h := by
  refine (p_aload rfl rfl).trans ?_
  exact s_getf rfl
theorem r_X1_givesTold_70 {d : Nat} {b0 b5 : Nat} {s1 s2 s3 s4 : Int32} {l0 l1 l2 l3 l4 l5 : Option Value} {h : AH} : R_X1_givesTold d 70 [l0, l1, l2, l3, l4, l5] [.ref b5, .int (s4), .int (s3), .int (s2), .int (s1), .ref b0] h = R_X1_givesTold d 72 [l0, l1, l2, l3, l4, l5] [h.2.2.2 21, .ref b5, .int (s4), .int (s3), .int (s2), .int (s1), .ref b0] h := p_stat rfl
theorem r_X1_givesTold_70N {d : Nat} {b0 : Nat} {s1 s2 s3 s4 : Int32} {l0 l1 l2 l3 l4 l5 : Option Value} {h : AH} : R_X1_givesTold d 70 [l0, l1, l2, l3, l4, l5] [.null, .int (s4), .int (s3), .int (s2), .int (s1), .ref b0] h = R_X1_givesTold d 72 [l0, l1, l2, l3, l4, l5] [h.2.2.2 21, .null, .int (s4), .int (s3), .int (s2), .int (s1), .ref b0] h := p_stat rfl
theorem r_X1_givesTold_47 {d : Nat} {b0 : Nat} {l0 l1 l2 l3 l4 l5 : Option Value} {h : AH} : R_X1_givesTold d 47 [l0, l1, l2, l3, l4, l5] [.ref b0] h = ((hci h b0).bind (lkN [(2, 134)])).bind fun y => aK (exec tTab d y [.ref b0, .int ((nI 1)), .int ((nI 99))] h) (fun v h1 => R_X1_givesTold d 53 [l0, l1, l2, l3, l4, l5] (v.toList ++ []) h1) (fun E h1 => some (.inr E, h1)) := by
  refine (p_const rfl).trans ?_
  refine (p_const rfl).trans ?_
  exact s_callV (L := [(2, 134)]) (n := 2) (b := b0) (rest := []) rfl rfl rfl
theorem r_X1_givesTold_72 {d : Nat} {b0 b5 b6 : Nat} {s1 s2 s3 s4 : Int32} {l0 l1 l2 l3 l4 l5 : Option Value} {h : AH} : R_X1_givesTold d 72 [l0, l1, l2, l3, l4, l5] [.ref b6, .ref b5, .int (s4), .int (s3), .int (s2), .int (s1), .ref b0] h = ((hci h b5).bind (lkN [(2, 135)])).bind fun y => aK (exec tTab d y [.ref b5, .ref b6] h) (fun v h1 => R_X1_givesTold d 75 [l0, l1, l2, l3, l4, l5] (v.toList ++ [.int (s4), .int (s3), .int (s2), .int (s1), .ref b0]) h1) (fun E h1 => some (.inr E, h1)) := s_callV (L := [(2, 135)]) (n := 1) (b := b5) (rest := [.int (s4), .int (s3), .int (s2), .int (s1), .ref b0]) rfl rfl rfl
theorem r_X1_givesTold_72N {d : Nat} {b0 b5 : Nat} {s1 s2 s3 s4 : Int32} {l0 l1 l2 l3 l4 l5 : Option Value} {h : AH} : R_X1_givesTold d 72 [l0, l1, l2, l3, l4, l5] [.null, .ref b5, .int (s4), .int (s3), .int (s2), .int (s1), .ref b0] h = ((hci h b5).bind (lkN [(2, 135)])).bind fun y => aK (exec tTab d y [.ref b5, .null] h) (fun v h1 => R_X1_givesTold d 75 [l0, l1, l2, l3, l4, l5] (v.toList ++ [.int (s4), .int (s3), .int (s2), .int (s1), .ref b0]) h1) (fun E h1 => some (.inr E, h1)) := s_callV (L := [(2, 135)]) (n := 1) (b := b5) (rest := [.int (s4), .int (s3), .int (s2), .int (s1), .ref b0]) rfl rfl rfl
theorem r_X1_givesTold_53 {d : Nat} {s0 x2 x3 x4 : Int32} {a1 a0 : Nat} {l5 : Option Value} {h : AH} : R_X1_givesTold d 53 [some (.ref a0), some (.ref a1), some (.int (x2)), some (.int (x3)), some (.int (x4)), l5] [.int (s0)] h = (hgf h [0] a0 2).bind fun v => R_X1_givesTold d 70 [some (.ref a0), some (.ref a1), some (.int (x2)), some (.int (x3)), some (.int (x4)), some (.int (s0))] [v, .int (s0), .int (x4), .int (x3), .int (x2), .ref a1] h := by
  refine (p_goto rfl).trans ?_
  refine (p_istore rfl rfl rfl).trans ?_
  refine (p_aload rfl rfl).trans ?_
  refine (p_iload rfl rfl).trans ?_
  refine (p_iload rfl rfl).trans ?_
  refine (p_iload rfl rfl).trans ?_
  refine (p_iload rfl rfl).trans ?_
  refine (p_aload rfl rfl).trans ?_
  exact s_getf rfl
theorem r_X1_givesTold_75 {d : Nat} {b0 : Nat} {s1 s2 s3 s4 s5 : Int32} {l0 l1 l2 l3 l4 l5 : Option Value} {h : AH} : R_X1_givesTold d 75 [l0, l1, l2, l3, l4, l5] [.int (s5), .int (s4), .int (s3), .int (s2), .int (s1), .ref b0] h = ((hci h b0).bind (lkN [(1, 104)])).bind fun y => aK (exec tTab d y [.ref b0, .int (s1), .int (s2), .int (s3), .int (s4), .int (s5)] h) (fun v h1 => R_X1_givesTold d 78 [l0, l1, l2, l3, l4, l5] (v.toList ++ []) h1) (fun E h1 => some (.inr E, h1)) := s_callV (L := [(1, 104)]) (n := 5) (b := b0) (rest := []) rfl rfl rfl
theorem r_X1_givesTold_78 {d : Nat} {s0 : Int32} {l0 l1 l2 l3 l4 l5 : Option Value} {h : AH} : R_X1_givesTold d 78 [l0, l1, l2, l3, l4, l5] [.int (s0)] h = some (.inl none, h) := by
  refine (p_pop rfl rfl).trans ?_
  exact s_vret rfl
theorem e_X1_givesTold {d : Nat} {a0 a1 : Nat} {h : AH} : exec tTab (d + 1) K_X1_givesTold [.ref a0, .ref a1] h = R_X1_givesTold d 0 [some (.ref a0), some (.ref a1), none, none, none, none] [] h := exec_eq (cd := k_X1_givesTold) (hd := (fun _ _ => some none)) (L := 6) rfl rfl rfl
/-- FavourTown.word(Ljava/lang/String;)V -/
abbrev K_X1_word : Nat := 45
noncomputable def R_X1_word (d pc : Nat) (ls : ALs) (st : List Value) (h : AH) : Option (AOut × AH) := aR (exec tTab d) k_X1_word (fun _ _ => some none) (pc, ls, st, h)
theorem r_X1_word_0 {d : Nat} {a0 : Nat} {l1 : Option Value} {h : AH} : R_X1_word d 0 [some (.ref a0), l1] [] h = (hgf h [0] a0 2).bind fun v => R_X1_word d 4 [some (.ref a0), l1] [v] h := by
  refine (p_aload rfl rfl).trans ?_
  exact s_getf rfl
theorem r_X1_word_4 {d : Nat} {b0 : Nat} {l0 l1 : Option Value} {h : AH} : R_X1_word d 4 [l0, l1] [.ref b0] h = ((hci h b0).bind (lkN [(2, 132)])).bind fun y => aK (exec tTab d y [.ref b0] h) (fun v h1 => R_X1_word d 7 [l0, l1] (v.toList ++ []) h1) (fun E h1 => some (.inr E, h1)) := s_callV (L := [(2, 132)]) (n := 0) (b := b0) (rest := []) rfl rfl rfl
theorem r_X1_word_7 {d : Nat} {b0 a1 : Nat} {l0 : Option Value} {h : AH} : R_X1_word d 7 [l0, some (.ref a1)] [.ref b0] h = ((hci h b0).bind (lkN [(21, 285)])).bind fun y => aK (exec tTab d y [.ref b0, .ref a1] h) (fun v h1 => R_X1_word d 11 [l0, some (.ref a1)] (v.toList ++ []) h1) (fun E h1 => some (.inr E, h1)) := by
  refine (p_aload rfl rfl).trans ?_
  exact s_callV (L := [(21, 285)]) (n := 1) (b := b0) (rest := []) rfl rfl rfl
theorem r_X1_word_11 {d : Nat} {s0 : Int32} {l0 l1 : Option Value} {h : AH} : R_X1_word d 11 [l0, l1] [.int (s0)] h = if ¬ s0 = 0 then R_X1_word d 22 [l0, l1] [] h else R_X1_word d 14 [l0, l1] [] h := (s_if (g := (fun x => decide (¬ x = 0))) (t := 22) (nx := 14) rfl).trans bif_dec
theorem r_X1_word_22 {d : Nat} {l0 l1 : Option Value} {h : AH} : R_X1_word d 22 [l0, l1] [] h = some (.inl none, h) := s_vret rfl
theorem r_X1_word_14 {d : Nat} {a0 : Nat} {l1 : Option Value} {h : AH} : R_X1_word d 14 [some (.ref a0), l1] [] h = (hgf h [0] a0 2).bind fun v => R_X1_word d 18 [some (.ref a0), l1] [v] h := by
  refine (p_aload rfl rfl).trans ?_
  exact s_getf rfl
theorem r_X1_word_18 {d : Nat} {b0 : Nat} {l0 l1 : Option Value} {h : AH} : R_X1_word d 18 [l0, l1] [.ref b0] h = ((hci h b0).bind (lkN [(2, 133)])).bind fun y => aK (exec tTab d y [.ref b0] h) (fun v h1 => R_X1_word d 21 [l0, l1] (v.toList ++ []) h1) (fun E h1 => some (.inr E, h1)) := s_callV (L := [(2, 133)]) (n := 0) (b := b0) (rest := []) rfl rfl rfl
theorem r_X1_word_21 {d : Nat} {b0 : Nat} {l0 l1 : Option Value} {h : AH} : R_X1_word d 21 [l0, l1] [.ref b0] h = (hex h [17, 22, 23, 24, 25] b0).bind fun E => (fun E h1 => some (.inr E, h1)) E h := s_athrow rfl
theorem e_X1_word {d : Nat} {a0 a1 : Nat} {h : AH} : exec tTab (d + 1) K_X1_word [.ref a0, .ref a1] h = R_X1_word d 0 [some (.ref a0), some (.ref a1)] [] h := exec_eq (cd := k_X1_word) (hd := (fun _ _ => some none)) (L := 2) rfl rfl rfl
/-- FavourTown.favourTold(LFavourTown$World;)LFavourTown$Favour; -/
abbrev K_X1_favourTold : Nat := 46
noncomputable def R_X1_favourTold (d pc : Nat) (ls : ALs) (st : List Value) (h : AH) : Option (AOut × AH) := aR (exec tTab d) k_X1_favourTold (fun _ _ => some none) (pc, ls, st, h)
theorem r_X1_favourTold_0 {d : Nat} {a1 : Nat} {l0 : Option Value} {h : AH} : R_X1_favourTold d 0 [l0, some (.ref a1)] [] h = (hgf h [1] a1 9).bind fun v => R_X1_favourTold d 4 [l0, some (.ref a1)] [v] h := by
  refine (p_aload rfl rfl).trans ?_
  exact s_getf rfl
theorem r_X1_favourTold_4 {d : Nat} {b0 a0 : Nat} {l1 : Option Value} {h : AH} : R_X1_favourTold d 4 [some (.ref a0), l1] [.ref b0] h = (hgf h [0] a0 2).bind fun v => R_X1_favourTold d 8 [some (.ref a0), l1] [v, .ref b0] h := by
  refine (p_aload rfl rfl).trans ?_
  exact s_getf rfl
theorem r_X1_favourTold_4N {d : Nat} {a0 : Nat} {l1 : Option Value} {h : AH} : R_X1_favourTold d 4 [some (.ref a0), l1] [.null] h = (hgf h [0] a0 2).bind fun v => R_X1_favourTold d 8 [some (.ref a0), l1] [v, .null] h := by
  refine (p_aload rfl rfl).trans ?_
  exact s_getf rfl
theorem r_X1_favourTold_8 {d : Nat} {b0 b1 a1 : Nat} {l0 : Option Value} {h : AH} : R_X1_favourTold d 8 [l0, some (.ref a1)] [.ref b1, .ref b0] h = (hgf h [1] a1 9).bind fun v => R_X1_favourTold d 13 [l0, some (.ref a1)] [v, .int ((nI 0)), .ref b1, .ref b0] h := by
  refine (p_const rfl).trans ?_
  refine (p_aload rfl rfl).trans ?_
  exact s_getf rfl
theorem r_X1_favourTold_8N {d : Nat} {b0 a1 : Nat} {l0 : Option Value} {h : AH} : R_X1_favourTold d 8 [l0, some (.ref a1)] [.null, .ref b0] h = (hgf h [1] a1 9).bind fun v => R_X1_favourTold d 13 [l0, some (.ref a1)] [v, .int ((nI 0)), .null, .ref b0] h := by
  refine (p_const rfl).trans ?_
  refine (p_aload rfl rfl).trans ?_
  exact s_getf rfl
theorem r_X1_favourTold_13 {d : Nat} {b0 b1 b3 : Nat} {s2 : Int32} {l0 l1 : Option Value} {h : AH} : R_X1_favourTold d 13 [l0, l1] [.ref b3, .int (s2), .ref b1, .ref b0] h = ((hci h b3).bind (lkN [(19, 113)])).bind fun y => aK (exec tTab d y [.ref b3] h) (fun v h1 => R_X1_favourTold d 16 [l0, l1] (v.toList ++ [.int (s2), .ref b1, .ref b0]) h1) (fun E h1 => some (.inr E, h1)) := s_callV (L := [(19, 113)]) (n := 0) (b := b3) (rest := [.int (s2), .ref b1, .ref b0]) rfl rfl rfl
theorem r_X1_favourTold_16 {d : Nat} {b0 b1 : Nat} {s2 s3 : Int32} {l0 l1 : Option Value} {h : AH} : R_X1_favourTold d 16 [l0, l1] [.int (s3), .int (s2), .ref b1, .ref b0] h = ((hci h b1).bind (lkN [(2, 134)])).bind fun y => aK (exec tTab d y [.ref b1, .int (s2), .int (s3 - (nI 1))] h) (fun v h1 => R_X1_favourTold d 21 [l0, l1] (v.toList ++ [.ref b0]) h1) (fun E h1 => some (.inr E, h1)) := by
  refine (p_const rfl).trans ?_
  refine (p_bin rfl).trans ?_
  exact s_callV (L := [(2, 134)]) (n := 2) (b := b1) (rest := [.ref b0]) rfl rfl rfl
theorem r_X1_favourTold_21 {d : Nat} {b0 : Nat} {s1 : Int32} {l0 l1 : Option Value} {h : AH} : R_X1_favourTold d 21 [l0, l1] [.int (s1), .ref b0] h = ((hci h b0).bind (lkN [(19, 114)])).bind fun y => aK (exec tTab d y [.ref b0, .int (s1)] h) (fun v h1 => R_X1_favourTold d 24 [l0, l1] (v.toList ++ []) h1) (fun E h1 => some (.inr E, h1)) := s_callV (L := [(19, 114)]) (n := 1) (b := b0) (rest := []) rfl rfl rfl
theorem r_X1_favourTold_24 {d : Nat} {b0 : Nat} {l0 l1 : Option Value} {h : AH} : R_X1_favourTold d 24 [l0, l1] [.ref b0] h = bif hck h [5, 6] [] b0 then R_X1_favourTold d 27 [l0, l1] [.ref b0] h else none := s_cast rfl
theorem r_X1_favourTold_24N {d : Nat} {l0 l1 : Option Value} {h : AH} : R_X1_favourTold d 24 [l0, l1] [.null] h = some (.inl (some (.null)), h) := by
  refine (p_castN rfl).trans ?_
  exact s_aretN rfl
theorem r_X1_favourTold_27 {d : Nat} {b0 : Nat} {l0 l1 : Option Value} {h : AH} : R_X1_favourTold d 27 [l0, l1] [.ref b0] h = some (.inl (some (.ref b0)), h) := s_aret rfl
theorem r_X1_favourTold_27N {d : Nat} {l0 l1 : Option Value} {h : AH} : R_X1_favourTold d 27 [l0, l1] [.null] h = some (.inl (some (.null)), h) := s_aretN rfl
theorem e_X1_favourTold {d : Nat} {a0 a1 : Nat} {h : AH} : exec tTab (d + 1) K_X1_favourTold [.ref a0, .ref a1] h = R_X1_favourTold d 0 [some (.ref a0), some (.ref a1)] [] h := exec_eq (cd := k_X1_favourTold) (hd := (fun _ _ => some none)) (L := 2) rfl rfl rfl
/-- FavourTown.goesOn()Z -/
abbrev K_X1_goesOn : Nat := 47
noncomputable def R_X1_goesOn (d pc : Nat) (ls : ALs) (st : List Value) (h : AH) : Option (AOut × AH) := aR (exec tTab d) k_X1_goesOn (fun _ _ => some none) (pc, ls, st, h)
theorem r_X1_goesOn_0 {d : Nat} {a0 : Nat} {h : AH} : R_X1_goesOn d 0 [some (.ref a0)] [] h = (hgf h [0] a0 2).bind fun v => R_X1_goesOn d 4 [some (.ref a0)] [v] h := by
  refine (p_aload rfl rfl).trans ?_
  exact s_getf rfl
theorem r_X1_goesOn_4 {d : Nat} {b0 : Nat} {l0 : Option Value} {h : AH} : R_X1_goesOn d 4 [l0] [.ref b0] h = ((hci h b0).bind (lkN [(2, 129)])).bind fun y => aK (exec tTab d y [.ref b0] h) (fun v h1 => R_X1_goesOn d 7 [l0] (v.toList ++ []) h1) (fun E h1 => some (.inr E, h1)) := s_callV (L := [(2, 129)]) (n := 0) (b := b0) (rest := []) rfl rfl rfl
theorem r_X1_goesOn_7 {d : Nat} {s0 : Int32} {l0 : Option Value} {h : AH} : R_X1_goesOn d 7 [l0] [.int (s0)] h = if s0 = 0 then R_X1_goesOn d 12 [l0] [] h else R_X1_goesOn d 10 [l0] [] h := (s_if (g := (fun x => decide (x = 0))) (t := 12) (nx := 10) rfl).trans bif_dec
theorem r_X1_goesOn_12 {d : Nat} {a0 : Nat} {h : AH} : R_X1_goesOn d 12 [some (.ref a0)] [] h = (hgf h [0] a0 2).bind fun v => R_X1_goesOn d 16 [some (.ref a0)] [v] h := by
  refine (p_aload rfl rfl).trans ?_
  exact s_getf rfl
theorem r_X1_goesOn_10 {d : Nat} {l0 : Option Value} {h : AH} : R_X1_goesOn d 10 [l0] [] h = some (.inl (some (.int ((nI 0)))), h) := by
  refine (p_const rfl).trans ?_
  exact s_iretT rfl rfl
theorem r_X1_goesOn_16 {d : Nat} {b0 : Nat} {l0 : Option Value} {h : AH} : R_X1_goesOn d 16 [l0] [.ref b0] h = ((hci h b0).bind (lkN [(2, 136)])).bind fun y => aK (exec tTab d y [.ref b0, .int ((nI 59))] h) (fun v h1 => R_X1_goesOn d 21 [l0] (v.toList ++ []) h1) (fun E h1 => some (.inr E, h1)) := by
  refine (p_const rfl).trans ?_
  exact s_callV (L := [(2, 136)]) (n := 1) (b := b0) (rest := []) rfl rfl rfl
theorem r_X1_goesOn_21 {d : Nat} {s0 : Int32} {l0 : Option Value} {h : AH} : R_X1_goesOn d 21 [l0] [.int (s0)] h = if s0 = 0 then R_X1_goesOn d 26 [l0] [] h else R_X1_goesOn d 24 [l0] [] h := (s_if (g := (fun x => decide (x = 0))) (t := 26) (nx := 24) rfl).trans bif_dec
theorem r_X1_goesOn_26 {d : Nat} {a0 : Nat} {h : AH} : R_X1_goesOn d 26 [some (.ref a0)] [] h = (hgf h [0] a0 2).bind fun v => R_X1_goesOn d 30 [some (.ref a0)] [v] h := by
  refine (p_aload rfl rfl).trans ?_
  exact s_getf rfl
theorem r_X1_goesOn_24 {d : Nat} {l0 : Option Value} {h : AH} : R_X1_goesOn d 24 [l0] [] h = some (.inl (some (.int ((nI 1)))), h) := by
  refine (p_const rfl).trans ?_
  exact s_iretT rfl rfl
theorem r_X1_goesOn_30 {d : Nat} {b0 : Nat} {l0 : Option Value} {h : AH} : R_X1_goesOn d 30 [l0] [.ref b0] h = ((hci h b0).bind (lkN [(2, 133)])).bind fun y => aK (exec tTab d y [.ref b0] h) (fun v h1 => R_X1_goesOn d 33 [l0] (v.toList ++ []) h1) (fun E h1 => some (.inr E, h1)) := s_callV (L := [(2, 133)]) (n := 0) (b := b0) (rest := []) rfl rfl rfl
theorem r_X1_goesOn_33 {d : Nat} {b0 : Nat} {l0 : Option Value} {h : AH} : R_X1_goesOn d 33 [l0] [.ref b0] h = (hex h [17, 22, 23, 24, 25] b0).bind fun E => (fun E h1 => some (.inr E, h1)) E h := s_athrow rfl
theorem e_X1_goesOn {d : Nat} {a0 : Nat} {h : AH} : exec tTab (d + 1) K_X1_goesOn [.ref a0] h = R_X1_goesOn d 0 [some (.ref a0)] [] h := exec_eq (cd := k_X1_goesOn) (hd := (fun _ _ => some none)) (L := 1) rfl rfl rfl
/-- FavourTown.fails()V -/
abbrev K_X1_fails : Nat := 48
noncomputable def R_X1_fails (d pc : Nat) (ls : ALs) (st : List Value) (h : AH) : Option (AOut × AH) := aR (exec tTab d) k_X1_fails (fun _ _ => some none) (pc, ls, st, h)
theorem r_X1_fails_0 {d : Nat} {a0 : Nat} {h : AH} : R_X1_fails d 0 [some (.ref a0)] [] h = (hgf h [0] a0 2).bind fun v => R_X1_fails d 4 [some (.ref a0)] [v] h := by
  refine (p_aload rfl rfl).trans ?_
  exact s_getf rfl
theorem r_X1_fails_4 {d : Nat} {b0 a0 : Nat} {h : AH} : R_X1_fails d 4 [some (.ref a0)] [.ref b0] h = (hgf h [0] a0 2).bind fun v => R_X1_fails d 8 [some (.ref a0)] [v, .ref b0] h := by
  refine (p_aload rfl rfl).trans ?_
  exact s_getf rfl
theorem r_X1_fails_4N {d : Nat} {a0 : Nat} {h : AH} : R_X1_fails d 4 [some (.ref a0)] [.null] h = (hgf h [0] a0 2).bind fun v => R_X1_fails d 8 [some (.ref a0)] [v, .null] h := by
  refine (p_aload rfl rfl).trans ?_
  exact s_getf rfl
theorem r_X1_fails_8 {d : Nat} {b0 b1 : Nat} {l0 : Option Value} {h : AH} : R_X1_fails d 8 [l0] [.ref b1, .ref b0] h = (hgf h [2] b1 4).bind fun v => R_X1_fails d 11 [l0] [v, .ref b0] h := s_getf rfl
theorem r_X1_fails_11 {d : Nat} {b0 : Nat} {s1 : Int32} {l0 : Option Value} {h : AH} : R_X1_fails d 11 [l0] [.int (s1), .ref b0] h = (hpf h [2] b0 5 (.int (s1))).bind fun h1 => R_X1_fails d 14 [l0] [] h1 := s_putT rfl rfl
theorem r_X1_fails_14 {d : Nat} {l0 : Option Value} {h : AH} : R_X1_fails d 14 [l0] [] h = R_X1_fails d 21 [l0] [.ref h.2.1] (hnew h (true, .inr (22, [])) 6) := s_make rfl rfl
theorem r_X1_fails_21 {d : Nat} {b0 : Nat} {l0 : Option Value} {h : AH} : R_X1_fails d 21 [l0] [.ref b0] h = (hex h [17, 22, 23, 24, 25] b0).bind fun E => (fun E h1 => some (.inr E, h1)) E h := s_athrow rfl
theorem e_X1_fails {d : Nat} {a0 : Nat} {h : AH} : exec tTab (d + 1) K_X1_fails [.ref a0] h = R_X1_fails d 0 [some (.ref a0)] [] h := exec_eq (cd := k_X1_fails) (hd := (fun _ _ => some none)) (L := 1) rfl rfl rfl
/-- FavourTown.temper()I -/
abbrev K_X1_temper : Nat := 49
noncomputable def R_X1_temper (d pc : Nat) (ls : ALs) (st : List Value) (h : AH) : Option (AOut × AH) := aR (exec tTab d) k_X1_temper hd_X1_temper (pc, ls, st, h)
theorem r_X1_temper_0 {d : Nat} {a0 : Nat} {l1 l2 : Option Value} {h : AH} : R_X1_temper d 0 [some (.ref a0), l1, l2] [] h = (hgf h [0] a0 2).bind fun v => R_X1_temper d 4 [some (.ref a0), l1, l2] [v] h := by
  refine (p_aload rfl rfl).trans ?_
  exact s_getf rfl
theorem r_X1_temper_26 {d : Nat} {a0 : Nat} {l1 l2 : Option Value} {h : AH} : R_X1_temper d 26 [some (.ref a0), l1, l2] [] h = ((hci h a0).bind (lkN [(0, 48)])).bind fun y => aK (exec tTab d y [.ref a0] h) (fun v h1 => R_X1_temper d 30 [some (.ref a0), l1, l2] (v.toList ++ []) h1) (fun E h1 => aT (exec tTab d) k_X1_temper hd_X1_temper 27 [some (.ref a0), l1, l2] E h1) := by
  refine (p_aload rfl rfl).trans ?_
  exact s_callV (L := [(0, 48)]) (n := 0) (b := a0) (rest := []) rfl rfl rfl
theorem r_X1_temper_4 {d : Nat} {b0 : Nat} {l0 l1 l2 : Option Value} {h : AH} : R_X1_temper d 4 [l0, l1, l2] [.ref b0] h = ((hci h b0).bind (lkN [(2, 128)])).bind fun y => aK (exec tTab d y [.ref b0] h) (fun v h1 => R_X1_temper d 7 [l0, l1, l2] (v.toList ++ []) h1) (fun E h1 => aT (exec tTab d) k_X1_temper hd_X1_temper 4 [l0, l1, l2] E h1) := s_callV (L := [(2, 128)]) (n := 0) (b := b0) (rest := []) rfl rfl rfl
theorem r_X1_temper_30 {d : Nat} {a0 : Nat} {l1 l2 : Option Value} {h : AH} : R_X1_temper d 30 [some (.ref a0), l1, l2] [] h = (hgf h [0] a0 0).bind fun v => R_X1_temper d 34 [some (.ref a0), l1, l2] [v] h := by
  refine (p_aload rfl rfl).trans ?_
  exact s_getf rfl
theorem r_X1_temper_7 {d : Nat} {a0 : Nat} {l1 l2 : Option Value} {h : AH} : R_X1_temper d 7 [some (.ref a0), l1, l2] [] h = ((hci h a0).bind (lkN [(0, 50)])).bind fun y => aK (exec tTab d y [.ref a0] h) (fun v h1 => R_X1_temper d 13 [some (.ref a0), some (.null), l2] (v.toList ++ []) h1) (fun E h1 => aT (exec tTab d) k_X1_temper hd_X1_temper 10 [some (.ref a0), some (.null), l2] E h1) := by
  refine (p_const rfl).trans ?_
  refine (p_astoreN rfl rfl rfl).trans ?_
  refine (p_aload rfl rfl).trans ?_
  exact s_callV (L := [(0, 50)]) (n := 0) (b := a0) (rest := []) rfl rfl rfl
theorem r_X1_temper_34 {d : Nat} {b0 : Nat} {l0 l1 l2 : Option Value} {h : AH} : R_X1_temper d 34 [l0, l1, l2] [.ref b0] h = (hgf h [1] b0 11).bind fun v => R_X1_temper d 37 [l0, l1, l2] [v] h := s_getf rfl
theorem r_X1_temper_13 {d : Nat} {b0 a0 : Nat} {l1 l2 : Option Value} {h : AH} : R_X1_temper d 13 [some (.ref a0), l1, l2] [.ref b0] h = (hgf h [0] a0 2).bind fun v => R_X1_temper d 18 [some (.ref a0), some (.ref b0), l2] [v] h := by
  refine (p_astore rfl rfl rfl).trans ?_
  refine (p_aload rfl rfl).trans ?_
  exact s_getf rfl
theorem r_X1_temper_13N {d : Nat} {a0 : Nat} {l1 l2 : Option Value} {h : AH} : R_X1_temper d 13 [some (.ref a0), l1, l2] [.null] h = (hgf h [0] a0 2).bind fun v => R_X1_temper d 18 [some (.ref a0), some (.null), l2] [v] h := by
  refine (p_astoreN rfl rfl rfl).trans ?_
  refine (p_aload rfl rfl).trans ?_
  exact s_getf rfl
theorem r_X1_temper_37 {d : Nat} {b0 : Nat} {l0 l1 l2 : Option Value} {h : AH} : R_X1_temper d 37 [l0, l1, l2] [.ref b0] h = ((hci h b0).bind (lkN [(19, 113)])).bind fun y => aK (exec tTab d y [.ref b0] h) (fun v h1 => R_X1_temper d 40 [l0, l1, l2] (v.toList ++ []) h1) (fun E h1 => aT (exec tTab d) k_X1_temper hd_X1_temper 37 [l0, l1, l2] E h1) := s_callV (L := [(19, 113)]) (n := 0) (b := b0) (rest := []) rfl rfl rfl
theorem r_X1_temper_18 {d : Nat} {b0 : Nat} {l0 l1 l2 : Option Value} {h : AH} : R_X1_temper d 18 [l0, l1, l2] [.ref b0] h = (hpf h [2] b0 5 (.int ((-1)))).bind fun h1 => R_X1_temper d 22 [l0, l1, l2] [] h1 := by
  refine (p_const rfl).trans ?_
  exact s_putT rfl rfl
theorem r_X1_temper_40 {d : Nat} {s0 : Int32} {l0 l1 l2 : Option Value} {h : AH} : R_X1_temper d 40 [l0, l1, l2] [.int (s0)] h = if ¬ s0 = (nI 6) then R_X1_temper d 53 [l0, l1, l2] [] h else R_X1_temper d 45 [l0, l1, l2] [] h := by
  refine (p_const rfl).trans ?_
  exact (s_icmp (g := (fun x y => decide (¬ x = y))) (t := 53) (nx := 45) rfl).trans bif_dec
theorem r_X1_temper_22 {d : Nat} {a0 : Nat} {l1 l2 : Option Value} {h : AH} : R_X1_temper d 22 [some (.ref a0), l1, l2] [] h = (hgf h [0] a0 0).bind fun v => R_X1_temper d 34 [some (.ref a0), l1, l2] [v] h := by
  refine (p_goto rfl).trans ?_
  refine (p_aload rfl rfl).trans ?_
  exact s_getf rfl
theorem r_X1_temper_53 {d : Nat} {a0 : Nat} {l1 l2 : Option Value} {h : AH} : R_X1_temper d 53 [some (.ref a0), l1, l2] [] h = (hgf h [0] a0 0).bind fun v => R_X1_temper d 57 [some (.ref a0), l1, l2] [v] h := by
  refine (p_aload rfl rfl).trans ?_
  exact s_getf rfl
theorem r_X1_temper_45 {d : Nat} {l0 l1 l2 : Option Value} {h : AH} : R_X1_temper d 45 [l0, l1, l2] [] h = R_X1_temper d 52 [l0, l1, l2] [.ref h.2.1] (hnew h (true, .inr (23, [])) 6) := s_make rfl rfl
theorem r_X1_temper_57 {d : Nat} {b0 : Nat} {l0 l1 l2 : Option Value} {h : AH} : R_X1_temper d 57 [l0, l1, l2] [.ref b0] h = (hgf h [1] b0 11).bind fun v => R_X1_temper d 60 [l0, l1, l2] [v] h := s_getf rfl
theorem r_X1_temper_52 {d : Nat} {b0 : Nat} {l0 l1 l2 : Option Value} {h : AH} : R_X1_temper d 52 [l0, l1, l2] [.ref b0] h = (hex h [17, 22, 23, 24, 25] b0).bind fun E => (fun E h1 => aT (exec tTab d) k_X1_temper hd_X1_temper 52 [l0, l1, l2] E h1) E h := s_athrow rfl
theorem r_X1_temper_60 {d : Nat} {b0 a1 : Nat} {l0 l2 : Option Value} {h : AH} : R_X1_temper d 60 [l0, some (.ref a1), l2] [.ref b0] h = ((hci h b0).bind (lkN [(19, 116)])).bind fun y => aK (exec tTab d y [.ref b0, .ref a1] h) (fun v h1 => R_X1_temper d 64 [l0, some (.ref a1), l2] (v.toList ++ []) h1) (fun E h1 => aT (exec tTab d) k_X1_temper hd_X1_temper 61 [l0, some (.ref a1), l2] E h1) := by
  refine (p_aload rfl rfl).trans ?_
  exact s_callV (L := [(19, 116)]) (n := 1) (b := b0) (rest := []) rfl rfl rfl
theorem r_X1_temper_64 {d : Nat} {s0 : Int32} {a0 : Nat} {l1 l2 : Option Value} {h : AH} : R_X1_temper d 64 [some (.ref a0), l1, l2] [.int (s0)] h = (hgf h [0] a0 0).bind fun v => R_X1_temper d 69 [some (.ref a0), l1, l2] [v] h := by
  refine (p_pop rfl rfl).trans ?_
  refine (p_aload rfl rfl).trans ?_
  exact s_getf rfl
theorem r_X1_temper_69 {d : Nat} {b0 : Nat} {l0 l1 l2 : Option Value} {h : AH} : R_X1_temper d 69 [l0, l1, l2] [.ref b0] h = (hgf h [1] b0 11).bind fun v => R_X1_temper d 72 [l0, l1, l2] [v] h := s_getf rfl
theorem r_X1_temper_72 {d : Nat} {b0 : Nat} {l0 l1 l2 : Option Value} {h : AH} : R_X1_temper d 72 [l0, l1, l2] [.ref b0] h = ((hci h b0).bind (lkN [(19, 113)])).bind fun y => aK (exec tTab d y [.ref b0] h) (fun v h1 => R_X1_temper d 75 [l0, l1, l2] (v.toList ++ []) h1) (fun E h1 => aT (exec tTab d) k_X1_temper hd_X1_temper 72 [l0, l1, l2] E h1) := s_callV (L := [(19, 113)]) (n := 0) (b := b0) (rest := []) rfl rfl rfl
theorem r_X1_temper_75 {d : Nat} {s0 : Int32} {l0 l1 l2 : Option Value} {h : AH} : R_X1_temper d 75 [l0, l1, l2] [.int (s0)] h = some (.inl (some (.int (s0 - (nI 1)))), h) := by
  refine (p_const rfl).trans ?_
  refine (p_bin rfl).trans ?_
  exact s_iretT rfl rfl
theorem e_X1_temper {d : Nat} {a0 : Nat} {h : AH} : exec tTab (d + 1) K_X1_temper [.ref a0] h = R_X1_temper d 0 [some (.ref a0), none, none] [] h := exec_eq (cd := k_X1_temper) (hd := hd_X1_temper) (L := 3) rfl rfl rfl
theorem h_X1_temper_4 {d : Nat} {ls : ALs} {E : Nat} {h : AH} : aT (exec tTab d) k_X1_temper hd_X1_temper 4 ls E h = some (.inr E, h) := rfl
theorem h_X1_temper_10_17 {d : Nat} {ls : ALs} {h : AH} : aT (exec tTab d) k_X1_temper hd_X1_temper 10 ls 17 h = R_X1_temper d 26 (ls.set 2 none) [] h := rfl
theorem h_X1_temper_27 {d : Nat} {ls : ALs} {E : Nat} {h : AH} : aT (exec tTab d) k_X1_temper hd_X1_temper 27 ls E h = some (.inr E, h) := rfl
theorem h_X1_temper_37 {d : Nat} {ls : ALs} {E : Nat} {h : AH} : aT (exec tTab d) k_X1_temper hd_X1_temper 37 ls E h = some (.inr E, h) := rfl
theorem h_X1_temper_52 {d : Nat} {ls : ALs} {E : Nat} {h : AH} : aT (exec tTab d) k_X1_temper hd_X1_temper 52 ls E h = some (.inr E, h) := rfl
theorem h_X1_temper_61 {d : Nat} {ls : ALs} {E : Nat} {h : AH} : aT (exec tTab d) k_X1_temper hd_X1_temper 61 ls E h = some (.inr E, h) := rfl
theorem h_X1_temper_72 {d : Nat} {ls : ALs} {E : Nat} {h : AH} : aT (exec tTab d) k_X1_temper hd_X1_temper 72 ls E h = some (.inr E, h) := rfl
/-- FavourTown.temperText()LFavourTown$Temper; -/
abbrev K_X1_temperText : Nat := 50
noncomputable def R_X1_temperText (d pc : Nat) (ls : ALs) (st : List Value) (h : AH) : Option (AOut × AH) := aR (exec tTab d) k_X1_temperText (fun _ _ => some none) (pc, ls, st, h)
theorem r_X1_temperText_0 {d : Nat} {l0 l1 : Option Value} {h : AH} : R_X1_temperText d 0 [l0, l1] [] h = R_X1_temperText d 3 [l0, l1] [.ref h.2.1] (hnew h (true, .inr (9, [.null])) 1) := p_new rfl
theorem r_X1_temperText_3 {d : Nat} {b0 : Nat} {l0 l1 : Option Value} {h : AH} : R_X1_temperText d 3 [l0, l1] [.ref b0] h = aK (exec tTab d 308 [.ref b0] h) (fun v h1 => R_X1_temperText d 7 [l0, l1] (v.toList ++ [.ref b0]) h1) (fun E h1 => some (.inr E, h1)) := by
  refine (p_dup rfl rfl).trans ?_
  exact s_callI (y := 308) (n := 0) (b := b0) (rest := [.ref b0]) rfl rfl rfl
theorem r_X1_temperText_7 {d : Nat} {b0 a0 : Nat} {l1 : Option Value} {h : AH} : R_X1_temperText d 7 [some (.ref a0), l1] [.ref b0] h = (hgf h [0] a0 2).bind fun v => R_X1_temperText d 12 [some (.ref a0), some (.ref b0)] [v] h := by
  refine (p_astore rfl rfl rfl).trans ?_
  refine (p_aload rfl rfl).trans ?_
  exact s_getf rfl
theorem r_X1_temperText_7N {d : Nat} {a0 : Nat} {l1 : Option Value} {h : AH} : R_X1_temperText d 7 [some (.ref a0), l1] [.null] h = (hgf h [0] a0 2).bind fun v => R_X1_temperText d 12 [some (.ref a0), some (.null)] [v] h := by
  refine (p_astoreN rfl rfl rfl).trans ?_
  refine (p_aload rfl rfl).trans ?_
  exact s_getf rfl
theorem r_X1_temperText_12 {d : Nat} {b0 : Nat} {l0 l1 : Option Value} {h : AH} : R_X1_temperText d 12 [l0, l1] [.ref b0] h = ((hci h b0).bind (lkN [(2, 129)])).bind fun y => aK (exec tTab d y [.ref b0] h) (fun v h1 => R_X1_temperText d 15 [l0, l1] (v.toList ++ []) h1) (fun E h1 => some (.inr E, h1)) := s_callV (L := [(2, 129)]) (n := 0) (b := b0) (rest := []) rfl rfl rfl
theorem r_X1_temperText_15 {d : Nat} {s0 : Int32} {l0 l1 : Option Value} {h : AH} : R_X1_temperText d 15 [l0, l1] [.int (s0)] h = if s0 = 0 then R_X1_temperText d 20 [l0, l1] [] h else R_X1_temperText d 18 [l0, l1] [] h := (s_if (g := (fun x => decide (x = 0))) (t := 20) (nx := 18) rfl).trans bif_dec
theorem q_X1_temperText_20 {d : Nat} {a0 a1 : Nat} {h : AH} : R_X1_temperText d 20 [some (.ref a0), some (.ref a1)] [] h = (hgf h [9] a1 0).bind fun v => R_X1_temperText d 25 [some (.ref a0), some (.ref a1)] [v, .ref a0] h := by
  refine (p_aload rfl rfl).trans ?_
  refine (p_aload rfl rfl).trans ?_
  exact s_getf rfl
theorem r_X1_temperText_18 {d : Nat} {a1 : Nat} {l0 : Option Value} {h : AH} : R_X1_temperText d 18 [l0, some (.ref a1)] [] h = some (.inl (some (.ref a1)), h) := by
  refine (p_aload rfl rfl).trans ?_
  exact s_aret rfl
theorem r_X1_temperText_25 {d : Nat} {b0 b1 : Nat} {l0 l1 : Option Value} {h : AH} : R_X1_temperText d 25 [l0, l1] [.ref b1, .ref b0] h = ((hci h b1).bind (lkN [(19, 113)])).bind fun y => aK (exec tTab d y [.ref b1] h) (fun v h1 => R_X1_temperText d 28 [l0, l1] (v.toList ++ [.ref b0]) h1) (fun E h1 => some (.inr E, h1)) := s_callV (L := [(19, 113)]) (n := 0) (b := b1) (rest := [.ref b0]) rfl rfl rfl
theorem r_X1_temperText_28 {d : Nat} {b0 : Nat} {s1 : Int32} {l0 l1 : Option Value} {h : AH} : R_X1_temperText d 28 [l0, l1] [.int (s1), .ref b0] h = ((hci h b0).bind (lkN [(0, 39)])).bind fun y => aK (exec tTab d y [.ref b0, .int (s1), .int ((nI 12))] h) (fun v h1 => R_X1_temperText d 33 [l0, l1] (v.toList ++ []) h1) (fun E h1 => some (.inr E, h1)) := by
  refine (p_const rfl).trans ?_
  exact s_callV (L := [(0, 39)]) (n := 2) (b := b0) (rest := []) rfl rfl rfl
theorem r_X1_temperText_33 {d : Nat} {a1 : Nat} {l0 : Option Value} {h : AH} : R_X1_temperText d 33 [l0, some (.ref a1)] [] h = (hgf h [9] a1 0).bind fun v => R_X1_temperText d 37 [l0, some (.ref a1)] [v] h := by
  refine (p_aload rfl rfl).trans ?_
  exact s_getf rfl
theorem r_X1_temperText_37 {d : Nat} {b0 a0 : Nat} {l1 : Option Value} {h : AH} : R_X1_temperText d 37 [some (.ref a0), l1] [.ref b0] h = ((hci h a0).bind (lkN [(0, 51)])).bind fun y => aK (exec tTab d y [.ref a0] h) (fun v h1 => R_X1_temperText d 41 [some (.ref a0), l1] (v.toList ++ [.ref b0]) h1) (fun E h1 => some (.inr E, h1)) := by
  refine (p_aload rfl rfl).trans ?_
  exact s_callV (L := [(0, 51)]) (n := 0) (b := a0) (rest := [.ref b0]) rfl rfl rfl
theorem r_X1_temperText_37N {d : Nat} {a0 : Nat} {l1 : Option Value} {h : AH} : R_X1_temperText d 37 [some (.ref a0), l1] [.null] h = ((hci h a0).bind (lkN [(0, 51)])).bind fun y => aK (exec tTab d y [.ref a0] h) (fun v h1 => R_X1_temperText d 41 [some (.ref a0), l1] (v.toList ++ [.null]) h1) (fun E h1 => some (.inr E, h1)) := by
  refine (p_aload rfl rfl).trans ?_
  exact s_callV (L := [(0, 51)]) (n := 0) (b := a0) (rest := [.null]) rfl rfl rfl
theorem r_X1_temperText_41 {d : Nat} {b0 b1 : Nat} {l0 l1 : Option Value} {h : AH} : R_X1_temperText d 41 [l0, l1] [.ref b1, .ref b0] h = ((hci h b0).bind (lkN [(19, 116)])).bind fun y => aK (exec tTab d y [.ref b0, .ref b1] h) (fun v h1 => R_X1_temperText d 44 [l0, l1] (v.toList ++ []) h1) (fun E h1 => some (.inr E, h1)) := s_callV (L := [(19, 116)]) (n := 1) (b := b0) (rest := []) rfl rfl rfl
theorem r_X1_temperText_41N {d : Nat} {b0 : Nat} {l0 l1 : Option Value} {h : AH} : R_X1_temperText d 41 [l0, l1] [.null, .ref b0] h = ((hci h b0).bind (lkN [(19, 116)])).bind fun y => aK (exec tTab d y [.ref b0, .null] h) (fun v h1 => R_X1_temperText d 44 [l0, l1] (v.toList ++ []) h1) (fun E h1 => some (.inr E, h1)) := s_callV (L := [(19, 116)]) (n := 1) (b := b0) (rest := []) rfl rfl rfl
theorem r_X1_temperText_44 {d : Nat} {s0 : Int32} {a0 : Nat} {l1 : Option Value} {h : AH} : R_X1_temperText d 44 [some (.ref a0), l1] [.int (s0)] h = ((hci h a0).bind (lkN [(0, 47)])).bind fun y => aK (exec tTab d y [.ref a0] h) (fun v h1 => R_X1_temperText d 49 [some (.ref a0), l1] (v.toList ++ []) h1) (fun E h1 => some (.inr E, h1)) := by
  refine (p_pop rfl rfl).trans ?_
  refine (p_aload rfl rfl).trans ?_
  exact s_callV (L := [(0, 47)]) (n := 0) (b := a0) (rest := []) rfl rfl rfl
theorem r_X1_temperText_49 {d : Nat} {s0 : Int32} {l0 l1 : Option Value} {h : AH} : R_X1_temperText d 49 [l0, l1] [.int (s0)] h = if ¬ s0 = 0 then R_X1_temperText d 20 [l0, l1] [] h else R_X1_temperText d 52 [l0, l1] [] h := (s_if (g := (fun x => decide (¬ x = 0))) (t := 20) (nx := 52) rfl).trans bif_dec
theorem r_X1_temperText_52 {d : Nat} {a1 : Nat} {l0 : Option Value} {h : AH} : R_X1_temperText d 52 [l0, some (.ref a1)] [] h = some (.inl (some (.ref a1)), h) := by
  refine (p_aload rfl rfl).trans ?_
  exact s_aret rfl
theorem e_X1_temperText {d : Nat} {a0 : Nat} {h : AH} : exec tTab (d + 1) K_X1_temperText [.ref a0] h = R_X1_temperText d 0 [some (.ref a0), none] [] h := exec_eq (cd := k_X1_temperText) (hd := (fun _ _ => some none)) (L := 2) rfl rfl rfl
/-- FavourTown.temperLine()LFavourTown$Line; -/
abbrev K_X1_temperLine : Nat := 51
noncomputable def R_X1_temperLine (d pc : Nat) (ls : ALs) (st : List Value) (h : AH) : Option (AOut × AH) := aR (exec tTab d) k_X1_temperLine (fun _ _ => some none) (pc, ls, st, h)
theorem r_X1_temperLine_0 {d : Nat} {a0 : Nat} {l1 l2 : Option Value} {h : AH} : R_X1_temperLine d 0 [some (.ref a0), l1, l2] [] h = (hgf h [0] a0 2).bind fun v => R_X1_temperLine d 4 [some (.ref a0), l1, l2] [v] h := by
  refine (p_aload rfl rfl).trans ?_
  exact s_getf rfl
theorem r_X1_temperLine_4 {d : Nat} {b0 : Nat} {l0 l1 l2 : Option Value} {h : AH} : R_X1_temperLine d 4 [l0, l1, l2] [.ref b0] h = ((hci h b0).bind (lkN [(2, 132)])).bind fun y => aK (exec tTab d y [.ref b0] h) (fun v h1 => R_X1_temperLine d 7 [l0, l1, l2] (v.toList ++ []) h1) (fun E h1 => some (.inr E, h1)) := s_callV (L := [(2, 132)]) (n := 0) (b := b0) (rest := []) rfl rfl rfl
theorem r_X1_temperLine_7 {d : Nat} {b0 : Nat} {l0 l1 l2 : Option Value} {h : AH} : R_X1_temperLine d 7 [l0, l1, l2] [.ref b0] h = R_X1_temperLine d 12 [l0, some (.ref b0), l2] [h.2.2.2 27, .ref b0] h := by
  refine (p_astore rfl rfl rfl).trans ?_
  refine (p_aload rfl rfl).trans ?_
  exact p_stat rfl
theorem r_X1_temperLine_7N {d : Nat} {l0 l1 l2 : Option Value} {h : AH} : R_X1_temperLine d 7 [l0, l1, l2] [.null] h = R_X1_temperLine d 12 [l0, some (.null), l2] [h.2.2.2 27, .null] h := by
  refine (p_astoreN rfl rfl rfl).trans ?_
  refine (p_aloadN rfl rfl).trans ?_
  exact p_stat rfl
theorem r_X1_temperLine_12 {d : Nat} {b0 b1 : Nat} {l0 l1 l2 : Option Value} {h : AH} : R_X1_temperLine d 12 [l0, l1, l2] [.ref b1, .ref b0] h = ((hci h b0).bind (lkN [(21, 285)])).bind fun y => aK (exec tTab d y [.ref b0, .ref b1] h) (fun v h1 => R_X1_temperLine d 15 [l0, l1, l2] (v.toList ++ []) h1) (fun E h1 => some (.inr E, h1)) := s_callV (L := [(21, 285)]) (n := 1) (b := b0) (rest := []) rfl rfl rfl
theorem r_X1_temperLine_12N {d : Nat} {b0 : Nat} {l0 l1 l2 : Option Value} {h : AH} : R_X1_temperLine d 12 [l0, l1, l2] [.null, .ref b0] h = ((hci h b0).bind (lkN [(21, 285)])).bind fun y => aK (exec tTab d y [.ref b0, .null] h) (fun v h1 => R_X1_temperLine d 15 [l0, l1, l2] (v.toList ++ []) h1) (fun E h1 => some (.inr E, h1)) := s_callV (L := [(21, 285)]) (n := 1) (b := b0) (rest := []) rfl rfl rfl
theorem r_X1_temperLine_15 {d : Nat} {s0 : Int32} {l0 l1 l2 : Option Value} {h : AH} : R_X1_temperLine d 15 [l0, l1, l2] [.int (s0)] h = if ¬ s0 = 0 then R_X1_temperLine d 38 [l0, l1, some (.int (s0))] [] h else R_X1_temperLine d 20 [l0, l1, some (.int (s0))] [] h := by
  refine (p_istore rfl rfl rfl).trans ?_
  refine (p_iload rfl rfl).trans ?_
  exact (s_if (g := (fun x => decide (¬ x = 0))) (t := 38) (nx := 20) rfl).trans bif_dec
theorem r_X1_temperLine_38 {d : Nat} {l0 l1 l2 : Option Value} {h : AH} : R_X1_temperLine d 38 [l0, l1, l2] [] h = R_X1_temperLine d 41 [l0, l1, l2] [.ref h.2.1] (hnew h (true, .inr (10, [.int 0, .null])) 2) := p_new rfl
theorem r_X1_temperLine_20 {d : Nat} {a1 : Nat} {l0 l2 : Option Value} {h : AH} : R_X1_temperLine d 20 [l0, some (.ref a1), l2] [] h = R_X1_temperLine d 24 [l0, some (.ref a1), l2] [h.2.2.2 28, .ref a1] h := by
  refine (p_aload rfl rfl).trans ?_
  exact p_stat rfl
theorem r_X1_temperLine_41 {d : Nat} {b0 a0 : Nat} {x2 : Int32} {l1 : Option Value} {h : AH} : R_X1_temperLine d 41 [some (.ref a0), l1, some (.int (x2))] [.ref b0] h = (hgf h [0] a0 2).bind fun v => R_X1_temperLine d 47 [some (.ref a0), l1, some (.int (x2))] [v, .int (x2), .ref b0, .ref b0] h := by
  refine (p_dup rfl rfl).trans ?_
  refine (p_iload rfl rfl).trans ?_
  refine (p_aload rfl rfl).trans ?_
  exact s_getf rfl
theorem r_X1_temperLine_41N {d : Nat} {x2 : Int32} {a0 : Nat} {l1 : Option Value} {h : AH} : R_X1_temperLine d 41 [some (.ref a0), l1, some (.int (x2))] [.null] h = (hgf h [0] a0 2).bind fun v => R_X1_temperLine d 47 [some (.ref a0), l1, some (.int (x2))] [v, .int (x2), .null, .null] h := by
  refine (p_dup rfl rfl).trans ?_
  refine (p_iload rfl rfl).trans ?_
  refine (p_aload rfl rfl).trans ?_
  exact s_getf rfl
theorem r_X1_temperLine_24 {d : Nat} {b0 b1 : Nat} {l0 l1 l2 : Option Value} {h : AH} : R_X1_temperLine d 24 [l0, l1, l2] [.ref b1, .ref b0] h = ((hci h b0).bind (lkN [(21, 285)])).bind fun y => aK (exec tTab d y [.ref b0, .ref b1] h) (fun v h1 => R_X1_temperLine d 27 [l0, l1, l2] (v.toList ++ []) h1) (fun E h1 => some (.inr E, h1)) := s_callV (L := [(21, 285)]) (n := 1) (b := b0) (rest := []) rfl rfl rfl
theorem r_X1_temperLine_24N {d : Nat} {b0 : Nat} {l0 l1 l2 : Option Value} {h : AH} : R_X1_temperLine d 24 [l0, l1, l2] [.null, .ref b0] h = ((hci h b0).bind (lkN [(21, 285)])).bind fun y => aK (exec tTab d y [.ref b0, .null] h) (fun v h1 => R_X1_temperLine d 27 [l0, l1, l2] (v.toList ++ []) h1) (fun E h1 => some (.inr E, h1)) := s_callV (L := [(21, 285)]) (n := 1) (b := b0) (rest := []) rfl rfl rfl
theorem r_X1_temperLine_47 {d : Nat} {b0 b1 b3 : Nat} {s2 : Int32} {l0 l1 l2 : Option Value} {h : AH} : R_X1_temperLine d 47 [l0, l1, l2] [.ref b3, .int (s2), .ref b1, .ref b0] h = R_X1_temperLine d 50 [l0, l1, l2] [h.2.2.2 29, .ref b3, .int (s2), .ref b1, .ref b0] h := p_stat rfl
theorem r_X1_temperLine_47N {d : Nat} {b0 b1 : Nat} {s2 : Int32} {l0 l1 l2 : Option Value} {h : AH} : R_X1_temperLine d 47 [l0, l1, l2] [.null, .int (s2), .ref b1, .ref b0] h = R_X1_temperLine d 50 [l0, l1, l2] [h.2.2.2 29, .null, .int (s2), .ref b1, .ref b0] h := p_stat rfl
theorem r_X1_temperLine_27 {d : Nat} {s0 : Int32} {l0 l1 l2 : Option Value} {h : AH} : R_X1_temperLine d 27 [l0, l1, l2] [.int (s0)] h = if ¬ s0 = 0 then R_X1_temperLine d 38 [l0, l1, l2] [] h else R_X1_temperLine d 30 [l0, l1, l2] [] h := (s_if (g := (fun x => decide (¬ x = 0))) (t := 38) (nx := 30) rfl).trans bif_dec
theorem r_X1_temperLine_50 {d : Nat} {b0 b1 b3 b4 : Nat} {s2 : Int32} {l0 l1 l2 : Option Value} {h : AH} : R_X1_temperLine d 50 [l0, l1, l2] [.ref b4, .ref b3, .int (s2), .ref b1, .ref b0] h = ((hci h b3).bind (lkN [(2, 135)])).bind fun y => aK (exec tTab d y [.ref b3, .ref b4] h) (fun v h1 => R_X1_temperLine d 53 [l0, l1, l2] (v.toList ++ [.int (s2), .ref b1, .ref b0]) h1) (fun E h1 => some (.inr E, h1)) := s_callV (L := [(2, 135)]) (n := 1) (b := b3) (rest := [.int (s2), .ref b1, .ref b0]) rfl rfl rfl
theorem r_X1_temperLine_50N {d : Nat} {b0 b1 b3 : Nat} {s2 : Int32} {l0 l1 l2 : Option Value} {h : AH} : R_X1_temperLine d 50 [l0, l1, l2] [.null, .ref b3, .int (s2), .ref b1, .ref b0] h = ((hci h b3).bind (lkN [(2, 135)])).bind fun y => aK (exec tTab d y [.ref b3, .null] h) (fun v h1 => R_X1_temperLine d 53 [l0, l1, l2] (v.toList ++ [.int (s2), .ref b1, .ref b0]) h1) (fun E h1 => some (.inr E, h1)) := s_callV (L := [(2, 135)]) (n := 1) (b := b3) (rest := [.int (s2), .ref b1, .ref b0]) rfl rfl rfl
theorem r_X1_temperLine_30 {d : Nat} {a0 : Nat} {l1 l2 : Option Value} {h : AH} : R_X1_temperLine d 30 [some (.ref a0), l1, l2] [] h = (hgf h [0] a0 2).bind fun v => R_X1_temperLine d 34 [some (.ref a0), l1, l2] [v] h := by
  refine (p_aload rfl rfl).trans ?_
  exact s_getf rfl
theorem r_X1_temperLine_53 {d : Nat} {b0 b1 : Nat} {s2 s3 : Int32} {l0 l1 l2 : Option Value} {h : AH} : R_X1_temperLine d 53 [l0, l1, l2] [.int (s3), .int (s2), .ref b1, .ref b0] h = if s3 = 0 then R_X1_temperLine d 63 [l0, l1, l2] [.int (s2), .ref b1, .ref b0] h else R_X1_temperLine d 56 [l0, l1, l2] [.int (s2), .ref b1, .ref b0] h := (s_if (g := (fun x => decide (x = 0))) (t := 63) (nx := 56) rfl).trans bif_dec
theorem r_X1_temperLine_34 {d : Nat} {b0 : Nat} {l0 l1 l2 : Option Value} {h : AH} : R_X1_temperLine d 34 [l0, l1, l2] [.ref b0] h = ((hci h b0).bind (lkN [(2, 133)])).bind fun y => aK (exec tTab d y [.ref b0] h) (fun v h1 => R_X1_temperLine d 37 [l0, l1, l2] (v.toList ++ []) h1) (fun E h1 => some (.inr E, h1)) := s_callV (L := [(2, 133)]) (n := 0) (b := b0) (rest := []) rfl rfl rfl
theorem r_X1_temperLine_63 {d : Nat} {b0 b1 : Nat} {s2 : Int32} {l0 l1 l2 : Option Value} {h : AH} : R_X1_temperLine d 63 [l0, l1, l2] [.int (s2), .ref b1, .ref b0] h = aK (exec tTab d 309 [.ref b1, .int (s2), .null] h) (fun v h1 => R_X1_temperLine d 67 [l0, l1, l2] (v.toList ++ [.ref b0]) h1) (fun E h1 => some (.inr E, h1)) := by
  refine (p_const rfl).trans ?_
  exact s_callI (y := 309) (n := 2) (b := b1) (rest := [.ref b0]) rfl rfl rfl
theorem r_X1_temperLine_56 {d : Nat} {b0 b1 a0 : Nat} {s2 : Int32} {l1 l2 : Option Value} {h : AH} : R_X1_temperLine d 56 [some (.ref a0), l1, l2] [.int (s2), .ref b1, .ref b0] h = ((hci h a0).bind (lkN [(0, 52)])).bind fun y => aK (exec tTab d y [.ref a0] h) (fun v h1 => R_X1_temperLine d 60 [some (.ref a0), l1, l2] (v.toList ++ [.int (s2), .ref b1, .ref b0]) h1) (fun E h1 => some (.inr E, h1)) := by
  refine (p_aload rfl rfl).trans ?_
  exact s_callV (L := [(0, 52)]) (n := 0) (b := a0) (rest := [.int (s2), .ref b1, .ref b0]) rfl rfl rfl
theorem r_X1_temperLine_37 {d : Nat} {b0 : Nat} {l0 l1 l2 : Option Value} {h : AH} : R_X1_temperLine d 37 [l0, l1, l2] [.ref b0] h = (hex h [17, 22, 23, 24, 25] b0).bind fun E => (fun E h1 => some (.inr E, h1)) E h := s_athrow rfl
theorem r_X1_temperLine_67 {d : Nat} {b0 : Nat} {l0 l1 l2 : Option Value} {h : AH} : R_X1_temperLine d 67 [l0, l1, l2] [.ref b0] h = some (.inl (some (.ref b0)), h) := s_aret rfl
theorem r_X1_temperLine_67N {d : Nat} {l0 l1 l2 : Option Value} {h : AH} : R_X1_temperLine d 67 [l0, l1, l2] [.null] h = some (.inl (some (.null)), h) := s_aretN rfl
theorem r_X1_temperLine_60 {d : Nat} {b0 b1 b3 : Nat} {s2 : Int32} {l0 l1 l2 : Option Value} {h : AH} : R_X1_temperLine d 60 [l0, l1, l2] [.ref b3, .int (s2), .ref b1, .ref b0] h = aK (exec tTab d 309 [.ref b1, .int (s2), .ref b3] h) (fun v h1 => R_X1_temperLine d 67 [l0, l1, l2] (v.toList ++ [.ref b0]) h1) (fun E h1 => some (.inr E, h1)) := by
  refine (p_goto rfl).trans ?_
  exact s_callI (y := 309) (n := 2) (b := b1) (rest := [.ref b0]) rfl rfl rfl
theorem r_X1_temperLine_60N {d : Nat} {b0 b1 : Nat} {s2 : Int32} {l0 l1 l2 : Option Value} {h : AH} : R_X1_temperLine d 60 [l0, l1, l2] [.null, .int (s2), .ref b1, .ref b0] h = aK (exec tTab d 309 [.ref b1, .int (s2), .null] h) (fun v h1 => R_X1_temperLine d 67 [l0, l1, l2] (v.toList ++ [.ref b0]) h1) (fun E h1 => some (.inr E, h1)) := by
  refine (p_goto rfl).trans ?_
  exact s_callI (y := 309) (n := 2) (b := b1) (rest := [.ref b0]) rfl rfl rfl
theorem e_X1_temperLine {d : Nat} {a0 : Nat} {h : AH} : exec tTab (d + 1) K_X1_temperLine [.ref a0] h = R_X1_temperLine d 0 [some (.ref a0), none, none] [] h := exec_eq (cd := k_X1_temperLine) (hd := (fun _ _ => some none)) (L := 3) rfl rfl rfl
/-- FavourTown.cond()LFavourTown$Cond; -/
abbrev K_X1_cond : Nat := 52
noncomputable def R_X1_cond (d pc : Nat) (ls : ALs) (st : List Value) (h : AH) : Option (AOut × AH) := aR (exec tTab d) k_X1_cond (fun _ _ => some none) (pc, ls, st, h)
theorem r_X1_cond_0 {d : Nat} {l0 l1 : Option Value} {h : AH} : R_X1_cond d 0 [l0, l1] [] h = R_X1_cond d 3 [l0, l1] [.ref h.2.1] (hnew h (true, .inr (11, [.int 0, .null])) 2) := p_new rfl
theorem r_X1_cond_3 {d : Nat} {b0 : Nat} {l0 l1 : Option Value} {h : AH} : R_X1_cond d 3 [l0, l1] [.ref b0] h = aK (exec tTab d 311 [.ref b0, .int ((nI 0))] h) (fun v h1 => R_X1_cond d 8 [l0, l1] (v.toList ++ [.ref b0]) h1) (fun E h1 => some (.inr E, h1)) := by
  refine (p_dup rfl rfl).trans ?_
  refine (p_const rfl).trans ?_
  exact s_callI (y := 311) (n := 1) (b := b0) (rest := [.ref b0]) rfl rfl rfl
theorem r_X1_cond_8 {d : Nat} {b0 : Nat} {l0 l1 : Option Value} {h : AH} : R_X1_cond d 8 [l0, l1] [.ref b0] h = R_X1_cond d 9 [l0, some (.ref b0)] [] h := by
  refine (p_astore rfl rfl rfl).trans ?_
  exact rfl
theorem r_X1_cond_8N {d : Nat} {l0 l1 : Option Value} {h : AH} : R_X1_cond d 8 [l0, l1] [.null] h = R_X1_cond d 9 [l0, some (.null)] [] h := by
  refine (p_astoreN rfl rfl rfl).trans ?_
  exact rfl
theorem q_X1_cond_9 {d : Nat} {a1 : Nat} {l0 : Option Value} {h : AH} : R_X1_cond d 9 [l0, some (.ref a1)] [] h = (hgf h [11] a1 1).bind fun v => R_X1_cond d 13 [l0, some (.ref a1)] [v] h := by
  refine (p_aload rfl rfl).trans ?_
  exact s_getf rfl
theorem r_X1_cond_13 {d : Nat} {b0 a0 : Nat} {l1 : Option Value} {h : AH} : R_X1_cond d 13 [some (.ref a0), l1] [.ref b0] h = ((hci h a0).bind (lkN [(0, 53)])).bind fun y => aK (exec tTab d y [.ref a0] h) (fun v h1 => R_X1_cond d 17 [some (.ref a0), l1] (v.toList ++ [.ref b0]) h1) (fun E h1 => some (.inr E, h1)) := by
  refine (p_aload rfl rfl).trans ?_
  exact s_callV (L := [(0, 53)]) (n := 0) (b := a0) (rest := [.ref b0]) rfl rfl rfl
theorem r_X1_cond_13N {d : Nat} {a0 : Nat} {l1 : Option Value} {h : AH} : R_X1_cond d 13 [some (.ref a0), l1] [.null] h = ((hci h a0).bind (lkN [(0, 53)])).bind fun y => aK (exec tTab d y [.ref a0] h) (fun v h1 => R_X1_cond d 17 [some (.ref a0), l1] (v.toList ++ [.null]) h1) (fun E h1 => some (.inr E, h1)) := by
  refine (p_aload rfl rfl).trans ?_
  exact s_callV (L := [(0, 53)]) (n := 0) (b := a0) (rest := [.null]) rfl rfl rfl
theorem r_X1_cond_17 {d : Nat} {b0 b1 : Nat} {l0 l1 : Option Value} {h : AH} : R_X1_cond d 17 [l0, l1] [.ref b1, .ref b0] h = ((hci h b0).bind (lkN [(19, 116)])).bind fun y => aK (exec tTab d y [.ref b0, .ref b1] h) (fun v h1 => R_X1_cond d 20 [l0, l1] (v.toList ++ []) h1) (fun E h1 => some (.inr E, h1)) := s_callV (L := [(19, 116)]) (n := 1) (b := b0) (rest := []) rfl rfl rfl
theorem r_X1_cond_17N {d : Nat} {b0 : Nat} {l0 l1 : Option Value} {h : AH} : R_X1_cond d 17 [l0, l1] [.null, .ref b0] h = ((hci h b0).bind (lkN [(19, 116)])).bind fun y => aK (exec tTab d y [.ref b0, .null] h) (fun v h1 => R_X1_cond d 20 [l0, l1] (v.toList ++ []) h1) (fun E h1 => some (.inr E, h1)) := s_callV (L := [(19, 116)]) (n := 1) (b := b0) (rest := []) rfl rfl rfl
theorem r_X1_cond_20 {d : Nat} {s0 : Int32} {a0 : Nat} {l1 : Option Value} {h : AH} : R_X1_cond d 20 [some (.ref a0), l1] [.int (s0)] h = (hgf h [0] a0 2).bind fun v => R_X1_cond d 25 [some (.ref a0), l1] [v] h := by
  refine (p_pop rfl rfl).trans ?_
  refine (p_aload rfl rfl).trans ?_
  exact s_getf rfl
theorem r_X1_cond_25 {d : Nat} {b0 : Nat} {l0 l1 : Option Value} {h : AH} : R_X1_cond d 25 [l0, l1] [.ref b0] h = R_X1_cond d 28 [l0, l1] [h.2.2.2 26, .ref b0] h := p_stat rfl
theorem r_X1_cond_25N {d : Nat} {l0 l1 : Option Value} {h : AH} : R_X1_cond d 25 [l0, l1] [.null] h = R_X1_cond d 28 [l0, l1] [h.2.2.2 26, .null] h := p_stat rfl
theorem r_X1_cond_28 {d : Nat} {b0 b1 : Nat} {l0 l1 : Option Value} {h : AH} : R_X1_cond d 28 [l0, l1] [.ref b1, .ref b0] h = ((hci h b0).bind (lkN [(2, 135)])).bind fun y => aK (exec tTab d y [.ref b0, .ref b1] h) (fun v h1 => R_X1_cond d 31 [l0, l1] (v.toList ++ []) h1) (fun E h1 => some (.inr E, h1)) := s_callV (L := [(2, 135)]) (n := 1) (b := b0) (rest := []) rfl rfl rfl
theorem r_X1_cond_28N {d : Nat} {b0 : Nat} {l0 l1 : Option Value} {h : AH} : R_X1_cond d 28 [l0, l1] [.null, .ref b0] h = ((hci h b0).bind (lkN [(2, 135)])).bind fun y => aK (exec tTab d y [.ref b0, .null] h) (fun v h1 => R_X1_cond d 31 [l0, l1] (v.toList ++ []) h1) (fun E h1 => some (.inr E, h1)) := s_callV (L := [(2, 135)]) (n := 1) (b := b0) (rest := []) rfl rfl rfl
theorem r_X1_cond_31 {d : Nat} {s0 : Int32} {l0 l1 : Option Value} {h : AH} : R_X1_cond d 31 [l0, l1] [.int (s0)] h = if ¬ s0 = 0 then R_X1_cond d 9 [l0, l1] [] h else R_X1_cond d 34 [l0, l1] [] h := (s_if (g := (fun x => decide (¬ x = 0))) (t := 9) (nx := 34) rfl).trans bif_dec
theorem r_X1_cond_34 {d : Nat} {a1 : Nat} {l0 : Option Value} {h : AH} : R_X1_cond d 34 [l0, some (.ref a1)] [] h = some (.inl (some (.ref a1)), h) := by
  refine (p_aload rfl rfl).trans ?_
  exact s_aret rfl
theorem e_X1_cond {d : Nat} {a0 : Nat} {h : AH} : exec tTab (d + 1) K_X1_cond [.ref a0] h = R_X1_cond d 0 [some (.ref a0), none] [] h := exec_eq (cd := k_X1_cond) (hd := (fun _ _ => some none)) (L := 2) rfl rfl rfl
/-- FavourTown.allOf()LFavourTown$Cond; -/
abbrev K_X1_allOf : Nat := 53
noncomputable def R_X1_allOf (d pc : Nat) (ls : ALs) (st : List Value) (h : AH) : Option (AOut × AH) := aR (exec tTab d) k_X1_allOf (fun _ _ => some none) (pc, ls, st, h)
theorem r_X1_allOf_0 {d : Nat} {l0 l1 : Option Value} {h : AH} : R_X1_allOf d 0 [l0, l1] [] h = R_X1_allOf d 3 [l0, l1] [.ref h.2.1] (hnew h (true, .inr (11, [.int 0, .null])) 2) := p_new rfl
theorem r_X1_allOf_3 {d : Nat} {b0 : Nat} {l0 l1 : Option Value} {h : AH} : R_X1_allOf d 3 [l0, l1] [.ref b0] h = aK (exec tTab d 311 [.ref b0, .int ((nI 1))] h) (fun v h1 => R_X1_allOf d 8 [l0, l1] (v.toList ++ [.ref b0]) h1) (fun E h1 => some (.inr E, h1)) := by
  refine (p_dup rfl rfl).trans ?_
  refine (p_const rfl).trans ?_
  exact s_callI (y := 311) (n := 1) (b := b0) (rest := [.ref b0]) rfl rfl rfl
theorem r_X1_allOf_8 {d : Nat} {b0 : Nat} {l0 l1 : Option Value} {h : AH} : R_X1_allOf d 8 [l0, l1] [.ref b0] h = R_X1_allOf d 9 [l0, some (.ref b0)] [] h := by
  refine (p_astore rfl rfl rfl).trans ?_
  exact rfl
theorem r_X1_allOf_8N {d : Nat} {l0 l1 : Option Value} {h : AH} : R_X1_allOf d 8 [l0, l1] [.null] h = R_X1_allOf d 9 [l0, some (.null)] [] h := by
  refine (p_astoreN rfl rfl rfl).trans ?_
  exact rfl
theorem q_X1_allOf_9 {d : Nat} {a1 : Nat} {l0 : Option Value} {h : AH} : R_X1_allOf d 9 [l0, some (.ref a1)] [] h = (hgf h [11] a1 1).bind fun v => R_X1_allOf d 13 [l0, some (.ref a1)] [v] h := by
  refine (p_aload rfl rfl).trans ?_
  exact s_getf rfl
theorem r_X1_allOf_13 {d : Nat} {b0 a0 : Nat} {l1 : Option Value} {h : AH} : R_X1_allOf d 13 [some (.ref a0), l1] [.ref b0] h = ((hci h a0).bind (lkN [(0, 54)])).bind fun y => aK (exec tTab d y [.ref a0] h) (fun v h1 => R_X1_allOf d 17 [some (.ref a0), l1] (v.toList ++ [.ref b0]) h1) (fun E h1 => some (.inr E, h1)) := by
  refine (p_aload rfl rfl).trans ?_
  exact s_callV (L := [(0, 54)]) (n := 0) (b := a0) (rest := [.ref b0]) rfl rfl rfl
theorem r_X1_allOf_13N {d : Nat} {a0 : Nat} {l1 : Option Value} {h : AH} : R_X1_allOf d 13 [some (.ref a0), l1] [.null] h = ((hci h a0).bind (lkN [(0, 54)])).bind fun y => aK (exec tTab d y [.ref a0] h) (fun v h1 => R_X1_allOf d 17 [some (.ref a0), l1] (v.toList ++ [.null]) h1) (fun E h1 => some (.inr E, h1)) := by
  refine (p_aload rfl rfl).trans ?_
  exact s_callV (L := [(0, 54)]) (n := 0) (b := a0) (rest := [.null]) rfl rfl rfl
theorem r_X1_allOf_17 {d : Nat} {b0 b1 : Nat} {l0 l1 : Option Value} {h : AH} : R_X1_allOf d 17 [l0, l1] [.ref b1, .ref b0] h = ((hci h b0).bind (lkN [(19, 116)])).bind fun y => aK (exec tTab d y [.ref b0, .ref b1] h) (fun v h1 => R_X1_allOf d 20 [l0, l1] (v.toList ++ []) h1) (fun E h1 => some (.inr E, h1)) := s_callV (L := [(19, 116)]) (n := 1) (b := b0) (rest := []) rfl rfl rfl
theorem r_X1_allOf_17N {d : Nat} {b0 : Nat} {l0 l1 : Option Value} {h : AH} : R_X1_allOf d 17 [l0, l1] [.null, .ref b0] h = ((hci h b0).bind (lkN [(19, 116)])).bind fun y => aK (exec tTab d y [.ref b0, .null] h) (fun v h1 => R_X1_allOf d 20 [l0, l1] (v.toList ++ []) h1) (fun E h1 => some (.inr E, h1)) := s_callV (L := [(19, 116)]) (n := 1) (b := b0) (rest := []) rfl rfl rfl
theorem r_X1_allOf_20 {d : Nat} {s0 : Int32} {a0 : Nat} {l1 : Option Value} {h : AH} : R_X1_allOf d 20 [some (.ref a0), l1] [.int (s0)] h = (hgf h [0] a0 2).bind fun v => R_X1_allOf d 25 [some (.ref a0), l1] [v] h := by
  refine (p_pop rfl rfl).trans ?_
  refine (p_aload rfl rfl).trans ?_
  exact s_getf rfl
theorem r_X1_allOf_25 {d : Nat} {b0 : Nat} {l0 l1 : Option Value} {h : AH} : R_X1_allOf d 25 [l0, l1] [.ref b0] h = R_X1_allOf d 28 [l0, l1] [h.2.2.2 25, .ref b0] h := p_stat rfl
theorem r_X1_allOf_25N {d : Nat} {l0 l1 : Option Value} {h : AH} : R_X1_allOf d 25 [l0, l1] [.null] h = R_X1_allOf d 28 [l0, l1] [h.2.2.2 25, .null] h := p_stat rfl
theorem r_X1_allOf_28 {d : Nat} {b0 b1 : Nat} {l0 l1 : Option Value} {h : AH} : R_X1_allOf d 28 [l0, l1] [.ref b1, .ref b0] h = ((hci h b0).bind (lkN [(2, 135)])).bind fun y => aK (exec tTab d y [.ref b0, .ref b1] h) (fun v h1 => R_X1_allOf d 31 [l0, l1] (v.toList ++ []) h1) (fun E h1 => some (.inr E, h1)) := s_callV (L := [(2, 135)]) (n := 1) (b := b0) (rest := []) rfl rfl rfl
theorem r_X1_allOf_28N {d : Nat} {b0 : Nat} {l0 l1 : Option Value} {h : AH} : R_X1_allOf d 28 [l0, l1] [.null, .ref b0] h = ((hci h b0).bind (lkN [(2, 135)])).bind fun y => aK (exec tTab d y [.ref b0, .null] h) (fun v h1 => R_X1_allOf d 31 [l0, l1] (v.toList ++ []) h1) (fun E h1 => some (.inr E, h1)) := s_callV (L := [(2, 135)]) (n := 1) (b := b0) (rest := []) rfl rfl rfl
theorem r_X1_allOf_31 {d : Nat} {s0 : Int32} {l0 l1 : Option Value} {h : AH} : R_X1_allOf d 31 [l0, l1] [.int (s0)] h = if ¬ s0 = 0 then R_X1_allOf d 9 [l0, l1] [] h else R_X1_allOf d 34 [l0, l1] [] h := (s_if (g := (fun x => decide (¬ x = 0))) (t := 9) (nx := 34) rfl).trans bif_dec
theorem r_X1_allOf_34 {d : Nat} {a1 : Nat} {l0 : Option Value} {h : AH} : R_X1_allOf d 34 [l0, some (.ref a1)] [] h = some (.inl (some (.ref a1)), h) := by
  refine (p_aload rfl rfl).trans ?_
  exact s_aret rfl
theorem e_X1_allOf {d : Nat} {a0 : Nat} {h : AH} : exec tTab (d + 1) K_X1_allOf [.ref a0] h = R_X1_allOf d 0 [some (.ref a0), none] [] h := exec_eq (cd := k_X1_allOf) (hd := (fun _ _ => some none)) (L := 2) rfl rfl rfl
/-- FavourTown.atom()LFavourTown$Cond; -/
abbrev K_X1_atom : Nat := 54
noncomputable def R_X1_atom (d pc : Nat) (ls : ALs) (st : List Value) (h : AH) : Option (AOut × AH) := aR (exec tTab d) k_X1_atom (fun _ _ => some none) (pc, ls, st, h)
theorem r_X1_atom_0 {d : Nat} {a0 : Nat} {l1 l2 : Option Value} {h : AH} : R_X1_atom d 0 [some (.ref a0), l1, l2] [] h = (hgf h [0] a0 2).bind fun v => R_X1_atom d 4 [some (.ref a0), l1, l2] [v] h := by
  refine (p_aload rfl rfl).trans ?_
  exact s_getf rfl
theorem r_X1_atom_4 {d : Nat} {b0 : Nat} {l0 l1 l2 : Option Value} {h : AH} : R_X1_atom d 4 [l0, l1, l2] [.ref b0] h = ((hci h b0).bind (lkN [(2, 136)])).bind fun y => aK (exec tTab d y [.ref b0, .int ((nI 40))] h) (fun v h1 => R_X1_atom d 11 [l0, some (.ref b0), l2] (v.toList ++ []) h1) (fun E h1 => some (.inr E, h1)) := by
  refine (p_astore rfl rfl rfl).trans ?_
  refine (p_aload rfl rfl).trans ?_
  refine (p_const rfl).trans ?_
  exact s_callV (L := [(2, 136)]) (n := 1) (b := b0) (rest := []) rfl rfl rfl
theorem r_X1_atom_11 {d : Nat} {s0 : Int32} {l0 l1 l2 : Option Value} {h : AH} : R_X1_atom d 11 [l0, l1, l2] [.int (s0)] h = if s0 = 0 then R_X1_atom d 43 [l0, l1, l2] [] h else R_X1_atom d 14 [l0, l1, l2] [] h := (s_if (g := (fun x => decide (x = 0))) (t := 43) (nx := 14) rfl).trans bif_dec
theorem r_X1_atom_43 {d : Nat} {a1 : Nat} {l0 l2 : Option Value} {h : AH} : R_X1_atom d 43 [l0, some (.ref a1), l2] [] h = R_X1_atom d 46 [l0, some (.ref a1), l2] [h.2.2.2 22, .ref a1] h := by
  refine (p_aload rfl rfl).trans ?_
  exact p_stat rfl
theorem r_X1_atom_14 {d : Nat} {a1 : Nat} {l0 l2 : Option Value} {h : AH} : R_X1_atom d 14 [l0, some (.ref a1), l2] [] h = ((hci h a1).bind (lkN [(2, 137)])).bind fun y => aK (exec tTab d y [.ref a1] h) (fun v h1 => R_X1_atom d 18 [l0, some (.ref a1), l2] (v.toList ++ []) h1) (fun E h1 => some (.inr E, h1)) := by
  refine (p_aload rfl rfl).trans ?_
  exact s_callV (L := [(2, 137)]) (n := 0) (b := a1) (rest := []) rfl rfl rfl
theorem r_X1_atom_46 {d : Nat} {b0 b1 : Nat} {l0 l1 l2 : Option Value} {h : AH} : R_X1_atom d 46 [l0, l1, l2] [.ref b1, .ref b0] h = ((hci h b0).bind (lkN [(2, 135)])).bind fun y => aK (exec tTab d y [.ref b0, .ref b1] h) (fun v h1 => R_X1_atom d 49 [l0, l1, l2] (v.toList ++ []) h1) (fun E h1 => some (.inr E, h1)) := s_callV (L := [(2, 135)]) (n := 1) (b := b0) (rest := []) rfl rfl rfl
theorem r_X1_atom_46N {d : Nat} {b0 : Nat} {l0 l1 l2 : Option Value} {h : AH} : R_X1_atom d 46 [l0, l1, l2] [.null, .ref b0] h = ((hci h b0).bind (lkN [(2, 135)])).bind fun y => aK (exec tTab d y [.ref b0, .null] h) (fun v h1 => R_X1_atom d 49 [l0, l1, l2] (v.toList ++ []) h1) (fun E h1 => some (.inr E, h1)) := s_callV (L := [(2, 135)]) (n := 1) (b := b0) (rest := []) rfl rfl rfl
theorem r_X1_atom_18 {d : Nat} {a0 : Nat} {l1 l2 : Option Value} {h : AH} : R_X1_atom d 18 [some (.ref a0), l1, l2] [] h = ((hci h a0).bind (lkN [(0, 52)])).bind fun y => aK (exec tTab d y [.ref a0] h) (fun v h1 => R_X1_atom d 22 [some (.ref a0), l1, l2] (v.toList ++ []) h1) (fun E h1 => some (.inr E, h1)) := by
  refine (p_aload rfl rfl).trans ?_
  exact s_callV (L := [(0, 52)]) (n := 0) (b := a0) (rest := []) rfl rfl rfl
theorem r_X1_atom_49 {d : Nat} {s0 : Int32} {l0 l1 l2 : Option Value} {h : AH} : R_X1_atom d 49 [l0, l1, l2] [.int (s0)] h = if s0 = 0 then R_X1_atom d 74 [l0, l1, l2] [] h else R_X1_atom d 52 [l0, l1, l2] [] h := (s_if (g := (fun x => decide (x = 0))) (t := 74) (nx := 52) rfl).trans bif_dec
theorem r_X1_atom_22 {d : Nat} {b0 a1 : Nat} {l0 l2 : Option Value} {h : AH} : R_X1_atom d 22 [l0, some (.ref a1), l2] [.ref b0] h = ((hci h a1).bind (lkN [(2, 138)])).bind fun y => aK (exec tTab d y [.ref a1] h) (fun v h1 => R_X1_atom d 27 [l0, some (.ref a1), some (.ref b0)] (v.toList ++ []) h1) (fun E h1 => some (.inr E, h1)) := by
  refine (p_astore rfl rfl rfl).trans ?_
  refine (p_aload rfl rfl).trans ?_
  exact s_callV (L := [(2, 138)]) (n := 0) (b := a1) (rest := []) rfl rfl rfl
theorem r_X1_atom_22N {d : Nat} {a1 : Nat} {l0 l2 : Option Value} {h : AH} : R_X1_atom d 22 [l0, some (.ref a1), l2] [.null] h = ((hci h a1).bind (lkN [(2, 138)])).bind fun y => aK (exec tTab d y [.ref a1] h) (fun v h1 => R_X1_atom d 27 [l0, some (.ref a1), some (.null)] (v.toList ++ []) h1) (fun E h1 => some (.inr E, h1)) := by
  refine (p_astoreN rfl rfl rfl).trans ?_
  refine (p_aload rfl rfl).trans ?_
  exact s_callV (L := [(2, 138)]) (n := 0) (b := a1) (rest := []) rfl rfl rfl
theorem r_X1_atom_74 {d : Nat} {a1 : Nat} {l0 l2 : Option Value} {h : AH} : R_X1_atom d 74 [l0, some (.ref a1), l2] [] h = R_X1_atom d 77 [l0, some (.ref a1), l2] [h.2.2.2 11, .ref a1] h := by
  refine (p_aload rfl rfl).trans ?_
  exact p_stat rfl
theorem r_X1_atom_52 {d : Nat} {a1 : Nat} {l0 l2 : Option Value} {h : AH} : R_X1_atom d 52 [l0, some (.ref a1), l2] [] h = ((hci h a1).bind (lkN [(2, 137)])).bind fun y => aK (exec tTab d y [.ref a1] h) (fun v h1 => R_X1_atom d 56 [l0, some (.ref a1), l2] (v.toList ++ []) h1) (fun E h1 => some (.inr E, h1)) := by
  refine (p_aload rfl rfl).trans ?_
  exact s_callV (L := [(2, 137)]) (n := 0) (b := a1) (rest := []) rfl rfl rfl
theorem r_X1_atom_27 {d : Nat} {a1 : Nat} {l0 l2 : Option Value} {h : AH} : R_X1_atom d 27 [l0, some (.ref a1), l2] [] h = ((hci h a1).bind (lkN [(2, 136)])).bind fun y => aK (exec tTab d y [.ref a1, .int ((nI 41))] h) (fun v h1 => R_X1_atom d 33 [l0, some (.ref a1), l2] (v.toList ++ []) h1) (fun E h1 => some (.inr E, h1)) := by
  refine (p_aload rfl rfl).trans ?_
  refine (p_const rfl).trans ?_
  exact s_callV (L := [(2, 136)]) (n := 1) (b := a1) (rest := []) rfl rfl rfl
theorem r_X1_atom_77 {d : Nat} {b0 b1 : Nat} {l0 l1 l2 : Option Value} {h : AH} : R_X1_atom d 77 [l0, l1, l2] [.ref b1, .ref b0] h = ((hci h b0).bind (lkN [(2, 135)])).bind fun y => aK (exec tTab d y [.ref b0, .ref b1] h) (fun v h1 => R_X1_atom d 80 [l0, l1, l2] (v.toList ++ []) h1) (fun E h1 => some (.inr E, h1)) := s_callV (L := [(2, 135)]) (n := 1) (b := b0) (rest := []) rfl rfl rfl
theorem r_X1_atom_77N {d : Nat} {b0 : Nat} {l0 l1 l2 : Option Value} {h : AH} : R_X1_atom d 77 [l0, l1, l2] [.null, .ref b0] h = ((hci h b0).bind (lkN [(2, 135)])).bind fun y => aK (exec tTab d y [.ref b0, .null] h) (fun v h1 => R_X1_atom d 80 [l0, l1, l2] (v.toList ++ []) h1) (fun E h1 => some (.inr E, h1)) := s_callV (L := [(2, 135)]) (n := 1) (b := b0) (rest := []) rfl rfl rfl
theorem r_X1_atom_56 {d : Nat} {a0 : Nat} {l1 l2 : Option Value} {h : AH} : R_X1_atom d 56 [some (.ref a0), l1, l2] [] h = ((hci h a0).bind (lkN [(0, 54)])).bind fun y => aK (exec tTab d y [.ref a0] h) (fun v h1 => R_X1_atom d 60 [some (.ref a0), l1, l2] (v.toList ++ []) h1) (fun E h1 => some (.inr E, h1)) := by
  refine (p_aload rfl rfl).trans ?_
  exact s_callV (L := [(0, 54)]) (n := 0) (b := a0) (rest := []) rfl rfl rfl
theorem r_X1_atom_33 {d : Nat} {s0 : Int32} {l0 l1 l2 : Option Value} {h : AH} : R_X1_atom d 33 [l0, l1, l2] [.int (s0)] h = if ¬ s0 = 0 then R_X1_atom d 41 [l0, l1, l2] [] h else R_X1_atom d 36 [l0, l1, l2] [] h := (s_if (g := (fun x => decide (¬ x = 0))) (t := 41) (nx := 36) rfl).trans bif_dec
theorem r_X1_atom_80 {d : Nat} {s0 : Int32} {l0 l1 l2 : Option Value} {h : AH} : R_X1_atom d 80 [l0, l1, l2] [.int (s0)] h = if s0 = 0 then R_X1_atom d 94 [l0, l1, l2] [] h else R_X1_atom d 83 [l0, l1, l2] [] h := (s_if (g := (fun x => decide (x = 0))) (t := 94) (nx := 83) rfl).trans bif_dec
theorem r_X1_atom_60 {d : Nat} {b0 a1 : Nat} {l0 l2 : Option Value} {h : AH} : R_X1_atom d 60 [l0, some (.ref a1), l2] [.ref b0] h = ((hci h a1).bind (lkN [(2, 138)])).bind fun y => aK (exec tTab d y [.ref a1] h) (fun v h1 => R_X1_atom d 65 [l0, some (.ref a1), some (.ref b0)] (v.toList ++ []) h1) (fun E h1 => some (.inr E, h1)) := by
  refine (p_astore rfl rfl rfl).trans ?_
  refine (p_aload rfl rfl).trans ?_
  exact s_callV (L := [(2, 138)]) (n := 0) (b := a1) (rest := []) rfl rfl rfl
theorem r_X1_atom_60N {d : Nat} {a1 : Nat} {l0 l2 : Option Value} {h : AH} : R_X1_atom d 60 [l0, some (.ref a1), l2] [.null] h = ((hci h a1).bind (lkN [(2, 138)])).bind fun y => aK (exec tTab d y [.ref a1] h) (fun v h1 => R_X1_atom d 65 [l0, some (.ref a1), some (.null)] (v.toList ++ []) h1) (fun E h1 => some (.inr E, h1)) := by
  refine (p_astoreN rfl rfl rfl).trans ?_
  refine (p_aload rfl rfl).trans ?_
  exact s_callV (L := [(2, 138)]) (n := 0) (b := a1) (rest := []) rfl rfl rfl
theorem r_X1_atom_41 {d : Nat} {a2 : Nat} {l0 l1 : Option Value} {h : AH} : R_X1_atom d 41 [l0, l1, some (.ref a2)] [] h = some (.inl (some (.ref a2)), h) := by
  refine (p_aload rfl rfl).trans ?_
  exact s_aret rfl
theorem r_X1_atom_36 {d : Nat} {a1 : Nat} {l0 l2 : Option Value} {h : AH} : R_X1_atom d 36 [l0, some (.ref a1), l2] [] h = ((hci h a1).bind (lkN [(2, 133)])).bind fun y => aK (exec tTab d y [.ref a1] h) (fun v h1 => R_X1_atom d 40 [l0, some (.ref a1), l2] (v.toList ++ []) h1) (fun E h1 => some (.inr E, h1)) := by
  refine (p_aload rfl rfl).trans ?_
  exact s_callV (L := [(2, 133)]) (n := 0) (b := a1) (rest := []) rfl rfl rfl
theorem r_X1_atom_94 {d : Nat} {a1 : Nat} {l0 l2 : Option Value} {h : AH} : R_X1_atom d 94 [l0, some (.ref a1), l2] [] h = R_X1_atom d 98 [l0, some (.ref a1), l2] [h.2.2.2 23, .ref a1] h := by
  refine (p_aload rfl rfl).trans ?_
  exact p_stat rfl
theorem r_X1_atom_83 {d : Nat} {l0 l1 l2 : Option Value} {h : AH} : R_X1_atom d 83 [l0, l1, l2] [] h = R_X1_atom d 86 [l0, l1, l2] [.ref h.2.1] (hnew h (true, .inr (13, [.null])) 1) := p_new rfl
theorem r_X1_atom_65 {d : Nat} {l0 l1 l2 : Option Value} {h : AH} : R_X1_atom d 65 [l0, l1, l2] [] h = R_X1_atom d 68 [l0, l1, l2] [.ref h.2.1] (hnew h (true, .inr (12, [.null])) 1) := p_new rfl
theorem r_X1_atom_40 {d : Nat} {b0 : Nat} {l0 l1 l2 : Option Value} {h : AH} : R_X1_atom d 40 [l0, l1, l2] [.ref b0] h = (hex h [17, 22, 23, 24, 25] b0).bind fun E => (fun E h1 => some (.inr E, h1)) E h := s_athrow rfl
theorem r_X1_atom_98 {d : Nat} {b0 b1 : Nat} {l0 l1 l2 : Option Value} {h : AH} : R_X1_atom d 98 [l0, l1, l2] [.ref b1, .ref b0] h = ((hci h b0).bind (lkN [(2, 135)])).bind fun y => aK (exec tTab d y [.ref b0, .ref b1] h) (fun v h1 => R_X1_atom d 101 [l0, l1, l2] (v.toList ++ []) h1) (fun E h1 => some (.inr E, h1)) := s_callV (L := [(2, 135)]) (n := 1) (b := b0) (rest := []) rfl rfl rfl
theorem r_X1_atom_98N {d : Nat} {b0 : Nat} {l0 l1 l2 : Option Value} {h : AH} : R_X1_atom d 98 [l0, l1, l2] [.null, .ref b0] h = ((hci h b0).bind (lkN [(2, 135)])).bind fun y => aK (exec tTab d y [.ref b0, .null] h) (fun v h1 => R_X1_atom d 101 [l0, l1, l2] (v.toList ++ []) h1) (fun E h1 => some (.inr E, h1)) := s_callV (L := [(2, 135)]) (n := 1) (b := b0) (rest := []) rfl rfl rfl
theorem r_X1_atom_86 {d : Nat} {b0 : Nat} {l0 l1 l2 : Option Value} {h : AH} : R_X1_atom d 86 [l0, l1, l2] [.ref b0] h = R_X1_atom d 90 [l0, l1, l2] [h.2.2.2 1, .ref b0, .ref b0] h := by
  refine (p_dup rfl rfl).trans ?_
  exact p_stat rfl
theorem r_X1_atom_86N {d : Nat} {l0 l1 l2 : Option Value} {h : AH} : R_X1_atom d 86 [l0, l1, l2] [.null] h = R_X1_atom d 90 [l0, l1, l2] [h.2.2.2 1, .null, .null] h := by
  refine (p_dup rfl rfl).trans ?_
  exact p_stat rfl
theorem r_X1_atom_68 {d : Nat} {b0 a2 : Nat} {l0 l1 : Option Value} {h : AH} : R_X1_atom d 68 [l0, l1, some (.ref a2)] [.ref b0] h = aK (exec tTab d 313 [.ref b0, .ref a2] h) (fun v h1 => R_X1_atom d 73 [l0, l1, some (.ref a2)] (v.toList ++ [.ref b0]) h1) (fun E h1 => some (.inr E, h1)) := by
  refine (p_dup rfl rfl).trans ?_
  refine (p_aload rfl rfl).trans ?_
  exact s_callI (y := 313) (n := 1) (b := b0) (rest := [.ref b0]) rfl rfl rfl
theorem r_X1_atom_101 {d : Nat} {s0 : Int32} {l0 l1 l2 : Option Value} {h : AH} : R_X1_atom d 101 [l0, l1, l2] [.int (s0)] h = if s0 = 0 then R_X1_atom d 115 [l0, l1, l2] [] h else R_X1_atom d 104 [l0, l1, l2] [] h := (s_if (g := (fun x => decide (x = 0))) (t := 115) (nx := 104) rfl).trans bif_dec
theorem r_X1_atom_90 {d : Nat} {b0 b1 b2 : Nat} {l0 l1 l2 : Option Value} {h : AH} : R_X1_atom d 90 [l0, l1, l2] [.ref b2, .ref b1, .ref b0] h = aK (exec tTab d 315 [.ref b1, .ref b2] h) (fun v h1 => R_X1_atom d 93 [l0, l1, l2] (v.toList ++ [.ref b0]) h1) (fun E h1 => some (.inr E, h1)) := s_callI (y := 315) (n := 1) (b := b1) (rest := [.ref b0]) rfl rfl rfl
theorem r_X1_atom_90N {d : Nat} {b0 b1 : Nat} {l0 l1 l2 : Option Value} {h : AH} : R_X1_atom d 90 [l0, l1, l2] [.null, .ref b1, .ref b0] h = aK (exec tTab d 315 [.ref b1, .null] h) (fun v h1 => R_X1_atom d 93 [l0, l1, l2] (v.toList ++ [.ref b0]) h1) (fun E h1 => some (.inr E, h1)) := s_callI (y := 315) (n := 1) (b := b1) (rest := [.ref b0]) rfl rfl rfl
theorem r_X1_atom_73 {d : Nat} {b0 : Nat} {l0 l1 l2 : Option Value} {h : AH} : R_X1_atom d 73 [l0, l1, l2] [.ref b0] h = some (.inl (some (.ref b0)), h) := s_aret rfl
theorem r_X1_atom_73N {d : Nat} {l0 l1 l2 : Option Value} {h : AH} : R_X1_atom d 73 [l0, l1, l2] [.null] h = some (.inl (some (.null)), h) := s_aretN rfl
theorem r_X1_atom_115 {d : Nat} {a1 : Nat} {l0 l2 : Option Value} {h : AH} : R_X1_atom d 115 [l0, some (.ref a1), l2] [] h = R_X1_atom d 119 [l0, some (.ref a1), l2] [h.2.2.2 24, .ref a1] h := by
  refine (p_aload rfl rfl).trans ?_
  exact p_stat rfl
theorem r_X1_atom_104 {d : Nat} {l0 l1 l2 : Option Value} {h : AH} : R_X1_atom d 104 [l0, l1, l2] [] h = R_X1_atom d 107 [l0, l1, l2] [.ref h.2.1] (hnew h (true, .inr (13, [.null])) 1) := p_new rfl
theorem r_X1_atom_93 {d : Nat} {b0 : Nat} {l0 l1 l2 : Option Value} {h : AH} : R_X1_atom d 93 [l0, l1, l2] [.ref b0] h = some (.inl (some (.ref b0)), h) := s_aret rfl
theorem r_X1_atom_93N {d : Nat} {l0 l1 l2 : Option Value} {h : AH} : R_X1_atom d 93 [l0, l1, l2] [.null] h = some (.inl (some (.null)), h) := s_aretN rfl
theorem r_X1_atom_119 {d : Nat} {b0 b1 : Nat} {l0 l1 l2 : Option Value} {h : AH} : R_X1_atom d 119 [l0, l1, l2] [.ref b1, .ref b0] h = ((hci h b0).bind (lkN [(2, 135)])).bind fun y => aK (exec tTab d y [.ref b0, .ref b1] h) (fun v h1 => R_X1_atom d 122 [l0, l1, l2] (v.toList ++ []) h1) (fun E h1 => some (.inr E, h1)) := s_callV (L := [(2, 135)]) (n := 1) (b := b0) (rest := []) rfl rfl rfl
theorem r_X1_atom_119N {d : Nat} {b0 : Nat} {l0 l1 l2 : Option Value} {h : AH} : R_X1_atom d 119 [l0, l1, l2] [.null, .ref b0] h = ((hci h b0).bind (lkN [(2, 135)])).bind fun y => aK (exec tTab d y [.ref b0, .null] h) (fun v h1 => R_X1_atom d 122 [l0, l1, l2] (v.toList ++ []) h1) (fun E h1 => some (.inr E, h1)) := s_callV (L := [(2, 135)]) (n := 1) (b := b0) (rest := []) rfl rfl rfl
theorem r_X1_atom_107 {d : Nat} {b0 : Nat} {l0 l1 l2 : Option Value} {h : AH} : R_X1_atom d 107 [l0, l1, l2] [.ref b0] h = R_X1_atom d 111 [l0, l1, l2] [h.2.2.2 2, .ref b0, .ref b0] h := by
  refine (p_dup rfl rfl).trans ?_
  exact p_stat rfl
theorem r_X1_atom_107N {d : Nat} {l0 l1 l2 : Option Value} {h : AH} : R_X1_atom d 107 [l0, l1, l2] [.null] h = R_X1_atom d 111 [l0, l1, l2] [h.2.2.2 2, .null, .null] h := by
  refine (p_dup rfl rfl).trans ?_
  exact p_stat rfl
theorem r_X1_atom_122 {d : Nat} {s0 : Int32} {l0 l1 l2 : Option Value} {h : AH} : R_X1_atom d 122 [l0, l1, l2] [.int (s0)] h = if s0 = 0 then R_X1_atom d 136 [l0, l1, l2] [] h else R_X1_atom d 125 [l0, l1, l2] [] h := (s_if (g := (fun x => decide (x = 0))) (t := 136) (nx := 125) rfl).trans bif_dec
theorem r_X1_atom_111 {d : Nat} {b0 b1 b2 : Nat} {l0 l1 l2 : Option Value} {h : AH} : R_X1_atom d 111 [l0, l1, l2] [.ref b2, .ref b1, .ref b0] h = aK (exec tTab d 315 [.ref b1, .ref b2] h) (fun v h1 => R_X1_atom d 114 [l0, l1, l2] (v.toList ++ [.ref b0]) h1) (fun E h1 => some (.inr E, h1)) := s_callI (y := 315) (n := 1) (b := b1) (rest := [.ref b0]) rfl rfl rfl
theorem r_X1_atom_111N {d : Nat} {b0 b1 : Nat} {l0 l1 l2 : Option Value} {h : AH} : R_X1_atom d 111 [l0, l1, l2] [.null, .ref b1, .ref b0] h = aK (exec tTab d 315 [.ref b1, .null] h) (fun v h1 => R_X1_atom d 114 [l0, l1, l2] (v.toList ++ [.ref b0]) h1) (fun E h1 => some (.inr E, h1)) := s_callI (y := 315) (n := 1) (b := b1) (rest := [.ref b0]) rfl rfl rfl
theorem r_X1_atom_136 {d : Nat} {a0 : Nat} {l1 l2 : Option Value} {h : AH} : R_X1_atom d 136 [some (.ref a0), l1, l2] [] h = ((hci h a0).bind (lkN [(0, 55)])).bind fun y => aK (exec tTab d y [.ref a0] h) (fun v h1 => R_X1_atom d 140 [some (.ref a0), l1, l2] (v.toList ++ []) h1) (fun E h1 => some (.inr E, h1)) := by
  refine (p_aload rfl rfl).trans ?_
  exact s_callV (L := [(0, 55)]) (n := 0) (b := a0) (rest := []) rfl rfl rfl
theorem r_X1_atom_125 {d : Nat} {l0 l1 l2 : Option Value} {h : AH} : R_X1_atom d 125 [l0, l1, l2] [] h = R_X1_atom d 128 [l0, l1, l2] [.ref h.2.1] (hnew h (true, .inr (13, [.null])) 1) := p_new rfl
theorem r_X1_atom_114 {d : Nat} {b0 : Nat} {l0 l1 l2 : Option Value} {h : AH} : R_X1_atom d 114 [l0, l1, l2] [.ref b0] h = some (.inl (some (.ref b0)), h) := s_aret rfl
theorem r_X1_atom_114N {d : Nat} {l0 l1 l2 : Option Value} {h : AH} : R_X1_atom d 114 [l0, l1, l2] [.null] h = some (.inl (some (.null)), h) := s_aretN rfl
theorem r_X1_atom_140 {d : Nat} {b0 a1 : Nat} {l0 l2 : Option Value} {h : AH} : R_X1_atom d 140 [l0, some (.ref a1), l2] [.ref b0] h = ((hci h a1).bind (lkN [(2, 136)])).bind fun y => aK (exec tTab d y [.ref a1, .int ((nI 60))] h) (fun v h1 => R_X1_atom d 147 [l0, some (.ref a1), some (.ref b0)] (v.toList ++ []) h1) (fun E h1 => some (.inr E, h1)) := by
  refine (p_astore rfl rfl rfl).trans ?_
  refine (p_aload rfl rfl).trans ?_
  refine (p_const rfl).trans ?_
  exact s_callV (L := [(2, 136)]) (n := 1) (b := a1) (rest := []) rfl rfl rfl
theorem r_X1_atom_140N {d : Nat} {a1 : Nat} {l0 l2 : Option Value} {h : AH} : R_X1_atom d 140 [l0, some (.ref a1), l2] [.null] h = ((hci h a1).bind (lkN [(2, 136)])).bind fun y => aK (exec tTab d y [.ref a1, .int ((nI 60))] h) (fun v h1 => R_X1_atom d 147 [l0, some (.ref a1), some (.null)] (v.toList ++ []) h1) (fun E h1 => some (.inr E, h1)) := by
  refine (p_astoreN rfl rfl rfl).trans ?_
  refine (p_aload rfl rfl).trans ?_
  refine (p_const rfl).trans ?_
  exact s_callV (L := [(2, 136)]) (n := 1) (b := a1) (rest := []) rfl rfl rfl
theorem r_X1_atom_128 {d : Nat} {b0 : Nat} {l0 l1 l2 : Option Value} {h : AH} : R_X1_atom d 128 [l0, l1, l2] [.ref b0] h = R_X1_atom d 132 [l0, l1, l2] [h.2.2.2 3, .ref b0, .ref b0] h := by
  refine (p_dup rfl rfl).trans ?_
  exact p_stat rfl
theorem r_X1_atom_128N {d : Nat} {l0 l1 l2 : Option Value} {h : AH} : R_X1_atom d 128 [l0, l1, l2] [.null] h = R_X1_atom d 132 [l0, l1, l2] [h.2.2.2 3, .null, .null] h := by
  refine (p_dup rfl rfl).trans ?_
  exact p_stat rfl
theorem r_X1_atom_147 {d : Nat} {s0 : Int32} {l0 l1 l2 : Option Value} {h : AH} : R_X1_atom d 147 [l0, l1, l2] [.int (s0)] h = if s0 = 0 then R_X1_atom d 163 [l0, l1, l2] [] h else R_X1_atom d 150 [l0, l1, l2] [] h := (s_if (g := (fun x => decide (x = 0))) (t := 163) (nx := 150) rfl).trans bif_dec
theorem r_X1_atom_132 {d : Nat} {b0 b1 b2 : Nat} {l0 l1 l2 : Option Value} {h : AH} : R_X1_atom d 132 [l0, l1, l2] [.ref b2, .ref b1, .ref b0] h = aK (exec tTab d 315 [.ref b1, .ref b2] h) (fun v h1 => R_X1_atom d 135 [l0, l1, l2] (v.toList ++ [.ref b0]) h1) (fun E h1 => some (.inr E, h1)) := s_callI (y := 315) (n := 1) (b := b1) (rest := [.ref b0]) rfl rfl rfl
theorem r_X1_atom_132N {d : Nat} {b0 b1 : Nat} {l0 l1 l2 : Option Value} {h : AH} : R_X1_atom d 132 [l0, l1, l2] [.null, .ref b1, .ref b0] h = aK (exec tTab d 315 [.ref b1, .null] h) (fun v h1 => R_X1_atom d 135 [l0, l1, l2] (v.toList ++ [.ref b0]) h1) (fun E h1 => some (.inr E, h1)) := s_callI (y := 315) (n := 1) (b := b1) (rest := [.ref b0]) rfl rfl rfl
theorem r_X1_atom_163 {d : Nat} {a1 : Nat} {l0 l2 : Option Value} {h : AH} : R_X1_atom d 163 [l0, some (.ref a1), l2] [] h = ((hci h a1).bind (lkN [(2, 136)])).bind fun y => aK (exec tTab d y [.ref a1, .int ((nI 62))] h) (fun v h1 => R_X1_atom d 169 [l0, some (.ref a1), l2] (v.toList ++ []) h1) (fun E h1 => some (.inr E, h1)) := by
  refine (p_aload rfl rfl).trans ?_
  refine (p_const rfl).trans ?_
  exact s_callV (L := [(2, 136)]) (n := 1) (b := a1) (rest := []) rfl rfl rfl
theorem r_X1_atom_150 {d : Nat} {l0 l1 l2 : Option Value} {h : AH} : R_X1_atom d 150 [l0, l1, l2] [] h = R_X1_atom d 153 [l0, l1, l2] [.ref h.2.1] (hnew h (true, .inr (16, [.null, .null])) 2) := p_new rfl
theorem r_X1_atom_135 {d : Nat} {b0 : Nat} {l0 l1 l2 : Option Value} {h : AH} : R_X1_atom d 135 [l0, l1, l2] [.ref b0] h = some (.inl (some (.ref b0)), h) := s_aret rfl
theorem r_X1_atom_135N {d : Nat} {l0 l1 l2 : Option Value} {h : AH} : R_X1_atom d 135 [l0, l1, l2] [.null] h = some (.inl (some (.null)), h) := s_aretN rfl
theorem r_X1_atom_169 {d : Nat} {s0 : Int32} {l0 l1 l2 : Option Value} {h : AH} : R_X1_atom d 169 [l0, l1, l2] [.int (s0)] h = if ¬ s0 = 0 then R_X1_atom d 177 [l0, l1, l2] [] h else R_X1_atom d 172 [l0, l1, l2] [] h := (s_if (g := (fun x => decide (¬ x = 0))) (t := 177) (nx := 172) rfl).trans bif_dec
theorem r_X1_atom_153 {d : Nat} {b0 a2 a0 : Nat} {l1 : Option Value} {h : AH} : R_X1_atom d 153 [some (.ref a0), l1, some (.ref a2)] [.ref b0] h = ((hci h a0).bind (lkN [(0, 55)])).bind fun y => aK (exec tTab d y [.ref a0] h) (fun v h1 => R_X1_atom d 159 [some (.ref a0), l1, some (.ref a2)] (v.toList ++ [.ref a2, .ref b0, .ref b0]) h1) (fun E h1 => some (.inr E, h1)) := by
  refine (p_dup rfl rfl).trans ?_
  refine (p_aload rfl rfl).trans ?_
  refine (p_aload rfl rfl).trans ?_
  exact s_callV (L := [(0, 55)]) (n := 0) (b := a0) (rest := [.ref a2, .ref b0, .ref b0]) rfl rfl rfl
theorem r_X1_atom_153N {d : Nat} {a2 a0 : Nat} {l1 : Option Value} {h : AH} : R_X1_atom d 153 [some (.ref a0), l1, some (.ref a2)] [.null] h = ((hci h a0).bind (lkN [(0, 55)])).bind fun y => aK (exec tTab d y [.ref a0] h) (fun v h1 => R_X1_atom d 159 [some (.ref a0), l1, some (.ref a2)] (v.toList ++ [.ref a2, .null, .null]) h1) (fun E h1 => some (.inr E, h1)) := by
  refine (p_dup rfl rfl).trans ?_
  refine (p_aload rfl rfl).trans ?_
  refine (p_aload rfl rfl).trans ?_
  exact s_callV (L := [(0, 55)]) (n := 0) (b := a0) (rest := [.ref a2, .null, .null]) rfl rfl rfl
theorem r_X1_atom_177 {d : Nat} {l0 l1 l2 : Option Value} {h : AH} : R_X1_atom d 177 [l0, l1, l2] [] h = R_X1_atom d 180 [l0, l1, l2] [.ref h.2.1] (hnew h (true, .inr (16, [.null, .null])) 2) := p_new rfl
theorem r_X1_atom_172 {d : Nat} {a1 : Nat} {l0 l2 : Option Value} {h : AH} : R_X1_atom d 172 [l0, some (.ref a1), l2] [] h = ((hci h a1).bind (lkN [(2, 133)])).bind fun y => aK (exec tTab d y [.ref a1] h) (fun v h1 => R_X1_atom d 176 [l0, some (.ref a1), l2] (v.toList ++ []) h1) (fun E h1 => some (.inr E, h1)) := by
  refine (p_aload rfl rfl).trans ?_
  exact s_callV (L := [(2, 133)]) (n := 0) (b := a1) (rest := []) rfl rfl rfl
theorem r_X1_atom_159 {d : Nat} {b0 b1 b2 b3 : Nat} {l0 l1 l2 : Option Value} {h : AH} : R_X1_atom d 159 [l0, l1, l2] [.ref b3, .ref b2, .ref b1, .ref b0] h = aK (exec tTab d 323 [.ref b1, .ref b2, .ref b3] h) (fun v h1 => R_X1_atom d 162 [l0, l1, l2] (v.toList ++ [.ref b0]) h1) (fun E h1 => some (.inr E, h1)) := s_callI (y := 323) (n := 2) (b := b1) (rest := [.ref b0]) rfl rfl rfl
theorem r_X1_atom_159N {d : Nat} {b0 b1 b2 : Nat} {l0 l1 l2 : Option Value} {h : AH} : R_X1_atom d 159 [l0, l1, l2] [.null, .ref b2, .ref b1, .ref b0] h = aK (exec tTab d 323 [.ref b1, .ref b2, .null] h) (fun v h1 => R_X1_atom d 162 [l0, l1, l2] (v.toList ++ [.ref b0]) h1) (fun E h1 => some (.inr E, h1)) := s_callI (y := 323) (n := 2) (b := b1) (rest := [.ref b0]) rfl rfl rfl
theorem r_X1_atom_180 {d : Nat} {b0 a0 : Nat} {l1 l2 : Option Value} {h : AH} : R_X1_atom d 180 [some (.ref a0), l1, l2] [.ref b0] h = ((hci h a0).bind (lkN [(0, 55)])).bind fun y => aK (exec tTab d y [.ref a0] h) (fun v h1 => R_X1_atom d 185 [some (.ref a0), l1, l2] (v.toList ++ [.ref b0, .ref b0]) h1) (fun E h1 => some (.inr E, h1)) := by
  refine (p_dup rfl rfl).trans ?_
  refine (p_aload rfl rfl).trans ?_
  exact s_callV (L := [(0, 55)]) (n := 0) (b := a0) (rest := [.ref b0, .ref b0]) rfl rfl rfl
theorem r_X1_atom_180N {d : Nat} {a0 : Nat} {l1 l2 : Option Value} {h : AH} : R_X1_atom d 180 [some (.ref a0), l1, l2] [.null] h = ((hci h a0).bind (lkN [(0, 55)])).bind fun y => aK (exec tTab d y [.ref a0] h) (fun v h1 => R_X1_atom d 185 [some (.ref a0), l1, l2] (v.toList ++ [.null, .null]) h1) (fun E h1 => some (.inr E, h1)) := by
  refine (p_dup rfl rfl).trans ?_
  refine (p_aload rfl rfl).trans ?_
  exact s_callV (L := [(0, 55)]) (n := 0) (b := a0) (rest := [.null, .null]) rfl rfl rfl
theorem r_X1_atom_176 {d : Nat} {b0 : Nat} {l0 l1 l2 : Option Value} {h : AH} : R_X1_atom d 176 [l0, l1, l2] [.ref b0] h = (hex h [17, 22, 23, 24, 25] b0).bind fun E => (fun E h1 => some (.inr E, h1)) E h := s_athrow rfl
theorem r_X1_atom_162 {d : Nat} {b0 : Nat} {l0 l1 l2 : Option Value} {h : AH} : R_X1_atom d 162 [l0, l1, l2] [.ref b0] h = some (.inl (some (.ref b0)), h) := s_aret rfl
theorem r_X1_atom_162N {d : Nat} {l0 l1 l2 : Option Value} {h : AH} : R_X1_atom d 162 [l0, l1, l2] [.null] h = some (.inl (some (.null)), h) := s_aretN rfl
theorem r_X1_atom_185 {d : Nat} {b0 b1 b2 a2 : Nat} {l0 l1 : Option Value} {h : AH} : R_X1_atom d 185 [l0, l1, some (.ref a2)] [.ref b2, .ref b1, .ref b0] h = aK (exec tTab d 323 [.ref b1, .ref b2, .ref a2] h) (fun v h1 => R_X1_atom d 189 [l0, l1, some (.ref a2)] (v.toList ++ [.ref b0]) h1) (fun E h1 => some (.inr E, h1)) := by
  refine (p_aload rfl rfl).trans ?_
  exact s_callI (y := 323) (n := 2) (b := b1) (rest := [.ref b0]) rfl rfl rfl
theorem r_X1_atom_185N {d : Nat} {b0 b1 a2 : Nat} {l0 l1 : Option Value} {h : AH} : R_X1_atom d 185 [l0, l1, some (.ref a2)] [.null, .ref b1, .ref b0] h = aK (exec tTab d 323 [.ref b1, .null, .ref a2] h) (fun v h1 => R_X1_atom d 189 [l0, l1, some (.ref a2)] (v.toList ++ [.ref b0]) h1) (fun E h1 => some (.inr E, h1)) := by
  refine (p_aload rfl rfl).trans ?_
  exact s_callI (y := 323) (n := 2) (b := b1) (rest := [.ref b0]) rfl rfl rfl
theorem r_X1_atom_189 {d : Nat} {b0 : Nat} {l0 l1 l2 : Option Value} {h : AH} : R_X1_atom d 189 [l0, l1, l2] [.ref b0] h = some (.inl (some (.ref b0)), h) := s_aret rfl
theorem r_X1_atom_189N {d : Nat} {l0 l1 l2 : Option Value} {h : AH} : R_X1_atom d 189 [l0, l1, l2] [.null] h = some (.inl (some (.null)), h) := s_aretN rfl
theorem e_X1_atom {d : Nat} {a0 : Nat} {h : AH} : exec tTab (d + 1) K_X1_atom [.ref a0] h = R_X1_atom d 0 [some (.ref a0), none, none] [] h := exec_eq (cd := k_X1_atom) (hd := (fun _ _ => some none)) (L := 3) rfl rfl rfl
/-- FavourTown.sum()LFavourTown$Sum; -/
abbrev K_X1_sum : Nat := 55
noncomputable def R_X1_sum (d pc : Nat) (ls : ALs) (st : List Value) (h : AH) : Option (AOut × AH) := aR (exec tTab d) k_X1_sum (fun _ _ => some none) (pc, ls, st, h)
theorem r_X1_sum_0 {d : Nat} {l0 l1 : Option Value} {h : AH} : R_X1_sum d 0 [l0, l1] [] h = R_X1_sum d 3 [l0, l1] [.ref h.2.1] (hnew h (true, .inr (14, [.null])) 1) := p_new rfl
theorem r_X1_sum_3 {d : Nat} {b0 : Nat} {l0 l1 : Option Value} {h : AH} : R_X1_sum d 3 [l0, l1] [.ref b0] h = aK (exec tTab d 317 [.ref b0] h) (fun v h1 => R_X1_sum d 7 [l0, l1] (v.toList ++ [.ref b0]) h1) (fun E h1 => some (.inr E, h1)) := by
  refine (p_dup rfl rfl).trans ?_
  exact s_callI (y := 317) (n := 0) (b := b0) (rest := [.ref b0]) rfl rfl rfl
theorem r_X1_sum_7 {d : Nat} {b0 : Nat} {l0 l1 : Option Value} {h : AH} : R_X1_sum d 7 [l0, l1] [.ref b0] h = R_X1_sum d 8 [l0, some (.ref b0)] [] h := by
  refine (p_astore rfl rfl rfl).trans ?_
  exact rfl
theorem r_X1_sum_7N {d : Nat} {l0 l1 : Option Value} {h : AH} : R_X1_sum d 7 [l0, l1] [.null] h = R_X1_sum d 8 [l0, some (.null)] [] h := by
  refine (p_astoreN rfl rfl rfl).trans ?_
  exact rfl
theorem q_X1_sum_8 {d : Nat} {a1 : Nat} {l0 : Option Value} {h : AH} : R_X1_sum d 8 [l0, some (.ref a1)] [] h = (hgf h [14] a1 0).bind fun v => R_X1_sum d 12 [l0, some (.ref a1)] [v] h := by
  refine (p_aload rfl rfl).trans ?_
  exact s_getf rfl
theorem r_X1_sum_12 {d : Nat} {b0 a0 : Nat} {l1 : Option Value} {h : AH} : R_X1_sum d 12 [some (.ref a0), l1] [.ref b0] h = ((hci h a0).bind (lkN [(0, 56)])).bind fun y => aK (exec tTab d y [.ref a0] h) (fun v h1 => R_X1_sum d 16 [some (.ref a0), l1] (v.toList ++ [.ref b0]) h1) (fun E h1 => some (.inr E, h1)) := by
  refine (p_aload rfl rfl).trans ?_
  exact s_callV (L := [(0, 56)]) (n := 0) (b := a0) (rest := [.ref b0]) rfl rfl rfl
theorem r_X1_sum_12N {d : Nat} {a0 : Nat} {l1 : Option Value} {h : AH} : R_X1_sum d 12 [some (.ref a0), l1] [.null] h = ((hci h a0).bind (lkN [(0, 56)])).bind fun y => aK (exec tTab d y [.ref a0] h) (fun v h1 => R_X1_sum d 16 [some (.ref a0), l1] (v.toList ++ [.null]) h1) (fun E h1 => some (.inr E, h1)) := by
  refine (p_aload rfl rfl).trans ?_
  exact s_callV (L := [(0, 56)]) (n := 0) (b := a0) (rest := [.null]) rfl rfl rfl
theorem r_X1_sum_16 {d : Nat} {b0 b1 : Nat} {l0 l1 : Option Value} {h : AH} : R_X1_sum d 16 [l0, l1] [.ref b1, .ref b0] h = ((hci h b0).bind (lkN [(19, 116)])).bind fun y => aK (exec tTab d y [.ref b0, .ref b1] h) (fun v h1 => R_X1_sum d 19 [l0, l1] (v.toList ++ []) h1) (fun E h1 => some (.inr E, h1)) := s_callV (L := [(19, 116)]) (n := 1) (b := b0) (rest := []) rfl rfl rfl
theorem r_X1_sum_16N {d : Nat} {b0 : Nat} {l0 l1 : Option Value} {h : AH} : R_X1_sum d 16 [l0, l1] [.null, .ref b0] h = ((hci h b0).bind (lkN [(19, 116)])).bind fun y => aK (exec tTab d y [.ref b0, .null] h) (fun v h1 => R_X1_sum d 19 [l0, l1] (v.toList ++ []) h1) (fun E h1 => some (.inr E, h1)) := s_callV (L := [(19, 116)]) (n := 1) (b := b0) (rest := []) rfl rfl rfl
theorem r_X1_sum_19 {d : Nat} {s0 : Int32} {a0 : Nat} {l1 : Option Value} {h : AH} : R_X1_sum d 19 [some (.ref a0), l1] [.int (s0)] h = (hgf h [0] a0 2).bind fun v => R_X1_sum d 24 [some (.ref a0), l1] [v] h := by
  refine (p_pop rfl rfl).trans ?_
  refine (p_aload rfl rfl).trans ?_
  exact s_getf rfl
theorem r_X1_sum_24 {d : Nat} {b0 : Nat} {l0 l1 : Option Value} {h : AH} : R_X1_sum d 24 [l0, l1] [.ref b0] h = ((hci h b0).bind (lkN [(2, 136)])).bind fun y => aK (exec tTab d y [.ref b0, .int ((nI 43))] h) (fun v h1 => R_X1_sum d 29 [l0, l1] (v.toList ++ []) h1) (fun E h1 => some (.inr E, h1)) := by
  refine (p_const rfl).trans ?_
  exact s_callV (L := [(2, 136)]) (n := 1) (b := b0) (rest := []) rfl rfl rfl
theorem r_X1_sum_29 {d : Nat} {s0 : Int32} {l0 l1 : Option Value} {h : AH} : R_X1_sum d 29 [l0, l1] [.int (s0)] h = if ¬ s0 = 0 then R_X1_sum d 8 [l0, l1] [] h else R_X1_sum d 32 [l0, l1] [] h := (s_if (g := (fun x => decide (¬ x = 0))) (t := 8) (nx := 32) rfl).trans bif_dec
theorem r_X1_sum_32 {d : Nat} {a1 : Nat} {l0 : Option Value} {h : AH} : R_X1_sum d 32 [l0, some (.ref a1)] [] h = some (.inl (some (.ref a1)), h) := by
  refine (p_aload rfl rfl).trans ?_
  exact s_aret rfl
theorem e_X1_sum {d : Nat} {a0 : Nat} {h : AH} : exec tTab (d + 1) K_X1_sum [.ref a0] h = R_X1_sum d 0 [some (.ref a0), none] [] h := exec_eq (cd := k_X1_sum) (hd := (fun _ _ => some none)) (L := 2) rfl rfl rfl
/-- FavourTown.onePart()LFavourTown$Part; -/
abbrev K_X1_onePart : Nat := 56
noncomputable def R_X1_onePart (d pc : Nat) (ls : ALs) (st : List Value) (h : AH) : Option (AOut × AH) := aR (exec tTab d) k_X1_onePart (fun _ _ => some none) (pc, ls, st, h)
theorem r_X1_onePart_0 {d : Nat} {a0 : Nat} {l1 : Option Value} {h : AH} : R_X1_onePart d 0 [some (.ref a0), l1] [] h = (hgf h [0] a0 2).bind fun v => R_X1_onePart d 4 [some (.ref a0), l1] [v] h := by
  refine (p_aload rfl rfl).trans ?_
  exact s_getf rfl
theorem r_X1_onePart_4 {d : Nat} {b0 : Nat} {l0 l1 : Option Value} {h : AH} : R_X1_onePart d 4 [l0, l1] [.ref b0] h = ((hci h b0).bind (lkN [(2, 139)])).bind fun y => aK (exec tTab d y [.ref b0] h) (fun v h1 => R_X1_onePart d 7 [l0, l1] (v.toList ++ []) h1) (fun E h1 => some (.inr E, h1)) := s_callV (L := [(2, 139)]) (n := 0) (b := b0) (rest := []) rfl rfl rfl
theorem r_X1_onePart_7 {d : Nat} {s0 : Int32} {l0 l1 : Option Value} {h : AH} : R_X1_onePart d 7 [l0, l1] [.int (s0)] h = if s0 = 0 then R_X1_onePart d 30 [l0, l1] [] h else R_X1_onePart d 10 [l0, l1] [] h := (s_if (g := (fun x => decide (x = 0))) (t := 30) (nx := 10) rfl).trans bif_dec
theorem r_X1_onePart_30 {d : Nat} {a0 : Nat} {l1 : Option Value} {h : AH} : R_X1_onePart d 30 [some (.ref a0), l1] [] h = (hgf h [0] a0 2).bind fun v => R_X1_onePart d 34 [some (.ref a0), l1] [v] h := by
  refine (p_aload rfl rfl).trans ?_
  exact s_getf rfl
theorem r_X1_onePart_10 {d : Nat} {l0 l1 : Option Value} {h : AH} : R_X1_onePart d 10 [l0, l1] [] h = R_X1_onePart d 13 [l0, l1] [.ref h.2.1] (hnew h (true, .inr (15, [.int 0, .null])) 2) := p_new rfl
theorem r_X1_onePart_34 {d : Nat} {b0 : Nat} {l0 l1 : Option Value} {h : AH} : R_X1_onePart d 34 [l0, l1] [.ref b0] h = ((hci h b0).bind (lkN [(2, 132)])).bind fun y => aK (exec tTab d y [.ref b0] h) (fun v h1 => R_X1_onePart d 37 [l0, l1] (v.toList ++ []) h1) (fun E h1 => some (.inr E, h1)) := s_callV (L := [(2, 132)]) (n := 0) (b := b0) (rest := []) rfl rfl rfl
theorem r_X1_onePart_13 {d : Nat} {b0 a0 : Nat} {l1 : Option Value} {h : AH} : R_X1_onePart d 13 [some (.ref a0), l1] [.ref b0] h = (hgf h [0] a0 2).bind fun v => R_X1_onePart d 18 [some (.ref a0), l1] [v, .ref b0, .ref b0] h := by
  refine (p_dup rfl rfl).trans ?_
  refine (p_aload rfl rfl).trans ?_
  exact s_getf rfl
theorem r_X1_onePart_13N {d : Nat} {a0 : Nat} {l1 : Option Value} {h : AH} : R_X1_onePart d 13 [some (.ref a0), l1] [.null] h = (hgf h [0] a0 2).bind fun v => R_X1_onePart d 18 [some (.ref a0), l1] [v, .null, .null] h := by
  refine (p_dup rfl rfl).trans ?_
  refine (p_aload rfl rfl).trans ?_
  exact s_getf rfl
theorem r_X1_onePart_37 {d : Nat} {b0 : Nat} {l0 l1 : Option Value} {h : AH} : R_X1_onePart d 37 [l0, l1] [.ref b0] h = aK (exec tTab d 320 [.ref b0] h) (fun v h1 => R_X1_onePart d 40 [l0, l1] (v.toList ++ []) h1) (fun E h1 => some (.inr E, h1)) := s_callS (y := 320) (n := 1) rfl rfl
theorem r_X1_onePart_37N {d : Nat} {l0 l1 : Option Value} {h : AH} : R_X1_onePart d 37 [l0, l1] [.null] h = aK (exec tTab d 320 [.null] h) (fun v h1 => R_X1_onePart d 40 [l0, l1] (v.toList ++ []) h1) (fun E h1 => some (.inr E, h1)) := s_callS (y := 320) (n := 1) rfl rfl
theorem r_X1_onePart_18 {d : Nat} {b0 b1 b2 : Nat} {l0 l1 : Option Value} {h : AH} : R_X1_onePart d 18 [l0, l1] [.ref b2, .ref b1, .ref b0] h = ((hci h b2).bind (lkN [(2, 134)])).bind fun y => aK (exec tTab d y [.ref b2, .int ((nI 0)), .int ((nI 999))] h) (fun v h1 => R_X1_onePart d 25 [l0, l1] (v.toList ++ [.ref b1, .ref b0]) h1) (fun E h1 => some (.inr E, h1)) := by
  refine (p_const rfl).trans ?_
  refine (p_const rfl).trans ?_
  exact s_callV (L := [(2, 134)]) (n := 2) (b := b2) (rest := [.ref b1, .ref b0]) rfl rfl rfl
theorem r_X1_onePart_40 {d : Nat} {b0 : Nat} {l0 l1 : Option Value} {h : AH} : R_X1_onePart d 40 [l0, l1] [.ref b0] h = R_X1_onePart d 56 [l0, some (.ref b0)] [.ref h.2.1] (hnew h (true, .inr (15, [.int 0, .null])) 2) := by
  refine (p_astore rfl rfl rfl).trans ?_
  refine (p_aload rfl rfl).trans ?_
  refine (p_nullR rfl).trans ?_
  exact p_new rfl
theorem r_X1_onePart_40N {d : Nat} {a0 : Nat} {l1 : Option Value} {h : AH} : R_X1_onePart d 40 [some (.ref a0), l1] [.null] h = (hgf h [0] a0 2).bind fun v => R_X1_onePart d 49 [some (.ref a0), some (.null)] [v] h := by
  refine (p_astoreN rfl rfl rfl).trans ?_
  refine (p_aloadN rfl rfl).trans ?_
  refine (p_nullN rfl).trans ?_
  refine (p_aload rfl rfl).trans ?_
  exact s_getf rfl
theorem r_X1_onePart_25 {d : Nat} {b0 b1 : Nat} {s2 : Int32} {l0 l1 : Option Value} {h : AH} : R_X1_onePart d 25 [l0, l1] [.int (s2), .ref b1, .ref b0] h = aK (exec tTab d 319 [.ref b1, .int (s2), .null] h) (fun v h1 => R_X1_onePart d 29 [l0, l1] (v.toList ++ [.ref b0]) h1) (fun E h1 => some (.inr E, h1)) := by
  refine (p_const rfl).trans ?_
  exact s_callI (y := 319) (n := 2) (b := b1) (rest := [.ref b0]) rfl rfl rfl
theorem r_X1_onePart_56 {d : Nat} {b0 a1 : Nat} {l0 : Option Value} {h : AH} : R_X1_onePart d 56 [l0, some (.ref a1)] [.ref b0] h = aK (exec tTab d 319 [.ref b0, .int ((nI 0)), .ref a1] h) (fun v h1 => R_X1_onePart d 62 [l0, some (.ref a1)] (v.toList ++ [.ref b0]) h1) (fun E h1 => some (.inr E, h1)) := by
  refine (p_dup rfl rfl).trans ?_
  refine (p_const rfl).trans ?_
  refine (p_aload rfl rfl).trans ?_
  exact s_callI (y := 319) (n := 2) (b := b0) (rest := [.ref b0]) rfl rfl rfl
theorem r_X1_onePart_49 {d : Nat} {b0 : Nat} {l0 l1 : Option Value} {h : AH} : R_X1_onePart d 49 [l0, l1] [.ref b0] h = ((hci h b0).bind (lkN [(2, 133)])).bind fun y => aK (exec tTab d y [.ref b0] h) (fun v h1 => R_X1_onePart d 52 [l0, l1] (v.toList ++ []) h1) (fun E h1 => some (.inr E, h1)) := s_callV (L := [(2, 133)]) (n := 0) (b := b0) (rest := []) rfl rfl rfl
theorem r_X1_onePart_29 {d : Nat} {b0 : Nat} {l0 l1 : Option Value} {h : AH} : R_X1_onePart d 29 [l0, l1] [.ref b0] h = some (.inl (some (.ref b0)), h) := s_aret rfl
theorem r_X1_onePart_29N {d : Nat} {l0 l1 : Option Value} {h : AH} : R_X1_onePart d 29 [l0, l1] [.null] h = some (.inl (some (.null)), h) := s_aretN rfl
theorem r_X1_onePart_62 {d : Nat} {b0 : Nat} {l0 l1 : Option Value} {h : AH} : R_X1_onePart d 62 [l0, l1] [.ref b0] h = some (.inl (some (.ref b0)), h) := s_aret rfl
theorem r_X1_onePart_62N {d : Nat} {l0 l1 : Option Value} {h : AH} : R_X1_onePart d 62 [l0, l1] [.null] h = some (.inl (some (.null)), h) := s_aretN rfl
theorem r_X1_onePart_52 {d : Nat} {b0 : Nat} {l0 l1 : Option Value} {h : AH} : R_X1_onePart d 52 [l0, l1] [.ref b0] h = (hex h [17, 22, 23, 24, 25] b0).bind fun E => (fun E h1 => some (.inr E, h1)) E h := s_athrow rfl
theorem e_X1_onePart {d : Nat} {a0 : Nat} {h : AH} : exec tTab (d + 1) K_X1_onePart [.ref a0] h = R_X1_onePart d 0 [some (.ref a0), none] [] h := exec_eq (cd := k_X1_onePart) (hd := (fun _ _ => some none)) (L := 2) rfl rfl rfl
/-- FavourTown.has(II)I -/
abbrev K_X1_has : Nat := 57
noncomputable def R_X1_has (d pc : Nat) (ls : ALs) (st : List Value) (h : AH) : Option (AOut × AH) := aR (exec tTab d) k_X1_has (fun _ _ => some none) (pc, ls, st, h)
theorem r_X1_has_0 {d : Nat} {a0 : Nat} {x1 : Int32} {l2 l3 : Option Value} {h : AH} : R_X1_has d 0 [some (.ref a0), some (.int (x1)), l2, l3] [] h = ((hci h a0).bind (lkN [(0, 58)])).bind fun y => aK (exec tTab d y [.ref a0, .int (x1)] h) (fun v h1 => R_X1_has d 5 [some (.ref a0), some (.int (x1)), l2, l3] (v.toList ++ []) h1) (fun E h1 => some (.inr E, h1)) := by
  refine (p_aload rfl rfl).trans ?_
  refine (p_iload rfl rfl).trans ?_
  exact s_callV (L := [(0, 58)]) (n := 1) (b := a0) (rest := []) rfl rfl rfl
theorem r_X1_has_5 {d : Nat} {x2 : Int32} {l0 l1 l3 : Option Value} {h : AH} : R_X1_has d 5 [l0, l1, some (.int (x2)), l3] [] h = if x2 = (-1) then R_X1_has d 24 [l0, l1, some (.int (x2)), l3] [] h else R_X1_has d 10 [l0, l1, some (.int (x2)), l3] [] h := by
  refine (p_iload rfl rfl).trans ?_
  refine (p_const rfl).trans ?_
  exact (s_icmp (g := (fun x y => decide (x = y))) (t := 24) (nx := 10) rfl).trans bif_dec
theorem r_X1_has_24 {d : Nat} {a0 : Nat} {l1 l2 l3 : Option Value} {h : AH} : R_X1_has d 24 [some (.ref a0), l1, l2, l3] [] h = (hgf h [0] a0 0).bind fun v => R_X1_has d 28 [some (.ref a0), l1, l2, l3] [v] h := by
  refine (p_aload rfl rfl).trans ?_
  exact s_getf rfl
theorem r_X1_has_10 {d : Nat} {x2 : Int32} {a0 : Nat} {l1 l3 : Option Value} {h : AH} : R_X1_has d 10 [some (.ref a0), l1, some (.int (x2)), l3] [] h = (hgf h [0] a0 0).bind fun v => R_X1_has d 15 [some (.ref a0), l1, some (.int (x2)), l3] [v, .int (x2)] h := by
  refine (p_iload rfl rfl).trans ?_
  refine (p_aload rfl rfl).trans ?_
  exact s_getf rfl
theorem r_X1_has_28 {d : Nat} {b0 : Nat} {l0 l1 l2 l3 : Option Value} {h : AH} : R_X1_has d 28 [l0, l1, l2, l3] [.ref b0] h = (hgf h [1] b0 7).bind fun v => R_X1_has d 31 [l0, l1, l2, l3] [v] h := s_getf rfl
theorem r_X1_has_15 {d : Nat} {s0 : Int32} {b1 : Nat} {l0 l1 l2 l3 : Option Value} {h : AH} : R_X1_has d 15 [l0, l1, l2, l3] [.ref b1, .int (s0)] h = (hgf h [1] b1 11).bind fun v => R_X1_has d 18 [l0, l1, l2, l3] [v, .int (s0)] h := s_getf rfl
theorem r_X1_has_31 {d : Nat} {b0 : Nat} {x1 : Int32} {l0 l2 l3 : Option Value} {h : AH} : R_X1_has d 31 [l0, some (.int (x1)), l2, l3] [.ref b0] h = (hai h 0 b0 x1).bind fun v => R_X1_has d 33 [l0, some (.int (x1)), l2, l3] [.int v] h := by
  refine (p_iload rfl rfl).trans ?_
  exact s_iald rfl
theorem r_X1_has_18 {d : Nat} {s0 : Int32} {b1 : Nat} {l0 l1 l2 l3 : Option Value} {h : AH} : R_X1_has d 18 [l0, l1, l2, l3] [.ref b1, .int (s0)] h = ((hci h b1).bind (lkN [(19, 113)])).bind fun y => aK (exec tTab d y [.ref b1] h) (fun v h1 => R_X1_has d 21 [l0, l1, l2, l3] (v.toList ++ [.int (s0)]) h1) (fun E h1 => some (.inr E, h1)) := s_callV (L := [(19, 113)]) (n := 0) (b := b1) (rest := [.int (s0)]) rfl rfl rfl
theorem r_X1_has_33 {d : Nat} {s0 : Int32} {a0 : Nat} {l1 l2 l3 : Option Value} {h : AH} : R_X1_has d 33 [some (.ref a0), l1, l2, l3] [.int (s0)] h = (hgf h [0] a0 0).bind fun v => R_X1_has d 38 [some (.ref a0), l1, l2, some (.int (s0))] [v] h := by
  refine (p_istore rfl rfl rfl).trans ?_
  refine (p_aload rfl rfl).trans ?_
  exact s_getf rfl
theorem r_X1_has_21 {d : Nat} {s0 s1 : Int32} {l0 l1 l2 l3 : Option Value} {h : AH} : R_X1_has d 21 [l0, l1, l2, l3] [.int (s1), .int (s0)] h = aK (exec tTab d 59 [.int (s0), .int (s1)] h) (fun v h1 => R_X1_has d 24 [l0, l1, l2, l3] (v.toList ++ []) h1) (fun E h1 => some (.inr E, h1)) := s_callS (y := 59) (n := 2) rfl rfl
theorem r_X1_has_38 {d : Nat} {b0 : Nat} {l0 l1 l2 l3 : Option Value} {h : AH} : R_X1_has d 38 [l0, l1, l2, l3] [.ref b0] h = (hgf h [1] b0 7).bind fun v => R_X1_has d 41 [l0, l1, l2, l3] [v] h := s_getf rfl
theorem r_X1_has_41 {d : Nat} {b0 : Nat} {x1 x2 : Int32} {l0 l3 : Option Value} {h : AH} : R_X1_has d 41 [l0, some (.int (x1)), some (.int (x2)), l3] [.ref b0] h = (hsi h 0 b0 x1 x2).bind fun h1 => R_X1_has d 44 [l0, some (.int (x1)), some (.int (x2)), l3] [] h1 := by
  refine (p_iload rfl rfl).trans ?_
  refine (p_iload rfl rfl).trans ?_
  exact s_iast (t := 0) (nar := (fun y => y)) rfl
theorem r_X1_has_44 {d : Nat} {x3 : Int32} {l0 l1 l2 : Option Value} {h : AH} : R_X1_has d 44 [l0, l1, l2, some (.int (x3))] [] h = some (.inl (some (.int (x3))), h) := by
  refine (p_iload rfl rfl).trans ?_
  exact s_iretT rfl rfl
theorem e_X1_has {d : Nat} {a0 : Nat} {x1 x2 : Int32} {h : AH} : exec tTab (d + 1) K_X1_has [.ref a0, .int x1, .int x2] h = R_X1_has d 0 [some (.ref a0), some (.int x1), some (.int x2), none] [] h := exec_eq (cd := k_X1_has) (hd := (fun _ _ => some none)) (L := 4) rfl rfl rfl
/-- FavourTown.person(I)V -/
abbrev K_X1_person : Nat := 58
noncomputable def R_X1_person (d pc : Nat) (ls : ALs) (st : List Value) (h : AH) : Option (AOut × AH) := aR (exec tTab d) k_X1_person (fun _ _ => some none) (pc, ls, st, h)
theorem r_X1_person_0 {d : Nat} {x1 : Int32} {a0 : Nat} {h : AH} : R_X1_person d 0 [some (.ref a0), some (.int (x1))] [] h = (hgf h [0] a0 0).bind fun v => R_X1_person d 5 [some (.ref a0), some (.int (x1))] [v, .int (x1)] h := by
  refine (p_iload rfl rfl).trans ?_
  refine (p_aload rfl rfl).trans ?_
  exact s_getf rfl
theorem r_X1_person_5 {d : Nat} {s0 : Int32} {b1 : Nat} {l0 l1 : Option Value} {h : AH} : R_X1_person d 5 [l0, l1] [.ref b1, .int (s0)] h = (hgf h [1] b1 3).bind fun v => R_X1_person d 8 [l0, l1] [v, .int (s0)] h := s_getf rfl
theorem r_X1_person_8 {d : Nat} {s0 s1 : Int32} {l0 l1 : Option Value} {h : AH} : R_X1_person d 8 [l0, l1] [.int (s1), .int (s0)] h = aK (exec tTab d 59 [.int (s0), .int (s1)] h) (fun v h1 => R_X1_person d 11 [l0, l1] (v.toList ++ []) h1) (fun E h1 => some (.inr E, h1)) := s_callS (y := 59) (n := 2) rfl rfl
theorem r_X1_person_11 {d : Nat} {l0 l1 : Option Value} {h : AH} : R_X1_person d 11 [l0, l1] [] h = some (.inl none, h) := s_vret rfl
theorem e_X1_person {d : Nat} {a0 : Nat} {x1 : Int32} {h : AH} : exec tTab (d + 1) K_X1_person [.ref a0, .int x1] h = R_X1_person d 0 [some (.ref a0), some (.int x1)] [] h := exec_eq (cd := k_X1_person) (hd := (fun _ _ => some none)) (L := 2) rfl rfl rfl
/-- FavourTown.there(II)V -/
abbrev K_X1_there : Nat := 59
noncomputable def R_X1_there (d pc : Nat) (ls : ALs) (st : List Value) (h : AH) : Option (AOut × AH) := aR (exec tTab d) k_X1_there (fun _ _ => some none) (pc, ls, st, h)
theorem r_X1_there_0 {d : Nat} {x0 x1 : Int32} {h : AH} : R_X1_there d 0 [some (.int (x0)), some (.int (x1))] [] h = aK (exec tTab d 40 [.int (x0), .int ((nI 0)), .int (x1 - (nI 1))] h) (fun v h1 => R_X1_there d 8 [some (.int (x0)), some (.int (x1))] (v.toList ++ []) h1) (fun E h1 => some (.inr E, h1)) := by
  refine (p_iload rfl rfl).trans ?_
  refine (p_const rfl).trans ?_
  refine (p_iload rfl rfl).trans ?_
  refine (p_const rfl).trans ?_
  refine (p_bin rfl).trans ?_
  exact s_callS (y := 40) (n := 3) rfl rfl
theorem r_X1_there_8 {d : Nat} {s0 : Int32} {l0 l1 : Option Value} {h : AH} : R_X1_there d 8 [l0, l1] [.int (s0)] h = if ¬ s0 = 0 then R_X1_there d 19 [l0, l1] [] h else R_X1_there d 11 [l0, l1] [] h := (s_if (g := (fun x => decide (¬ x = 0))) (t := 19) (nx := 11) rfl).trans bif_dec
theorem r_X1_there_19 {d : Nat} {l0 l1 : Option Value} {h : AH} : R_X1_there d 19 [l0, l1] [] h = some (.inl none, h) := s_vret rfl
theorem r_X1_there_11 {d : Nat} {l0 l1 : Option Value} {h : AH} : R_X1_there d 11 [l0, l1] [] h = R_X1_there d 18 [l0, l1] [.ref h.2.1] (hnew h (true, .inr (24, [])) 6) := s_make rfl rfl
theorem r_X1_there_18 {d : Nat} {b0 : Nat} {l0 l1 : Option Value} {h : AH} : R_X1_there d 18 [l0, l1] [.ref b0] h = (hex h [17, 22, 23, 24, 25] b0).bind fun E => (fun E h1 => some (.inr E, h1)) E h := s_athrow rfl
theorem e_X1_there {d : Nat} {x0 x1 : Int32} {h : AH} : exec tTab (d + 1) K_X1_there [.int x0, .int x1] h = R_X1_there d 0 [some (.int x0), some (.int x1)] [] h := exec_eq (cd := k_X1_there) (hd := (fun _ _ => some none)) (L := 2) rfl rfl rfl
/-- FavourTown.give(IIIIZ)I -/
abbrev K_X1_give : Nat := 60
noncomputable def R_X1_give (d pc : Nat) (ls : ALs) (st : List Value) (h : AH) : Option (AOut × AH) := aR (exec tTab d) k_X1_give (fun _ _ => some none) (pc, ls, st, h)
theorem r_X1_give_0 {d : Nat} {a0 : Nat} {x1 x2 : Int32} {l3 l4 l5 : Option Value} {h : AH} : R_X1_give d 0 [some (.ref a0), some (.int (x1)), some (.int (x2)), l3, l4, l5] [] h = ((hci h a0).bind (lkN [(0, 61)])).bind fun y => aK (exec tTab d y [.ref a0, .int (x1), .int (x2)] h) (fun v h1 => R_X1_give d 6 [some (.ref a0), some (.int (x1)), some (.int (x2)), l3, l4, l5] (v.toList ++ []) h1) (fun E h1 => some (.inr E, h1)) := by
  refine (p_aload rfl rfl).trans ?_
  refine (p_iload rfl rfl).trans ?_
  refine (p_iload rfl rfl).trans ?_
  exact s_callV (L := [(0, 61)]) (n := 2) (b := a0) (rest := []) rfl rfl rfl
theorem r_X1_give_6 {d : Nat} {x3 : Int32} {l0 l1 l2 l4 l5 : Option Value} {h : AH} : R_X1_give d 6 [l0, l1, l2, some (.int (x3)), l4, l5] [] h = aK (exec tTab d 40 [.int (x3), .int ((nI 1)), .int ((nI 99))] h) (fun v h1 => R_X1_give d 13 [l0, l1, l2, some (.int (x3)), l4, l5] (v.toList ++ []) h1) (fun E h1 => some (.inr E, h1)) := by
  refine (p_iload rfl rfl).trans ?_
  refine (p_const rfl).trans ?_
  refine (p_const rfl).trans ?_
  exact s_callS (y := 40) (n := 3) rfl rfl
theorem r_X1_give_13 {d : Nat} {s0 : Int32} {l0 l1 l2 l3 l4 l5 : Option Value} {h : AH} : R_X1_give d 13 [l0, l1, l2, l3, l4, l5] [.int (s0)] h = if s0 = 0 then R_X1_give d 31 [l0, l1, l2, l3, l4, l5] [] h else R_X1_give d 16 [l0, l1, l2, l3, l4, l5] [] h := (s_if (g := (fun x => decide (x = 0))) (t := 31) (nx := 16) rfl).trans bif_dec
theorem r_X1_give_31 {d : Nat} {l0 l1 l2 l3 l4 l5 : Option Value} {h : AH} : R_X1_give d 31 [l0, l1, l2, l3, l4, l5] [] h = aK (exec tTab d 62 [.int ((nI 0))] h) (fun v h1 => R_X1_give d 35 [l0, l1, l2, l3, l4, l5] (v.toList ++ []) h1) (fun E h1 => some (.inr E, h1)) := by
  refine (p_const rfl).trans ?_
  exact s_callS (y := 62) (n := 1) rfl rfl
theorem r_X1_give_16 {d : Nat} {x4 : Int32} {l0 l1 l2 l3 l5 : Option Value} {h : AH} : R_X1_give d 16 [l0, l1, l2, l3, some (.int (x4)), l5] [] h = aK (exec tTab d 40 [.int (x4), .int ((nI 0)), .int ((nI 99))] h) (fun v h1 => R_X1_give d 24 [l0, l1, l2, l3, some (.int (x4)), l5] (v.toList ++ []) h1) (fun E h1 => some (.inr E, h1)) := by
  refine (p_iload rfl rfl).trans ?_
  refine (p_const rfl).trans ?_
  refine (p_const rfl).trans ?_
  exact s_callS (y := 40) (n := 3) rfl rfl
theorem r_X1_give_35 {d : Nat} {a0 : Nat} {l1 l2 l3 l4 l5 : Option Value} {h : AH} : R_X1_give d 35 [some (.ref a0), l1, l2, l3, l4, l5] [] h = (hgf h [0] a0 0).bind fun v => R_X1_give d 39 [some (.ref a0), l1, l2, l3, l4, l5] [v] h := by
  refine (p_aload rfl rfl).trans ?_
  exact s_getf rfl
theorem r_X1_give_24 {d : Nat} {s0 : Int32} {l0 l1 l2 l3 l4 l5 : Option Value} {h : AH} : R_X1_give d 24 [l0, l1, l2, l3, l4, l5] [.int (s0)] h = if s0 = 0 then R_X1_give d 31 [l0, l1, l2, l3, l4, l5] [] h else R_X1_give d 27 [l0, l1, l2, l3, l4, l5] [] h := (s_if (g := (fun x => decide (x = 0))) (t := 31) (nx := 27) rfl).trans bif_dec
theorem r_X1_give_39 {d : Nat} {b0 : Nat} {x1 x2 x3 x4 x5 : Int32} {l0 : Option Value} {h : AH} : R_X1_give d 39 [l0, some (.int (x1)), some (.int (x2)), some (.int (x3)), some (.int (x4)), some (.int (x5))] [.ref b0] h = ((hci h b0).bind (lkN [(1, 104)])).bind fun y => aK (exec tTab d y [.ref b0, .int (x1), .int (x2), .int (x3), .int (x4), .int (x5)] h) (fun v h1 => R_X1_give d 49 [l0, some (.int (x1)), some (.int (x2)), some (.int (x3)), some (.int (x4)), some (.int (x5))] (v.toList ++ []) h1) (fun E h1 => some (.inr E, h1)) := by
  refine (p_iload rfl rfl).trans ?_
  refine (p_iload rfl rfl).trans ?_
  refine (p_iload rfl rfl).trans ?_
  refine (p_iload rfl rfl).trans ?_
  refine (p_iload rfl rfl).trans ?_
  exact s_callV (L := [(1, 104)]) (n := 5) (b := b0) (rest := []) rfl rfl rfl
theorem r_X1_give_27 {d : Nat} {l0 l1 l2 l3 l4 l5 : Option Value} {h : AH} : R_X1_give d 27 [l0, l1, l2, l3, l4, l5] [] h = aK (exec tTab d 62 [.int ((nI 1))] h) (fun v h1 => R_X1_give d 35 [l0, l1, l2, l3, l4, l5] (v.toList ++ []) h1) (fun E h1 => some (.inr E, h1)) := by
  refine (p_const rfl).trans ?_
  refine (p_goto rfl).trans ?_
  exact s_callS (y := 62) (n := 1) rfl rfl
theorem r_X1_give_49 {d : Nat} {s0 : Int32} {l0 l1 l2 l3 l4 l5 : Option Value} {h : AH} : R_X1_give d 49 [l0, l1, l2, l3, l4, l5] [.int (s0)] h = some (.inl (some (.int (s0))), h) := s_iretT rfl rfl
theorem e_X1_give {d : Nat} {a0 : Nat} {x1 x2 x3 x4 x5 : Int32} {h : AH} : exec tTab (d + 1) K_X1_give [.ref a0, .int x1, .int x2, .int x3, .int x4, .int x5] h = R_X1_give d 0 [some (.ref a0), some (.int x1), some (.int x2), some (.int x3), some (.int x4), some (.int x5)] [] h := exec_eq (cd := k_X1_give) (hd := (fun _ _ => some none)) (L := 6) rfl rfl rfl
/-- FavourTown.two(II)V -/
abbrev K_X1_two : Nat := 61
noncomputable def R_X1_two (d pc : Nat) (ls : ALs) (st : List Value) (h : AH) : Option (AOut × AH) := aR (exec tTab d) k_X1_two (fun _ _ => some none) (pc, ls, st, h)
theorem r_X1_two_0 {d : Nat} {a0 : Nat} {x1 : Int32} {l2 : Option Value} {h : AH} : R_X1_two d 0 [some (.ref a0), some (.int (x1)), l2] [] h = ((hci h a0).bind (lkN [(0, 58)])).bind fun y => aK (exec tTab d y [.ref a0, .int (x1)] h) (fun v h1 => R_X1_two d 5 [some (.ref a0), some (.int (x1)), l2] (v.toList ++ []) h1) (fun E h1 => some (.inr E, h1)) := by
  refine (p_aload rfl rfl).trans ?_
  refine (p_iload rfl rfl).trans ?_
  exact s_callV (L := [(0, 58)]) (n := 1) (b := a0) (rest := []) rfl rfl rfl
theorem r_X1_two_5 {d : Nat} {a0 : Nat} {x2 : Int32} {l1 : Option Value} {h : AH} : R_X1_two d 5 [some (.ref a0), l1, some (.int (x2))] [] h = ((hci h a0).bind (lkN [(0, 58)])).bind fun y => aK (exec tTab d y [.ref a0, .int (x2)] h) (fun v h1 => R_X1_two d 10 [some (.ref a0), l1, some (.int (x2))] (v.toList ++ []) h1) (fun E h1 => some (.inr E, h1)) := by
  refine (p_aload rfl rfl).trans ?_
  refine (p_iload rfl rfl).trans ?_
  exact s_callV (L := [(0, 58)]) (n := 1) (b := a0) (rest := []) rfl rfl rfl
theorem r_X1_two_10 {d : Nat} {x1 x2 : Int32} {l0 : Option Value} {h : AH} : R_X1_two d 10 [l0, some (.int (x1)), some (.int (x2))] [] h = if x1 = x2 then R_X1_two d 19 [l0, some (.int (x1)), some (.int (x2))] [] h else R_X1_two d 15 [l0, some (.int (x1)), some (.int (x2))] [] h := by
  refine (p_iload rfl rfl).trans ?_
  refine (p_iload rfl rfl).trans ?_
  exact (s_icmp (g := (fun x y => decide (x = y))) (t := 19) (nx := 15) rfl).trans bif_dec
theorem r_X1_two_19 {d : Nat} {l0 l1 l2 : Option Value} {h : AH} : R_X1_two d 19 [l0, l1, l2] [] h = aK (exec tTab d 62 [.int ((nI 0))] h) (fun v h1 => R_X1_two d 23 [l0, l1, l2] (v.toList ++ []) h1) (fun E h1 => some (.inr E, h1)) := by
  refine (p_const rfl).trans ?_
  exact s_callS (y := 62) (n := 1) rfl rfl
theorem r_X1_two_15 {d : Nat} {l0 l1 l2 : Option Value} {h : AH} : R_X1_two d 15 [l0, l1, l2] [] h = aK (exec tTab d 62 [.int ((nI 1))] h) (fun v h1 => R_X1_two d 23 [l0, l1, l2] (v.toList ++ []) h1) (fun E h1 => some (.inr E, h1)) := by
  refine (p_const rfl).trans ?_
  refine (p_goto rfl).trans ?_
  exact s_callS (y := 62) (n := 1) rfl rfl
theorem r_X1_two_23 {d : Nat} {l0 l1 l2 : Option Value} {h : AH} : R_X1_two d 23 [l0, l1, l2] [] h = some (.inl none, h) := s_vret rfl
theorem e_X1_two {d : Nat} {a0 : Nat} {x1 x2 : Int32} {h : AH} : exec tTab (d + 1) K_X1_two [.ref a0, .int x1, .int x2] h = R_X1_two d 0 [some (.ref a0), some (.int x1), some (.int x2)] [] h := exec_eq (cd := k_X1_two) (hd := (fun _ _ => some none)) (L := 3) rfl rfl rfl
/-- FavourTown.demand(Z)V -/
abbrev K_X1_demand : Nat := 62
noncomputable def R_X1_demand (d pc : Nat) (ls : ALs) (st : List Value) (h : AH) : Option (AOut × AH) := aR (exec tTab d) k_X1_demand (fun _ _ => some none) (pc, ls, st, h)
theorem r_X1_demand_0 {d : Nat} {x0 : Int32} {h : AH} : R_X1_demand d 0 [some (.int (x0))] [] h = if ¬ x0 = 0 then R_X1_demand d 12 [some (.int (x0))] [] h else R_X1_demand d 4 [some (.int (x0))] [] h := by
  refine (p_iload rfl rfl).trans ?_
  exact (s_if (g := (fun x => decide (¬ x = 0))) (t := 12) (nx := 4) rfl).trans bif_dec
theorem r_X1_demand_12 {d : Nat} {l0 : Option Value} {h : AH} : R_X1_demand d 12 [l0] [] h = some (.inl none, h) := s_vret rfl
theorem r_X1_demand_4 {d : Nat} {l0 : Option Value} {h : AH} : R_X1_demand d 4 [l0] [] h = R_X1_demand d 11 [l0] [.ref h.2.1] (hnew h (true, .inr (22, [])) 6) := s_make rfl rfl
theorem r_X1_demand_11 {d : Nat} {b0 : Nat} {l0 : Option Value} {h : AH} : R_X1_demand d 11 [l0] [.ref b0] h = (hex h [17, 22, 23, 24, 25] b0).bind fun E => (fun E h1 => some (.inr E, h1)) E h := s_athrow rfl
theorem e_X1_demand {d : Nat} {x0 : Int32} {h : AH} : exec tTab (d + 1) K_X1_demand [.int x0] h = R_X1_demand d 0 [some (.int x0)] [] h := exec_eq (cd := k_X1_demand) (hd := (fun _ _ => some none)) (L := 1) rfl rfl rfl
/-- FavourTown.pass(II)I -/
abbrev K_X1_pass : Nat := 63
noncomputable def R_X1_pass (d pc : Nat) (ls : ALs) (st : List Value) (h : AH) : Option (AOut × AH) := aR (exec tTab d) k_X1_pass (fun _ _ => some none) (pc, ls, st, h)
theorem r_X1_pass_0 {d : Nat} {a0 : Nat} {x1 : Int32} {l2 l3 : Option Value} {h : AH} : R_X1_pass d 0 [some (.ref a0), some (.int (x1)), l2, l3] [] h = ((hci h a0).bind (lkN [(0, 64)])).bind fun y => aK (exec tTab d y [.ref a0, .int (x1)] h) (fun v h1 => R_X1_pass d 5 [some (.ref a0), some (.int (x1)), l2, l3] (v.toList ++ []) h1) (fun E h1 => some (.inr E, h1)) := by
  refine (p_aload rfl rfl).trans ?_
  refine (p_iload rfl rfl).trans ?_
  exact s_callV (L := [(0, 64)]) (n := 1) (b := a0) (rest := []) rfl rfl rfl
theorem r_X1_pass_5 {d : Nat} {b0 a0 : Nat} {x2 : Int32} {l1 l3 : Option Value} {h : AH} : R_X1_pass d 5 [some (.ref a0), l1, some (.int (x2)), l3] [.ref b0] h = ((hci h a0).bind (lkN [(0, 58)])).bind fun y => aK (exec tTab d y [.ref a0, .int (x2)] h) (fun v h1 => R_X1_pass d 11 [some (.ref a0), l1, some (.int (x2)), some (.ref b0)] (v.toList ++ []) h1) (fun E h1 => some (.inr E, h1)) := by
  refine (p_astore rfl rfl rfl).trans ?_
  refine (p_aload rfl rfl).trans ?_
  refine (p_iload rfl rfl).trans ?_
  exact s_callV (L := [(0, 58)]) (n := 1) (b := a0) (rest := []) rfl rfl rfl
theorem r_X1_pass_5N {d : Nat} {a0 : Nat} {x2 : Int32} {l1 l3 : Option Value} {h : AH} : R_X1_pass d 5 [some (.ref a0), l1, some (.int (x2)), l3] [.null] h = ((hci h a0).bind (lkN [(0, 58)])).bind fun y => aK (exec tTab d y [.ref a0, .int (x2)] h) (fun v h1 => R_X1_pass d 11 [some (.ref a0), l1, some (.int (x2)), some (.null)] (v.toList ++ []) h1) (fun E h1 => some (.inr E, h1)) := by
  refine (p_astoreN rfl rfl rfl).trans ?_
  refine (p_aload rfl rfl).trans ?_
  refine (p_iload rfl rfl).trans ?_
  exact s_callV (L := [(0, 58)]) (n := 1) (b := a0) (rest := []) rfl rfl rfl
theorem r_X1_pass_11 {d : Nat} {a3 : Nat} {l0 l1 l2 : Option Value} {h : AH} : R_X1_pass d 11 [l0, l1, l2, some (.ref a3)] [] h = (hgf h [5, 6] a3 4).bind fun v => R_X1_pass d 15 [l0, l1, l2, some (.ref a3)] [v] h := by
  refine (p_aload rfl rfl).trans ?_
  exact s_getf rfl
theorem r_X1_pass_15 {d : Nat} {s0 x2 : Int32} {l0 l1 l3 : Option Value} {h : AH} : R_X1_pass d 15 [l0, l1, some (.int (x2)), l3] [.int (s0)] h = if s0 = x2 then R_X1_pass d 23 [l0, l1, some (.int (x2)), l3] [] h else R_X1_pass d 19 [l0, l1, some (.int (x2)), l3] [] h := by
  refine (p_iload rfl rfl).trans ?_
  exact (s_icmp (g := (fun x y => decide (x = y))) (t := 23) (nx := 19) rfl).trans bif_dec
theorem r_X1_pass_23 {d : Nat} {l0 l1 l2 l3 : Option Value} {h : AH} : R_X1_pass d 23 [l0, l1, l2, l3] [] h = aK (exec tTab d 62 [.int ((nI 0))] h) (fun v h1 => R_X1_pass d 27 [l0, l1, l2, l3] (v.toList ++ []) h1) (fun E h1 => some (.inr E, h1)) := by
  refine (p_const rfl).trans ?_
  exact s_callS (y := 62) (n := 1) rfl rfl
theorem r_X1_pass_19 {d : Nat} {l0 l1 l2 l3 : Option Value} {h : AH} : R_X1_pass d 19 [l0, l1, l2, l3] [] h = aK (exec tTab d 62 [.int ((nI 1))] h) (fun v h1 => R_X1_pass d 27 [l0, l1, l2, l3] (v.toList ++ []) h1) (fun E h1 => some (.inr E, h1)) := by
  refine (p_const rfl).trans ?_
  refine (p_goto rfl).trans ?_
  exact s_callS (y := 62) (n := 1) rfl rfl
theorem r_X1_pass_27 {d : Nat} {a0 : Nat} {l1 l2 l3 : Option Value} {h : AH} : R_X1_pass d 27 [some (.ref a0), l1, l2, l3] [] h = (hgf h [0] a0 0).bind fun v => R_X1_pass d 31 [some (.ref a0), l1, l2, l3] [v] h := by
  refine (p_aload rfl rfl).trans ?_
  exact s_getf rfl
theorem r_X1_pass_31 {d : Nat} {b0 a3 : Nat} {x2 : Int32} {l0 l1 : Option Value} {h : AH} : R_X1_pass d 31 [l0, l1, some (.int (x2)), some (.ref a3)] [.ref b0] h = ((hci h b0).bind (lkN [(1, 105)])).bind fun y => aK (exec tTab d y [.ref b0, .ref a3, .int (x2)] h) (fun v h1 => R_X1_pass d 36 [l0, l1, some (.int (x2)), some (.ref a3)] (v.toList ++ []) h1) (fun E h1 => some (.inr E, h1)) := by
  refine (p_aload rfl rfl).trans ?_
  refine (p_iload rfl rfl).trans ?_
  exact s_callV (L := [(1, 105)]) (n := 2) (b := b0) (rest := []) rfl rfl rfl
theorem r_X1_pass_36 {d : Nat} {s0 : Int32} {l0 l1 l2 l3 : Option Value} {h : AH} : R_X1_pass d 36 [l0, l1, l2, l3] [.int (s0)] h = some (.inl (some (.int (s0))), h) := s_iretT rfl rfl
theorem e_X1_pass {d : Nat} {a0 : Nat} {x1 x2 : Int32} {h : AH} : exec tTab (d + 1) K_X1_pass [.ref a0, .int x1, .int x2] h = R_X1_pass d 0 [some (.ref a0), some (.int x1), some (.int x2), none] [] h := exec_eq (cd := k_X1_pass) (hd := (fun _ _ => some none)) (L := 4) rfl rfl rfl
/-- FavourTown.favourAt(I)LFavourTown$Favour; -/
abbrev K_X1_favourAt : Nat := 64
noncomputable def R_X1_favourAt (d pc : Nat) (ls : ALs) (st : List Value) (h : AH) : Option (AOut × AH) := aR (exec tTab d) k_X1_favourAt (fun _ _ => some none) (pc, ls, st, h)
theorem r_X1_favourAt_0 {d : Nat} {x1 : Int32} {a0 : Nat} {h : AH} : R_X1_favourAt d 0 [some (.ref a0), some (.int (x1))] [] h = (hgf h [0] a0 0).bind fun v => R_X1_favourAt d 5 [some (.ref a0), some (.int (x1))] [v, .int (x1)] h := by
  refine (p_iload rfl rfl).trans ?_
  refine (p_aload rfl rfl).trans ?_
  exact s_getf rfl
theorem r_X1_favourAt_5 {d : Nat} {s0 : Int32} {b1 : Nat} {l0 l1 : Option Value} {h : AH} : R_X1_favourAt d 5 [l0, l1] [.ref b1, .int (s0)] h = (hgf h [1] b1 9).bind fun v => R_X1_favourAt d 8 [l0, l1] [v, .int (s0)] h := s_getf rfl
theorem r_X1_favourAt_8 {d : Nat} {s0 : Int32} {b1 : Nat} {l0 l1 : Option Value} {h : AH} : R_X1_favourAt d 8 [l0, l1] [.ref b1, .int (s0)] h = ((hci h b1).bind (lkN [(19, 113)])).bind fun y => aK (exec tTab d y [.ref b1] h) (fun v h1 => R_X1_favourAt d 11 [l0, l1] (v.toList ++ [.int (s0)]) h1) (fun E h1 => some (.inr E, h1)) := s_callV (L := [(19, 113)]) (n := 0) (b := b1) (rest := [.int (s0)]) rfl rfl rfl
theorem r_X1_favourAt_11 {d : Nat} {s0 s1 : Int32} {l0 l1 : Option Value} {h : AH} : R_X1_favourAt d 11 [l0, l1] [.int (s1), .int (s0)] h = aK (exec tTab d 59 [.int (s0), .int (s1)] h) (fun v h1 => R_X1_favourAt d 14 [l0, l1] (v.toList ++ []) h1) (fun E h1 => some (.inr E, h1)) := s_callS (y := 59) (n := 2) rfl rfl
theorem r_X1_favourAt_14 {d : Nat} {a0 : Nat} {l1 : Option Value} {h : AH} : R_X1_favourAt d 14 [some (.ref a0), l1] [] h = (hgf h [0] a0 0).bind fun v => R_X1_favourAt d 18 [some (.ref a0), l1] [v] h := by
  refine (p_aload rfl rfl).trans ?_
  exact s_getf rfl
theorem r_X1_favourAt_18 {d : Nat} {b0 : Nat} {l0 l1 : Option Value} {h : AH} : R_X1_favourAt d 18 [l0, l1] [.ref b0] h = (hgf h [1] b0 9).bind fun v => R_X1_favourAt d 21 [l0, l1] [v] h := s_getf rfl
theorem r_X1_favourAt_21 {d : Nat} {b0 : Nat} {x1 : Int32} {l0 : Option Value} {h : AH} : R_X1_favourAt d 21 [l0, some (.int (x1))] [.ref b0] h = ((hci h b0).bind (lkN [(19, 114)])).bind fun y => aK (exec tTab d y [.ref b0, .int (x1)] h) (fun v h1 => R_X1_favourAt d 25 [l0, some (.int (x1))] (v.toList ++ []) h1) (fun E h1 => some (.inr E, h1)) := by
  refine (p_iload rfl rfl).trans ?_
  exact s_callV (L := [(19, 114)]) (n := 1) (b := b0) (rest := []) rfl rfl rfl
theorem r_X1_favourAt_25 {d : Nat} {b0 : Nat} {l0 l1 : Option Value} {h : AH} : R_X1_favourAt d 25 [l0, l1] [.ref b0] h = bif hck h [5, 6] [] b0 then R_X1_favourAt d 28 [l0, l1] [.ref b0] h else none := s_cast rfl
theorem r_X1_favourAt_25N {d : Nat} {l0 l1 : Option Value} {h : AH} : R_X1_favourAt d 25 [l0, l1] [.null] h = some (.inl (some (.null)), h) := by
  refine (p_castN rfl).trans ?_
  exact s_aretN rfl
theorem r_X1_favourAt_28 {d : Nat} {b0 : Nat} {l0 l1 : Option Value} {h : AH} : R_X1_favourAt d 28 [l0, l1] [.ref b0] h = some (.inl (some (.ref b0)), h) := s_aret rfl
theorem r_X1_favourAt_28N {d : Nat} {l0 l1 : Option Value} {h : AH} : R_X1_favourAt d 28 [l0, l1] [.null] h = some (.inl (some (.null)), h) := s_aretN rfl
theorem e_X1_favourAt {d : Nat} {a0 : Nat} {x1 : Int32} {h : AH} : exec tTab (d + 1) K_X1_favourAt [.ref a0, .int x1] h = R_X1_favourAt d 0 [some (.ref a0), some (.int x1)] [] h := exec_eq (cd := k_X1_favourAt) (hd := (fun _ _ => some none)) (L := 2) rfl rfl rfl
/-- FavourTown.call(I)I -/
abbrev K_X1_call : Nat := 65
noncomputable def R_X1_call (d pc : Nat) (ls : ALs) (st : List Value) (h : AH) : Option (AOut × AH) := aR (exec tTab d) k_X1_call (fun _ _ => some none) (pc, ls, st, h)
theorem r_X1_call_0 {d : Nat} {a0 : Nat} {x1 : Int32} {l2 : Option Value} {h : AH} : R_X1_call d 0 [some (.ref a0), some (.int (x1)), l2] [] h = ((hci h a0).bind (lkN [(0, 64)])).bind fun y => aK (exec tTab d y [.ref a0, .int (x1)] h) (fun v h1 => R_X1_call d 5 [some (.ref a0), some (.int (x1)), l2] (v.toList ++ []) h1) (fun E h1 => some (.inr E, h1)) := by
  refine (p_aload rfl rfl).trans ?_
  refine (p_iload rfl rfl).trans ?_
  exact s_callV (L := [(0, 64)]) (n := 1) (b := a0) (rest := []) rfl rfl rfl
theorem r_X1_call_5 {d : Nat} {b0 : Nat} {l0 l1 l2 : Option Value} {h : AH} : R_X1_call d 5 [l0, l1, l2] [.ref b0] h = (hgf h [5, 6] b0 4).bind fun v => R_X1_call d 10 [l0, l1, some (.ref b0)] [v] h := by
  refine (p_astore rfl rfl rfl).trans ?_
  refine (p_aload rfl rfl).trans ?_
  exact s_getf rfl
theorem r_X1_call_10 {d : Nat} {s0 : Int32} {l0 l1 l2 : Option Value} {h : AH} : R_X1_call d 10 [l0, l1, l2] [.int (s0)] h = if ¬ s0 = (-1) then R_X1_call d 16 [l0, l1, l2] [] h else R_X1_call d 14 [l0, l1, l2] [] h := by
  refine (p_const rfl).trans ?_
  exact (s_icmp (g := (fun x y => decide (¬ x = y))) (t := 16) (nx := 14) rfl).trans bif_dec
theorem r_X1_call_16 {d : Nat} {a2 : Nat} {l0 l1 : Option Value} {h : AH} : R_X1_call d 16 [l0, l1, some (.ref a2)] [] h = (hpf h [5, 6] a2 4 (.int ((-1)))).bind fun h1 => R_X1_call d 21 [l0, l1, some (.ref a2)] [] h1 := by
  refine (p_aload rfl rfl).trans ?_
  refine (p_const rfl).trans ?_
  exact s_putT rfl rfl
theorem r_X1_call_14 {d : Nat} {l0 l1 l2 : Option Value} {h : AH} : R_X1_call d 14 [l0, l1, l2] [] h = some (.inl (some (.int ((-1)))), h) := by
  refine (p_const rfl).trans ?_
  exact s_iretT rfl rfl
theorem r_X1_call_21 {d : Nat} {a2 : Nat} {l0 l1 : Option Value} {h : AH} : R_X1_call d 21 [l0, l1, some (.ref a2)] [] h = (hgf h [5, 6] a2 5).bind fun v => R_X1_call d 26 [l0, l1, some (.ref a2)] [v, .ref a2] h := by
  refine (p_aload rfl rfl).trans ?_
  refine (p_aload rfl rfl).trans ?_
  exact s_getf rfl
theorem r_X1_call_26 {d : Nat} {b0 : Nat} {s1 : Int32} {l0 l1 l2 : Option Value} {h : AH} : R_X1_call d 26 [l0, l1, l2] [.int (s1), .ref b0] h = ((hci h b0).bind (lkN [(5, 243), (6, 243)])).bind fun y => aK (exec tTab d y [.ref b0, .int (s1)] h) (fun v h1 => R_X1_call d 29 [l0, l1, l2] (v.toList ++ []) h1) (fun E h1 => some (.inr E, h1)) := s_callV (L := [(5, 243), (6, 243)]) (n := 1) (b := b0) (rest := []) rfl rfl rfl
theorem r_X1_call_29 {d : Nat} {s0 : Int32} {l0 l1 l2 : Option Value} {h : AH} : R_X1_call d 29 [l0, l1, l2] [.int (s0)] h = some (.inl (some (.int (s0))), h) := s_iretT rfl rfl
theorem e_X1_call {d : Nat} {a0 : Nat} {x1 : Int32} {h : AH} : exec tTab (d + 1) K_X1_call [.ref a0, .int x1] h = R_X1_call d 0 [some (.ref a0), some (.int x1), none] [] h := exec_eq (cd := k_X1_call) (hd := (fun _ _ => some none)) (L := 3) rfl rfl rfl
/-- FavourTown.days(I)I -/
abbrev K_X1_days : Nat := 66
noncomputable def R_X1_days (d pc : Nat) (ls : ALs) (st : List Value) (h : AH) : Option (AOut × AH) := aR (exec tTab d) k_X1_days (fun _ _ => some none) (pc, ls, st, h)
theorem r_X1_days_0 {d : Nat} {x1 : Int32} {l0 : Option Value} {h : AH} : R_X1_days d 0 [l0, some (.int (x1))] [] h = aK (exec tTab d 40 [.int (x1), .int ((nI 1)), .int ((nI 99))] h) (fun v h1 => R_X1_days d 7 [l0, some (.int (x1))] (v.toList ++ []) h1) (fun E h1 => some (.inr E, h1)) := by
  refine (p_iload rfl rfl).trans ?_
  refine (p_const rfl).trans ?_
  refine (p_const rfl).trans ?_
  exact s_callS (y := 40) (n := 3) rfl rfl
theorem r_X1_days_7 {d : Nat} {s0 : Int32} {l0 l1 : Option Value} {h : AH} : R_X1_days d 7 [l0, l1] [.int (s0)] h = aK (exec tTab d 62 [.int (s0)] h) (fun v h1 => R_X1_days d 10 [l0, l1] (v.toList ++ []) h1) (fun E h1 => some (.inr E, h1)) := s_callS (y := 62) (n := 1) rfl rfl
theorem r_X1_days_10 {d : Nat} {a0 : Nat} {l1 : Option Value} {h : AH} : R_X1_days d 10 [some (.ref a0), l1] [] h = (hgf h [0] a0 0).bind fun v => R_X1_days d 14 [some (.ref a0), l1] [v] h := by
  refine (p_aload rfl rfl).trans ?_
  exact s_getf rfl
theorem r_X1_days_14 {d : Nat} {b0 : Nat} {x1 : Int32} {l0 : Option Value} {h : AH} : R_X1_days d 14 [l0, some (.int (x1))] [.ref b0] h = ((hci h b0).bind (lkN [(1, 106)])).bind fun y => aK (exec tTab d y [.ref b0, .int (x1)] h) (fun v h1 => R_X1_days d 18 [l0, some (.int (x1))] (v.toList ++ []) h1) (fun E h1 => some (.inr E, h1)) := by
  refine (p_iload rfl rfl).trans ?_
  exact s_callV (L := [(1, 106)]) (n := 1) (b := b0) (rest := []) rfl rfl rfl
theorem r_X1_days_18 {d : Nat} {s0 : Int32} {l0 l1 : Option Value} {h : AH} : R_X1_days d 18 [l0, l1] [.int (s0)] h = some (.inl (some (.int (s0))), h) := s_iretT rfl rfl
theorem e_X1_days {d : Nat} {a0 : Nat} {x1 : Int32} {h : AH} : exec tTab (d + 1) K_X1_days [.ref a0, .int x1] h = R_X1_days d 0 [some (.ref a0), some (.int x1)] [] h := exec_eq (cd := k_X1_days) (hd := (fun _ _ => some none)) (L := 2) rfl rfl rfl
/-- FavourTown.look(II)I -/
abbrev K_X1_look : Nat := 67
noncomputable def R_X1_look (d pc : Nat) (ls : ALs) (st : List Value) (h : AH) : Option (AOut × AH) := aR (exec tTab d) k_X1_look (fun _ _ => some none) (pc, ls, st, h)
theorem r_X1_look_0 {d : Nat} {a0 : Nat} {x1 : Int32} {l2 l3 : Option Value} {h : AH} : R_X1_look d 0 [some (.ref a0), some (.int (x1)), l2, l3] [] h = ((hci h a0).bind (lkN [(0, 64)])).bind fun y => aK (exec tTab d y [.ref a0, .int (x1)] h) (fun v h1 => R_X1_look d 5 [some (.ref a0), some (.int (x1)), l2, l3] (v.toList ++ []) h1) (fun E h1 => some (.inr E, h1)) := by
  refine (p_aload rfl rfl).trans ?_
  refine (p_iload rfl rfl).trans ?_
  exact s_callV (L := [(0, 64)]) (n := 1) (b := a0) (rest := []) rfl rfl rfl
theorem r_X1_look_5 {d : Nat} {b0 : Nat} {x2 : Int32} {l0 l1 l3 : Option Value} {h : AH} : R_X1_look d 5 [l0, l1, some (.int (x2)), l3] [.ref b0] h = aK (exec tTab d 68 [.int (x2), .int ((nI 6))] h) (fun v h1 => R_X1_look d 12 [l0, l1, some (.int (x2)), some (.ref b0)] (v.toList ++ []) h1) (fun E h1 => some (.inr E, h1)) := by
  refine (p_astore rfl rfl rfl).trans ?_
  refine (p_iload rfl rfl).trans ?_
  refine (p_const rfl).trans ?_
  exact s_callS (y := 68) (n := 2) rfl rfl
theorem r_X1_look_5N {d : Nat} {x2 : Int32} {l0 l1 l3 : Option Value} {h : AH} : R_X1_look d 5 [l0, l1, some (.int (x2)), l3] [.null] h = aK (exec tTab d 68 [.int (x2), .int ((nI 6))] h) (fun v h1 => R_X1_look d 12 [l0, l1, some (.int (x2)), some (.null)] (v.toList ++ []) h1) (fun E h1 => some (.inr E, h1)) := by
  refine (p_astoreN rfl rfl rfl).trans ?_
  refine (p_iload rfl rfl).trans ?_
  refine (p_const rfl).trans ?_
  exact s_callS (y := 68) (n := 2) rfl rfl
theorem r_X1_look_12 {d : Nat} {x2 : Int32} {l0 l1 l3 : Option Value} {h : AH} : R_X1_look d 12 [l0, l1, some (.int (x2)), l3] [] h = R_X1_look d (if x2.toInt < 0 ∨ 5 < x2.toInt then 98 else [52, 57, 62, 67, 72, 93].getD (x2.toInt - 0).toNat 0) [l0, l1, some (.int (x2)), l3] [] h := by
  refine (p_iload rfl rfl).trans ?_
  exact p_sw (g := (fun x => if x.toInt < 0 ∨ 5 < x.toInt then 98 else [52, 57, 62, 67, 72, 93].getD (x.toInt - 0).toNat 0)) rfl
theorem r_X1_look_52 {d : Nat} {a3 : Nat} {l0 l1 l2 : Option Value} {h : AH} : R_X1_look d 52 [l0, l1, l2, some (.ref a3)] [] h = (hgf h [5, 6] a3 0).bind fun v => R_X1_look d 56 [l0, l1, l2, some (.ref a3)] [v] h := by
  refine (p_aload rfl rfl).trans ?_
  exact s_getf rfl
theorem r_X1_look_57 {d : Nat} {a3 : Nat} {l0 l1 l2 : Option Value} {h : AH} : R_X1_look d 57 [l0, l1, l2, some (.ref a3)] [] h = (hgf h [5, 6] a3 4).bind fun v => R_X1_look d 61 [l0, l1, l2, some (.ref a3)] [v] h := by
  refine (p_aload rfl rfl).trans ?_
  exact s_getf rfl
theorem r_X1_look_62 {d : Nat} {a3 : Nat} {l0 l1 l2 : Option Value} {h : AH} : R_X1_look d 62 [l0, l1, l2, some (.ref a3)] [] h = (hgf h [5, 6] a3 1).bind fun v => R_X1_look d 66 [l0, l1, l2, some (.ref a3)] [v] h := by
  refine (p_aload rfl rfl).trans ?_
  exact s_getf rfl
theorem r_X1_look_67 {d : Nat} {a3 : Nat} {l0 l1 l2 : Option Value} {h : AH} : R_X1_look d 67 [l0, l1, l2, some (.ref a3)] [] h = (hgf h [5, 6] a3 5).bind fun v => R_X1_look d 71 [l0, l1, l2, some (.ref a3)] [v] h := by
  refine (p_aload rfl rfl).trans ?_
  exact s_getf rfl
theorem r_X1_look_72 {d : Nat} {a3 : Nat} {l0 l1 l2 : Option Value} {h : AH} : R_X1_look d 72 [l0, l1, l2, some (.ref a3)] [] h = (hgf h [5, 6] a3 4).bind fun v => R_X1_look d 76 [l0, l1, l2, some (.ref a3)] [v] h := by
  refine (p_aload rfl rfl).trans ?_
  exact s_getf rfl
theorem r_X1_look_93 {d : Nat} {a3 : Nat} {l0 l1 l2 : Option Value} {h : AH} : R_X1_look d 93 [l0, l1, l2, some (.ref a3)] [] h = ((hci h a3).bind (lkN [(5, 242), (6, 249)])).bind fun y => aK (exec tTab d y [.ref a3] h) (fun v h1 => R_X1_look d 97 [l0, l1, l2, some (.ref a3)] (v.toList ++ []) h1) (fun E h1 => some (.inr E, h1)) := by
  refine (p_aload rfl rfl).trans ?_
  exact s_callV (L := [(5, 242), (6, 249)]) (n := 0) (b := a3) (rest := []) rfl rfl rfl
theorem r_X1_look_98 {d : Nat} {a3 : Nat} {l0 l1 l2 : Option Value} {h : AH} : R_X1_look d 98 [l0, l1, l2, some (.ref a3)] [] h = (hgf h [5, 6] a3 2).bind fun v => R_X1_look d 102 [l0, l1, l2, some (.ref a3)] [v] h := by
  refine (p_aload rfl rfl).trans ?_
  exact s_getf rfl
theorem r_X1_look_56 {d : Nat} {s0 : Int32} {l0 l1 l2 l3 : Option Value} {h : AH} : R_X1_look d 56 [l0, l1, l2, l3] [.int (s0)] h = some (.inl (some (.int (s0))), h) := s_iretT rfl rfl
theorem r_X1_look_61 {d : Nat} {s0 : Int32} {l0 l1 l2 l3 : Option Value} {h : AH} : R_X1_look d 61 [l0, l1, l2, l3] [.int (s0)] h = some (.inl (some (.int (s0))), h) := s_iretT rfl rfl
theorem r_X1_look_66 {d : Nat} {s0 : Int32} {l0 l1 l2 l3 : Option Value} {h : AH} : R_X1_look d 66 [l0, l1, l2, l3] [.int (s0)] h = some (.inl (some (.int (s0))), h) := s_iretT rfl rfl
theorem r_X1_look_71 {d : Nat} {s0 : Int32} {l0 l1 l2 l3 : Option Value} {h : AH} : R_X1_look d 71 [l0, l1, l2, l3] [.int (s0)] h = some (.inl (some (.int (s0))), h) := s_iretT rfl rfl
theorem r_X1_look_76 {d : Nat} {s0 : Int32} {l0 l1 l2 l3 : Option Value} {h : AH} : R_X1_look d 76 [l0, l1, l2, l3] [.int (s0)] h = if ¬ s0 = (-1) then R_X1_look d 84 [l0, l1, l2, l3] [] h else R_X1_look d 80 [l0, l1, l2, l3] [] h := by
  refine (p_const rfl).trans ?_
  exact (s_icmp (g := (fun x y => decide (¬ x = y))) (t := 84) (nx := 80) rfl).trans bif_dec
theorem r_X1_look_97 {d : Nat} {s0 : Int32} {l0 l1 l2 l3 : Option Value} {h : AH} : R_X1_look d 97 [l0, l1, l2, l3] [.int (s0)] h = some (.inl (some (.int (s0))), h) := s_iretT rfl rfl
theorem r_X1_look_102 {d : Nat} {s0 : Int32} {l0 l1 l2 l3 : Option Value} {h : AH} : R_X1_look d 102 [l0, l1, l2, l3] [.int (s0)] h = if s0 = 0 then R_X1_look d 109 [l0, l1, l2, l3] [] h else R_X1_look d 105 [l0, l1, l2, l3] [] h := (s_if (g := (fun x => decide (x = 0))) (t := 109) (nx := 105) rfl).trans bif_dec
theorem r_X1_look_84 {d : Nat} {a3 : Nat} {l0 l1 l2 : Option Value} {h : AH} : R_X1_look d 84 [l0, l1, l2, some (.ref a3)] [] h = (hgf h [5, 6] a3 5).bind fun v => R_X1_look d 89 [l0, l1, l2, some (.ref a3)] [v, .ref a3] h := by
  refine (p_aload rfl rfl).trans ?_
  refine (p_aload rfl rfl).trans ?_
  exact s_getf rfl
theorem r_X1_look_80 {d : Nat} {l0 l1 l2 l3 : Option Value} {h : AH} : R_X1_look d 80 [l0, l1, l2, l3] [] h = some (.inl (some (.int ((nI 0)))), h) := by
  refine (p_const rfl).trans ?_
  refine (p_goto rfl).trans ?_
  exact s_iretT rfl rfl
theorem r_X1_look_109 {d : Nat} {l0 l1 l2 l3 : Option Value} {h : AH} : R_X1_look d 109 [l0, l1, l2, l3] [] h = some (.inl (some (.int ((nI 0)))), h) := by
  refine (p_const rfl).trans ?_
  exact s_iretT rfl rfl
theorem r_X1_look_105 {d : Nat} {l0 l1 l2 l3 : Option Value} {h : AH} : R_X1_look d 105 [l0, l1, l2, l3] [] h = some (.inl (some (.int ((nI 1)))), h) := by
  refine (p_const rfl).trans ?_
  refine (p_goto rfl).trans ?_
  exact s_iretT rfl rfl
theorem r_X1_look_89 {d : Nat} {b0 : Nat} {s1 : Int32} {l0 l1 l2 l3 : Option Value} {h : AH} : R_X1_look d 89 [l0, l1, l2, l3] [.int (s1), .ref b0] h = ((hci h b0).bind (lkN [(5, 243), (6, 243)])).bind fun y => aK (exec tTab d y [.ref b0, .int (s1)] h) (fun v h1 => R_X1_look d 92 [l0, l1, l2, l3] (v.toList ++ []) h1) (fun E h1 => some (.inr E, h1)) := s_callV (L := [(5, 243), (6, 243)]) (n := 1) (b := b0) (rest := []) rfl rfl rfl
theorem r_X1_look_92 {d : Nat} {s0 : Int32} {l0 l1 l2 l3 : Option Value} {h : AH} : R_X1_look d 92 [l0, l1, l2, l3] [.int (s0)] h = some (.inl (some (.int (s0))), h) := s_iretT rfl rfl
theorem e_X1_look {d : Nat} {a0 : Nat} {x1 x2 : Int32} {h : AH} : exec tTab (d + 1) K_X1_look [.ref a0, .int x1, .int x2] h = R_X1_look d 0 [some (.ref a0), some (.int x1), some (.int x2), none] [] h := exec_eq (cd := k_X1_look) (hd := (fun _ _ => some none)) (L := 4) rfl rfl rfl
/-- FavourTown.asked(II)V -/
abbrev K_X1_asked : Nat := 68
noncomputable def R_X1_asked (d pc : Nat) (ls : ALs) (st : List Value) (h : AH) : Option (AOut × AH) := aR (exec tTab d) k_X1_asked (fun _ _ => some none) (pc, ls, st, h)
theorem r_X1_asked_0 {d : Nat} {x0 x1 : Int32} {h : AH} : R_X1_asked d 0 [some (.int (x0)), some (.int (x1))] [] h = aK (exec tTab d 40 [.int (x0), .int ((nI 0)), .int (x1)] h) (fun v h1 => R_X1_asked d 6 [some (.int (x0)), some (.int (x1))] (v.toList ++ []) h1) (fun E h1 => some (.inr E, h1)) := by
  refine (p_iload rfl rfl).trans ?_
  refine (p_const rfl).trans ?_
  refine (p_iload rfl rfl).trans ?_
  exact s_callS (y := 40) (n := 3) rfl rfl
theorem r_X1_asked_6 {d : Nat} {s0 : Int32} {l0 l1 : Option Value} {h : AH} : R_X1_asked d 6 [l0, l1] [.int (s0)] h = if ¬ s0 = 0 then R_X1_asked d 17 [l0, l1] [] h else R_X1_asked d 9 [l0, l1] [] h := (s_if (g := (fun x => decide (¬ x = 0))) (t := 17) (nx := 9) rfl).trans bif_dec
theorem r_X1_asked_17 {d : Nat} {l0 l1 : Option Value} {h : AH} : R_X1_asked d 17 [l0, l1] [] h = some (.inl none, h) := s_vret rfl
theorem r_X1_asked_9 {d : Nat} {l0 l1 : Option Value} {h : AH} : R_X1_asked d 9 [l0, l1] [] h = R_X1_asked d 16 [l0, l1] [.ref h.2.1] (hnew h (true, .inr (25, [])) 6) := s_make rfl rfl
theorem r_X1_asked_16 {d : Nat} {b0 : Nat} {l0 l1 : Option Value} {h : AH} : R_X1_asked d 16 [l0, l1] [.ref b0] h = (hex h [17, 22, 23, 24, 25] b0).bind fun E => (fun E h1 => some (.inr E, h1)) E h := s_athrow rfl
theorem e_X1_asked {d : Nat} {x0 x1 : Int32} {h : AH} : exec tTab (d + 1) K_X1_asked [.int x0, .int x1] h = R_X1_asked d 0 [some (.int x0), some (.int x1)] [] h := exec_eq (cd := k_X1_asked) (hd := (fun _ _ => some none)) (L := 2) rfl rfl rfl
/-- FavourTown.hand(II)I -/
abbrev K_X1_hand : Nat := 69
noncomputable def R_X1_hand (d pc : Nat) (ls : ALs) (st : List Value) (h : AH) : Option (AOut × AH) := aR (exec tTab d) k_X1_hand (fun _ _ => some none) (pc, ls, st, h)
theorem r_X1_hand_0 {d : Nat} {a0 : Nat} {x1 : Int32} {l2 l3 : Option Value} {h : AH} : R_X1_hand d 0 [some (.ref a0), some (.int (x1)), l2, l3] [] h = ((hci h a0).bind (lkN [(0, 64)])).bind fun y => aK (exec tTab d y [.ref a0, .int (x1)] h) (fun v h1 => R_X1_hand d 5 [some (.ref a0), some (.int (x1)), l2, l3] (v.toList ++ []) h1) (fun E h1 => some (.inr E, h1)) := by
  refine (p_aload rfl rfl).trans ?_
  refine (p_iload rfl rfl).trans ?_
  exact s_callV (L := [(0, 64)]) (n := 1) (b := a0) (rest := []) rfl rfl rfl
theorem r_X1_hand_5 {d : Nat} {b0 : Nat} {x2 : Int32} {l0 l1 l3 : Option Value} {h : AH} : R_X1_hand d 5 [l0, l1, some (.int (x2)), l3] [.ref b0] h = (hgf h [5, 6] b0 5).bind fun v => R_X1_hand d 12 [l0, l1, some (.int (x2)), some (.ref b0)] [v, .int ((nI 0)), .int (x2)] h := by
  refine (p_astore rfl rfl rfl).trans ?_
  refine (p_iload rfl rfl).trans ?_
  refine (p_const rfl).trans ?_
  refine (p_aload rfl rfl).trans ?_
  exact s_getf rfl
theorem r_X1_hand_12 {d : Nat} {s0 s1 s2 : Int32} {l0 l1 l2 l3 : Option Value} {h : AH} : R_X1_hand d 12 [l0, l1, l2, l3] [.int (s2), .int (s1), .int (s0)] h = aK (exec tTab d 40 [.int (s0), .int (s1), .int (s2 + (nI 1))] h) (fun v h1 => R_X1_hand d 17 [l0, l1, l2, l3] (v.toList ++ []) h1) (fun E h1 => some (.inr E, h1)) := by
  refine (p_const rfl).trans ?_
  refine (p_bin rfl).trans ?_
  exact s_callS (y := 40) (n := 3) rfl rfl
theorem r_X1_hand_17 {d : Nat} {s0 : Int32} {l0 l1 l2 l3 : Option Value} {h : AH} : R_X1_hand d 17 [l0, l1, l2, l3] [.int (s0)] h = if s0 = 0 then R_X1_hand d 29 [l0, l1, l2, l3] [] h else R_X1_hand d 20 [l0, l1, l2, l3] [] h := (s_if (g := (fun x => decide (x = 0))) (t := 29) (nx := 20) rfl).trans bif_dec
theorem r_X1_hand_29 {d : Nat} {l0 l1 l2 l3 : Option Value} {h : AH} : R_X1_hand d 29 [l0, l1, l2, l3] [] h = some (.inl (some (.int ((-1)))), h) := by
  refine (p_const rfl).trans ?_
  exact s_iretT rfl rfl
theorem r_X1_hand_20 {d : Nat} {a3 : Nat} {l0 l1 l2 : Option Value} {h : AH} : R_X1_hand d 20 [l0, l1, l2, some (.ref a3)] [] h = (hgf h [5, 6] a3 3).bind fun v => R_X1_hand d 24 [l0, l1, l2, some (.ref a3)] [v] h := by
  refine (p_aload rfl rfl).trans ?_
  exact s_getf rfl
theorem r_X1_hand_24 {d : Nat} {b0 : Nat} {x2 : Int32} {l0 l1 l3 : Option Value} {h : AH} : R_X1_hand d 24 [l0, l1, some (.int (x2)), l3] [.ref b0] h = (hai h 0 b0 x2).bind fun v => R_X1_hand d 26 [l0, l1, some (.int (x2)), l3] [.int v] h := by
  refine (p_iload rfl rfl).trans ?_
  exact s_iald rfl
theorem r_X1_hand_26 {d : Nat} {s0 : Int32} {l0 l1 l2 l3 : Option Value} {h : AH} : R_X1_hand d 26 [l0, l1, l2, l3] [.int (s0)] h = some (.inl (some (.int (s0))), h) := by
  refine (p_goto rfl).trans ?_
  exact s_iretT rfl rfl
theorem e_X1_hand {d : Nat} {a0 : Nat} {x1 x2 : Int32} {h : AH} : exec tTab (d + 1) K_X1_hand [.ref a0, .int x1, .int x2] h = R_X1_hand d 0 [some (.ref a0), some (.int x1), some (.int x2), none] [] h := exec_eq (cd := k_X1_hand) (hd := (fun _ _ => some none)) (L := 4) rfl rfl rfl
/-- FavourTown.takes(II)Z -/
abbrev K_X1_takes : Nat := 70
noncomputable def R_X1_takes (d pc : Nat) (ls : ALs) (st : List Value) (h : AH) : Option (AOut × AH) := aR (exec tTab d) k_X1_takes (fun _ _ => some none) (pc, ls, st, h)
theorem r_X1_takes_0 {d : Nat} {a0 : Nat} {x1 : Int32} {l2 l3 : Option Value} {h : AH} : R_X1_takes d 0 [some (.ref a0), some (.int (x1)), l2, l3] [] h = ((hci h a0).bind (lkN [(0, 58)])).bind fun y => aK (exec tTab d y [.ref a0, .int (x1)] h) (fun v h1 => R_X1_takes d 5 [some (.ref a0), some (.int (x1)), l2, l3] (v.toList ++ []) h1) (fun E h1 => some (.inr E, h1)) := by
  refine (p_aload rfl rfl).trans ?_
  refine (p_iload rfl rfl).trans ?_
  exact s_callV (L := [(0, 58)]) (n := 1) (b := a0) (rest := []) rfl rfl rfl
theorem r_X1_takes_5 {d : Nat} {a0 : Nat} {x2 : Int32} {l1 l3 : Option Value} {h : AH} : R_X1_takes d 5 [some (.ref a0), l1, some (.int (x2)), l3] [] h = ((hci h a0).bind (lkN [(0, 64)])).bind fun y => aK (exec tTab d y [.ref a0, .int (x2)] h) (fun v h1 => R_X1_takes d 10 [some (.ref a0), l1, some (.int (x2)), l3] (v.toList ++ []) h1) (fun E h1 => some (.inr E, h1)) := by
  refine (p_aload rfl rfl).trans ?_
  refine (p_iload rfl rfl).trans ?_
  exact s_callV (L := [(0, 64)]) (n := 1) (b := a0) (rest := []) rfl rfl rfl
theorem r_X1_takes_10 {d : Nat} {b0 a0 : Nat} {l1 l2 l3 : Option Value} {h : AH} : R_X1_takes d 10 [some (.ref a0), l1, l2, l3] [.ref b0] h = (hgf h [0] a0 0).bind fun v => R_X1_takes d 15 [some (.ref a0), l1, l2, some (.ref b0)] [v] h := by
  refine (p_astore rfl rfl rfl).trans ?_
  refine (p_aload rfl rfl).trans ?_
  exact s_getf rfl
theorem r_X1_takes_10N {d : Nat} {a0 : Nat} {l1 l2 l3 : Option Value} {h : AH} : R_X1_takes d 10 [some (.ref a0), l1, l2, l3] [.null] h = (hgf h [0] a0 0).bind fun v => R_X1_takes d 15 [some (.ref a0), l1, l2, some (.null)] [v] h := by
  refine (p_astoreN rfl rfl rfl).trans ?_
  refine (p_aload rfl rfl).trans ?_
  exact s_getf rfl
theorem r_X1_takes_15 {d : Nat} {b0 a3 : Nat} {x1 : Int32} {l0 l2 : Option Value} {h : AH} : R_X1_takes d 15 [l0, some (.int (x1)), l2, some (.ref a3)] [.ref b0] h = ((hci h b0).bind (lkN [(1, 95)])).bind fun y => aK (exec tTab d y [.ref b0, .int (x1), .ref a3] h) (fun v h1 => R_X1_takes d 20 [l0, some (.int (x1)), l2, some (.ref a3)] (v.toList ++ []) h1) (fun E h1 => some (.inr E, h1)) := by
  refine (p_iload rfl rfl).trans ?_
  refine (p_aload rfl rfl).trans ?_
  exact s_callV (L := [(1, 95)]) (n := 2) (b := b0) (rest := []) rfl rfl rfl
theorem r_X1_takes_20 {d : Nat} {s0 : Int32} {l0 l1 l2 l3 : Option Value} {h : AH} : R_X1_takes d 20 [l0, l1, l2, l3] [.int (s0)] h = bif s0 == 0 || s0 == 1 then some (.inl (some (.int (s0))), h) else none := s_iret (ok := (fun x => x == 0 || x == 1)) rfl
theorem e_X1_takes {d : Nat} {a0 : Nat} {x1 x2 : Int32} {h : AH} : exec tTab (d + 1) K_X1_takes [.ref a0, .int x1, .int x2] h = R_X1_takes d 0 [some (.ref a0), some (.int x1), some (.int x2), none] [] h := exec_eq (cd := k_X1_takes) (hd := (fun _ _ => some none)) (L := 4) rfl rfl rfl
/-- FavourTown.rich(I)I -/
abbrev K_X1_rich : Nat := 71
noncomputable def R_X1_rich (d pc : Nat) (ls : ALs) (st : List Value) (h : AH) : Option (AOut × AH) := aR (exec tTab d) k_X1_rich (fun _ _ => some none) (pc, ls, st, h)
theorem r_X1_rich_0 {d : Nat} {a0 : Nat} {x1 : Int32} {h : AH} : R_X1_rich d 0 [some (.ref a0), some (.int (x1))] [] h = ((hci h a0).bind (lkN [(0, 58)])).bind fun y => aK (exec tTab d y [.ref a0, .int (x1)] h) (fun v h1 => R_X1_rich d 5 [some (.ref a0), some (.int (x1))] (v.toList ++ []) h1) (fun E h1 => some (.inr E, h1)) := by
  refine (p_aload rfl rfl).trans ?_
  refine (p_iload rfl rfl).trans ?_
  exact s_callV (L := [(0, 58)]) (n := 1) (b := a0) (rest := []) rfl rfl rfl
theorem r_X1_rich_5 {d : Nat} {a0 : Nat} {l1 : Option Value} {h : AH} : R_X1_rich d 5 [some (.ref a0), l1] [] h = (hgf h [0] a0 0).bind fun v => R_X1_rich d 9 [some (.ref a0), l1] [v] h := by
  refine (p_aload rfl rfl).trans ?_
  exact s_getf rfl
theorem r_X1_rich_9 {d : Nat} {b0 : Nat} {x1 : Int32} {l0 : Option Value} {h : AH} : R_X1_rich d 9 [l0, some (.int (x1))] [.ref b0] h = ((hci h b0).bind (lkN [(1, 97)])).bind fun y => aK (exec tTab d y [.ref b0, .int (x1)] h) (fun v h1 => R_X1_rich d 13 [l0, some (.int (x1))] (v.toList ++ []) h1) (fun E h1 => some (.inr E, h1)) := by
  refine (p_iload rfl rfl).trans ?_
  exact s_callV (L := [(1, 97)]) (n := 1) (b := b0) (rest := []) rfl rfl rfl
theorem r_X1_rich_13 {d : Nat} {s0 : Int32} {l0 l1 : Option Value} {h : AH} : R_X1_rich d 13 [l0, l1] [.int (s0)] h = some (.inl (some (.int (s0))), h) := s_iretT rfl rfl
theorem e_X1_rich {d : Nat} {a0 : Nat} {x1 : Int32} {h : AH} : exec tTab (d + 1) K_X1_rich [.ref a0, .int x1] h = R_X1_rich d 0 [some (.ref a0), some (.int x1)] [] h := exec_eq (cd := k_X1_rich) (hd := (fun _ _ => some none)) (L := 2) rfl rfl rfl
/-- FavourTown.debt(I)I -/
abbrev K_X1_debt : Nat := 72
noncomputable def R_X1_debt (d pc : Nat) (ls : ALs) (st : List Value) (h : AH) : Option (AOut × AH) := aR (exec tTab d) k_X1_debt (fun _ _ => some none) (pc, ls, st, h)
theorem r_X1_debt_0 {d : Nat} {a0 : Nat} {x1 : Int32} {h : AH} : R_X1_debt d 0 [some (.ref a0), some (.int (x1))] [] h = ((hci h a0).bind (lkN [(0, 58)])).bind fun y => aK (exec tTab d y [.ref a0, .int (x1)] h) (fun v h1 => R_X1_debt d 5 [some (.ref a0), some (.int (x1))] (v.toList ++ []) h1) (fun E h1 => some (.inr E, h1)) := by
  refine (p_aload rfl rfl).trans ?_
  refine (p_iload rfl rfl).trans ?_
  exact s_callV (L := [(0, 58)]) (n := 1) (b := a0) (rest := []) rfl rfl rfl
theorem r_X1_debt_5 {d : Nat} {a0 : Nat} {l1 : Option Value} {h : AH} : R_X1_debt d 5 [some (.ref a0), l1] [] h = (hgf h [0] a0 0).bind fun v => R_X1_debt d 9 [some (.ref a0), l1] [v] h := by
  refine (p_aload rfl rfl).trans ?_
  exact s_getf rfl
theorem r_X1_debt_9 {d : Nat} {b0 : Nat} {x1 : Int32} {l0 : Option Value} {h : AH} : R_X1_debt d 9 [l0, some (.int (x1))] [.ref b0] h = ((hci h b0).bind (lkN [(1, 98)])).bind fun y => aK (exec tTab d y [.ref b0, .int (x1)] h) (fun v h1 => R_X1_debt d 13 [l0, some (.int (x1))] (v.toList ++ []) h1) (fun E h1 => some (.inr E, h1)) := by
  refine (p_iload rfl rfl).trans ?_
  exact s_callV (L := [(1, 98)]) (n := 1) (b := b0) (rest := []) rfl rfl rfl
theorem r_X1_debt_13 {d : Nat} {s0 : Int32} {l0 l1 : Option Value} {h : AH} : R_X1_debt d 13 [l0, l1] [.int (s0)] h = some (.inl (some (.int (s0))), h) := s_iretT rfl rfl
theorem e_X1_debt {d : Nat} {a0 : Nat} {x1 : Int32} {h : AH} : exec tTab (d + 1) K_X1_debt [.ref a0, .int x1] h = R_X1_debt d 0 [some (.ref a0), some (.int x1)] [] h := exec_eq (cd := k_X1_debt) (hd := (fun _ _ => some none)) (L := 2) rfl rfl rfl
/-- FavourTown.owes(II)I -/
abbrev K_X1_owes : Nat := 73
noncomputable def R_X1_owes (d pc : Nat) (ls : ALs) (st : List Value) (h : AH) : Option (AOut × AH) := aR (exec tTab d) k_X1_owes (fun _ _ => some none) (pc, ls, st, h)
theorem r_X1_owes_0 {d : Nat} {a0 : Nat} {x1 : Int32} {l2 : Option Value} {h : AH} : R_X1_owes d 0 [some (.ref a0), some (.int (x1)), l2] [] h = ((hci h a0).bind (lkN [(0, 58)])).bind fun y => aK (exec tTab d y [.ref a0, .int (x1)] h) (fun v h1 => R_X1_owes d 5 [some (.ref a0), some (.int (x1)), l2] (v.toList ++ []) h1) (fun E h1 => some (.inr E, h1)) := by
  refine (p_aload rfl rfl).trans ?_
  refine (p_iload rfl rfl).trans ?_
  exact s_callV (L := [(0, 58)]) (n := 1) (b := a0) (rest := []) rfl rfl rfl
theorem r_X1_owes_5 {d : Nat} {a0 : Nat} {x2 : Int32} {l1 : Option Value} {h : AH} : R_X1_owes d 5 [some (.ref a0), l1, some (.int (x2))] [] h = ((hci h a0).bind (lkN [(0, 58)])).bind fun y => aK (exec tTab d y [.ref a0, .int (x2)] h) (fun v h1 => R_X1_owes d 10 [some (.ref a0), l1, some (.int (x2))] (v.toList ++ []) h1) (fun E h1 => some (.inr E, h1)) := by
  refine (p_aload rfl rfl).trans ?_
  refine (p_iload rfl rfl).trans ?_
  exact s_callV (L := [(0, 58)]) (n := 1) (b := a0) (rest := []) rfl rfl rfl
theorem r_X1_owes_10 {d : Nat} {a0 : Nat} {l1 l2 : Option Value} {h : AH} : R_X1_owes d 10 [some (.ref a0), l1, l2] [] h = (hgf h [0] a0 0).bind fun v => R_X1_owes d 14 [some (.ref a0), l1, l2] [v] h := by
  refine (p_aload rfl rfl).trans ?_
  exact s_getf rfl
theorem r_X1_owes_14 {d : Nat} {b0 : Nat} {x1 x2 : Int32} {l0 : Option Value} {h : AH} : R_X1_owes d 14 [l0, some (.int (x1)), some (.int (x2))] [.ref b0] h = ((hci h b0).bind (lkN [(1, 107)])).bind fun y => aK (exec tTab d y [.ref b0, .int (x1), .int (x2)] h) (fun v h1 => R_X1_owes d 19 [l0, some (.int (x1)), some (.int (x2))] (v.toList ++ []) h1) (fun E h1 => some (.inr E, h1)) := by
  refine (p_iload rfl rfl).trans ?_
  refine (p_iload rfl rfl).trans ?_
  exact s_callV (L := [(1, 107)]) (n := 2) (b := b0) (rest := []) rfl rfl rfl
theorem r_X1_owes_19 {d : Nat} {s0 : Int32} {l0 l1 l2 : Option Value} {h : AH} : R_X1_owes d 19 [l0, l1, l2] [.int (s0)] h = some (.inl (some (.int (s0))), h) := s_iretT rfl rfl
theorem e_X1_owes {d : Nat} {a0 : Nat} {x1 x2 : Int32} {h : AH} : exec tTab (d + 1) K_X1_owes [.ref a0, .int x1, .int x2] h = R_X1_owes d 0 [some (.ref a0), some (.int x1), some (.int x2)] [] h := exec_eq (cd := k_X1_owes) (hd := (fun _ _ => some none)) (L := 3) rfl rfl rfl
/-- FavourTown.pays(III)I -/
abbrev K_X1_pays : Nat := 74
noncomputable def R_X1_pays (d pc : Nat) (ls : ALs) (st : List Value) (h : AH) : Option (AOut × AH) := aR (exec tTab d) k_X1_pays (fun _ _ => some none) (pc, ls, st, h)
theorem r_X1_pays_0 {d : Nat} {a0 : Nat} {x1 x2 : Int32} {l3 : Option Value} {h : AH} : R_X1_pays d 0 [some (.ref a0), some (.int (x1)), some (.int (x2)), l3] [] h = ((hci h a0).bind (lkN [(0, 61)])).bind fun y => aK (exec tTab d y [.ref a0, .int (x1), .int (x2)] h) (fun v h1 => R_X1_pays d 6 [some (.ref a0), some (.int (x1)), some (.int (x2)), l3] (v.toList ++ []) h1) (fun E h1 => some (.inr E, h1)) := by
  refine (p_aload rfl rfl).trans ?_
  refine (p_iload rfl rfl).trans ?_
  refine (p_iload rfl rfl).trans ?_
  exact s_callV (L := [(0, 61)]) (n := 2) (b := a0) (rest := []) rfl rfl rfl
theorem r_X1_pays_6 {d : Nat} {x3 : Int32} {l0 l1 l2 : Option Value} {h : AH} : R_X1_pays d 6 [l0, l1, l2, some (.int (x3))] [] h = aK (exec tTab d 40 [.int (x3), .int ((nI 1)), .int ((nI 99))] h) (fun v h1 => R_X1_pays d 13 [l0, l1, l2, some (.int (x3))] (v.toList ++ []) h1) (fun E h1 => some (.inr E, h1)) := by
  refine (p_iload rfl rfl).trans ?_
  refine (p_const rfl).trans ?_
  refine (p_const rfl).trans ?_
  exact s_callS (y := 40) (n := 3) rfl rfl
theorem r_X1_pays_13 {d : Nat} {s0 : Int32} {l0 l1 l2 l3 : Option Value} {h : AH} : R_X1_pays d 13 [l0, l1, l2, l3] [.int (s0)] h = aK (exec tTab d 62 [.int (s0)] h) (fun v h1 => R_X1_pays d 16 [l0, l1, l2, l3] (v.toList ++ []) h1) (fun E h1 => some (.inr E, h1)) := s_callS (y := 62) (n := 1) rfl rfl
theorem r_X1_pays_16 {d : Nat} {a0 : Nat} {l1 l2 l3 : Option Value} {h : AH} : R_X1_pays d 16 [some (.ref a0), l1, l2, l3] [] h = (hgf h [0] a0 0).bind fun v => R_X1_pays d 20 [some (.ref a0), l1, l2, l3] [v] h := by
  refine (p_aload rfl rfl).trans ?_
  exact s_getf rfl
theorem r_X1_pays_20 {d : Nat} {b0 : Nat} {x1 x2 x3 : Int32} {l0 : Option Value} {h : AH} : R_X1_pays d 20 [l0, some (.int (x1)), some (.int (x2)), some (.int (x3))] [.ref b0] h = ((hci h b0).bind (lkN [(1, 92)])).bind fun y => aK (exec tTab d y [.ref b0, .int (x1), .int (x2), .int (x3)] h) (fun v h1 => R_X1_pays d 26 [l0, some (.int (x1)), some (.int (x2)), some (.int (x3))] (v.toList ++ []) h1) (fun E h1 => some (.inr E, h1)) := by
  refine (p_iload rfl rfl).trans ?_
  refine (p_iload rfl rfl).trans ?_
  refine (p_iload rfl rfl).trans ?_
  exact s_callV (L := [(1, 92)]) (n := 3) (b := b0) (rest := []) rfl rfl rfl
theorem r_X1_pays_26 {d : Nat} {s0 : Int32} {l0 l1 l2 l3 : Option Value} {h : AH} : R_X1_pays d 26 [l0, l1, l2, l3] [.int (s0)] h = some (.inl (some (.int (s0))), h) := s_iretT rfl rfl
theorem e_X1_pays {d : Nat} {a0 : Nat} {x1 x2 x3 : Int32} {h : AH} : exec tTab (d + 1) K_X1_pays [.ref a0, .int x1, .int x2, .int x3] h = R_X1_pays d 0 [some (.ref a0), some (.int x1), some (.int x2), some (.int x3)] [] h := exec_eq (cd := k_X1_pays) (hd := (fun _ _ => some none)) (L := 4) rfl rfl rfl
/-- FavourTown.can(I)Z -/
abbrev K_X1_can : Nat := 75
noncomputable def R_X1_can (d pc : Nat) (ls : ALs) (st : List Value) (h : AH) : Option (AOut × AH) := aR (exec tTab d) k_X1_can (fun _ _ => some none) (pc, ls, st, h)
theorem r_X1_can_0 {d : Nat} {a0 : Nat} {x1 : Int32} {l2 : Option Value} {h : AH} : R_X1_can d 0 [some (.ref a0), some (.int (x1)), l2] [] h = ((hci h a0).bind (lkN [(0, 76)])).bind fun y => aK (exec tTab d y [.ref a0, .int (x1)] h) (fun v h1 => R_X1_can d 5 [some (.ref a0), some (.int (x1)), l2] (v.toList ++ []) h1) (fun E h1 => some (.inr E, h1)) := by
  refine (p_aload rfl rfl).trans ?_
  refine (p_iload rfl rfl).trans ?_
  exact s_callV (L := [(0, 76)]) (n := 1) (b := a0) (rest := []) rfl rfl rfl
theorem r_X1_can_5 {d : Nat} {b0 a0 : Nat} {l1 l2 : Option Value} {h : AH} : R_X1_can d 5 [some (.ref a0), l1, l2] [.ref b0] h = (hgf h [0] a0 0).bind fun v => R_X1_can d 10 [some (.ref a0), l1, some (.ref b0)] [v] h := by
  refine (p_astore rfl rfl rfl).trans ?_
  refine (p_aload rfl rfl).trans ?_
  exact s_getf rfl
theorem r_X1_can_5N {d : Nat} {a0 : Nat} {l1 l2 : Option Value} {h : AH} : R_X1_can d 5 [some (.ref a0), l1, l2] [.null] h = (hgf h [0] a0 0).bind fun v => R_X1_can d 10 [some (.ref a0), l1, some (.null)] [v] h := by
  refine (p_astoreN rfl rfl rfl).trans ?_
  refine (p_aload rfl rfl).trans ?_
  exact s_getf rfl
theorem r_X1_can_10 {d : Nat} {b0 a2 : Nat} {l0 l1 : Option Value} {h : AH} : R_X1_can d 10 [l0, l1, some (.ref a2)] [.ref b0] h = (hgf h [7] a2 0).bind fun v => R_X1_can d 14 [l0, l1, some (.ref a2)] [v, .ref b0] h := by
  refine (p_aload rfl rfl).trans ?_
  exact s_getf rfl
theorem r_X1_can_10N {d : Nat} {a2 : Nat} {l0 l1 : Option Value} {h : AH} : R_X1_can d 10 [l0, l1, some (.ref a2)] [.null] h = (hgf h [7] a2 0).bind fun v => R_X1_can d 14 [l0, l1, some (.ref a2)] [v, .null] h := by
  refine (p_aload rfl rfl).trans ?_
  exact s_getf rfl
theorem r_X1_can_14 {d : Nat} {b0 a2 : Nat} {s1 : Int32} {l0 l1 : Option Value} {h : AH} : R_X1_can d 14 [l0, l1, some (.ref a2)] [.int (s1), .ref b0] h = (hgf h [7] a2 1).bind fun v => R_X1_can d 18 [l0, l1, some (.ref a2)] [v, .int (s1), .ref b0] h := by
  refine (p_aload rfl rfl).trans ?_
  exact s_getf rfl
theorem r_X1_can_18 {d : Nat} {b0 a2 : Nat} {s1 s2 : Int32} {l0 l1 : Option Value} {h : AH} : R_X1_can d 18 [l0, l1, some (.ref a2)] [.int (s2), .int (s1), .ref b0] h = (hgf h [7] a2 2).bind fun v => R_X1_can d 22 [l0, l1, some (.ref a2)] [v, .int (s2), .int (s1), .ref b0] h := by
  refine (p_aload rfl rfl).trans ?_
  exact s_getf rfl
theorem r_X1_can_22 {d : Nat} {b0 : Nat} {s1 s2 s3 : Int32} {l0 l1 l2 : Option Value} {h : AH} : R_X1_can d 22 [l0, l1, l2] [.int (s3), .int (s2), .int (s1), .ref b0] h = ((hci h b0).bind (lkN [(1, 91)])).bind fun y => aK (exec tTab d y [.ref b0, .int (s1), .int (s2), .int (s3)] h) (fun v h1 => R_X1_can d 25 [l0, l1, l2] (v.toList ++ []) h1) (fun E h1 => some (.inr E, h1)) := s_callV (L := [(1, 91)]) (n := 3) (b := b0) (rest := []) rfl rfl rfl
theorem r_X1_can_25 {d : Nat} {s0 : Int32} {l0 l1 l2 : Option Value} {h : AH} : R_X1_can d 25 [l0, l1, l2] [.int (s0)] h = bif s0 == 0 || s0 == 1 then some (.inl (some (.int (s0))), h) else none := s_iret (ok := (fun x => x == 0 || x == 1)) rfl
theorem e_X1_can {d : Nat} {a0 : Nat} {x1 : Int32} {h : AH} : exec tTab (d + 1) K_X1_can [.ref a0, .int x1] h = R_X1_can d 0 [some (.ref a0), some (.int x1), none] [] h := exec_eq (cd := k_X1_can) (hd := (fun _ _ => some none)) (L := 3) rfl rfl rfl
/-- FavourTown.needAt(I)LFavourTown$Need; -/
abbrev K_X1_needAt : Nat := 76
noncomputable def R_X1_needAt (d pc : Nat) (ls : ALs) (st : List Value) (h : AH) : Option (AOut × AH) := aR (exec tTab d) k_X1_needAt (fun _ _ => some none) (pc, ls, st, h)
theorem r_X1_needAt_0 {d : Nat} {x1 : Int32} {a0 : Nat} {h : AH} : R_X1_needAt d 0 [some (.ref a0), some (.int (x1))] [] h = (hgf h [0] a0 0).bind fun v => R_X1_needAt d 5 [some (.ref a0), some (.int (x1))] [v, .int (x1)] h := by
  refine (p_iload rfl rfl).trans ?_
  refine (p_aload rfl rfl).trans ?_
  exact s_getf rfl
theorem r_X1_needAt_5 {d : Nat} {s0 : Int32} {b1 : Nat} {l0 l1 : Option Value} {h : AH} : R_X1_needAt d 5 [l0, l1] [.ref b1, .int (s0)] h = (hgf h [1] b1 10).bind fun v => R_X1_needAt d 8 [l0, l1] [v, .int (s0)] h := s_getf rfl
theorem r_X1_needAt_8 {d : Nat} {s0 : Int32} {b1 : Nat} {l0 l1 : Option Value} {h : AH} : R_X1_needAt d 8 [l0, l1] [.ref b1, .int (s0)] h = ((hci h b1).bind (lkN [(19, 113)])).bind fun y => aK (exec tTab d y [.ref b1] h) (fun v h1 => R_X1_needAt d 11 [l0, l1] (v.toList ++ [.int (s0)]) h1) (fun E h1 => some (.inr E, h1)) := s_callV (L := [(19, 113)]) (n := 0) (b := b1) (rest := [.int (s0)]) rfl rfl rfl
theorem r_X1_needAt_11 {d : Nat} {s0 s1 : Int32} {l0 l1 : Option Value} {h : AH} : R_X1_needAt d 11 [l0, l1] [.int (s1), .int (s0)] h = aK (exec tTab d 59 [.int (s0), .int (s1)] h) (fun v h1 => R_X1_needAt d 14 [l0, l1] (v.toList ++ []) h1) (fun E h1 => some (.inr E, h1)) := s_callS (y := 59) (n := 2) rfl rfl
theorem r_X1_needAt_14 {d : Nat} {a0 : Nat} {l1 : Option Value} {h : AH} : R_X1_needAt d 14 [some (.ref a0), l1] [] h = (hgf h [0] a0 0).bind fun v => R_X1_needAt d 18 [some (.ref a0), l1] [v] h := by
  refine (p_aload rfl rfl).trans ?_
  exact s_getf rfl
theorem r_X1_needAt_18 {d : Nat} {b0 : Nat} {l0 l1 : Option Value} {h : AH} : R_X1_needAt d 18 [l0, l1] [.ref b0] h = (hgf h [1] b0 10).bind fun v => R_X1_needAt d 21 [l0, l1] [v] h := s_getf rfl
theorem r_X1_needAt_21 {d : Nat} {b0 : Nat} {x1 : Int32} {l0 : Option Value} {h : AH} : R_X1_needAt d 21 [l0, some (.int (x1))] [.ref b0] h = ((hci h b0).bind (lkN [(19, 114)])).bind fun y => aK (exec tTab d y [.ref b0, .int (x1)] h) (fun v h1 => R_X1_needAt d 25 [l0, some (.int (x1))] (v.toList ++ []) h1) (fun E h1 => some (.inr E, h1)) := by
  refine (p_iload rfl rfl).trans ?_
  exact s_callV (L := [(19, 114)]) (n := 1) (b := b0) (rest := []) rfl rfl rfl
theorem r_X1_needAt_25 {d : Nat} {b0 : Nat} {l0 l1 : Option Value} {h : AH} : R_X1_needAt d 25 [l0, l1] [.ref b0] h = bif hck h [7] [] b0 then R_X1_needAt d 28 [l0, l1] [.ref b0] h else none := s_cast rfl
theorem r_X1_needAt_25N {d : Nat} {l0 l1 : Option Value} {h : AH} : R_X1_needAt d 25 [l0, l1] [.null] h = some (.inl (some (.null)), h) := by
  refine (p_castN rfl).trans ?_
  exact s_aretN rfl
theorem r_X1_needAt_28 {d : Nat} {b0 : Nat} {l0 l1 : Option Value} {h : AH} : R_X1_needAt d 28 [l0, l1] [.ref b0] h = some (.inl (some (.ref b0)), h) := s_aret rfl
theorem r_X1_needAt_28N {d : Nat} {l0 l1 : Option Value} {h : AH} : R_X1_needAt d 28 [l0, l1] [.null] h = some (.inl (some (.null)), h) := s_aretN rfl
theorem e_X1_needAt {d : Nat} {a0 : Nat} {x1 : Int32} {h : AH} : exec tTab (d + 1) K_X1_needAt [.ref a0, .int x1] h = R_X1_needAt d 0 [some (.ref a0), some (.int x1)] [] h := exec_eq (cd := k_X1_needAt) (hd := (fun _ _ => some none)) (L := 2) rfl rfl rfl
/-- FavourTown.meet(I)I -/
abbrev K_X1_meet : Nat := 77
noncomputable def R_X1_meet (d pc : Nat) (ls : ALs) (st : List Value) (h : AH) : Option (AOut × AH) := aR (exec tTab d) k_X1_meet (fun _ _ => some none) (pc, ls, st, h)
theorem r_X1_meet_0 {d : Nat} {a0 : Nat} {x1 : Int32} {l2 : Option Value} {h : AH} : R_X1_meet d 0 [some (.ref a0), some (.int (x1)), l2] [] h = ((hci h a0).bind (lkN [(0, 76)])).bind fun y => aK (exec tTab d y [.ref a0, .int (x1)] h) (fun v h1 => R_X1_meet d 5 [some (.ref a0), some (.int (x1)), l2] (v.toList ++ []) h1) (fun E h1 => some (.inr E, h1)) := by
  refine (p_aload rfl rfl).trans ?_
  refine (p_iload rfl rfl).trans ?_
  exact s_callV (L := [(0, 76)]) (n := 1) (b := a0) (rest := []) rfl rfl rfl
theorem r_X1_meet_5 {d : Nat} {b0 a0 : Nat} {l1 l2 : Option Value} {h : AH} : R_X1_meet d 5 [some (.ref a0), l1, l2] [.ref b0] h = (hgf h [0] a0 0).bind fun v => R_X1_meet d 10 [some (.ref a0), l1, some (.ref b0)] [v] h := by
  refine (p_astore rfl rfl rfl).trans ?_
  refine (p_aload rfl rfl).trans ?_
  exact s_getf rfl
theorem r_X1_meet_5N {d : Nat} {a0 : Nat} {l1 l2 : Option Value} {h : AH} : R_X1_meet d 5 [some (.ref a0), l1, l2] [.null] h = (hgf h [0] a0 0).bind fun v => R_X1_meet d 10 [some (.ref a0), l1, some (.null)] [v] h := by
  refine (p_astoreN rfl rfl rfl).trans ?_
  refine (p_aload rfl rfl).trans ?_
  exact s_getf rfl
theorem r_X1_meet_10 {d : Nat} {b0 a2 : Nat} {l0 l1 : Option Value} {h : AH} : R_X1_meet d 10 [l0, l1, some (.ref a2)] [.ref b0] h = (hgf h [7] a2 0).bind fun v => R_X1_meet d 14 [l0, l1, some (.ref a2)] [v, .ref b0] h := by
  refine (p_aload rfl rfl).trans ?_
  exact s_getf rfl
theorem r_X1_meet_10N {d : Nat} {a2 : Nat} {l0 l1 : Option Value} {h : AH} : R_X1_meet d 10 [l0, l1, some (.ref a2)] [.null] h = (hgf h [7] a2 0).bind fun v => R_X1_meet d 14 [l0, l1, some (.ref a2)] [v, .null] h := by
  refine (p_aload rfl rfl).trans ?_
  exact s_getf rfl
theorem r_X1_meet_14 {d : Nat} {b0 a2 : Nat} {s1 : Int32} {l0 l1 : Option Value} {h : AH} : R_X1_meet d 14 [l0, l1, some (.ref a2)] [.int (s1), .ref b0] h = (hgf h [7] a2 1).bind fun v => R_X1_meet d 18 [l0, l1, some (.ref a2)] [v, .int (s1), .ref b0] h := by
  refine (p_aload rfl rfl).trans ?_
  exact s_getf rfl
theorem r_X1_meet_18 {d : Nat} {b0 a2 : Nat} {s1 s2 : Int32} {l0 l1 : Option Value} {h : AH} : R_X1_meet d 18 [l0, l1, some (.ref a2)] [.int (s2), .int (s1), .ref b0] h = (hgf h [7] a2 2).bind fun v => R_X1_meet d 22 [l0, l1, some (.ref a2)] [v, .int (s2), .int (s1), .ref b0] h := by
  refine (p_aload rfl rfl).trans ?_
  exact s_getf rfl
theorem r_X1_meet_22 {d : Nat} {b0 : Nat} {s1 s2 s3 : Int32} {l0 l1 l2 : Option Value} {h : AH} : R_X1_meet d 22 [l0, l1, l2] [.int (s3), .int (s2), .int (s1), .ref b0] h = ((hci h b0).bind (lkN [(1, 108)])).bind fun y => aK (exec tTab d y [.ref b0, .int (s1), .int (s2), .int (s3)] h) (fun v h1 => R_X1_meet d 25 [l0, l1, l2] (v.toList ++ []) h1) (fun E h1 => some (.inr E, h1)) := s_callV (L := [(1, 108)]) (n := 3) (b := b0) (rest := []) rfl rfl rfl
theorem r_X1_meet_25 {d : Nat} {s0 : Int32} {l0 l1 l2 : Option Value} {h : AH} : R_X1_meet d 25 [l0, l1, l2] [.int (s0)] h = some (.inl (some (.int (s0))), h) := s_iretT rfl rfl
theorem e_X1_meet {d : Nat} {a0 : Nat} {x1 : Int32} {h : AH} : exec tTab (d + 1) K_X1_meet [.ref a0, .int x1] h = R_X1_meet d 0 [some (.ref a0), some (.int x1), none] [] h := exec_eq (cd := k_X1_meet) (hd := (fun _ _ => some none)) (L := 3) rfl rfl rfl
/-- FavourTown.port(II)I -/
abbrev K_X1_port : Nat := 78
noncomputable def R_X1_port (d pc : Nat) (ls : ALs) (st : List Value) (h : AH) : Option (AOut × AH) := aR (exec tTab d) k_X1_port (fun _ _ => some none) (pc, ls, st, h)
theorem r_X1_port_0 {d : Nat} {a0 : Nat} {x1 x2 : Int32} {h : AH} : R_X1_port d 0 [some (.ref a0), some (.int (x1)), some (.int (x2))] [] h = ((hci h a0).bind (lkN [(0, 61)])).bind fun y => aK (exec tTab d y [.ref a0, .int (x1), .int (x2)] h) (fun v h1 => R_X1_port d 6 [some (.ref a0), some (.int (x1)), some (.int (x2))] (v.toList ++ []) h1) (fun E h1 => some (.inr E, h1)) := by
  refine (p_aload rfl rfl).trans ?_
  refine (p_iload rfl rfl).trans ?_
  refine (p_iload rfl rfl).trans ?_
  exact s_callV (L := [(0, 61)]) (n := 2) (b := a0) (rest := []) rfl rfl rfl
theorem r_X1_port_6 {d : Nat} {a0 : Nat} {l1 l2 : Option Value} {h : AH} : R_X1_port d 6 [some (.ref a0), l1, l2] [] h = (hgf h [0] a0 0).bind fun v => R_X1_port d 10 [some (.ref a0), l1, l2] [v] h := by
  refine (p_aload rfl rfl).trans ?_
  exact s_getf rfl
theorem r_X1_port_10 {d : Nat} {b0 : Nat} {x1 x2 : Int32} {l0 : Option Value} {h : AH} : R_X1_port d 10 [l0, some (.int (x1)), some (.int (x2))] [.ref b0] h = ((hci h b0).bind (lkN [(1, 109)])).bind fun y => aK (exec tTab d y [.ref b0, .int (x1), .int (x2)] h) (fun v h1 => R_X1_port d 15 [l0, some (.int (x1)), some (.int (x2))] (v.toList ++ []) h1) (fun E h1 => some (.inr E, h1)) := by
  refine (p_iload rfl rfl).trans ?_
  refine (p_iload rfl rfl).trans ?_
  exact s_callV (L := [(1, 109)]) (n := 2) (b := b0) (rest := []) rfl rfl rfl
theorem r_X1_port_15 {d : Nat} {s0 : Int32} {l0 l1 l2 : Option Value} {h : AH} : R_X1_port d 15 [l0, l1, l2] [.int (s0)] h = some (.inl (some (.int (s0))), h) := s_iretT rfl rfl
theorem e_X1_port {d : Nat} {a0 : Nat} {x1 x2 : Int32} {h : AH} : exec tTab (d + 1) K_X1_port [.ref a0, .int x1, .int x2] h = R_X1_port d 0 [some (.ref a0), some (.int x1), some (.int x2)] [] h := exec_eq (cd := k_X1_port) (hd := (fun _ _ => some none)) (L := 3) rfl rfl rfl
/-- FavourTown.most(II)I -/
abbrev K_X1_most : Nat := 79
noncomputable def R_X1_most (d pc : Nat) (ls : ALs) (st : List Value) (h : AH) : Option (AOut × AH) := aR (exec tTab d) k_X1_most (fun _ _ => some none) (pc, ls, st, h)
theorem r_X1_most_0 {d : Nat} {a0 : Nat} {x1 x2 : Int32} {h : AH} : R_X1_most d 0 [some (.ref a0), some (.int (x1)), some (.int (x2))] [] h = ((hci h a0).bind (lkN [(0, 61)])).bind fun y => aK (exec tTab d y [.ref a0, .int (x1), .int (x2)] h) (fun v h1 => R_X1_most d 6 [some (.ref a0), some (.int (x1)), some (.int (x2))] (v.toList ++ []) h1) (fun E h1 => some (.inr E, h1)) := by
  refine (p_aload rfl rfl).trans ?_
  refine (p_iload rfl rfl).trans ?_
  refine (p_iload rfl rfl).trans ?_
  exact s_callV (L := [(0, 61)]) (n := 2) (b := a0) (rest := []) rfl rfl rfl
theorem r_X1_most_6 {d : Nat} {a0 : Nat} {l1 l2 : Option Value} {h : AH} : R_X1_most d 6 [some (.ref a0), l1, l2] [] h = (hgf h [0] a0 3).bind fun v => R_X1_most d 10 [some (.ref a0), l1, l2] [v] h := by
  refine (p_aload rfl rfl).trans ?_
  exact s_getf rfl
theorem r_X1_most_10 {d : Nat} {b0 : Nat} {l0 l1 l2 : Option Value} {h : AH} : R_X1_most d 10 [l0, l1, l2] [.ref b0] h = ((hci h b0).bind (lkN [(3, 141)])).bind fun y => aK (exec tTab d y [.ref b0] h) (fun v h1 => R_X1_most d 13 [l0, l1, l2] (v.toList ++ []) h1) (fun E h1 => some (.inr E, h1)) := s_callV (L := [(3, 141)]) (n := 0) (b := b0) (rest := []) rfl rfl rfl
theorem r_X1_most_13 {d : Nat} {b0 : Nat} {x1 x2 : Int32} {l0 : Option Value} {h : AH} : R_X1_most d 13 [l0, some (.int (x1)), some (.int (x2))] [.ref b0] h = ((hci h b0).bind (lkN [(3, 142)])).bind fun y => aK (exec tTab d y [.ref b0, .int (x1), .int (x2)] h) (fun v h1 => R_X1_most d 18 [l0, some (.int (x1)), some (.int (x2))] (v.toList ++ []) h1) (fun E h1 => some (.inr E, h1)) := by
  refine (p_iload rfl rfl).trans ?_
  refine (p_iload rfl rfl).trans ?_
  exact s_callV (L := [(3, 142)]) (n := 2) (b := b0) (rest := []) rfl rfl rfl
theorem r_X1_most_18 {d : Nat} {s0 : Int32} {l0 l1 l2 : Option Value} {h : AH} : R_X1_most d 18 [l0, l1, l2] [.int (s0)] h = some (.inl (some (.int (s0))), h) := s_iretT rfl rfl
theorem e_X1_most {d : Nat} {a0 : Nat} {x1 x2 : Int32} {h : AH} : exec tTab (d + 1) K_X1_most [.ref a0, .int x1, .int x2] h = R_X1_most d 0 [some (.ref a0), some (.int x1), some (.int x2)] [] h := exec_eq (cd := k_X1_most) (hd := (fun _ _ => some none)) (L := 3) rfl rfl rfl
/-- FavourTown.cut(II)I -/
abbrev K_X1_cut : Nat := 80
noncomputable def R_X1_cut (d pc : Nat) (ls : ALs) (st : List Value) (h : AH) : Option (AOut × AH) := aR (exec tTab d) k_X1_cut (fun _ _ => some none) (pc, ls, st, h)
theorem r_X1_cut_0 {d : Nat} {a0 : Nat} {x1 x2 : Int32} {h : AH} : R_X1_cut d 0 [some (.ref a0), some (.int (x1)), some (.int (x2))] [] h = ((hci h a0).bind (lkN [(0, 61)])).bind fun y => aK (exec tTab d y [.ref a0, .int (x1), .int (x2)] h) (fun v h1 => R_X1_cut d 6 [some (.ref a0), some (.int (x1)), some (.int (x2))] (v.toList ++ []) h1) (fun E h1 => some (.inr E, h1)) := by
  refine (p_aload rfl rfl).trans ?_
  refine (p_iload rfl rfl).trans ?_
  refine (p_iload rfl rfl).trans ?_
  exact s_callV (L := [(0, 61)]) (n := 2) (b := a0) (rest := []) rfl rfl rfl
theorem r_X1_cut_6 {d : Nat} {a0 : Nat} {l1 l2 : Option Value} {h : AH} : R_X1_cut d 6 [some (.ref a0), l1, l2] [] h = (hgf h [0] a0 3).bind fun v => R_X1_cut d 10 [some (.ref a0), l1, l2] [v] h := by
  refine (p_aload rfl rfl).trans ?_
  exact s_getf rfl
theorem r_X1_cut_10 {d : Nat} {b0 : Nat} {l0 l1 l2 : Option Value} {h : AH} : R_X1_cut d 10 [l0, l1, l2] [.ref b0] h = ((hci h b0).bind (lkN [(3, 141)])).bind fun y => aK (exec tTab d y [.ref b0] h) (fun v h1 => R_X1_cut d 13 [l0, l1, l2] (v.toList ++ []) h1) (fun E h1 => some (.inr E, h1)) := s_callV (L := [(3, 141)]) (n := 0) (b := b0) (rest := []) rfl rfl rfl
theorem r_X1_cut_13 {d : Nat} {b0 : Nat} {x1 x2 : Int32} {l0 : Option Value} {h : AH} : R_X1_cut d 13 [l0, some (.int (x1)), some (.int (x2))] [.ref b0] h = ((hci h b0).bind (lkN [(3, 142)])).bind fun y => aK (exec tTab d y [.ref b0, .int (x1), .int (x2)] h) (fun v h1 => R_X1_cut d 18 [l0, some (.int (x1)), some (.int (x2))] (v.toList ++ []) h1) (fun E h1 => some (.inr E, h1)) := by
  refine (p_iload rfl rfl).trans ?_
  refine (p_iload rfl rfl).trans ?_
  exact s_callV (L := [(3, 142)]) (n := 2) (b := b0) (rest := []) rfl rfl rfl
theorem r_X1_cut_18 {d : Nat} {s0 : Int32} {a0 : Nat} {l1 l2 : Option Value} {h : AH} : R_X1_cut d 18 [some (.ref a0), l1, l2] [.int (s0)] h = (hgf h [0] a0 3).bind fun v => R_X1_cut d 23 [some (.ref a0), l1, l2] [v] h := by
  refine (p_pop rfl rfl).trans ?_
  refine (p_aload rfl rfl).trans ?_
  exact s_getf rfl
theorem r_X1_cut_23 {d : Nat} {b0 : Nat} {x1 : Int32} {l0 l2 : Option Value} {h : AH} : R_X1_cut d 23 [l0, some (.int (x1)), l2] [.ref b0] h = ((hci h b0).bind (lkN [(3, 143)])).bind fun y => aK (exec tTab d y [.ref b0, .int (x1)] h) (fun v h1 => R_X1_cut d 27 [l0, some (.int (x1)), l2] (v.toList ++ []) h1) (fun E h1 => some (.inr E, h1)) := by
  refine (p_iload rfl rfl).trans ?_
  exact s_callV (L := [(3, 143)]) (n := 1) (b := b0) (rest := []) rfl rfl rfl
theorem r_X1_cut_27 {d : Nat} {s0 : Int32} {l0 l1 l2 : Option Value} {h : AH} : R_X1_cut d 27 [l0, l1, l2] [.int (s0)] h = some (.inl (some (.int (s0))), h) := s_iretT rfl rfl
theorem e_X1_cut {d : Nat} {a0 : Nat} {x1 x2 : Int32} {h : AH} : exec tTab (d + 1) K_X1_cut [.ref a0, .int x1, .int x2] h = R_X1_cut d 0 [some (.ref a0), some (.int x1), some (.int x2)] [] h := exec_eq (cd := k_X1_cut) (hd := (fun _ _ => some none)) (L := 3) rfl rfl rfl
/-- FavourTown.chain(IIII)I -/
abbrev K_X1_chain : Nat := 81
noncomputable def R_X1_chain (d pc : Nat) (ls : ALs) (st : List Value) (h : AH) : Option (AOut × AH) := aR (exec tTab d) k_X1_chain (fun _ _ => some none) (pc, ls, st, h)
theorem r_X1_chain_0 {d : Nat} {a0 : Nat} {x1 x2 : Int32} {l3 l4 l5 l6 l7 : Option Value} {h : AH} : R_X1_chain d 0 [some (.ref a0), some (.int (x1)), some (.int (x2)), l3, l4, l5, l6, l7] [] h = ((hci h a0).bind (lkN [(0, 61)])).bind fun y => aK (exec tTab d y [.ref a0, .int (x1), .int (x2)] h) (fun v h1 => R_X1_chain d 6 [some (.ref a0), some (.int (x1)), some (.int (x2)), l3, l4, l5, l6, l7] (v.toList ++ []) h1) (fun E h1 => some (.inr E, h1)) := by
  refine (p_aload rfl rfl).trans ?_
  refine (p_iload rfl rfl).trans ?_
  refine (p_iload rfl rfl).trans ?_
  exact s_callV (L := [(0, 61)]) (n := 2) (b := a0) (rest := []) rfl rfl rfl
theorem r_X1_chain_6 {d : Nat} {x3 : Int32} {l0 l1 l2 l4 l5 l6 l7 : Option Value} {h : AH} : R_X1_chain d 6 [l0, l1, l2, some (.int (x3)), l4, l5, l6, l7] [] h = aK (exec tTab d 40 [.int (x3), .int ((nI 1)), .int ((nI 99))] h) (fun v h1 => R_X1_chain d 13 [l0, l1, l2, some (.int (x3)), l4, l5, l6, l7] (v.toList ++ []) h1) (fun E h1 => some (.inr E, h1)) := by
  refine (p_iload rfl rfl).trans ?_
  refine (p_const rfl).trans ?_
  refine (p_const rfl).trans ?_
  exact s_callS (y := 40) (n := 3) rfl rfl
theorem r_X1_chain_13 {d : Nat} {s0 : Int32} {l0 l1 l2 l3 l4 l5 l6 l7 : Option Value} {h : AH} : R_X1_chain d 13 [l0, l1, l2, l3, l4, l5, l6, l7] [.int (s0)] h = if s0 = 0 then R_X1_chain d 26 [l0, l1, l2, l3, l4, l5, l6, l7] [] h else R_X1_chain d 16 [l0, l1, l2, l3, l4, l5, l6, l7] [] h := (s_if (g := (fun x => decide (x = 0))) (t := 26) (nx := 16) rfl).trans bif_dec
theorem r_X1_chain_26 {d : Nat} {l0 l1 l2 l3 l4 l5 l6 l7 : Option Value} {h : AH} : R_X1_chain d 26 [l0, l1, l2, l3, l4, l5, l6, l7] [] h = aK (exec tTab d 62 [.int ((nI 0))] h) (fun v h1 => R_X1_chain d 30 [l0, l1, l2, l3, l4, l5, l6, l7] (v.toList ++ []) h1) (fun E h1 => some (.inr E, h1)) := by
  refine (p_const rfl).trans ?_
  exact s_callS (y := 62) (n := 1) rfl rfl
theorem r_X1_chain_16 {d : Nat} {x4 : Int32} {l0 l1 l2 l3 l5 l6 l7 : Option Value} {h : AH} : R_X1_chain d 16 [l0, l1, l2, l3, some (.int (x4)), l5, l6, l7] [] h = if x4 < (-1) then R_X1_chain d 26 [l0, l1, l2, l3, some (.int (x4)), l5, l6, l7] [] h else R_X1_chain d 22 [l0, l1, l2, l3, some (.int (x4)), l5, l6, l7] [] h := by
  refine (p_iload rfl rfl).trans ?_
  refine (p_const rfl).trans ?_
  exact (s_icmp (g := (fun x y => decide (x < y))) (t := 26) (nx := 22) rfl).trans bif_dec
theorem r_X1_chain_30 {d : Nat} {a0 : Nat} {l1 l2 l3 l4 l5 l6 l7 : Option Value} {h : AH} : R_X1_chain d 30 [some (.ref a0), l1, l2, l3, l4, l5, l6, l7] [] h = (hgf h [0] a0 3).bind fun v => R_X1_chain d 34 [some (.ref a0), l1, l2, l3, l4, l5, l6, l7] [v] h := by
  refine (p_aload rfl rfl).trans ?_
  exact s_getf rfl
theorem r_X1_chain_22 {d : Nat} {l0 l1 l2 l3 l4 l5 l6 l7 : Option Value} {h : AH} : R_X1_chain d 22 [l0, l1, l2, l3, l4, l5, l6, l7] [] h = aK (exec tTab d 62 [.int ((nI 1))] h) (fun v h1 => R_X1_chain d 30 [l0, l1, l2, l3, l4, l5, l6, l7] (v.toList ++ []) h1) (fun E h1 => some (.inr E, h1)) := by
  refine (p_const rfl).trans ?_
  refine (p_goto rfl).trans ?_
  exact s_callS (y := 62) (n := 1) rfl rfl
theorem r_X1_chain_34 {d : Nat} {b0 : Nat} {l0 l1 l2 l3 l4 l5 l6 l7 : Option Value} {h : AH} : R_X1_chain d 34 [l0, l1, l2, l3, l4, l5, l6, l7] [.ref b0] h = ((hci h b0).bind (lkN [(3, 141)])).bind fun y => aK (exec tTab d y [.ref b0] h) (fun v h1 => R_X1_chain d 37 [l0, l1, l2, l3, l4, l5, l6, l7] (v.toList ++ []) h1) (fun E h1 => some (.inr E, h1)) := s_callV (L := [(3, 141)]) (n := 0) (b := b0) (rest := []) rfl rfl rfl
theorem r_X1_chain_37 {d : Nat} {b0 a0 : Nat} {x2 x3 : Int32} {l1 l4 l5 l6 l7 : Option Value} {h : AH} : R_X1_chain d 37 [some (.ref a0), l1, some (.int (x2)), some (.int (x3)), l4, l5, l6, l7] [.ref b0] h = ((hci h a0).bind (lkN [(0, 82)])).bind fun y => aK (exec tTab d y [.ref a0, .int (x2), .int (x3)] h) (fun v h1 => R_X1_chain d 44 [some (.ref a0), l1, some (.int (x2)), some (.int (x3)), l4, l5, l6, l7] (v.toList ++ []) h1) (fun E h1 => some (.inr E, h1)) := by
  refine (p_pop rfl rfl).trans ?_
  refine (p_aload rfl rfl).trans ?_
  refine (p_iload rfl rfl).trans ?_
  refine (p_iload rfl rfl).trans ?_
  exact s_callV (L := [(0, 82)]) (n := 2) (b := a0) (rest := []) rfl rfl rfl
theorem r_X1_chain_37N {d : Nat} {a0 : Nat} {x2 x3 : Int32} {l1 l4 l5 l6 l7 : Option Value} {h : AH} : R_X1_chain d 37 [some (.ref a0), l1, some (.int (x2)), some (.int (x3)), l4, l5, l6, l7] [.null] h = ((hci h a0).bind (lkN [(0, 82)])).bind fun y => aK (exec tTab d y [.ref a0, .int (x2), .int (x3)] h) (fun v h1 => R_X1_chain d 44 [some (.ref a0), l1, some (.int (x2)), some (.int (x3)), l4, l5, l6, l7] (v.toList ++ []) h1) (fun E h1 => some (.inr E, h1)) := by
  refine (p_pop rfl rfl).trans ?_
  refine (p_aload rfl rfl).trans ?_
  refine (p_iload rfl rfl).trans ?_
  refine (p_iload rfl rfl).trans ?_
  exact s_callV (L := [(0, 82)]) (n := 2) (b := a0) (rest := []) rfl rfl rfl
theorem r_X1_chain_44 {d : Nat} {x4 : Int32} {l0 l1 l2 l3 l5 l6 l7 : Option Value} {h : AH} : R_X1_chain d 44 [l0, l1, l2, l3, some (.int (x4)), l5, l6, l7] [] h = if x4 = (-1) then R_X1_chain d 71 [l0, l1, l2, l3, some (.int (x4)), l5, l6, l7] [] h else R_X1_chain d 50 [l0, l1, l2, l3, some (.int (x4)), l5, l6, l7] [] h := by
  refine (p_iload rfl rfl).trans ?_
  refine (p_const rfl).trans ?_
  exact (s_icmp (g := (fun x y => decide (x = y))) (t := 71) (nx := 50) rfl).trans bif_dec
theorem r_X1_chain_71 {d : Nat} {x4 : Int32} {l0 l1 l2 l3 l5 l6 l7 : Option Value} {h : AH} : R_X1_chain d 71 [l0, l1, l2, l3, some (.int (x4)), l5, l6, l7] [] h = if ¬ x4 = (-1) then R_X1_chain d 86 [l0, l1, l2, l3, some (.int (x4)), l5, l6, l7] [] h else R_X1_chain d 77 [l0, l1, l2, l3, some (.int (x4)), l5, l6, l7] [] h := by
  refine (p_iload rfl rfl).trans ?_
  refine (p_const rfl).trans ?_
  exact (s_icmp (g := (fun x y => decide (¬ x = y))) (t := 86) (nx := 77) rfl).trans bif_dec
theorem r_X1_chain_50 {d : Nat} {a0 : Nat} {l1 l2 l3 l4 l5 l6 l7 : Option Value} {h : AH} : R_X1_chain d 50 [some (.ref a0), l1, l2, l3, l4, l5, l6, l7] [] h = (hgf h [0] a0 4).bind fun v => R_X1_chain d 54 [some (.ref a0), l1, l2, l3, l4, l5, l6, l7] [v] h := by
  refine (p_aload rfl rfl).trans ?_
  exact s_getf rfl
theorem r_X1_chain_86 {d : Nat} {l0 l1 l2 l3 l4 l5 l6 l7 : Option Value} {h : AH} : R_X1_chain d 86 [l0, l1, l2, l3, l4, l5, l6, l7] [] h = some (.inl (some (.int ((-1)))), h) := by
  refine (p_const rfl).trans ?_
  exact s_iretT rfl rfl
theorem r_X1_chain_77 {d : Nat} {a0 : Nat} {l1 l2 l3 l4 l5 l6 l7 : Option Value} {h : AH} : R_X1_chain d 77 [some (.ref a0), l1, l2, l3, l4, l5, l6, l7] [] h = (hgf h [0] a0 4).bind fun v => R_X1_chain d 81 [some (.ref a0), l1, l2, l3, l4, l5, l6, l7] [v] h := by
  refine (p_aload rfl rfl).trans ?_
  exact s_getf rfl
theorem r_X1_chain_54 {d : Nat} {b0 : Nat} {x1 : Int32} {l0 l2 l3 l4 l5 l6 l7 : Option Value} {h : AH} : R_X1_chain d 54 [l0, some (.int (x1)), l2, l3, l4, l5, l6, l7] [.ref b0] h = (hai h 0 b0 x1).bind fun v => R_X1_chain d 56 [l0, some (.int (x1)), l2, l3, l4, l5, l6, l7] [.int v] h := by
  refine (p_iload rfl rfl).trans ?_
  exact s_iald rfl
theorem r_X1_chain_81 {d : Nat} {b0 : Nat} {x1 : Int32} {l0 l2 l3 l4 l5 l6 l7 : Option Value} {h : AH} : R_X1_chain d 81 [l0, some (.int (x1)), l2, l3, l4, l5, l6, l7] [.ref b0] h = (hai h 0 b0 x1).bind fun v => R_X1_chain d 83 [l0, some (.int (x1)), l2, l3, l4, l5, l6, l7] [.int v] h := by
  refine (p_iload rfl rfl).trans ?_
  exact s_iald rfl
theorem r_X1_chain_56 {d : Nat} {s0 : Int32} {l0 l1 l2 l3 l4 l5 l6 l7 : Option Value} {h : AH} : R_X1_chain d 56 [l0, l1, l2, l3, l4, l5, l6, l7] [.int (s0)] h = if s0 = (-1) then R_X1_chain d 71 [l0, l1, l2, l3, l4, l5, l6, l7] [] h else R_X1_chain d 60 [l0, l1, l2, l3, l4, l5, l6, l7] [] h := by
  refine (p_const rfl).trans ?_
  exact (s_icmp (g := (fun x y => decide (x = y))) (t := 71) (nx := 60) rfl).trans bif_dec
theorem r_X1_chain_83 {d : Nat} {s0 : Int32} {l0 l1 l2 l3 l4 l5 l6 l7 : Option Value} {h : AH} : R_X1_chain d 83 [l0, l1, l2, l3, l4, l5, l6, l7] [.int (s0)] h = some (.inl (some (.int (s0))), h) := by
  refine (p_goto rfl).trans ?_
  exact s_iretT rfl rfl
theorem r_X1_chain_60 {d : Nat} {x4 : Int32} {a0 : Nat} {l1 l2 l3 l5 l6 l7 : Option Value} {h : AH} : R_X1_chain d 60 [some (.ref a0), l1, l2, l3, some (.int (x4)), l5, l6, l7] [] h = (hgf h [0] a0 4).bind fun v => R_X1_chain d 66 [some (.ref a0), l1, l2, l3, some (.int (x4)), l5, l6, l7] [v, .int (x4)] h := by
  refine (p_iload rfl rfl).trans ?_
  refine (p_aload rfl rfl).trans ?_
  exact s_getf rfl
theorem r_X1_chain_66 {d : Nat} {s0 x1 : Int32} {b1 : Nat} {l0 l2 l3 l4 l5 l6 l7 : Option Value} {h : AH} : R_X1_chain d 66 [l0, some (.int (x1)), l2, l3, l4, l5, l6, l7] [.ref b1, .int (s0)] h = (hai h 0 b1 x1).bind fun v => R_X1_chain d 68 [l0, some (.int (x1)), l2, l3, l4, l5, l6, l7] [.int v, .int (s0)] h := by
  refine (p_iload rfl rfl).trans ?_
  exact s_iald rfl
theorem r_X1_chain_68 {d : Nat} {s0 s1 : Int32} {l0 l1 l2 l3 l4 l5 l6 l7 : Option Value} {h : AH} : R_X1_chain d 68 [l0, l1, l2, l3, l4, l5, l6, l7] [.int (s1), .int (s0)] h = if s0 ≤ s1 then R_X1_chain d 88 [l0, l1, l2, l3, l4, l5, l6, l7] [] h else R_X1_chain d 71 [l0, l1, l2, l3, l4, l5, l6, l7] [] h := (s_icmp (g := (fun x y => decide (x ≤ y))) (t := 88) (nx := 71) rfl).trans bif_dec
theorem r_X1_chain_88 {d : Nat} {x1 : Int32} {l0 l2 l3 l4 l5 l6 l7 : Option Value} {h : AH} : R_X1_chain d 88 [l0, some (.int (x1)), l2, l3, l4, l5, l6, l7] [] h = R_X1_chain d 94 [l0, some (.int (x1)), l2, l3, l4, some (.int (x1)), some (.int ((nI 0))), l7] [] h := by
  refine (p_iload rfl rfl).trans ?_
  refine (p_istore rfl rfl rfl).trans ?_
  refine (p_const rfl).trans ?_
  refine (p_istore rfl rfl rfl).trans ?_
  exact rfl
theorem q_X1_chain_94 {d : Nat} {x6 x4 : Int32} {l0 l1 l2 l3 l5 l7 : Option Value} {h : AH} : R_X1_chain d 94 [l0, l1, l2, l3, some (.int (x4)), l5, some (.int (x6)), l7] [] h = if x4 ≤ x6 then R_X1_chain d 156 [l0, l1, l2, l3, some (.int (x4)), l5, some (.int (x6)), l7] [] h else R_X1_chain d 101 [l0, l1, l2, l3, some (.int (x4)), l5, some (.int (x6)), l7] [] h := by
  refine (p_iload rfl rfl).trans ?_
  refine (p_iload rfl rfl).trans ?_
  exact (s_icmp (g := (fun x y => decide (y ≤ x))) (t := 156) (nx := 101) rfl).trans bif_dec
theorem r_X1_chain_156 {d : Nat} {x5 : Int32} {l0 l1 l2 l3 l4 l6 l7 : Option Value} {h : AH} : R_X1_chain d 156 [l0, l1, l2, l3, l4, some (.int (x5)), l6, l7] [] h = some (.inl (some (.int (x5))), h) := by
  refine (p_iload rfl rfl).trans ?_
  exact s_iretT rfl rfl
theorem r_X1_chain_101 {d : Nat} {l0 l1 l2 l3 l4 l5 l6 l7 : Option Value} {h : AH} : R_X1_chain d 101 [l0, l1, l2, l3, l4, l5, l6, l7] [] h = R_X1_chain d 104 [l0, l1, l2, l3, l4, l5, l6, some (.int ((nI 0)))] [] h := by
  refine (p_const rfl).trans ?_
  refine (p_istore rfl rfl rfl).trans ?_
  exact rfl
theorem q_X1_chain_104 {d : Nat} {a0 : Nat} {l1 l2 l3 l4 l5 l6 l7 : Option Value} {h : AH} : R_X1_chain d 104 [some (.ref a0), l1, l2, l3, l4, l5, l6, l7] [] h = (hgf h [0] a0 4).bind fun v => R_X1_chain d 108 [some (.ref a0), l1, l2, l3, l4, l5, l6, l7] [v] h := by
  refine (p_aload rfl rfl).trans ?_
  exact s_getf rfl
theorem r_X1_chain_108 {d : Nat} {b0 : Nat} {x7 : Int32} {l0 l1 l2 l3 l4 l5 l6 : Option Value} {h : AH} : R_X1_chain d 108 [l0, l1, l2, l3, l4, l5, l6, some (.int (x7))] [.ref b0] h = (hai h 0 b0 x7).bind fun v => R_X1_chain d 111 [l0, l1, l2, l3, l4, l5, l6, some (.int (x7))] [.int v] h := by
  refine (p_iload rfl rfl).trans ?_
  exact s_iald rfl
theorem r_X1_chain_111 {d : Nat} {s0 : Int32} {a0 : Nat} {l1 l2 l3 l4 l5 l6 l7 : Option Value} {h : AH} : R_X1_chain d 111 [some (.ref a0), l1, l2, l3, l4, l5, l6, l7] [.int (s0)] h = (hgf h [0] a0 4).bind fun v => R_X1_chain d 115 [some (.ref a0), l1, l2, l3, l4, l5, l6, l7] [v, .int (s0)] h := by
  refine (p_aload rfl rfl).trans ?_
  exact s_getf rfl
theorem r_X1_chain_115 {d : Nat} {s0 x5 : Int32} {b1 : Nat} {l0 l1 l2 l3 l4 l6 l7 : Option Value} {h : AH} : R_X1_chain d 115 [l0, l1, l2, l3, l4, some (.int (x5)), l6, l7] [.ref b1, .int (s0)] h = (hai h 0 b1 x5).bind fun v => R_X1_chain d 118 [l0, l1, l2, l3, l4, some (.int (x5)), l6, l7] [.int v, .int (s0)] h := by
  refine (p_iload rfl rfl).trans ?_
  exact s_iald rfl
theorem r_X1_chain_118 {d : Nat} {s0 s1 : Int32} {l0 l1 l2 l3 l4 l5 l6 l7 : Option Value} {h : AH} : R_X1_chain d 118 [l0, l1, l2, l3, l4, l5, l6, l7] [.int (s1), .int (s0)] h = if ¬ s0 = (s1 - (nI 1)) then R_X1_chain d 140 [l0, l1, l2, l3, l4, l5, l6, l7] [] h else R_X1_chain d 123 [l0, l1, l2, l3, l4, l5, l6, l7] [] h := by
  refine (p_const rfl).trans ?_
  refine (p_bin rfl).trans ?_
  exact (s_icmp (g := (fun x y => decide (¬ x = y))) (t := 140) (nx := 123) rfl).trans bif_dec
theorem r_X1_chain_140 {d : Nat} {x7 : Int32} {l0 l1 l2 l3 l4 l5 l6 : Option Value} {h : AH} : R_X1_chain d 140 [l0, l1, l2, l3, l4, l5, l6, some (.int (x7))] [] h = R_X1_chain d 104 [l0, l1, l2, l3, l4, l5, l6, some (.int (x7 + (nI 1)))] [] h := by
  refine (p_iinc rfl rfl rfl).trans ?_
  refine (p_goto rfl).trans ?_
  exact rfl
theorem r_X1_chain_123 {d : Nat} {a0 : Nat} {l1 l2 l3 l4 l5 l6 l7 : Option Value} {h : AH} : R_X1_chain d 123 [some (.ref a0), l1, l2, l3, l4, l5, l6, l7] [] h = (hgf h [0] a0 3).bind fun v => R_X1_chain d 127 [some (.ref a0), l1, l2, l3, l4, l5, l6, l7] [v] h := by
  refine (p_aload rfl rfl).trans ?_
  exact s_getf rfl
theorem r_X1_chain_127 {d : Nat} {b0 : Nat} {l0 l1 l2 l3 l4 l5 l6 l7 : Option Value} {h : AH} : R_X1_chain d 127 [l0, l1, l2, l3, l4, l5, l6, l7] [.ref b0] h = (hgf h [3] b0 0).bind fun v => R_X1_chain d 130 [l0, l1, l2, l3, l4, l5, l6, l7] [v] h := s_getf rfl
theorem r_X1_chain_130 {d : Nat} {b0 : Nat} {x5 : Int32} {l0 l1 l2 l3 l4 l6 l7 : Option Value} {h : AH} : R_X1_chain d 130 [l0, l1, l2, l3, l4, some (.int (x5)), l6, l7] [.ref b0] h = (haqs h [3, 4, 5] b0 x5).bind fun v => R_X1_chain d 133 [l0, l1, l2, l3, l4, some (.int (x5)), l6, l7] [va_rf v] h := by
  refine (p_iload rfl rfl).trans ?_
  exact s_aald rfl
theorem r_X1_chain_133 {d : Nat} {b0 : Nat} {x7 : Int32} {l0 l1 l2 l3 l4 l5 l6 : Option Value} {h : AH} : R_X1_chain d 133 [l0, l1, l2, l3, l4, l5, l6, some (.int (x7))] [.ref b0] h = (hai h 0 b0 x7).bind fun v => R_X1_chain d 136 [l0, l1, l2, l3, l4, l5, l6, some (.int (x7))] [.int v] h := by
  refine (p_iload rfl rfl).trans ?_
  exact s_iald rfl
theorem r_X1_chain_136 {d : Nat} {s0 x3 : Int32} {l0 l1 l2 l4 l5 l6 l7 : Option Value} {h : AH} : R_X1_chain d 136 [l0, l1, l2, some (.int (x3)), l4, l5, l6, l7] [.int (s0)] h = if x3 ≤ s0 then R_X1_chain d 146 [l0, l1, l2, some (.int (x3)), l4, l5, l6, l7] [] h else R_X1_chain d 140 [l0, l1, l2, some (.int (x3)), l4, l5, l6, l7] [] h := by
  refine (p_iload rfl rfl).trans ?_
  exact (s_icmp (g := (fun x y => decide (y ≤ x))) (t := 146) (nx := 140) rfl).trans bif_dec
theorem r_X1_chain_146 {d : Nat} {x7 x6 : Int32} {l0 l1 l2 l3 l4 l5 : Option Value} {h : AH} : R_X1_chain d 146 [l0, l1, l2, l3, l4, l5, some (.int (x6)), some (.int (x7))] [] h = R_X1_chain d 94 [l0, l1, l2, l3, l4, some (.int (x7)), some (.int (x6 + (nI 1))), some (.int (x7))] [] h := by
  refine (p_iload rfl rfl).trans ?_
  refine (p_istore rfl rfl rfl).trans ?_
  refine (p_iinc rfl rfl rfl).trans ?_
  refine (p_goto rfl).trans ?_
  exact rfl
theorem e_X1_chain {d : Nat} {a0 : Nat} {x1 x2 x3 x4 : Int32} {h : AH} : exec tTab (d + 1) K_X1_chain [.ref a0, .int x1, .int x2, .int x3, .int x4] h = R_X1_chain d 0 [some (.ref a0), some (.int x1), some (.int x2), some (.int x3), some (.int x4), none, none, none] [] h := exec_eq (cd := k_X1_chain) (hd := (fun _ _ => some none)) (L := 8) rfl rfl rfl
/-- FavourTown.steps(II)V -/
abbrev K_X1_steps : Nat := 82
noncomputable def R_X1_steps (d pc : Nat) (ls : ALs) (st : List Value) (h : AH) : Option (AOut × AH) := aR (exec tTab d) k_X1_steps (fun _ _ => some none) (pc, ls, st, h)
theorem r_X1_steps_0 {d : Nat} {a0 : Nat} {l1 l2 l3 l4 l5 : Option Value} {h : AH} : R_X1_steps d 0 [some (.ref a0), l1, l2, l3, l4, l5] [] h = (hgf h [0] a0 4).bind fun v => R_X1_steps d 4 [some (.ref a0), l1, l2, l3, l4, l5] [v] h := by
  refine (p_aload rfl rfl).trans ?_
  exact s_getf rfl
theorem r_X1_steps_4 {d : Nat} {b0 : Nat} {l0 l1 l2 l3 l4 l5 : Option Value} {h : AH} : R_X1_steps d 4 [l0, l1, l2, l3, l4, l5] [.ref b0] h = aK (exec tTab d 261 [.ref b0, .int ((-1))] h) (fun v h1 => R_X1_steps d 8 [l0, l1, l2, l3, l4, l5] (v.toList ++ []) h1) (fun E h1 => some (.inr E, h1)) := by
  refine (p_const rfl).trans ?_
  exact s_callS (y := 261) (n := 2) rfl rfl
theorem r_X1_steps_4N {d : Nat} {l0 l1 l2 l3 l4 l5 : Option Value} {h : AH} : R_X1_steps d 4 [l0, l1, l2, l3, l4, l5] [.null] h = aK (exec tTab d 261 [.null, .int ((-1))] h) (fun v h1 => R_X1_steps d 8 [l0, l1, l2, l3, l4, l5] (v.toList ++ []) h1) (fun E h1 => some (.inr E, h1)) := by
  refine (p_const rfl).trans ?_
  exact s_callS (y := 261) (n := 2) rfl rfl
theorem r_X1_steps_8 {d : Nat} {a0 : Nat} {l1 l2 l3 l4 l5 : Option Value} {h : AH} : R_X1_steps d 8 [some (.ref a0), l1, l2, l3, l4, l5] [] h = (hgf h [0] a0 4).bind fun v => R_X1_steps d 12 [some (.ref a0), l1, l2, l3, l4, l5] [v] h := by
  refine (p_aload rfl rfl).trans ?_
  exact s_getf rfl
theorem r_X1_steps_12 {d : Nat} {b0 : Nat} {x1 : Int32} {l0 l2 l3 l4 l5 : Option Value} {h : AH} : R_X1_steps d 12 [l0, some (.int (x1)), l2, l3, l4, l5] [.ref b0] h = (hsi h 0 b0 x1 (nI 0)).bind fun h1 => R_X1_steps d 15 [l0, some (.int (x1)), l2, l3, l4, l5] [] h1 := by
  refine (p_iload rfl rfl).trans ?_
  refine (p_const rfl).trans ?_
  exact s_iast (t := 0) (nar := (fun y => y)) rfl
theorem r_X1_steps_15 {d : Nat} {l0 l1 l2 l3 l4 l5 : Option Value} {h : AH} : R_X1_steps d 15 [l0, l1, l2, l3, l4, l5] [] h = R_X1_steps d 17 [l0, l1, l2, some (.int ((nI 0))), l4, l5] [] h := by
  refine (p_const rfl).trans ?_
  refine (p_istore rfl rfl rfl).trans ?_
  exact rfl
theorem q_X1_steps_17 {d : Nat} {x3 : Int32} {a0 : Nat} {l1 l2 l4 l5 : Option Value} {h : AH} : R_X1_steps d 17 [some (.ref a0), l1, l2, some (.int (x3)), l4, l5] [] h = (hgf h [0] a0 0).bind fun v => R_X1_steps d 22 [some (.ref a0), l1, l2, some (.int (x3)), l4, l5] [v, .int (x3)] h := by
  refine (p_iload rfl rfl).trans ?_
  refine (p_aload rfl rfl).trans ?_
  exact s_getf rfl
theorem r_X1_steps_22 {d : Nat} {s0 : Int32} {b1 : Nat} {l0 l1 l2 l3 l4 l5 : Option Value} {h : AH} : R_X1_steps d 22 [l0, l1, l2, l3, l4, l5] [.ref b1, .int (s0)] h = (hgf h [1] b1 3).bind fun v => R_X1_steps d 25 [l0, l1, l2, l3, l4, l5] [v, .int (s0)] h := s_getf rfl
theorem r_X1_steps_25 {d : Nat} {s0 s1 : Int32} {l0 l1 l2 l3 l4 l5 : Option Value} {h : AH} : R_X1_steps d 25 [l0, l1, l2, l3, l4, l5] [.int (s1), .int (s0)] h = if s1 ≤ s0 then R_X1_steps d 128 [l0, l1, l2, l3, l4, l5] [] h else R_X1_steps d 28 [l0, l1, l2, l3, l4, l5] [] h := (s_icmp (g := (fun x y => decide (y ≤ x))) (t := 128) (nx := 28) rfl).trans bif_dec
theorem r_X1_steps_128 {d : Nat} {l0 l1 l2 l3 l4 l5 : Option Value} {h : AH} : R_X1_steps d 128 [l0, l1, l2, l3, l4, l5] [] h = some (.inl none, h) := s_vret rfl
theorem r_X1_steps_28 {d : Nat} {l0 l1 l2 l3 l4 l5 : Option Value} {h : AH} : R_X1_steps d 28 [l0, l1, l2, l3, l4, l5] [] h = R_X1_steps d 31 [l0, l1, l2, l3, some (.int ((nI 0))), l5] [] h := by
  refine (p_const rfl).trans ?_
  refine (p_istore rfl rfl rfl).trans ?_
  exact rfl
theorem q_X1_steps_31 {d : Nat} {x4 : Int32} {a0 : Nat} {l1 l2 l3 l5 : Option Value} {h : AH} : R_X1_steps d 31 [some (.ref a0), l1, l2, l3, some (.int (x4)), l5] [] h = (hgf h [0] a0 0).bind fun v => R_X1_steps d 37 [some (.ref a0), l1, l2, l3, some (.int (x4)), l5] [v, .int (x4)] h := by
  refine (p_iload rfl rfl).trans ?_
  refine (p_aload rfl rfl).trans ?_
  exact s_getf rfl
theorem r_X1_steps_37 {d : Nat} {s0 : Int32} {b1 : Nat} {l0 l1 l2 l3 l4 l5 : Option Value} {h : AH} : R_X1_steps d 37 [l0, l1, l2, l3, l4, l5] [.ref b1, .int (s0)] h = (hgf h [1] b1 3).bind fun v => R_X1_steps d 40 [l0, l1, l2, l3, l4, l5] [v, .int (s0)] h := s_getf rfl
theorem r_X1_steps_40 {d : Nat} {s0 s1 : Int32} {l0 l1 l2 l3 l4 l5 : Option Value} {h : AH} : R_X1_steps d 40 [l0, l1, l2, l3, l4, l5] [.int (s1), .int (s0)] h = if s1 ≤ s0 then R_X1_steps d 122 [l0, l1, l2, l3, l4, l5] [] h else R_X1_steps d 43 [l0, l1, l2, l3, l4, l5] [] h := (s_icmp (g := (fun x y => decide (y ≤ x))) (t := 122) (nx := 43) rfl).trans bif_dec
theorem r_X1_steps_122 {d : Nat} {x3 : Int32} {l0 l1 l2 l4 l5 : Option Value} {h : AH} : R_X1_steps d 122 [l0, l1, l2, some (.int (x3)), l4, l5] [] h = R_X1_steps d 17 [l0, l1, l2, some (.int (x3 + (nI 1))), l4, l5] [] h := by
  refine (p_iinc rfl rfl rfl).trans ?_
  refine (p_goto rfl).trans ?_
  exact rfl
theorem r_X1_steps_43 {d : Nat} {a0 : Nat} {l1 l2 l3 l4 l5 : Option Value} {h : AH} : R_X1_steps d 43 [some (.ref a0), l1, l2, l3, l4, l5] [] h = (hgf h [0] a0 4).bind fun v => R_X1_steps d 47 [some (.ref a0), l1, l2, l3, l4, l5] [v] h := by
  refine (p_aload rfl rfl).trans ?_
  exact s_getf rfl
theorem r_X1_steps_47 {d : Nat} {b0 : Nat} {x4 : Int32} {l0 l1 l2 l3 l5 : Option Value} {h : AH} : R_X1_steps d 47 [l0, l1, l2, l3, some (.int (x4)), l5] [.ref b0] h = (hai h 0 b0 x4).bind fun v => R_X1_steps d 50 [l0, l1, l2, l3, some (.int (x4)), l5] [.int v] h := by
  refine (p_iload rfl rfl).trans ?_
  exact s_iald rfl
theorem r_X1_steps_50 {d : Nat} {s0 : Int32} {l0 l1 l2 l3 l4 l5 : Option Value} {h : AH} : R_X1_steps d 50 [l0, l1, l2, l3, l4, l5] [.int (s0)] h = if s0 = (-1) then R_X1_steps d 57 [l0, l1, l2, l3, l4, l5] [] h else R_X1_steps d 54 [l0, l1, l2, l3, l4, l5] [] h := by
  refine (p_const rfl).trans ?_
  exact (s_icmp (g := (fun x y => decide (x = y))) (t := 57) (nx := 54) rfl).trans bif_dec
theorem r_X1_steps_57 {d : Nat} {l0 l1 l2 l3 l4 l5 : Option Value} {h : AH} : R_X1_steps d 57 [l0, l1, l2, l3, l4, l5] [] h = R_X1_steps d 60 [l0, l1, l2, l3, l4, some (.int ((nI 0)))] [] h := by
  refine (p_const rfl).trans ?_
  refine (p_istore rfl rfl rfl).trans ?_
  exact rfl
theorem r_X1_steps_54 {d : Nat} {x4 : Int32} {l0 l1 l2 l3 l5 : Option Value} {h : AH} : R_X1_steps d 54 [l0, l1, l2, l3, some (.int (x4)), l5] [] h = R_X1_steps d 31 [l0, l1, l2, l3, some (.int (x4 + (nI 1))), l5] [] h := by
  refine (p_goto rfl).trans ?_
  refine (p_iinc rfl rfl rfl).trans ?_
  refine (p_goto rfl).trans ?_
  exact rfl
theorem q_X1_steps_60 {d : Nat} {x5 : Int32} {a0 : Nat} {l1 l2 l3 l4 : Option Value} {h : AH} : R_X1_steps d 60 [some (.ref a0), l1, l2, l3, l4, some (.int (x5))] [] h = (hgf h [0] a0 0).bind fun v => R_X1_steps d 66 [some (.ref a0), l1, l2, l3, l4, some (.int (x5))] [v, .int (x5)] h := by
  refine (p_iload rfl rfl).trans ?_
  refine (p_aload rfl rfl).trans ?_
  exact s_getf rfl
theorem r_X1_steps_66 {d : Nat} {s0 : Int32} {b1 : Nat} {l0 l1 l2 l3 l4 l5 : Option Value} {h : AH} : R_X1_steps d 66 [l0, l1, l2, l3, l4, l5] [.ref b1, .int (s0)] h = (hgf h [1] b1 3).bind fun v => R_X1_steps d 69 [l0, l1, l2, l3, l4, l5] [v, .int (s0)] h := s_getf rfl
theorem r_X1_steps_69 {d : Nat} {s0 s1 : Int32} {l0 l1 l2 l3 l4 l5 : Option Value} {h : AH} : R_X1_steps d 69 [l0, l1, l2, l3, l4, l5] [.int (s1), .int (s0)] h = if s1 ≤ s0 then R_X1_steps d 116 [l0, l1, l2, l3, l4, l5] [] h else R_X1_steps d 72 [l0, l1, l2, l3, l4, l5] [] h := (s_icmp (g := (fun x y => decide (y ≤ x))) (t := 116) (nx := 72) rfl).trans bif_dec
theorem r_X1_steps_116 {d : Nat} {x4 : Int32} {l0 l1 l2 l3 l5 : Option Value} {h : AH} : R_X1_steps d 116 [l0, l1, l2, l3, some (.int (x4)), l5] [] h = R_X1_steps d 31 [l0, l1, l2, l3, some (.int (x4 + (nI 1))), l5] [] h := by
  refine (p_iinc rfl rfl rfl).trans ?_
  refine (p_goto rfl).trans ?_
  exact rfl
theorem r_X1_steps_72 {d : Nat} {a0 : Nat} {l1 l2 l3 l4 l5 : Option Value} {h : AH} : R_X1_steps d 72 [some (.ref a0), l1, l2, l3, l4, l5] [] h = (hgf h [0] a0 4).bind fun v => R_X1_steps d 76 [some (.ref a0), l1, l2, l3, l4, l5] [v] h := by
  refine (p_aload rfl rfl).trans ?_
  exact s_getf rfl
theorem r_X1_steps_76 {d : Nat} {b0 : Nat} {x5 : Int32} {l0 l1 l2 l3 l4 : Option Value} {h : AH} : R_X1_steps d 76 [l0, l1, l2, l3, l4, some (.int (x5))] [.ref b0] h = (hai h 0 b0 x5).bind fun v => R_X1_steps d 79 [l0, l1, l2, l3, l4, some (.int (x5))] [.int v] h := by
  refine (p_iload rfl rfl).trans ?_
  exact s_iald rfl
theorem r_X1_steps_79 {d : Nat} {s0 x3 : Int32} {l0 l1 l2 l4 l5 : Option Value} {h : AH} : R_X1_steps d 79 [l0, l1, l2, some (.int (x3)), l4, l5] [.int (s0)] h = if ¬ s0 = x3 then R_X1_steps d 110 [l0, l1, l2, some (.int (x3)), l4, l5] [] h else R_X1_steps d 83 [l0, l1, l2, some (.int (x3)), l4, l5] [] h := by
  refine (p_iload rfl rfl).trans ?_
  exact (s_icmp (g := (fun x y => decide (¬ x = y))) (t := 110) (nx := 83) rfl).trans bif_dec
theorem r_X1_steps_110 {d : Nat} {x5 : Int32} {l0 l1 l2 l3 l4 : Option Value} {h : AH} : R_X1_steps d 110 [l0, l1, l2, l3, l4, some (.int (x5))] [] h = R_X1_steps d 60 [l0, l1, l2, l3, l4, some (.int (x5 + (nI 1)))] [] h := by
  refine (p_iinc rfl rfl rfl).trans ?_
  refine (p_goto rfl).trans ?_
  exact rfl
theorem r_X1_steps_83 {d : Nat} {a0 : Nat} {l1 l2 l3 l4 l5 : Option Value} {h : AH} : R_X1_steps d 83 [some (.ref a0), l1, l2, l3, l4, l5] [] h = (hgf h [0] a0 3).bind fun v => R_X1_steps d 87 [some (.ref a0), l1, l2, l3, l4, l5] [v] h := by
  refine (p_aload rfl rfl).trans ?_
  exact s_getf rfl
theorem r_X1_steps_87 {d : Nat} {b0 : Nat} {l0 l1 l2 l3 l4 l5 : Option Value} {h : AH} : R_X1_steps d 87 [l0, l1, l2, l3, l4, l5] [.ref b0] h = (hgf h [3] b0 0).bind fun v => R_X1_steps d 90 [l0, l1, l2, l3, l4, l5] [v] h := s_getf rfl
theorem r_X1_steps_90 {d : Nat} {b0 : Nat} {x4 : Int32} {l0 l1 l2 l3 l5 : Option Value} {h : AH} : R_X1_steps d 90 [l0, l1, l2, l3, some (.int (x4)), l5] [.ref b0] h = (haqs h [3, 4, 5] b0 x4).bind fun v => R_X1_steps d 93 [l0, l1, l2, l3, some (.int (x4)), l5] [va_rf v] h := by
  refine (p_iload rfl rfl).trans ?_
  exact s_aald rfl
theorem r_X1_steps_93 {d : Nat} {b0 : Nat} {x5 : Int32} {l0 l1 l2 l3 l4 : Option Value} {h : AH} : R_X1_steps d 93 [l0, l1, l2, l3, l4, some (.int (x5))] [.ref b0] h = (hai h 0 b0 x5).bind fun v => R_X1_steps d 96 [l0, l1, l2, l3, l4, some (.int (x5))] [.int v] h := by
  refine (p_iload rfl rfl).trans ?_
  exact s_iald rfl
theorem r_X1_steps_96 {d : Nat} {s0 x2 : Int32} {l0 l1 l3 l4 l5 : Option Value} {h : AH} : R_X1_steps d 96 [l0, l1, some (.int (x2)), l3, l4, l5] [.int (s0)] h = if s0 < x2 then R_X1_steps d 110 [l0, l1, some (.int (x2)), l3, l4, l5] [] h else R_X1_steps d 100 [l0, l1, some (.int (x2)), l3, l4, l5] [] h := by
  refine (p_iload rfl rfl).trans ?_
  exact (s_icmp (g := (fun x y => decide (x < y))) (t := 110) (nx := 100) rfl).trans bif_dec
theorem r_X1_steps_100 {d : Nat} {a0 : Nat} {l1 l2 l3 l4 l5 : Option Value} {h : AH} : R_X1_steps d 100 [some (.ref a0), l1, l2, l3, l4, l5] [] h = (hgf h [0] a0 4).bind fun v => R_X1_steps d 104 [some (.ref a0), l1, l2, l3, l4, l5] [v] h := by
  refine (p_aload rfl rfl).trans ?_
  exact s_getf rfl
theorem r_X1_steps_104 {d : Nat} {b0 : Nat} {x4 x3 : Int32} {l0 l1 l2 l5 : Option Value} {h : AH} : R_X1_steps d 104 [l0, l1, l2, some (.int (x3)), some (.int (x4)), l5] [.ref b0] h = (hsi h 0 b0 x4 (x3 + (nI 1))).bind fun h1 => R_X1_steps d 110 [l0, l1, l2, some (.int (x3)), some (.int (x4)), l5] [] h1 := by
  refine (p_iload rfl rfl).trans ?_
  refine (p_iload rfl rfl).trans ?_
  refine (p_const rfl).trans ?_
  refine (p_bin rfl).trans ?_
  exact s_iast (t := 0) (nar := (fun y => y)) rfl
theorem e_X1_steps {d : Nat} {a0 : Nat} {x1 x2 : Int32} {h : AH} : exec tTab (d + 1) K_X1_steps [.ref a0, .int x1, .int x2] h = R_X1_steps d 0 [some (.ref a0), some (.int x1), some (.int x2), none, none, none] [] h := exec_eq (cd := k_X1_steps) (hd := (fun _ _ => some none)) (L := 6) rfl rfl rfl
/-- FavourTown.ring()I -/
abbrev K_X1_ring : Nat := 83
noncomputable def R_X1_ring (d pc : Nat) (ls : ALs) (st : List Value) (h : AH) : Option (AOut × AH) := aR (exec tTab d) k_X1_ring (fun _ _ => some none) (pc, ls, st, h)
theorem r_X1_ring_0 {d : Nat} {a0 : Nat} {l1 l2 l3 l4 : Option Value} {h : AH} : R_X1_ring d 0 [some (.ref a0), l1, l2, l3, l4] [] h = (hgf h [0] a0 2).bind fun v => R_X1_ring d 4 [some (.ref a0), l1, l2, l3, l4] [v] h := by
  refine (p_aload rfl rfl).trans ?_
  exact s_getf rfl
theorem r_X1_ring_4 {d : Nat} {b0 : Nat} {l0 l1 l2 l3 l4 : Option Value} {h : AH} : R_X1_ring d 4 [l0, l1, l2, l3, l4] [.ref b0] h = ((hci h b0).bind (lkN [(2, 128)])).bind fun y => aK (exec tTab d y [.ref b0] h) (fun v h1 => R_X1_ring d 9 [l0, some (.ref b0), l2, l3, l4] (v.toList ++ []) h1) (fun E h1 => some (.inr E, h1)) := by
  refine (p_astore rfl rfl rfl).trans ?_
  refine (p_aload rfl rfl).trans ?_
  exact s_callV (L := [(2, 128)]) (n := 0) (b := b0) (rest := []) rfl rfl rfl
theorem r_X1_ring_9 {d : Nat} {a1 : Nat} {l0 l2 l3 l4 : Option Value} {h : AH} : R_X1_ring d 9 [l0, some (.ref a1), l2, l3, l4] [] h = (hgf h [2] a1 2).bind fun v => R_X1_ring d 13 [l0, some (.ref a1), l2, l3, l4] [v] h := by
  refine (p_aload rfl rfl).trans ?_
  exact s_getf rfl
theorem r_X1_ring_13 {d : Nat} {s0 : Int32} {l0 l1 l2 l3 l4 : Option Value} {h : AH} : R_X1_ring d 13 [l0, l1, l2, l3, l4] [.int (s0)] h = aK (exec tTab d 40 [.int (s0), .int ((nI 2)), .int ((nI 6))] h) (fun v h1 => R_X1_ring d 19 [l0, l1, l2, l3, l4] (v.toList ++ []) h1) (fun E h1 => some (.inr E, h1)) := by
  refine (p_const rfl).trans ?_
  refine (p_const rfl).trans ?_
  exact s_callS (y := 40) (n := 3) rfl rfl
theorem r_X1_ring_19 {d : Nat} {s0 : Int32} {l0 l1 l2 l3 l4 : Option Value} {h : AH} : R_X1_ring d 19 [l0, l1, l2, l3, l4] [.int (s0)] h = aK (exec tTab d 62 [.int (s0)] h) (fun v h1 => R_X1_ring d 22 [l0, l1, l2, l3, l4] (v.toList ++ []) h1) (fun E h1 => some (.inr E, h1)) := s_callS (y := 62) (n := 1) rfl rfl
theorem r_X1_ring_22 {d : Nat} {a1 : Nat} {l0 l2 l3 l4 : Option Value} {h : AH} : R_X1_ring d 22 [l0, some (.ref a1), l2, l3, l4] [] h = (hgf h [2] a1 2).bind fun v => R_X1_ring d 26 [l0, some (.ref a1), l2, l3, l4] [v] h := by
  refine (p_aload rfl rfl).trans ?_
  exact s_getf rfl
theorem r_X1_ring_26 {d : Nat} {s0 : Int32} {l0 l1 l2 l3 l4 : Option Value} {h : AH} : R_X1_ring d 26 [l0, l1, l2, l3, l4] [.int (s0)] h = bif hin s0 65537 then R_X1_ring d 28 [l0, l1, l2, l3, l4] [.ref h.2.1] (hnew h (true, .inl (0, (s0).toNatClampNeg, (.inl (fun _ => 0)))) (s0).toNatClampNeg) else none := s_newa (t := 0) (z := (.inl (fun _ => 0))) rfl
theorem r_X1_ring_28 {d : Nat} {b0 : Nat} {l0 l1 l2 l3 l4 : Option Value} {h : AH} : R_X1_ring d 28 [l0, l1, l2, l3, l4] [.ref b0] h = R_X1_ring d 34 [l0, l1, some (.ref b0), some (.int ((nI 0))), some (.int ((nI 0)))] [] h := by
  refine (p_astore rfl rfl rfl).trans ?_
  refine (p_const rfl).trans ?_
  refine (p_istore rfl rfl rfl).trans ?_
  refine (p_const rfl).trans ?_
  refine (p_istore rfl rfl rfl).trans ?_
  exact rfl
theorem r_X1_ring_28N {d : Nat} {l0 l1 l2 l3 l4 : Option Value} {h : AH} : R_X1_ring d 28 [l0, l1, l2, l3, l4] [.null] h = R_X1_ring d 34 [l0, l1, some (.null), some (.int ((nI 0))), some (.int ((nI 0)))] [] h := by
  refine (p_astoreN rfl rfl rfl).trans ?_
  refine (p_const rfl).trans ?_
  refine (p_istore rfl rfl rfl).trans ?_
  refine (p_const rfl).trans ?_
  refine (p_istore rfl rfl rfl).trans ?_
  exact rfl
theorem q_X1_ring_34 {d : Nat} {x4 : Int32} {a2 : Nat} {l0 l1 l3 : Option Value} {h : AH} : R_X1_ring d 34 [l0, l1, some (.ref a2), l3, some (.int (x4))] [] h = (hal h a2).bind fun v => R_X1_ring d 38 [l0, l1, some (.ref a2), l3, some (.int (x4))] [.int (nI v), .int (x4)] h := by
  refine (p_iload rfl rfl).trans ?_
  refine (p_aload rfl rfl).trans ?_
  exact s_alen rfl
theorem r_X1_ring_38 {d : Nat} {s0 s1 : Int32} {l0 l1 l2 l3 l4 : Option Value} {h : AH} : R_X1_ring d 38 [l0, l1, l2, l3, l4] [.int (s1), .int (s0)] h = if s1 ≤ s0 then R_X1_ring d 109 [l0, l1, l2, l3, l4] [] h else R_X1_ring d 41 [l0, l1, l2, l3, l4] [] h := (s_icmp (g := (fun x y => decide (y ≤ x))) (t := 109) (nx := 41) rfl).trans bif_dec
theorem r_X1_ring_109 {d : Nat} {a0 : Nat} {l1 l2 l3 l4 : Option Value} {h : AH} : R_X1_ring d 109 [some (.ref a0), l1, l2, l3, l4] [] h = (hgf h [0] a0 0).bind fun v => R_X1_ring d 113 [some (.ref a0), l1, l2, l3, l4] [v] h := by
  refine (p_aload rfl rfl).trans ?_
  exact s_getf rfl
theorem r_X1_ring_41 {d : Nat} {a2 a1 : Nat} {x4 : Int32} {l0 l3 : Option Value} {h : AH} : R_X1_ring d 41 [l0, some (.ref a1), some (.ref a2), l3, some (.int (x4))] [] h = (hgf h [2] a1 0).bind fun v => R_X1_ring d 48 [l0, some (.ref a1), some (.ref a2), l3, some (.int (x4))] [v, .int (x4), .ref a2] h := by
  refine (p_aload rfl rfl).trans ?_
  refine (p_iload rfl rfl).trans ?_
  refine (p_aload rfl rfl).trans ?_
  exact s_getf rfl
theorem r_X1_ring_113 {d : Nat} {b0 : Nat} {l0 l1 l2 l3 l4 : Option Value} {h : AH} : R_X1_ring d 113 [l0, l1, l2, l3, l4] [.ref b0] h = (hgf h [1] b0 12).bind fun v => R_X1_ring d 116 [l0, l1, l2, l3, l4] [v] h := s_getf rfl
theorem r_X1_ring_48 {d : Nat} {b0 b2 : Nat} {s1 x4 : Int32} {l0 l1 l2 l3 : Option Value} {h : AH} : R_X1_ring d 48 [l0, l1, l2, l3, some (.int (x4))] [.ref b2, .int (s1), .ref b0] h = (hai h 1 b2 x4).bind fun v => R_X1_ring d 51 [l0, l1, l2, l3, some (.int (x4))] [.int v, .int (s1), .ref b0] h := by
  refine (p_iload rfl rfl).trans ?_
  exact s_iald rfl
theorem r_X1_ring_116 {d : Nat} {b0 : Nat} {l0 l1 l2 l3 l4 : Option Value} {h : AH} : R_X1_ring d 116 [l0, l1, l2, l3, l4] [.ref b0] h = ((hci h b0).bind (lkN [(19, 113)])).bind fun y => aK (exec tTab d y [.ref b0] h) (fun v h1 => R_X1_ring d 119 [l0, l1, l2, l3, l4] (v.toList ++ []) h1) (fun E h1 => some (.inr E, h1)) := s_callV (L := [(19, 113)]) (n := 0) (b := b0) (rest := []) rfl rfl rfl
theorem r_X1_ring_51 {d : Nat} {b0 : Nat} {s1 s2 : Int32} {l0 l1 l2 l3 l4 : Option Value} {h : AH} : R_X1_ring d 51 [l0, l1, l2, l3, l4] [.int (s2), .int (s1), .ref b0] h = (hsi h 0 b0 s1 (s2 - (nI 97))).bind fun h1 => R_X1_ring d 55 [l0, l1, l2, l3, l4] [] h1 := by
  refine (p_const rfl).trans ?_
  refine (p_bin rfl).trans ?_
  exact s_iast (t := 0) (nar := (fun y => y)) rfl
theorem r_X1_ring_119 {d : Nat} {s0 : Int32} {l0 l1 l2 l3 l4 : Option Value} {h : AH} : R_X1_ring d 119 [l0, l1, l2, l3, l4] [.int (s0)] h = if ¬ s0 = (nI 8) then R_X1_ring d 132 [l0, l1, l2, l3, l4] [] h else R_X1_ring d 124 [l0, l1, l2, l3, l4] [] h := by
  refine (p_const rfl).trans ?_
  exact (s_icmp (g := (fun x y => decide (¬ x = y))) (t := 132) (nx := 124) rfl).trans bif_dec
theorem r_X1_ring_55 {d : Nat} {a2 : Nat} {x4 : Int32} {l0 l1 l3 : Option Value} {h : AH} : R_X1_ring d 55 [l0, l1, some (.ref a2), l3, some (.int (x4))] [] h = (hai h 0 a2 x4).bind fun v => R_X1_ring d 59 [l0, l1, some (.ref a2), l3, some (.int (x4))] [.int v] h := by
  refine (p_aload rfl rfl).trans ?_
  refine (p_iload rfl rfl).trans ?_
  exact s_iald rfl
theorem r_X1_ring_132 {d : Nat} {a0 : Nat} {l1 l2 l3 l4 : Option Value} {h : AH} : R_X1_ring d 132 [some (.ref a0), l1, l2, l3, l4] [] h = (hgf h [0] a0 0).bind fun v => R_X1_ring d 136 [some (.ref a0), l1, l2, l3, l4] [v] h := by
  refine (p_aload rfl rfl).trans ?_
  exact s_getf rfl
theorem r_X1_ring_124 {d : Nat} {l0 l1 l2 l3 l4 : Option Value} {h : AH} : R_X1_ring d 124 [l0, l1, l2, l3, l4] [] h = R_X1_ring d 131 [l0, l1, l2, l3, l4] [.ref h.2.1] (hnew h (true, .inr (23, [])) 6) := s_make rfl rfl
theorem r_X1_ring_59 {d : Nat} {s0 : Int32} {a0 : Nat} {l1 l2 l3 l4 : Option Value} {h : AH} : R_X1_ring d 59 [some (.ref a0), l1, l2, l3, l4] [.int (s0)] h = (hgf h [0] a0 0).bind fun v => R_X1_ring d 64 [some (.ref a0), l1, l2, l3, l4] [v, .int ((nI 0)), .int (s0)] h := by
  refine (p_const rfl).trans ?_
  refine (p_aload rfl rfl).trans ?_
  exact s_getf rfl
theorem r_X1_ring_136 {d : Nat} {b0 : Nat} {l0 l1 l2 l3 l4 : Option Value} {h : AH} : R_X1_ring d 136 [l0, l1, l2, l3, l4] [.ref b0] h = (hgf h [1] b0 12).bind fun v => R_X1_ring d 139 [l0, l1, l2, l3, l4] [v] h := s_getf rfl
theorem r_X1_ring_131 {d : Nat} {b0 : Nat} {l0 l1 l2 l3 l4 : Option Value} {h : AH} : R_X1_ring d 131 [l0, l1, l2, l3, l4] [.ref b0] h = (hex h [17, 22, 23, 24, 25] b0).bind fun E => (fun E h1 => some (.inr E, h1)) E h := s_athrow rfl
theorem r_X1_ring_64 {d : Nat} {s0 s1 : Int32} {b2 : Nat} {l0 l1 l2 l3 l4 : Option Value} {h : AH} : R_X1_ring d 64 [l0, l1, l2, l3, l4] [.ref b2, .int (s1), .int (s0)] h = (hgf h [1] b2 3).bind fun v => R_X1_ring d 67 [l0, l1, l2, l3, l4] [v, .int (s1), .int (s0)] h := s_getf rfl
theorem r_X1_ring_139 {d : Nat} {b0 a2 : Nat} {l0 l1 l3 l4 : Option Value} {h : AH} : R_X1_ring d 139 [l0, l1, some (.ref a2), l3, l4] [.ref b0] h = ((hci h b0).bind (lkN [(19, 116)])).bind fun y => aK (exec tTab d y [.ref b0, .ref a2] h) (fun v h1 => R_X1_ring d 143 [l0, l1, some (.ref a2), l3, l4] (v.toList ++ []) h1) (fun E h1 => some (.inr E, h1)) := by
  refine (p_aload rfl rfl).trans ?_
  exact s_callV (L := [(19, 116)]) (n := 1) (b := b0) (rest := []) rfl rfl rfl
theorem r_X1_ring_67 {d : Nat} {s0 s1 s2 : Int32} {l0 l1 l2 l3 l4 : Option Value} {h : AH} : R_X1_ring d 67 [l0, l1, l2, l3, l4] [.int (s2), .int (s1), .int (s0)] h = aK (exec tTab d 40 [.int (s0), .int (s1), .int (s2 - (nI 1))] h) (fun v h1 => R_X1_ring d 72 [l0, l1, l2, l3, l4] (v.toList ++ []) h1) (fun E h1 => some (.inr E, h1)) := by
  refine (p_const rfl).trans ?_
  refine (p_bin rfl).trans ?_
  exact s_callS (y := 40) (n := 3) rfl rfl
theorem r_X1_ring_143 {d : Nat} {s0 : Int32} {a0 : Nat} {l1 l2 l3 l4 : Option Value} {h : AH} : R_X1_ring d 143 [some (.ref a0), l1, l2, l3, l4] [.int (s0)] h = (hgf h [0] a0 0).bind fun v => R_X1_ring d 148 [some (.ref a0), l1, l2, l3, l4] [v] h := by
  refine (p_pop rfl rfl).trans ?_
  refine (p_aload rfl rfl).trans ?_
  exact s_getf rfl
theorem r_X1_ring_72 {d : Nat} {s0 : Int32} {l0 l1 l2 l3 l4 : Option Value} {h : AH} : R_X1_ring d 72 [l0, l1, l2, l3, l4] [.int (s0)] h = if s0 = 0 then R_X1_ring d 90 [l0, l1, l2, l3, l4] [] h else R_X1_ring d 75 [l0, l1, l2, l3, l4] [] h := (s_if (g := (fun x => decide (x = 0))) (t := 90) (nx := 75) rfl).trans bif_dec
theorem r_X1_ring_148 {d : Nat} {b0 : Nat} {l0 l1 l2 l3 l4 : Option Value} {h : AH} : R_X1_ring d 148 [l0, l1, l2, l3, l4] [.ref b0] h = (hgf h [1] b0 12).bind fun v => R_X1_ring d 151 [l0, l1, l2, l3, l4] [v] h := s_getf rfl
theorem r_X1_ring_90 {d : Nat} {l0 l1 l2 l3 l4 : Option Value} {h : AH} : R_X1_ring d 90 [l0, l1, l2, l3, l4] [] h = aK (exec tTab d 62 [.int ((nI 0))] h) (fun v h1 => R_X1_ring d 94 [l0, l1, l2, l3, l4] (v.toList ++ []) h1) (fun E h1 => some (.inr E, h1)) := by
  refine (p_const rfl).trans ?_
  exact s_callS (y := 62) (n := 1) rfl rfl
theorem r_X1_ring_75 {d : Nat} {x3 x4 : Int32} {a2 : Nat} {l0 l1 : Option Value} {h : AH} : R_X1_ring d 75 [l0, l1, some (.ref a2), some (.int (x3)), some (.int (x4))] [] h = (hai h 0 a2 x4).bind fun v => R_X1_ring d 80 [l0, l1, some (.ref a2), some (.int (x3)), some (.int (x4))] [.int v, .int (x3)] h := by
  refine (p_iload rfl rfl).trans ?_
  refine (p_aload rfl rfl).trans ?_
  refine (p_iload rfl rfl).trans ?_
  exact s_iald rfl
theorem r_X1_ring_151 {d : Nat} {b0 : Nat} {l0 l1 l2 l3 l4 : Option Value} {h : AH} : R_X1_ring d 151 [l0, l1, l2, l3, l4] [.ref b0] h = ((hci h b0).bind (lkN [(19, 113)])).bind fun y => aK (exec tTab d y [.ref b0] h) (fun v h1 => R_X1_ring d 154 [l0, l1, l2, l3, l4] (v.toList ++ []) h1) (fun E h1 => some (.inr E, h1)) := s_callV (L := [(19, 113)]) (n := 0) (b := b0) (rest := []) rfl rfl rfl
theorem r_X1_ring_94 {d : Nat} {x3 x4 : Int32} {a2 : Nat} {l0 l1 : Option Value} {h : AH} : R_X1_ring d 94 [l0, l1, some (.ref a2), some (.int (x3)), some (.int (x4))] [] h = (hai h 0 a2 x4).bind fun v => R_X1_ring d 100 [l0, l1, some (.ref a2), some (.int (x3)), some (.int (x4))] [.int v, .int ((nI 1)), .int (x3)] h := by
  refine (p_iload rfl rfl).trans ?_
  refine (p_const rfl).trans ?_
  refine (p_aload rfl rfl).trans ?_
  refine (p_iload rfl rfl).trans ?_
  exact s_iald rfl
theorem r_X1_ring_80 {d : Nat} {s0 s1 : Int32} {l0 l1 l2 l3 l4 : Option Value} {h : AH} : R_X1_ring d 80 [l0, l1, l2, l3, l4] [.int (s1), .int (s0)] h = if ¬ ((s0 >>> (s1 &&& 31)) &&& (nI 1)) = 0 then R_X1_ring d 90 [l0, l1, l2, l3, l4] [] h else R_X1_ring d 86 [l0, l1, l2, l3, l4] [] h := by
  refine (p_bin rfl).trans ?_
  refine (p_const rfl).trans ?_
  refine (p_bin rfl).trans ?_
  exact (s_if (g := (fun x => decide (¬ x = 0))) (t := 90) (nx := 86) rfl).trans bif_dec
theorem r_X1_ring_154 {d : Nat} {s0 : Int32} {l0 l1 l2 l3 l4 : Option Value} {h : AH} : R_X1_ring d 154 [l0, l1, l2, l3, l4] [.int (s0)] h = some (.inl (some (.int (s0 - (nI 1)))), h) := by
  refine (p_const rfl).trans ?_
  refine (p_bin rfl).trans ?_
  exact s_iretT rfl rfl
theorem r_X1_ring_100 {d : Nat} {s0 s1 s2 x4 : Int32} {l0 l1 l2 l3 : Option Value} {h : AH} : R_X1_ring d 100 [l0, l1, l2, l3, some (.int (x4))] [.int (s2), .int (s1), .int (s0)] h = R_X1_ring d 34 [l0, l1, l2, some (.int (s0 ||| (s1 <<< (s2 &&& 31)))), some (.int (x4 + (nI 1)))] [] h := by
  refine (p_bin rfl).trans ?_
  refine (p_bin rfl).trans ?_
  refine (p_istore rfl rfl rfl).trans ?_
  refine (p_iinc rfl rfl rfl).trans ?_
  refine (p_goto rfl).trans ?_
  exact rfl
theorem r_X1_ring_86 {d : Nat} {l0 l1 l2 l3 l4 : Option Value} {h : AH} : R_X1_ring d 86 [l0, l1, l2, l3, l4] [] h = aK (exec tTab d 62 [.int ((nI 1))] h) (fun v h1 => R_X1_ring d 94 [l0, l1, l2, l3, l4] (v.toList ++ []) h1) (fun E h1 => some (.inr E, h1)) := by
  refine (p_const rfl).trans ?_
  refine (p_goto rfl).trans ?_
  exact s_callS (y := 62) (n := 1) rfl rfl
theorem e_X1_ring {d : Nat} {a0 : Nat} {h : AH} : exec tTab (d + 1) K_X1_ring [.ref a0] h = R_X1_ring d 0 [some (.ref a0), none, none, none, none] [] h := exec_eq (cd := k_X1_ring) (hd := (fun _ _ => some none)) (L := 5) rfl rfl rfl
/-- FavourTown.clear(I)I -/
abbrev K_X1_clear : Nat := 84
noncomputable def R_X1_clear (d pc : Nat) (ls : ALs) (st : List Value) (h : AH) : Option (AOut × AH) := aR (exec tTab d) k_X1_clear (fun _ _ => some none) (pc, ls, st, h)
theorem r_X1_clear_0 {d : Nat} {x1 : Int32} {l0 l2 : Option Value} {h : AH} : R_X1_clear d 0 [l0, some (.int (x1)), l2] [] h = if x1 < (-1) then R_X1_clear d 9 [l0, some (.int (x1)), l2] [] h else R_X1_clear d 5 [l0, some (.int (x1)), l2] [] h := by
  refine (p_iload rfl rfl).trans ?_
  refine (p_const rfl).trans ?_
  exact (s_icmp (g := (fun x y => decide (x < y))) (t := 9) (nx := 5) rfl).trans bif_dec
theorem r_X1_clear_9 {d : Nat} {l0 l1 l2 : Option Value} {h : AH} : R_X1_clear d 9 [l0, l1, l2] [] h = aK (exec tTab d 62 [.int ((nI 0))] h) (fun v h1 => R_X1_clear d 13 [l0, l1, l2] (v.toList ++ []) h1) (fun E h1 => some (.inr E, h1)) := by
  refine (p_const rfl).trans ?_
  exact s_callS (y := 62) (n := 1) rfl rfl
theorem r_X1_clear_5 {d : Nat} {l0 l1 l2 : Option Value} {h : AH} : R_X1_clear d 5 [l0, l1, l2] [] h = aK (exec tTab d 62 [.int ((nI 1))] h) (fun v h1 => R_X1_clear d 13 [l0, l1, l2] (v.toList ++ []) h1) (fun E h1 => some (.inr E, h1)) := by
  refine (p_const rfl).trans ?_
  refine (p_goto rfl).trans ?_
  exact s_callS (y := 62) (n := 1) rfl rfl
theorem r_X1_clear_13 {d : Nat} {a0 : Nat} {l1 l2 : Option Value} {h : AH} : R_X1_clear d 13 [some (.ref a0), l1, l2] [] h = (hgf h [0] a0 5).bind fun v => R_X1_clear d 17 [some (.ref a0), l1, l2] [v] h := by
  refine (p_aload rfl rfl).trans ?_
  exact s_getf rfl
theorem r_X1_clear_17 {d : Nat} {b0 : Nat} {l0 l1 l2 : Option Value} {h : AH} : R_X1_clear d 17 [l0, l1, l2] [.ref b0] h = ((hci h b0).bind (lkN [(4, 145)])).bind fun y => aK (exec tTab d y [.ref b0] h) (fun v h1 => R_X1_clear d 20 [l0, l1, l2] (v.toList ++ []) h1) (fun E h1 => some (.inr E, h1)) := s_callV (L := [(4, 145)]) (n := 0) (b := b0) (rest := []) rfl rfl rfl
theorem r_X1_clear_20 {d : Nat} {s0 x1 : Int32} {l0 l2 : Option Value} {h : AH} : R_X1_clear d 20 [l0, some (.int (x1)), l2] [.int (s0)] h = if ¬ x1 = (-1) then R_X1_clear d 30 [l0, some (.int (x1)), some (.int (s0))] [] h else R_X1_clear d 26 [l0, some (.int (x1)), some (.int (s0))] [] h := by
  refine (p_istore rfl rfl rfl).trans ?_
  refine (p_iload rfl rfl).trans ?_
  refine (p_const rfl).trans ?_
  exact (s_icmp (g := (fun x y => decide (¬ x = y))) (t := 30) (nx := 26) rfl).trans bif_dec
theorem r_X1_clear_30 {d : Nat} {x1 : Int32} {a0 : Nat} {l2 : Option Value} {h : AH} : R_X1_clear d 30 [some (.ref a0), some (.int (x1)), l2] [] h = (hgf h [0] a0 0).bind fun v => R_X1_clear d 35 [some (.ref a0), some (.int (x1)), l2] [v, .int (x1)] h := by
  refine (p_iload rfl rfl).trans ?_
  refine (p_aload rfl rfl).trans ?_
  exact s_getf rfl
theorem r_X1_clear_26 {d : Nat} {x2 : Int32} {l0 l1 : Option Value} {h : AH} : R_X1_clear d 26 [l0, l1, some (.int (x2))] [] h = some (.inl (some (.int (x2))), h) := by
  refine (p_iload rfl rfl).trans ?_
  refine (p_goto rfl).trans ?_
  exact s_iretT rfl rfl
theorem r_X1_clear_35 {d : Nat} {s0 : Int32} {b1 : Nat} {l0 l1 l2 : Option Value} {h : AH} : R_X1_clear d 35 [l0, l1, l2] [.ref b1, .int (s0)] h = (hgf h [1] b1 12).bind fun v => R_X1_clear d 38 [l0, l1, l2] [v, .int (s0)] h := s_getf rfl
theorem r_X1_clear_38 {d : Nat} {s0 : Int32} {b1 : Nat} {l0 l1 l2 : Option Value} {h : AH} : R_X1_clear d 38 [l0, l1, l2] [.ref b1, .int (s0)] h = ((hci h b1).bind (lkN [(19, 113)])).bind fun y => aK (exec tTab d y [.ref b1] h) (fun v h1 => R_X1_clear d 41 [l0, l1, l2] (v.toList ++ [.int (s0)]) h1) (fun E h1 => some (.inr E, h1)) := s_callV (L := [(19, 113)]) (n := 0) (b := b1) (rest := [.int (s0)]) rfl rfl rfl
theorem r_X1_clear_41 {d : Nat} {s0 s1 : Int32} {l0 l1 l2 : Option Value} {h : AH} : R_X1_clear d 41 [l0, l1, l2] [.int (s1), .int (s0)] h = if s1 ≤ s0 then R_X1_clear d 56 [l0, l1, l2] [] h else R_X1_clear d 44 [l0, l1, l2] [] h := (s_icmp (g := (fun x y => decide (y ≤ x))) (t := 56) (nx := 44) rfl).trans bif_dec
theorem r_X1_clear_56 {d : Nat} {l0 l1 l2 : Option Value} {h : AH} : R_X1_clear d 56 [l0, l1, l2] [] h = some (.inl (some (.int ((-1)))), h) := by
  refine (p_const rfl).trans ?_
  exact s_iretT rfl rfl
theorem r_X1_clear_44 {d : Nat} {a0 : Nat} {l1 l2 : Option Value} {h : AH} : R_X1_clear d 44 [some (.ref a0), l1, l2] [] h = (hgf h [0] a0 5).bind fun v => R_X1_clear d 48 [some (.ref a0), l1, l2] [v] h := by
  refine (p_aload rfl rfl).trans ?_
  exact s_getf rfl
theorem r_X1_clear_48 {d : Nat} {b0 : Nat} {l0 l1 l2 : Option Value} {h : AH} : R_X1_clear d 48 [l0, l1, l2] [.ref b0] h = (hgf h [4] b0 2).bind fun v => R_X1_clear d 51 [l0, l1, l2] [v] h := s_getf rfl
theorem r_X1_clear_51 {d : Nat} {b0 : Nat} {x1 : Int32} {l0 l2 : Option Value} {h : AH} : R_X1_clear d 51 [l0, some (.int (x1)), l2] [.ref b0] h = (hai h 0 b0 x1).bind fun v => R_X1_clear d 53 [l0, some (.int (x1)), l2] [.int v] h := by
  refine (p_iload rfl rfl).trans ?_
  exact s_iald rfl
theorem r_X1_clear_53 {d : Nat} {s0 : Int32} {l0 l1 l2 : Option Value} {h : AH} : R_X1_clear d 53 [l0, l1, l2] [.int (s0)] h = some (.inl (some (.int (s0))), h) := by
  refine (p_goto rfl).trans ?_
  exact s_iretT rfl rfl
theorem e_X1_clear {d : Nat} {a0 : Nat} {x1 : Int32} {h : AH} : exec tTab (d + 1) K_X1_clear [.ref a0, .int x1] h = R_X1_clear d 0 [some (.ref a0), some (.int x1), none] [] h := exec_eq (cd := k_X1_clear) (hd := (fun _ _ => some none)) (L := 3) rfl rfl rfl
/-- FavourTown.loss(II)I -/
abbrev K_X1_loss : Nat := 85
noncomputable def R_X1_loss (d pc : Nat) (ls : ALs) (st : List Value) (h : AH) : Option (AOut × AH) := aR (exec tTab d) k_X1_loss (fun _ _ => some none) (pc, ls, st, h)
theorem r_X1_loss_0 {d : Nat} {a0 : Nat} {x1 : Int32} {l2 : Option Value} {h : AH} : R_X1_loss d 0 [some (.ref a0), some (.int (x1)), l2] [] h = ((hci h a0).bind (lkN [(0, 58)])).bind fun y => aK (exec tTab d y [.ref a0, .int (x1)] h) (fun v h1 => R_X1_loss d 5 [some (.ref a0), some (.int (x1)), l2] (v.toList ++ []) h1) (fun E h1 => some (.inr E, h1)) := by
  refine (p_aload rfl rfl).trans ?_
  refine (p_iload rfl rfl).trans ?_
  exact s_callV (L := [(0, 58)]) (n := 1) (b := a0) (rest := []) rfl rfl rfl
theorem r_X1_loss_5 {d : Nat} {a0 : Nat} {x2 : Int32} {l1 : Option Value} {h : AH} : R_X1_loss d 5 [some (.ref a0), l1, some (.int (x2))] [] h = ((hci h a0).bind (lkN [(0, 58)])).bind fun y => aK (exec tTab d y [.ref a0, .int (x2)] h) (fun v h1 => R_X1_loss d 10 [some (.ref a0), l1, some (.int (x2))] (v.toList ++ []) h1) (fun E h1 => some (.inr E, h1)) := by
  refine (p_aload rfl rfl).trans ?_
  refine (p_iload rfl rfl).trans ?_
  exact s_callV (L := [(0, 58)]) (n := 1) (b := a0) (rest := []) rfl rfl rfl
theorem r_X1_loss_10 {d : Nat} {a0 : Nat} {l1 l2 : Option Value} {h : AH} : R_X1_loss d 10 [some (.ref a0), l1, l2] [] h = (hgf h [0] a0 0).bind fun v => R_X1_loss d 14 [some (.ref a0), l1, l2] [v] h := by
  refine (p_aload rfl rfl).trans ?_
  exact s_getf rfl
theorem r_X1_loss_14 {d : Nat} {b0 : Nat} {l0 l1 l2 : Option Value} {h : AH} : R_X1_loss d 14 [l0, l1, l2] [.ref b0] h = (hgf h [1] b0 8).bind fun v => R_X1_loss d 17 [l0, l1, l2] [v] h := s_getf rfl
theorem r_X1_loss_17 {d : Nat} {b0 : Nat} {x1 : Int32} {l0 l2 : Option Value} {h : AH} : R_X1_loss d 17 [l0, some (.int (x1)), l2] [.ref b0] h = (haqs h [3, 4, 5] b0 x1).bind fun v => R_X1_loss d 19 [l0, some (.int (x1)), l2] [va_rf v] h := by
  refine (p_iload rfl rfl).trans ?_
  exact s_aald rfl
theorem r_X1_loss_19 {d : Nat} {b0 : Nat} {x2 : Int32} {l0 l1 : Option Value} {h : AH} : R_X1_loss d 19 [l0, l1, some (.int (x2))] [.ref b0] h = (hai h 0 b0 x2).bind fun v => R_X1_loss d 21 [l0, l1, some (.int (x2))] [.int v] h := by
  refine (p_iload rfl rfl).trans ?_
  exact s_iald rfl
theorem r_X1_loss_21 {d : Nat} {s0 : Int32} {l0 l1 l2 : Option Value} {h : AH} : R_X1_loss d 21 [l0, l1, l2] [.int (s0)] h = some (.inl (some (.int (s0))), h) := s_iretT rfl rfl
theorem e_X1_loss {d : Nat} {a0 : Nat} {x1 x2 : Int32} {h : AH} : exec tTab (d + 1) K_X1_loss [.ref a0, .int x1, .int x2] h = R_X1_loss d 0 [some (.ref a0), some (.int x1), some (.int x2)] [] h := exec_eq (cd := k_X1_loss) (hd := (fun _ _ => some none)) (L := 3) rfl rfl rfl
/-- FavourTown.ruined(I)I -/
abbrev K_X1_ruined : Nat := 86
noncomputable def R_X1_ruined (d pc : Nat) (ls : ALs) (st : List Value) (h : AH) : Option (AOut × AH) := aR (exec tTab d) k_X1_ruined (fun _ _ => some none) (pc, ls, st, h)
theorem r_X1_ruined_0 {d : Nat} {a0 : Nat} {x1 : Int32} {l2 l3 : Option Value} {h : AH} : R_X1_ruined d 0 [some (.ref a0), some (.int (x1)), l2, l3] [] h = ((hci h a0).bind (lkN [(0, 58)])).bind fun y => aK (exec tTab d y [.ref a0, .int (x1)] h) (fun v h1 => R_X1_ruined d 5 [some (.ref a0), some (.int (x1)), l2, l3] (v.toList ++ []) h1) (fun E h1 => some (.inr E, h1)) := by
  refine (p_aload rfl rfl).trans ?_
  refine (p_iload rfl rfl).trans ?_
  exact s_callV (L := [(0, 58)]) (n := 1) (b := a0) (rest := []) rfl rfl rfl
theorem r_X1_ruined_5 {d : Nat} {l0 l1 l2 l3 : Option Value} {h : AH} : R_X1_ruined d 5 [l0, l1, l2, l3] [] h = R_X1_ruined d 9 [l0, l1, some (.int ((-1))), some (.int ((nI 0)))] [] h := by
  refine (p_const rfl).trans ?_
  refine (p_istore rfl rfl rfl).trans ?_
  refine (p_const rfl).trans ?_
  refine (p_istore rfl rfl rfl).trans ?_
  exact rfl
theorem q_X1_ruined_9 {d : Nat} {x3 : Int32} {a0 : Nat} {l1 l2 : Option Value} {h : AH} : R_X1_ruined d 9 [some (.ref a0), l1, l2, some (.int (x3))] [] h = (hgf h [0] a0 0).bind fun v => R_X1_ruined d 14 [some (.ref a0), l1, l2, some (.int (x3))] [v, .int (x3)] h := by
  refine (p_iload rfl rfl).trans ?_
  refine (p_aload rfl rfl).trans ?_
  exact s_getf rfl
theorem r_X1_ruined_14 {d : Nat} {s0 : Int32} {b1 : Nat} {l0 l1 l2 l3 : Option Value} {h : AH} : R_X1_ruined d 14 [l0, l1, l2, l3] [.ref b1, .int (s0)] h = (hgf h [1] b1 3).bind fun v => R_X1_ruined d 17 [l0, l1, l2, l3] [v, .int (s0)] h := s_getf rfl
theorem r_X1_ruined_17 {d : Nat} {s0 s1 : Int32} {l0 l1 l2 l3 : Option Value} {h : AH} : R_X1_ruined d 17 [l0, l1, l2, l3] [.int (s1), .int (s0)] h = if s1 ≤ s0 then R_X1_ruined d 62 [l0, l1, l2, l3] [] h else R_X1_ruined d 20 [l0, l1, l2, l3] [] h := (s_icmp (g := (fun x y => decide (y ≤ x))) (t := 62) (nx := 20) rfl).trans bif_dec
theorem r_X1_ruined_62 {d : Nat} {x2 : Int32} {l0 l1 l3 : Option Value} {h : AH} : R_X1_ruined d 62 [l0, l1, some (.int (x2)), l3] [] h = some (.inl (some (.int (x2))), h) := by
  refine (p_iload rfl rfl).trans ?_
  exact s_iretT rfl rfl
theorem r_X1_ruined_20 {d : Nat} {a0 : Nat} {l1 l2 l3 : Option Value} {h : AH} : R_X1_ruined d 20 [some (.ref a0), l1, l2, l3] [] h = (hgf h [0] a0 0).bind fun v => R_X1_ruined d 24 [some (.ref a0), l1, l2, l3] [v] h := by
  refine (p_aload rfl rfl).trans ?_
  exact s_getf rfl
theorem r_X1_ruined_24 {d : Nat} {b0 : Nat} {l0 l1 l2 l3 : Option Value} {h : AH} : R_X1_ruined d 24 [l0, l1, l2, l3] [.ref b0] h = (hgf h [1] b0 8).bind fun v => R_X1_ruined d 27 [l0, l1, l2, l3] [v] h := s_getf rfl
theorem r_X1_ruined_27 {d : Nat} {b0 : Nat} {x1 : Int32} {l0 l2 l3 : Option Value} {h : AH} : R_X1_ruined d 27 [l0, some (.int (x1)), l2, l3] [.ref b0] h = (haqs h [3, 4, 5] b0 x1).bind fun v => R_X1_ruined d 29 [l0, some (.int (x1)), l2, l3] [va_rf v] h := by
  refine (p_iload rfl rfl).trans ?_
  exact s_aald rfl
theorem r_X1_ruined_29 {d : Nat} {b0 : Nat} {x3 : Int32} {l0 l1 l2 : Option Value} {h : AH} : R_X1_ruined d 29 [l0, l1, l2, some (.int (x3))] [.ref b0] h = (hai h 0 b0 x3).bind fun v => R_X1_ruined d 31 [l0, l1, l2, some (.int (x3))] [.int v] h := by
  refine (p_iload rfl rfl).trans ?_
  exact s_iald rfl
theorem r_X1_ruined_31 {d : Nat} {s0 x2 : Int32} {l0 l1 l3 : Option Value} {h : AH} : R_X1_ruined d 31 [l0, l1, some (.int (x2)), l3] [.int (s0)] h = if ¬ x2 = (-1) then R_X1_ruined d 40 [l0, l1, some (.int (x2)), l3] [.int (s0)] h else R_X1_ruined d 36 [l0, l1, some (.int (x2)), l3] [.int (s0)] h := by
  refine (p_iload rfl rfl).trans ?_
  refine (p_const rfl).trans ?_
  exact (s_icmp (g := (fun x y => decide (¬ x = y))) (t := 40) (nx := 36) rfl).trans bif_dec
theorem r_X1_ruined_40 {d : Nat} {s0 : Int32} {a0 : Nat} {l1 l2 l3 : Option Value} {h : AH} : R_X1_ruined d 40 [some (.ref a0), l1, l2, l3] [.int (s0)] h = (hgf h [0] a0 0).bind fun v => R_X1_ruined d 44 [some (.ref a0), l1, l2, l3] [v, .int (s0)] h := by
  refine (p_aload rfl rfl).trans ?_
  exact s_getf rfl
theorem r_X1_ruined_36 {d : Nat} {s0 : Int32} {l0 l1 l2 l3 : Option Value} {h : AH} : R_X1_ruined d 36 [l0, l1, l2, l3] [.int (s0)] h = if s0 ≤ (nI 0) then R_X1_ruined d 56 [l0, l1, l2, l3] [] h else R_X1_ruined d 54 [l0, l1, l2, l3] [] h := by
  refine (p_const rfl).trans ?_
  refine (p_goto rfl).trans ?_
  exact (s_icmp (g := (fun x y => decide (x ≤ y))) (t := 56) (nx := 54) rfl).trans bif_dec
theorem r_X1_ruined_44 {d : Nat} {s0 : Int32} {b1 : Nat} {l0 l1 l2 l3 : Option Value} {h : AH} : R_X1_ruined d 44 [l0, l1, l2, l3] [.ref b1, .int (s0)] h = (hgf h [1] b1 8).bind fun v => R_X1_ruined d 47 [l0, l1, l2, l3] [v, .int (s0)] h := s_getf rfl
theorem r_X1_ruined_56 {d : Nat} {x3 : Int32} {l0 l1 l2 : Option Value} {h : AH} : R_X1_ruined d 56 [l0, l1, l2, some (.int (x3))] [] h = R_X1_ruined d 9 [l0, l1, l2, some (.int (x3 + (nI 1)))] [] h := by
  refine (p_iinc rfl rfl rfl).trans ?_
  refine (p_goto rfl).trans ?_
  exact rfl
theorem r_X1_ruined_54 {d : Nat} {x3 : Int32} {l0 l1 l2 : Option Value} {h : AH} : R_X1_ruined d 54 [l0, l1, l2, some (.int (x3))] [] h = R_X1_ruined d 9 [l0, l1, some (.int (x3)), some (.int (x3 + (nI 1)))] [] h := by
  refine (p_iload rfl rfl).trans ?_
  refine (p_istore rfl rfl rfl).trans ?_
  refine (p_iinc rfl rfl rfl).trans ?_
  refine (p_goto rfl).trans ?_
  exact rfl
theorem r_X1_ruined_47 {d : Nat} {s0 x1 : Int32} {b1 : Nat} {l0 l2 l3 : Option Value} {h : AH} : R_X1_ruined d 47 [l0, some (.int (x1)), l2, l3] [.ref b1, .int (s0)] h = (haqs h [3, 4, 5] b1 x1).bind fun v => R_X1_ruined d 49 [l0, some (.int (x1)), l2, l3] [va_rf v, .int (s0)] h := by
  refine (p_iload rfl rfl).trans ?_
  exact s_aald rfl
theorem r_X1_ruined_49 {d : Nat} {s0 x2 : Int32} {b1 : Nat} {l0 l1 l3 : Option Value} {h : AH} : R_X1_ruined d 49 [l0, l1, some (.int (x2)), l3] [.ref b1, .int (s0)] h = (hai h 0 b1 x2).bind fun v => R_X1_ruined d 51 [l0, l1, some (.int (x2)), l3] [.int v, .int (s0)] h := by
  refine (p_iload rfl rfl).trans ?_
  exact s_iald rfl
theorem r_X1_ruined_51 {d : Nat} {s0 s1 : Int32} {l0 l1 l2 l3 : Option Value} {h : AH} : R_X1_ruined d 51 [l0, l1, l2, l3] [.int (s1), .int (s0)] h = if s0 ≤ s1 then R_X1_ruined d 56 [l0, l1, l2, l3] [] h else R_X1_ruined d 54 [l0, l1, l2, l3] [] h := (s_icmp (g := (fun x y => decide (x ≤ y))) (t := 56) (nx := 54) rfl).trans bif_dec
theorem e_X1_ruined {d : Nat} {a0 : Nat} {x1 : Int32} {h : AH} : exec tTab (d + 1) K_X1_ruined [.ref a0, .int x1] h = R_X1_ruined d 0 [some (.ref a0), some (.int x1), none, none] [] h := exec_eq (cd := k_X1_ruined) (hd := (fun _ _ => some none)) (L := 4) rfl rfl rfl
/-- FavourTown.fits(I)I -/
abbrev K_X1_fits : Nat := 87
noncomputable def R_X1_fits (d pc : Nat) (ls : ALs) (st : List Value) (h : AH) : Option (AOut × AH) := aR (exec tTab d) k_X1_fits (fun _ _ => some none) (pc, ls, st, h)
theorem r_X1_fits_0 {d : Nat} {a0 : Nat} {l1 l2 l3 l4 l5 : Option Value} {h : AH} : R_X1_fits d 0 [some (.ref a0), l1, l2, l3, l4, l5] [] h = (hgf h [0] a0 2).bind fun v => R_X1_fits d 4 [some (.ref a0), l1, l2, l3, l4, l5] [v] h := by
  refine (p_aload rfl rfl).trans ?_
  exact s_getf rfl
theorem r_X1_fits_4 {d : Nat} {b0 : Nat} {l0 l1 l2 l3 l4 l5 : Option Value} {h : AH} : R_X1_fits d 4 [l0, l1, l2, l3, l4, l5] [.ref b0] h = ((hci h b0).bind (lkN [(2, 128)])).bind fun y => aK (exec tTab d y [.ref b0] h) (fun v h1 => R_X1_fits d 9 [l0, l1, some (.ref b0), l3, l4, l5] (v.toList ++ []) h1) (fun E h1 => some (.inr E, h1)) := by
  refine (p_astore rfl rfl rfl).trans ?_
  refine (p_aload rfl rfl).trans ?_
  exact s_callV (L := [(2, 128)]) (n := 0) (b := b0) (rest := []) rfl rfl rfl
theorem r_X1_fits_9 {d : Nat} {a0 : Nat} {x1 : Int32} {l2 l3 l4 l5 : Option Value} {h : AH} : R_X1_fits d 9 [some (.ref a0), some (.int (x1)), l2, l3, l4, l5] [] h = ((hci h a0).bind (lkN [(0, 64)])).bind fun y => aK (exec tTab d y [.ref a0, .int (x1)] h) (fun v h1 => R_X1_fits d 14 [some (.ref a0), some (.int (x1)), l2, l3, l4, l5] (v.toList ++ []) h1) (fun E h1 => some (.inr E, h1)) := by
  refine (p_aload rfl rfl).trans ?_
  refine (p_iload rfl rfl).trans ?_
  exact s_callV (L := [(0, 64)]) (n := 1) (b := a0) (rest := []) rfl rfl rfl
theorem r_X1_fits_14 {d : Nat} {b0 : Nat} {l0 l1 l2 l3 l4 l5 : Option Value} {h : AH} : R_X1_fits d 14 [l0, l1, l2, l3, l4, l5] [.ref b0] h = (hgf h [5, 6] b0 5).bind fun v => R_X1_fits d 19 [l0, l1, l2, some (.ref b0), l4, l5] [v] h := by
  refine (p_astore rfl rfl rfl).trans ?_
  refine (p_aload rfl rfl).trans ?_
  exact s_getf rfl
theorem r_X1_fits_19 {d : Nat} {s0 : Int32} {l0 l1 l2 l3 l4 l5 : Option Value} {h : AH} : R_X1_fits d 19 [l0, l1, l2, l3, l4, l5] [.int (s0)] h = R_X1_fits d 26 [l0, l1, l2, l3, some (.int (s0 + (nI 2))), some (.int ((nI 0)))] [] h := by
  refine (p_const rfl).trans ?_
  refine (p_bin rfl).trans ?_
  refine (p_istore rfl rfl rfl).trans ?_
  refine (p_const rfl).trans ?_
  refine (p_istore rfl rfl rfl).trans ?_
  exact rfl
theorem q_X1_fits_26 {d : Nat} {x5 x4 : Int32} {l0 l1 l2 l3 : Option Value} {h : AH} : R_X1_fits d 26 [l0, l1, l2, l3, some (.int (x4)), some (.int (x5))] [] h = if x4 ≤ x5 then R_X1_fits d 68 [l0, l1, l2, l3, some (.int (x4)), some (.int (x5))] [] h else R_X1_fits d 33 [l0, l1, l2, l3, some (.int (x4)), some (.int (x5))] [] h := by
  refine (p_iload rfl rfl).trans ?_
  refine (p_iload rfl rfl).trans ?_
  exact (s_icmp (g := (fun x y => decide (y ≤ x))) (t := 68) (nx := 33) rfl).trans bif_dec
theorem r_X1_fits_68 {d : Nat} {x5 x4 : Int32} {l0 l1 l2 l3 : Option Value} {h : AH} : R_X1_fits d 68 [l0, l1, l2, l3, some (.int (x4)), some (.int (x5))] [] h = if ¬ x5 = x4 then R_X1_fits d 88 [l0, l1, l2, l3, some (.int (x4)), some (.int (x5))] [] h else R_X1_fits d 75 [l0, l1, l2, l3, some (.int (x4)), some (.int (x5))] [] h := by
  refine (p_iload rfl rfl).trans ?_
  refine (p_iload rfl rfl).trans ?_
  exact (s_icmp (g := (fun x y => decide (¬ x = y))) (t := 88) (nx := 75) rfl).trans bif_dec
theorem r_X1_fits_33 {d : Nat} {x5 : Int32} {a2 : Nat} {l0 l1 l3 l4 : Option Value} {h : AH} : R_X1_fits d 33 [l0, l1, some (.ref a2), l3, l4, some (.int (x5))] [] h = (hgf h [2] a2 2).bind fun v => R_X1_fits d 39 [l0, l1, some (.ref a2), l3, l4, some (.int (x5))] [v, .int (x5)] h := by
  refine (p_iload rfl rfl).trans ?_
  refine (p_aload rfl rfl).trans ?_
  exact s_getf rfl
theorem r_X1_fits_88 {d : Nat} {x5 : Int32} {l0 l1 l2 l3 l4 : Option Value} {h : AH} : R_X1_fits d 88 [l0, l1, l2, l3, l4, some (.int (x5))] [] h = some (.inl (some (.int (x5))), h) := by
  refine (p_iload rfl rfl).trans ?_
  exact s_iretT rfl rfl
theorem r_X1_fits_75 {d : Nat} {x5 : Int32} {a2 : Nat} {l0 l1 l3 l4 : Option Value} {h : AH} : R_X1_fits d 75 [l0, l1, some (.ref a2), l3, l4, some (.int (x5))] [] h = (hgf h [2] a2 2).bind fun v => R_X1_fits d 81 [l0, l1, some (.ref a2), l3, l4, some (.int (x5))] [v, .int (x5)] h := by
  refine (p_iload rfl rfl).trans ?_
  refine (p_aload rfl rfl).trans ?_
  exact s_getf rfl
theorem r_X1_fits_39 {d : Nat} {s0 s1 : Int32} {l0 l1 l2 l3 l4 l5 : Option Value} {h : AH} : R_X1_fits d 39 [l0, l1, l2, l3, l4, l5] [.int (s1), .int (s0)] h = if s1 ≤ s0 then R_X1_fits d 68 [l0, l1, l2, l3, l4, l5] [] h else R_X1_fits d 42 [l0, l1, l2, l3, l4, l5] [] h := (s_icmp (g := (fun x y => decide (y ≤ x))) (t := 68) (nx := 42) rfl).trans bif_dec
theorem r_X1_fits_81 {d : Nat} {s0 s1 : Int32} {l0 l1 l2 l3 l4 l5 : Option Value} {h : AH} : R_X1_fits d 81 [l0, l1, l2, l3, l4, l5] [.int (s1), .int (s0)] h = if ¬ s0 = s1 then R_X1_fits d 88 [l0, l1, l2, l3, l4, l5] [] h else R_X1_fits d 84 [l0, l1, l2, l3, l4, l5] [] h := (s_icmp (g := (fun x y => decide (¬ x = y))) (t := 88) (nx := 84) rfl).trans bif_dec
theorem r_X1_fits_42 {d : Nat} {a2 : Nat} {l0 l1 l3 l4 l5 : Option Value} {h : AH} : R_X1_fits d 42 [l0, l1, some (.ref a2), l3, l4, l5] [] h = (hgf h [2] a2 0).bind fun v => R_X1_fits d 46 [l0, l1, some (.ref a2), l3, l4, l5] [v] h := by
  refine (p_aload rfl rfl).trans ?_
  exact s_getf rfl
theorem r_X1_fits_84 {d : Nat} {l0 l1 l2 l3 l4 l5 : Option Value} {h : AH} : R_X1_fits d 84 [l0, l1, l2, l3, l4, l5] [] h = some (.inl (some (.int ((-1)))), h) := by
  refine (p_const rfl).trans ?_
  refine (p_goto rfl).trans ?_
  exact s_iretT rfl rfl
theorem r_X1_fits_46 {d : Nat} {b0 : Nat} {x5 : Int32} {l0 l1 l2 l3 l4 : Option Value} {h : AH} : R_X1_fits d 46 [l0, l1, l2, l3, l4, some (.int (x5))] [.ref b0] h = (hai h 1 b0 x5).bind fun v => R_X1_fits d 49 [l0, l1, l2, l3, l4, some (.int (x5))] [.int v] h := by
  refine (p_iload rfl rfl).trans ?_
  exact s_iald rfl
theorem r_X1_fits_49 {d : Nat} {s0 : Int32} {a3 : Nat} {l0 l1 l2 l4 l5 : Option Value} {h : AH} : R_X1_fits d 49 [l0, l1, l2, some (.ref a3), l4, l5] [.int (s0)] h = (hgf h [5, 6] a3 3).bind fun v => R_X1_fits d 56 [l0, l1, l2, some (.ref a3), l4, l5] [v, .int (s0 - (nI 97))] h := by
  refine (p_const rfl).trans ?_
  refine (p_bin rfl).trans ?_
  refine (p_aload rfl rfl).trans ?_
  exact s_getf rfl
theorem r_X1_fits_56 {d : Nat} {s0 x5 : Int32} {b1 : Nat} {l0 l1 l2 l3 l4 : Option Value} {h : AH} : R_X1_fits d 56 [l0, l1, l2, l3, l4, some (.int (x5))] [.ref b1, .int (s0)] h = (hai h 0 b1 x5).bind fun v => R_X1_fits d 59 [l0, l1, l2, l3, l4, some (.int (x5))] [.int v, .int (s0)] h := by
  refine (p_iload rfl rfl).trans ?_
  exact s_iald rfl
theorem r_X1_fits_59 {d : Nat} {s0 s1 : Int32} {l0 l1 l2 l3 l4 l5 : Option Value} {h : AH} : R_X1_fits d 59 [l0, l1, l2, l3, l4, l5] [.int (s1), .int (s0)] h = if ¬ s0 = s1 then R_X1_fits d 68 [l0, l1, l2, l3, l4, l5] [] h else R_X1_fits d 62 [l0, l1, l2, l3, l4, l5] [] h := (s_icmp (g := (fun x y => decide (¬ x = y))) (t := 68) (nx := 62) rfl).trans bif_dec
theorem r_X1_fits_62 {d : Nat} {x5 : Int32} {l0 l1 l2 l3 l4 : Option Value} {h : AH} : R_X1_fits d 62 [l0, l1, l2, l3, l4, some (.int (x5))] [] h = R_X1_fits d 26 [l0, l1, l2, l3, l4, some (.int (x5 + (nI 1)))] [] h := by
  refine (p_iinc rfl rfl rfl).trans ?_
  refine (p_goto rfl).trans ?_
  exact rfl
theorem e_X1_fits {d : Nat} {a0 : Nat} {x1 : Int32} {h : AH} : exec tTab (d + 1) K_X1_fits [.ref a0, .int x1] h = R_X1_fits d 0 [some (.ref a0), some (.int x1), none, none, none, none] [] h := exec_eq (cd := k_X1_fits) (hd := (fun _ _ => some none)) (L := 6) rfl rfl rfl
/-- FavourTown.play(III)I -/
abbrev K_X1_play : Nat := 88
noncomputable def R_X1_play (d pc : Nat) (ls : ALs) (st : List Value) (h : AH) : Option (AOut × AH) := aR (exec tTab d) k_X1_play (fun _ _ => some none) (pc, ls, st, h)
theorem r_X1_play_0 {d : Nat} {x2 : Int32} {l0 l1 l3 l4 l5 l6 l7 l8 l9 l10 l11 l12 : Option Value} {h : AH} : R_X1_play d 0 [l0, l1, some (.int (x2)), l3, l4, l5, l6, l7, l8, l9, l10, l11, l12] [] h = aK (exec tTab d 40 [.int (x2), .int ((nI 0)), .int ((nI 60))] h) (fun v h1 => R_X1_play d 7 [l0, l1, some (.int (x2)), l3, l4, l5, l6, l7, l8, l9, l10, l11, l12] (v.toList ++ []) h1) (fun E h1 => some (.inr E, h1)) := by
  refine (p_iload rfl rfl).trans ?_
  refine (p_const rfl).trans ?_
  refine (p_const rfl).trans ?_
  exact s_callS (y := 40) (n := 3) rfl rfl
theorem r_X1_play_7 {d : Nat} {s0 : Int32} {l0 l1 l2 l3 l4 l5 l6 l7 l8 l9 l10 l11 l12 : Option Value} {h : AH} : R_X1_play d 7 [l0, l1, l2, l3, l4, l5, l6, l7, l8, l9, l10, l11, l12] [.int (s0)] h = aK (exec tTab d 62 [.int (s0)] h) (fun v h1 => R_X1_play d 10 [l0, l1, l2, l3, l4, l5, l6, l7, l8, l9, l10, l11, l12] (v.toList ++ []) h1) (fun E h1 => some (.inr E, h1)) := s_callS (y := 62) (n := 1) rfl rfl
theorem r_X1_play_10 {d : Nat} {x3 : Int32} {l0 l1 l2 l4 l5 l6 l7 l8 l9 l10 l11 l12 : Option Value} {h : AH} : R_X1_play d 10 [l0, l1, l2, some (.int (x3)), l4, l5, l6, l7, l8, l9, l10, l11, l12] [] h = aK (exec tTab d 68 [.int (x3), .int ((nI 5))] h) (fun v h1 => R_X1_play d 15 [l0, l1, l2, some (.int (x3)), l4, l5, l6, l7, l8, l9, l10, l11, l12] (v.toList ++ []) h1) (fun E h1 => some (.inr E, h1)) := by
  refine (p_iload rfl rfl).trans ?_
  refine (p_const rfl).trans ?_
  exact s_callS (y := 68) (n := 2) rfl rfl
theorem r_X1_play_15 {d : Nat} {a0 : Nat} {l1 l2 l3 l4 l5 l6 l7 l8 l9 l10 l11 l12 : Option Value} {h : AH} : R_X1_play d 15 [some (.ref a0), l1, l2, l3, l4, l5, l6, l7, l8, l9, l10, l11, l12] [] h = (hgf h [0] a0 0).bind fun v => R_X1_play d 19 [some (.ref a0), l1, l2, l3, l4, l5, l6, l7, l8, l9, l10, l11, l12] [v] h := by
  refine (p_aload rfl rfl).trans ?_
  exact s_getf rfl
theorem r_X1_play_19 {d : Nat} {b0 : Nat} {l0 l1 l2 l3 l4 l5 l6 l7 l8 l9 l10 l11 l12 : Option Value} {h : AH} : R_X1_play d 19 [l0, l1, l2, l3, l4, l5, l6, l7, l8, l9, l10, l11, l12] [.ref b0] h = ((hci h b0).bind (lkN [(1, 101)])).bind fun y => aK (exec tTab d y [.ref b0] h) (fun v h1 => R_X1_play d 22 [l0, l1, l2, l3, l4, l5, l6, l7, l8, l9, l10, l11, l12] (v.toList ++ []) h1) (fun E h1 => some (.inr E, h1)) := s_callV (L := [(1, 101)]) (n := 0) (b := b0) (rest := []) rfl rfl rfl
theorem r_X1_play_22 {d : Nat} {b0 : Nat} {l0 l1 l2 l3 l4 l5 l6 l7 l8 l9 l10 l11 l12 : Option Value} {h : AH} : R_X1_play d 22 [l0, l1, l2, l3, l4, l5, l6, l7, l8, l9, l10, l11, l12] [.ref b0] h = bif hin (nI 3) 65537 then R_X1_play d 27 [l0, l1, l2, l3, some (.ref b0), l5, l6, l7, l8, l9, l10, l11, l12] [.ref h.2.1] (hnew h (true, .inl (0, ((nI 3)).toNatClampNeg, (.inl (fun _ => 0)))) ((nI 3)).toNatClampNeg) else none := by
  refine (p_astore rfl rfl rfl).trans ?_
  refine (p_const rfl).trans ?_
  exact s_newa (t := 0) (z := (.inl (fun _ => 0))) rfl
theorem r_X1_play_22N {d : Nat} {l0 l1 l2 l3 l4 l5 l6 l7 l8 l9 l10 l11 l12 : Option Value} {h : AH} : R_X1_play d 22 [l0, l1, l2, l3, l4, l5, l6, l7, l8, l9, l10, l11, l12] [.null] h = bif hin (nI 3) 65537 then R_X1_play d 27 [l0, l1, l2, l3, some (.null), l5, l6, l7, l8, l9, l10, l11, l12] [.ref h.2.1] (hnew h (true, .inl (0, ((nI 3)).toNatClampNeg, (.inl (fun _ => 0)))) ((nI 3)).toNatClampNeg) else none := by
  refine (p_astoreN rfl rfl rfl).trans ?_
  refine (p_const rfl).trans ?_
  exact s_newa (t := 0) (z := (.inl (fun _ => 0))) rfl
theorem r_X1_play_27 {d : Nat} {b0 : Nat} {x1 : Int32} {l0 l2 l3 l4 l5 l6 l7 l8 l9 l10 l11 l12 : Option Value} {h : AH} : R_X1_play d 27 [l0, some (.int (x1)), l2, l3, l4, l5, l6, l7, l8, l9, l10, l11, l12] [.ref b0] h = R_X1_play d 35 [l0, some (.int (x1)), l2, l3, l4, some (.ref b0), some (.int (x1)), some (.int ((nI 0))), l8, l9, l10, l11, l12] [] h := by
  refine (p_astore rfl rfl rfl).trans ?_
  refine (p_iload rfl rfl).trans ?_
  refine (p_istore rfl rfl rfl).trans ?_
  refine (p_const rfl).trans ?_
  refine (p_istore rfl rfl rfl).trans ?_
  exact rfl
theorem r_X1_play_27N {d : Nat} {x1 : Int32} {l0 l2 l3 l4 l5 l6 l7 l8 l9 l10 l11 l12 : Option Value} {h : AH} : R_X1_play d 27 [l0, some (.int (x1)), l2, l3, l4, l5, l6, l7, l8, l9, l10, l11, l12] [.null] h = R_X1_play d 35 [l0, some (.int (x1)), l2, l3, l4, some (.null), some (.int (x1)), some (.int ((nI 0))), l8, l9, l10, l11, l12] [] h := by
  refine (p_astoreN rfl rfl rfl).trans ?_
  refine (p_iload rfl rfl).trans ?_
  refine (p_istore rfl rfl rfl).trans ?_
  refine (p_const rfl).trans ?_
  refine (p_istore rfl rfl rfl).trans ?_
  exact rfl
theorem q_X1_play_35 {d : Nat} {x7 x2 : Int32} {l0 l1 l3 l4 l5 l6 l8 l9 l10 l11 l12 : Option Value} {h : AH} : R_X1_play d 35 [l0, l1, some (.int (x2)), l3, l4, l5, l6, some (.int (x7)), l8, l9, l10, l11, l12] [] h = if x2 ≤ x7 then R_X1_play d 192 [l0, l1, some (.int (x2)), l3, l4, l5, l6, some (.int (x7)), l8, l9, l10, l11, l12] [] h else R_X1_play d 41 [l0, l1, some (.int (x2)), l3, l4, l5, l6, some (.int (x7)), l8, l9, l10, l11, l12] [] h := by
  refine (p_iload rfl rfl).trans ?_
  refine (p_iload rfl rfl).trans ?_
  exact (s_icmp (g := (fun x y => decide (y ≤ x))) (t := 192) (nx := 41) rfl).trans bif_dec
theorem r_X1_play_192 {d : Nat} {x3 : Int32} {l0 l1 l2 l4 l5 l6 l7 l8 l9 l10 l11 l12 : Option Value} {h : AH} : R_X1_play d 192 [l0, l1, l2, some (.int (x3)), l4, l5, l6, l7, l8, l9, l10, l11, l12] [] h = if (nI 3) ≤ x3 then R_X1_play d 202 [l0, l1, l2, some (.int (x3)), l4, l5, l6, l7, l8, l9, l10, l11, l12] [] h else R_X1_play d 197 [l0, l1, l2, some (.int (x3)), l4, l5, l6, l7, l8, l9, l10, l11, l12] [] h := by
  refine (p_iload rfl rfl).trans ?_
  refine (p_const rfl).trans ?_
  exact (s_icmp (g := (fun x y => decide (y ≤ x))) (t := 202) (nx := 197) rfl).trans bif_dec
theorem r_X1_play_41 {d : Nat} {l0 l1 l2 l3 l4 l5 l6 l7 l8 l9 l10 l11 l12 : Option Value} {h : AH} : R_X1_play d 41 [l0, l1, l2, l3, l4, l5, l6, l7, l8, l9, l10, l11, l12] [] h = R_X1_play d 44 [l0, l1, l2, l3, l4, l5, l6, l7, some (.int ((nI 0))), l9, l10, l11, l12] [] h := by
  refine (p_const rfl).trans ?_
  refine (p_istore rfl rfl rfl).trans ?_
  exact rfl
theorem r_X1_play_202 {d : Nat} {x3 : Int32} {l0 l1 l2 l4 l5 l6 l7 l8 l9 l10 l11 l12 : Option Value} {h : AH} : R_X1_play d 202 [l0, l1, l2, some (.int (x3)), l4, l5, l6, l7, l8, l9, l10, l11, l12] [] h = if ¬ x3 = (nI 3) then R_X1_play d 213 [l0, l1, l2, some (.int (x3)), l4, l5, l6, l7, l8, l9, l10, l11, l12] [] h else R_X1_play d 207 [l0, l1, l2, some (.int (x3)), l4, l5, l6, l7, l8, l9, l10, l11, l12] [] h := by
  refine (p_iload rfl rfl).trans ?_
  refine (p_const rfl).trans ?_
  exact (s_icmp (g := (fun x y => decide (¬ x = y))) (t := 213) (nx := 207) rfl).trans bif_dec
theorem r_X1_play_197 {d : Nat} {a5 : Nat} {x3 : Int32} {l0 l1 l2 l4 l6 l7 l8 l9 l10 l11 l12 : Option Value} {h : AH} : R_X1_play d 197 [l0, l1, l2, some (.int (x3)), l4, some (.ref a5), l6, l7, l8, l9, l10, l11, l12] [] h = (hai h 0 a5 x3).bind fun v => R_X1_play d 201 [l0, l1, l2, some (.int (x3)), l4, some (.ref a5), l6, l7, l8, l9, l10, l11, l12] [.int v] h := by
  refine (p_aload rfl rfl).trans ?_
  refine (p_iload rfl rfl).trans ?_
  exact s_iald rfl
theorem q_X1_play_44 {d : Nat} {x8 : Int32} {a4 : Nat} {l0 l1 l2 l3 l5 l6 l7 l9 l10 l11 l12 : Option Value} {h : AH} : R_X1_play d 44 [l0, l1, l2, l3, some (.ref a4), l5, l6, l7, some (.int (x8)), l9, l10, l11, l12] [] h = (hgf h [1] a4 3).bind fun v => R_X1_play d 51 [l0, l1, l2, l3, some (.ref a4), l5, l6, l7, some (.int (x8)), l9, l10, l11, l12] [v, .int (x8)] h := by
  refine (p_iload rfl rfl).trans ?_
  refine (p_aload rfl rfl).trans ?_
  exact s_getf rfl
theorem r_X1_play_213 {d : Nat} {l0 l1 l2 l3 l4 l5 l6 l7 l8 l9 l10 l11 l12 : Option Value} {h : AH} : R_X1_play d 213 [l0, l1, l2, l3, l4, l5, l6, l7, l8, l9, l10, l11, l12] [] h = R_X1_play d 222 [l0, l1, l2, l3, l4, l5, l6, some (.int ((nI 0))), some (.int ((-1))), some (.int ((nI 0))), l10, l11, l12] [] h := by
  refine (p_const rfl).trans ?_
  refine (p_istore rfl rfl rfl).trans ?_
  refine (p_const rfl).trans ?_
  refine (p_istore rfl rfl rfl).trans ?_
  refine (p_const rfl).trans ?_
  refine (p_istore rfl rfl rfl).trans ?_
  exact rfl
theorem r_X1_play_207 {d : Nat} {a4 : Nat} {l0 l1 l2 l3 l5 l6 l7 l8 l9 l10 l11 l12 : Option Value} {h : AH} : R_X1_play d 207 [l0, l1, l2, l3, some (.ref a4), l5, l6, l7, l8, l9, l10, l11, l12] [] h = ((hci h a4).bind (lkN [(1, 102)])).bind fun y => aK (exec tTab d y [.ref a4] h) (fun v h1 => R_X1_play d 212 [l0, l1, l2, l3, some (.ref a4), l5, l6, l7, l8, l9, l10, l11, l12] (v.toList ++ []) h1) (fun E h1 => some (.inr E, h1)) := by
  refine (p_aload rfl rfl).trans ?_
  exact s_callV (L := [(1, 102)]) (n := 0) (b := a4) (rest := []) rfl rfl rfl
theorem r_X1_play_201 {d : Nat} {s0 : Int32} {l0 l1 l2 l3 l4 l5 l6 l7 l8 l9 l10 l11 l12 : Option Value} {h : AH} : R_X1_play d 201 [l0, l1, l2, l3, l4, l5, l6, l7, l8, l9, l10, l11, l12] [.int (s0)] h = some (.inl (some (.int (s0))), h) := s_iretT rfl rfl
theorem r_X1_play_51 {d : Nat} {s0 s1 : Int32} {l0 l1 l2 l3 l4 l5 l6 l7 l8 l9 l10 l11 l12 : Option Value} {h : AH} : R_X1_play d 51 [l0, l1, l2, l3, l4, l5, l6, l7, l8, l9, l10, l11, l12] [.int (s1), .int (s0)] h = if s1 ≤ s0 then R_X1_play d 179 [l0, l1, l2, l3, l4, l5, l6, l7, l8, l9, l10, l11, l12] [] h else R_X1_play d 54 [l0, l1, l2, l3, l4, l5, l6, l7, l8, l9, l10, l11, l12] [] h := (s_icmp (g := (fun x y => decide (y ≤ x))) (t := 179) (nx := 54) rfl).trans bif_dec
theorem q_X1_play_222 {d : Nat} {x9 : Int32} {a4 : Nat} {l0 l1 l2 l3 l5 l6 l7 l8 l10 l11 l12 : Option Value} {h : AH} : R_X1_play d 222 [l0, l1, l2, l3, some (.ref a4), l5, l6, l7, l8, some (.int (x9)), l10, l11, l12] [] h = (hgf h [1] a4 3).bind fun v => R_X1_play d 229 [l0, l1, l2, l3, some (.ref a4), l5, l6, l7, l8, some (.int (x9)), l10, l11, l12] [v, .int (x9)] h := by
  refine (p_iload rfl rfl).trans ?_
  refine (p_aload rfl rfl).trans ?_
  exact s_getf rfl
theorem r_X1_play_212 {d : Nat} {s0 : Int32} {l0 l1 l2 l3 l4 l5 l6 l7 l8 l9 l10 l11 l12 : Option Value} {h : AH} : R_X1_play d 212 [l0, l1, l2, l3, l4, l5, l6, l7, l8, l9, l10, l11, l12] [.int (s0)] h = some (.inl (some (.int (s0))), h) := s_iretT rfl rfl
theorem r_X1_play_179 {d : Nat} {a4 : Nat} {l0 l1 l2 l3 l5 l6 l7 l8 l9 l10 l11 l12 : Option Value} {h : AH} : R_X1_play d 179 [l0, l1, l2, l3, some (.ref a4), l5, l6, l7, l8, l9, l10, l11, l12] [] h = ((hci h a4).bind (lkN [(1, 106)])).bind fun y => aK (exec tTab d y [.ref a4, .int ((nI 1))] h) (fun v h1 => R_X1_play d 185 [l0, l1, l2, l3, some (.ref a4), l5, l6, l7, l8, l9, l10, l11, l12] (v.toList ++ []) h1) (fun E h1 => some (.inr E, h1)) := by
  refine (p_aload rfl rfl).trans ?_
  refine (p_const rfl).trans ?_
  exact s_callV (L := [(1, 106)]) (n := 1) (b := a4) (rest := []) rfl rfl rfl
theorem r_X1_play_54 {d : Nat} {x6 : Int32} {a4 : Nat} {l0 l1 l2 l3 l5 l7 l8 l9 l10 l11 l12 : Option Value} {h : AH} : R_X1_play d 54 [l0, l1, l2, l3, some (.ref a4), l5, some (.int (x6)), l7, l8, l9, l10, l11, l12] [] h = (hgf h [1] a4 3).bind fun v => R_X1_play d 80 [l0, l1, l2, l3, some (.ref a4), l5, some (.int ((x6 * (1103515245 : Int32)) + (nI 12345))), l7, l8, l9, l10, l11, l12] [v, .int ((((x6 * (1103515245 : Int32)) + (nI 12345)) >>> ((nI 16) &&& 31)) &&& (nI 32767))] h := by
  refine (p_iload rfl rfl).trans ?_
  refine (p_const rfl).trans ?_
  refine (p_bin rfl).trans ?_
  refine (p_const rfl).trans ?_
  refine (p_bin rfl).trans ?_
  refine (p_istore rfl rfl rfl).trans ?_
  refine (p_iload rfl rfl).trans ?_
  refine (p_const rfl).trans ?_
  refine (p_bin rfl).trans ?_
  refine (p_const rfl).trans ?_
  refine (p_bin rfl).trans ?_
  refine (p_aload rfl rfl).trans ?_
  exact s_getf rfl
theorem r_X1_play_229 {d : Nat} {s0 s1 : Int32} {l0 l1 l2 l3 l4 l5 l6 l7 l8 l9 l10 l11 l12 : Option Value} {h : AH} : R_X1_play d 229 [l0, l1, l2, l3, l4, l5, l6, l7, l8, l9, l10, l11, l12] [.int (s1), .int (s0)] h = if s1 ≤ s0 then R_X1_play d 277 [l0, l1, l2, l3, l4, l5, l6, l7, l8, l9, l10, l11, l12] [] h else R_X1_play d 232 [l0, l1, l2, l3, l4, l5, l6, l7, l8, l9, l10, l11, l12] [] h := (s_icmp (g := (fun x y => decide (y ≤ x))) (t := 277) (nx := 232) rfl).trans bif_dec
theorem r_X1_play_185 {d : Nat} {s0 x7 : Int32} {l0 l1 l2 l3 l4 l5 l6 l8 l9 l10 l11 l12 : Option Value} {h : AH} : R_X1_play d 185 [l0, l1, l2, l3, l4, l5, l6, some (.int (x7)), l8, l9, l10, l11, l12] [.int (s0)] h = R_X1_play d 35 [l0, l1, l2, l3, l4, l5, l6, some (.int (x7 + (nI 1))), l8, l9, l10, l11, l12] [] h := by
  refine (p_pop rfl rfl).trans ?_
  refine (p_iinc rfl rfl rfl).trans ?_
  refine (p_goto rfl).trans ?_
  exact rfl
theorem r_X1_play_80 {d : Nat} {s0 s1 : Int32} {l0 l1 l2 l3 l4 l5 l6 l7 l8 l9 l10 l11 l12 : Option Value} {h : AH} : R_X1_play d 80 [l0, l1, l2, l3, l4, l5, l6, l7, l8, l9, l10, l11, l12] [.int (s1), .int (s0)] h = if s1 = 0 then none else R_X1_play d 81 [l0, l1, l2, l3, l4, l5, l6, l7, l8, l9, l10, l11, l12] [.int (s0 - s0 / s1 * s1)] h := s_div (g := (fun x y => x - x / y * y)) rfl
theorem r_X1_play_277 {d : Nat} {x3 : Int32} {l0 l1 l2 l4 l5 l6 l7 l8 l9 l10 l11 l12 : Option Value} {h : AH} : R_X1_play d 277 [l0, l1, l2, some (.int (x3)), l4, l5, l6, l7, l8, l9, l10, l11, l12] [] h = if ¬ x3 = (nI 4) then R_X1_play d 287 [l0, l1, l2, some (.int (x3)), l4, l5, l6, l7, l8, l9, l10, l11, l12] [] h else R_X1_play d 282 [l0, l1, l2, some (.int (x3)), l4, l5, l6, l7, l8, l9, l10, l11, l12] [] h := by
  refine (p_iload rfl rfl).trans ?_
  refine (p_const rfl).trans ?_
  exact (s_icmp (g := (fun x y => decide (¬ x = y))) (t := 287) (nx := 282) rfl).trans bif_dec
theorem r_X1_play_232 {d : Nat} {x7 x9 : Int32} {a4 : Nat} {l0 l1 l2 l3 l5 l6 l8 l10 l11 l12 : Option Value} {h : AH} : R_X1_play d 232 [l0, l1, l2, l3, some (.ref a4), l5, l6, some (.int (x7)), l8, some (.int (x9)), l10, l11, l12] [] h = ((hci h a4).bind (lkN [(1, 97)])).bind fun y => aK (exec tTab d y [.ref a4, .int (x9)] h) (fun v h1 => R_X1_play d 241 [l0, l1, l2, l3, some (.ref a4), l5, l6, some (.int (x7)), l8, some (.int (x9)), l10, l11, l12] (v.toList ++ [.int (x7)]) h1) (fun E h1 => some (.inr E, h1)) := by
  refine (p_iload rfl rfl).trans ?_
  refine (p_aload rfl rfl).trans ?_
  refine (p_iload rfl rfl).trans ?_
  exact s_callV (L := [(1, 97)]) (n := 1) (b := a4) (rest := [.int (x7)]) rfl rfl rfl
theorem r_X1_play_81 {d : Nat} {s0 x8 : Int32} {l0 l1 l2 l3 l4 l5 l6 l7 l9 l10 l11 l12 : Option Value} {h : AH} : R_X1_play d 81 [l0, l1, l2, l3, l4, l5, l6, l7, some (.int (x8)), l9, l10, l11, l12] [.int (s0)] h = if ¬ s0 = x8 then R_X1_play d 93 [l0, l1, l2, l3, l4, l5, l6, l7, some (.int (x8)), some (.int (s0)), l10, l11, l12] [] h else R_X1_play d 90 [l0, l1, l2, l3, l4, l5, l6, l7, some (.int (x8)), some (.int (s0)), l10, l11, l12] [] h := by
  refine (p_istore rfl rfl rfl).trans ?_
  refine (p_iload rfl rfl).trans ?_
  refine (p_iload rfl rfl).trans ?_
  exact (s_icmp (g := (fun x y => decide (¬ x = y))) (t := 93) (nx := 90) rfl).trans bif_dec
theorem r_X1_play_287 {d : Nat} {x8 : Int32} {l0 l1 l2 l3 l4 l5 l6 l7 l9 l10 l11 l12 : Option Value} {h : AH} : R_X1_play d 287 [l0, l1, l2, l3, l4, l5, l6, l7, some (.int (x8)), l9, l10, l11, l12] [] h = some (.inl (some (.int (x8))), h) := by
  refine (p_iload rfl rfl).trans ?_
  exact s_iretT rfl rfl
theorem r_X1_play_282 {d : Nat} {x7 : Int32} {l0 l1 l2 l3 l4 l5 l6 l8 l9 l10 l11 l12 : Option Value} {h : AH} : R_X1_play d 282 [l0, l1, l2, l3, l4, l5, l6, some (.int (x7)), l8, l9, l10, l11, l12] [] h = some (.inl (some (.int (x7))), h) := by
  refine (p_iload rfl rfl).trans ?_
  refine (p_goto rfl).trans ?_
  exact s_iretT rfl rfl
theorem r_X1_play_241 {d : Nat} {s0 s1 x8 : Int32} {l0 l1 l2 l3 l4 l5 l6 l7 l9 l10 l11 l12 : Option Value} {h : AH} : R_X1_play d 241 [l0, l1, l2, l3, l4, l5, l6, l7, some (.int (x8)), l9, l10, l11, l12] [.int (s1), .int (s0)] h = if x8 = (-1) then R_X1_play d 267 [l0, l1, l2, l3, l4, l5, l6, some (.int (s0 + s1)), some (.int (x8)), l9, l10, l11, l12] [] h else R_X1_play d 250 [l0, l1, l2, l3, l4, l5, l6, some (.int (s0 + s1)), some (.int (x8)), l9, l10, l11, l12] [] h := by
  refine (p_bin rfl).trans ?_
  refine (p_istore rfl rfl rfl).trans ?_
  refine (p_iload rfl rfl).trans ?_
  refine (p_const rfl).trans ?_
  exact (s_icmp (g := (fun x y => decide (x = y))) (t := 267) (nx := 250) rfl).trans bif_dec
theorem r_X1_play_93 {d : Nat} {x6 : Int32} {a4 : Nat} {l0 l1 l2 l3 l5 l7 l8 l9 l10 l11 l12 : Option Value} {h : AH} : R_X1_play d 93 [l0, l1, l2, l3, some (.ref a4), l5, some (.int (x6)), l7, l8, l9, l10, l11, l12] [] h = (hgf h [1] a4 9).bind fun v => R_X1_play d 126 [l0, l1, l2, l3, some (.ref a4), l5, some (.int ((x6 * (1103515245 : Int32)) + (nI 12345))), l7, l8, l9, some (.int ((((((x6 * (1103515245 : Int32)) + (nI 12345)) >>> ((nI 16) &&& 31)) &&& (nI 32767)) - ((((x6 * (1103515245 : Int32)) + (nI 12345)) >>> ((nI 16) &&& 31)) &&& (nI 32767)) / (nI 9) * (nI 9)) + (nI 1))), l11, l12] [v] h := by
  refine (p_iload rfl rfl).trans ?_
  refine (p_const rfl).trans ?_
  refine (p_bin rfl).trans ?_
  refine (p_const rfl).trans ?_
  refine (p_bin rfl).trans ?_
  refine (p_istore rfl rfl rfl).trans ?_
  refine (p_iload rfl rfl).trans ?_
  refine (p_const rfl).trans ?_
  refine (p_bin rfl).trans ?_
  refine (p_const rfl).trans ?_
  refine (p_bin rfl).trans ?_
  refine (p_const rfl).trans ?_
  refine (p_divC rfl (by decide)).trans ?_
  refine (p_const rfl).trans ?_
  refine (p_bin rfl).trans ?_
  refine (p_istore rfl rfl rfl).trans ?_
  refine (p_aload rfl rfl).trans ?_
  exact s_getf rfl
theorem r_X1_play_90 {d : Nat} {x8 : Int32} {l0 l1 l2 l3 l4 l5 l6 l7 l9 l10 l11 l12 : Option Value} {h : AH} : R_X1_play d 90 [l0, l1, l2, l3, l4, l5, l6, l7, some (.int (x8)), l9, l10, l11, l12] [] h = R_X1_play d 44 [l0, l1, l2, l3, l4, l5, l6, l7, some (.int (x8 + (nI 1))), l9, l10, l11, l12] [] h := by
  refine (p_goto rfl).trans ?_
  refine (p_iinc rfl rfl rfl).trans ?_
  refine (p_goto rfl).trans ?_
  exact rfl
theorem r_X1_play_267 {d : Nat} {x9 : Int32} {l0 l1 l2 l3 l4 l5 l6 l7 l8 l10 l11 l12 : Option Value} {h : AH} : R_X1_play d 267 [l0, l1, l2, l3, l4, l5, l6, l7, l8, some (.int (x9)), l10, l11, l12] [] h = R_X1_play d 222 [l0, l1, l2, l3, l4, l5, l6, l7, some (.int (x9)), some (.int (x9 + (nI 1))), l10, l11, l12] [] h := by
  refine (p_iload rfl rfl).trans ?_
  refine (p_istore rfl rfl rfl).trans ?_
  refine (p_iinc rfl rfl rfl).trans ?_
  refine (p_goto rfl).trans ?_
  exact rfl
theorem r_X1_play_250 {d : Nat} {a4 : Nat} {x9 : Int32} {l0 l1 l2 l3 l5 l6 l7 l8 l10 l11 l12 : Option Value} {h : AH} : R_X1_play d 250 [l0, l1, l2, l3, some (.ref a4), l5, l6, l7, l8, some (.int (x9)), l10, l11, l12] [] h = ((hci h a4).bind (lkN [(1, 97)])).bind fun y => aK (exec tTab d y [.ref a4, .int (x9)] h) (fun v h1 => R_X1_play d 257 [l0, l1, l2, l3, some (.ref a4), l5, l6, l7, l8, some (.int (x9)), l10, l11, l12] (v.toList ++ []) h1) (fun E h1 => some (.inr E, h1)) := by
  refine (p_aload rfl rfl).trans ?_
  refine (p_iload rfl rfl).trans ?_
  exact s_callV (L := [(1, 97)]) (n := 1) (b := a4) (rest := []) rfl rfl rfl
theorem r_X1_play_126 {d : Nat} {b0 : Nat} {l0 l1 l2 l3 l4 l5 l6 l7 l8 l9 l10 l11 l12 : Option Value} {h : AH} : R_X1_play d 126 [l0, l1, l2, l3, l4, l5, l6, l7, l8, l9, l10, l11, l12] [.ref b0] h = ((hci h b0).bind (lkN [(19, 113)])).bind fun y => aK (exec tTab d y [.ref b0] h) (fun v h1 => R_X1_play d 129 [l0, l1, l2, l3, l4, l5, l6, l7, l8, l9, l10, l11, l12] (v.toList ++ []) h1) (fun E h1 => some (.inr E, h1)) := s_callV (L := [(19, 113)]) (n := 0) (b := b0) (rest := []) rfl rfl rfl
theorem r_X1_play_257 {d : Nat} {s0 x8 : Int32} {a4 : Nat} {l0 l1 l2 l3 l5 l6 l7 l9 l10 l11 l12 : Option Value} {h : AH} : R_X1_play d 257 [l0, l1, l2, l3, some (.ref a4), l5, l6, l7, some (.int (x8)), l9, l10, l11, l12] [.int (s0)] h = ((hci h a4).bind (lkN [(1, 97)])).bind fun y => aK (exec tTab d y [.ref a4, .int (x8)] h) (fun v h1 => R_X1_play d 264 [l0, l1, l2, l3, some (.ref a4), l5, l6, l7, some (.int (x8)), l9, l10, l11, l12] (v.toList ++ [.int (s0)]) h1) (fun E h1 => some (.inr E, h1)) := by
  refine (p_aload rfl rfl).trans ?_
  refine (p_iload rfl rfl).trans ?_
  exact s_callV (L := [(1, 97)]) (n := 1) (b := a4) (rest := [.int (s0)]) rfl rfl rfl
theorem r_X1_play_129 {d : Nat} {s0 x8 x9 x10 : Int32} {a4 : Nat} {l0 l1 l2 l3 l5 l6 l7 l11 l12 : Option Value} {h : AH} : R_X1_play d 129 [l0, l1, l2, l3, some (.ref a4), l5, l6, l7, some (.int (x8)), some (.int (x9)), some (.int (x10)), l11, l12] [.int (s0)] h = ((hci h a4).bind (lkN [(1, 108)])).bind fun y => aK (exec tTab d y [.ref a4, .int (x8), .int (x9), .int (x10)] h) (fun v h1 => R_X1_play d 142 [l0, l1, l2, l3, some (.ref a4), l5, l6, l7, some (.int (x8)), some (.int (x9)), some (.int (x10)), some (.int (s0)), l12] (v.toList ++ []) h1) (fun E h1 => some (.inr E, h1)) := by
  refine (p_istore rfl rfl rfl).trans ?_
  refine (p_aload rfl rfl).trans ?_
  refine (p_iload rfl rfl).trans ?_
  refine (p_iload rfl rfl).trans ?_
  refine (p_iload rfl rfl).trans ?_
  exact s_callV (L := [(1, 108)]) (n := 3) (b := a4) (rest := []) rfl rfl rfl
theorem r_X1_play_264 {d : Nat} {s0 s1 : Int32} {l0 l1 l2 l3 l4 l5 l6 l7 l8 l9 l10 l11 l12 : Option Value} {h : AH} : R_X1_play d 264 [l0, l1, l2, l3, l4, l5, l6, l7, l8, l9, l10, l11, l12] [.int (s1), .int (s0)] h = if s0 ≤ s1 then R_X1_play d 271 [l0, l1, l2, l3, l4, l5, l6, l7, l8, l9, l10, l11, l12] [] h else R_X1_play d 267 [l0, l1, l2, l3, l4, l5, l6, l7, l8, l9, l10, l11, l12] [] h := (s_icmp (g := (fun x y => decide (x ≤ y))) (t := 271) (nx := 267) rfl).trans bif_dec
theorem r_X1_play_142 {d : Nat} {s0 : Int32} {a5 : Nat} {l0 l1 l2 l3 l4 l6 l7 l8 l9 l10 l11 l12 : Option Value} {h : AH} : R_X1_play d 142 [l0, l1, l2, l3, l4, some (.ref a5), l6, l7, l8, l9, l10, l11, l12] [.int (s0)] h = if ¬ s0 = (-1) then R_X1_play d 156 [l0, l1, l2, l3, l4, some (.ref a5), l6, l7, l8, l9, l10, l11, some (.int (s0))] [.ref a5] h else R_X1_play d 152 [l0, l1, l2, l3, l4, some (.ref a5), l6, l7, l8, l9, l10, l11, some (.int (s0))] [.ref a5] h := by
  refine (p_istore rfl rfl rfl).trans ?_
  refine (p_aload rfl rfl).trans ?_
  refine (p_iload rfl rfl).trans ?_
  refine (p_const rfl).trans ?_
  exact (s_icmp (g := (fun x y => decide (¬ x = y))) (t := 156) (nx := 152) rfl).trans bif_dec
theorem r_X1_play_271 {d : Nat} {x9 : Int32} {l0 l1 l2 l3 l4 l5 l6 l7 l8 l10 l11 l12 : Option Value} {h : AH} : R_X1_play d 271 [l0, l1, l2, l3, l4, l5, l6, l7, l8, some (.int (x9)), l10, l11, l12] [] h = R_X1_play d 222 [l0, l1, l2, l3, l4, l5, l6, l7, l8, some (.int (x9 + (nI 1))), l10, l11, l12] [] h := by
  refine (p_iinc rfl rfl rfl).trans ?_
  refine (p_goto rfl).trans ?_
  exact rfl
theorem r_X1_play_156 {d : Nat} {b0 : Nat} {x12 x11 : Int32} {l0 l1 l2 l3 l4 l5 l6 l7 l8 l9 l10 : Option Value} {h : AH} : R_X1_play d 156 [l0, l1, l2, l3, l4, l5, l6, l7, l8, l9, l10, some (.int (x11)), some (.int (x12))] [.ref b0] h = if ¬ x12 = x11 then R_X1_play d 167 [l0, l1, l2, l3, l4, l5, l6, l7, l8, l9, l10, some (.int (x11)), some (.int (x12))] [.ref b0] h else R_X1_play d 163 [l0, l1, l2, l3, l4, l5, l6, l7, l8, l9, l10, some (.int (x11)), some (.int (x12))] [.ref b0] h := by
  refine (p_iload rfl rfl).trans ?_
  refine (p_iload rfl rfl).trans ?_
  exact (s_icmp (g := (fun x y => decide (¬ x = y))) (t := 167) (nx := 163) rfl).trans bif_dec
theorem r_X1_play_156N {d : Nat} {x12 x11 : Int32} {l0 l1 l2 l3 l4 l5 l6 l7 l8 l9 l10 : Option Value} {h : AH} : R_X1_play d 156 [l0, l1, l2, l3, l4, l5, l6, l7, l8, l9, l10, some (.int (x11)), some (.int (x12))] [.null] h = if ¬ x12 = x11 then R_X1_play d 167 [l0, l1, l2, l3, l4, l5, l6, l7, l8, l9, l10, some (.int (x11)), some (.int (x12))] [.null] h else R_X1_play d 163 [l0, l1, l2, l3, l4, l5, l6, l7, l8, l9, l10, some (.int (x11)), some (.int (x12))] [.null] h := by
  refine (p_iload rfl rfl).trans ?_
  refine (p_iload rfl rfl).trans ?_
  exact (s_icmp (g := (fun x y => decide (¬ x = y))) (t := 167) (nx := 163) rfl).trans bif_dec
theorem r_X1_play_152 {d : Nat} {b0 : Nat} {l0 l1 l2 l3 l4 l5 l6 l7 l8 l9 l10 l11 l12 : Option Value} {h : AH} : R_X1_play d 152 [l0, l1, l2, l3, l4, l5, l6, l7, l8, l9, l10, l11, l12] [.ref b0] h = (hai h 0 b0 (nI 2)).bind fun v => R_X1_play d 170 [l0, l1, l2, l3, l4, l5, l6, l7, l8, l9, l10, l11, l12] [.int v, .int ((nI 2)), .ref b0] h := by
  refine (p_const rfl).trans ?_
  refine (p_goto rfl).trans ?_
  refine (p_dup2 rfl rfl).trans ?_
  exact s_iald rfl
theorem r_X1_play_167 {d : Nat} {b0 : Nat} {l0 l1 l2 l3 l4 l5 l6 l7 l8 l9 l10 l11 l12 : Option Value} {h : AH} : R_X1_play d 167 [l0, l1, l2, l3, l4, l5, l6, l7, l8, l9, l10, l11, l12] [.ref b0] h = (hai h 0 b0 (nI 0)).bind fun v => R_X1_play d 170 [l0, l1, l2, l3, l4, l5, l6, l7, l8, l9, l10, l11, l12] [.int v, .int ((nI 0)), .ref b0] h := by
  refine (p_const rfl).trans ?_
  refine (p_dup2 rfl rfl).trans ?_
  exact s_iald rfl
theorem r_X1_play_163 {d : Nat} {b0 : Nat} {l0 l1 l2 l3 l4 l5 l6 l7 l8 l9 l10 l11 l12 : Option Value} {h : AH} : R_X1_play d 163 [l0, l1, l2, l3, l4, l5, l6, l7, l8, l9, l10, l11, l12] [.ref b0] h = (hai h 0 b0 (nI 1)).bind fun v => R_X1_play d 170 [l0, l1, l2, l3, l4, l5, l6, l7, l8, l9, l10, l11, l12] [.int v, .int ((nI 1)), .ref b0] h := by
  refine (p_const rfl).trans ?_
  refine (p_goto rfl).trans ?_
  refine (p_dup2 rfl rfl).trans ?_
  exact s_iald rfl
theorem r_X1_play_170 {d : Nat} {b0 : Nat} {s1 s2 : Int32} {l0 l1 l2 l3 l4 l5 l6 l7 l8 l9 l10 l11 l12 : Option Value} {h : AH} : R_X1_play d 170 [l0, l1, l2, l3, l4, l5, l6, l7, l8, l9, l10, l11, l12] [.int (s2), .int (s1), .ref b0] h = (hsi h 0 b0 s1 (s2 + (nI 1))).bind fun h1 => R_X1_play d 173 [l0, l1, l2, l3, l4, l5, l6, l7, l8, l9, l10, l11, l12] [] h1 := by
  refine (p_const rfl).trans ?_
  refine (p_bin rfl).trans ?_
  exact s_iast (t := 0) (nar := (fun y => y)) rfl
theorem r_X1_play_173 {d : Nat} {x8 : Int32} {l0 l1 l2 l3 l4 l5 l6 l7 l9 l10 l11 l12 : Option Value} {h : AH} : R_X1_play d 173 [l0, l1, l2, l3, l4, l5, l6, l7, some (.int (x8)), l9, l10, l11, l12] [] h = R_X1_play d 44 [l0, l1, l2, l3, l4, l5, l6, l7, some (.int (x8 + (nI 1))), l9, l10, l11, l12] [] h := by
  refine (p_iinc rfl rfl rfl).trans ?_
  refine (p_goto rfl).trans ?_
  exact rfl
theorem e_X1_play {d : Nat} {a0 : Nat} {x1 x2 x3 : Int32} {h : AH} : exec tTab (d + 1) K_X1_play [.ref a0, .int x1, .int x2, .int x3] h = R_X1_play d 0 [some (.ref a0), some (.int x1), some (.int x2), some (.int x3), none, none, none, none, none, none, none, none, none] [] h := exec_eq (cd := k_X1_play) (hd := (fun _ _ => some none)) (L := 13) rfl rfl rfl
