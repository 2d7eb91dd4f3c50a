set_option maxRecDepth 100000
/-- FavourTownModel.<init>()V -/
abbrev K_X7_init : Nat := 149
noncomputable def R_X7_init (d pc : Nat) (ls : ALs) (st : List Value) (h : AH) : Option (AOut × AH) := aR (exec tTab d) k_X7_init (fun _ _ => some none) (pc, ls, st, h)
theorem r_X7_init_0 {d : Nat} {a0 : Nat} {h : AH} : R_X7_init d 0 [some (.ref a0)] [] h = bif hin (nI 3346) 65537 then R_X7_init d 10 [some (.ref a0)] [.ref h.2.1, .ref a0] (hnew h (true, .inl (0, ((nI 3346)).toNatClampNeg, (.inl (fun _ => 0)))) ((nI 3346)).toNatClampNeg) else none := by
  refine (p_aload rfl rfl).trans ?_
  refine (s_objI rfl rfl).trans ?_
  refine (p_aload rfl rfl).trans ?_
  refine (p_const rfl).trans ?_
  exact s_newa (t := 0) (z := (.inl (fun _ => 0))) rfl
theorem r_X7_init_10 {d : Nat} {b0 b1 : Nat} {l0 : Option Value} {h : AH} : R_X7_init d 10 [l0] [.ref b1, .ref b0] h = (hpf h [18] b0 1 (.ref b1)).bind fun h1 => R_X7_init d 13 [l0] [] h1 := s_putT rfl rfl
theorem r_X7_init_10N {d : Nat} {b0 : Nat} {l0 : Option Value} {h : AH} : R_X7_init d 10 [l0] [.null, .ref b0] h = (hpf h [18] b0 1 (.null)).bind fun h1 => R_X7_init d 13 [l0] [] h1 := s_putT rfl rfl
theorem r_X7_init_13 {d : Nat} {a0 : Nat} {h : AH} : R_X7_init d 13 [some (.ref a0)] [] h = bif hin (nI 3346) 65537 then R_X7_init d 19 [some (.ref a0)] [.ref h.2.1, .ref a0] (hnew h (true, .inl (0, ((nI 3346)).toNatClampNeg, (.inl (fun _ => 0)))) ((nI 3346)).toNatClampNeg) else none := by
  refine (p_aload rfl rfl).trans ?_
  refine (p_const rfl).trans ?_
  exact s_newa (t := 0) (z := (.inl (fun _ => 0))) rfl
theorem r_X7_init_19 {d : Nat} {b0 b1 : Nat} {l0 : Option Value} {h : AH} : R_X7_init d 19 [l0] [.ref b1, .ref b0] h = (hpf h [18] b0 2 (.ref b1)).bind fun h1 => R_X7_init d 22 [l0] [] h1 := s_putT rfl rfl
theorem r_X7_init_19N {d : Nat} {b0 : Nat} {l0 : Option Value} {h : AH} : R_X7_init d 19 [l0] [.null, .ref b0] h = (hpf h [18] b0 2 (.null)).bind fun h1 => R_X7_init d 22 [l0] [] h1 := s_putT rfl rfl
theorem r_X7_init_22 {d : Nat} {a0 : Nat} {h : AH} : R_X7_init d 22 [some (.ref a0)] [] h = bif hin (nI 940) 65537 then R_X7_init d 28 [some (.ref a0)] [.ref h.2.1, .ref a0] (hnew h (true, .inl (0, ((nI 940)).toNatClampNeg, (.inl (fun _ => 0)))) ((nI 940)).toNatClampNeg) else none := by
  refine (p_aload rfl rfl).trans ?_
  refine (p_const rfl).trans ?_
  exact s_newa (t := 0) (z := (.inl (fun _ => 0))) rfl
theorem r_X7_init_28 {d : Nat} {b0 b1 : Nat} {l0 : Option Value} {h : AH} : R_X7_init d 28 [l0] [.ref b1, .ref b0] h = (hpf h [18] b0 4 (.ref b1)).bind fun h1 => R_X7_init d 31 [l0] [] h1 := s_putT rfl rfl
theorem r_X7_init_28N {d : Nat} {b0 : Nat} {l0 : Option Value} {h : AH} : R_X7_init d 28 [l0] [.null, .ref b0] h = (hpf h [18] b0 4 (.null)).bind fun h1 => R_X7_init d 31 [l0] [] h1 := s_putT rfl rfl
theorem r_X7_init_31 {d : Nat} {a0 : Nat} {h : AH} : R_X7_init d 31 [some (.ref a0)] [] h = bif hin (nI 400) 65537 then R_X7_init d 37 [some (.ref a0)] [.ref h.2.1, .ref a0] (hnew h (true, .inl (0, ((nI 400)).toNatClampNeg, (.inl (fun _ => 0)))) ((nI 400)).toNatClampNeg) else none := by
  refine (p_aload rfl rfl).trans ?_
  refine (p_const rfl).trans ?_
  exact s_newa (t := 0) (z := (.inl (fun _ => 0))) rfl
theorem r_X7_init_37 {d : Nat} {b0 b1 : Nat} {l0 : Option Value} {h : AH} : R_X7_init d 37 [l0] [.ref b1, .ref b0] h = (hpf h [18] b0 5 (.ref b1)).bind fun h1 => R_X7_init d 40 [l0] [] h1 := s_putT rfl rfl
theorem r_X7_init_37N {d : Nat} {b0 : Nat} {l0 : Option Value} {h : AH} : R_X7_init d 37 [l0] [.null, .ref b0] h = (hpf h [18] b0 5 (.null)).bind fun h1 => R_X7_init d 40 [l0] [] h1 := s_putT rfl rfl
theorem r_X7_init_40 {d : Nat} {a0 : Nat} {h : AH} : R_X7_init d 40 [some (.ref a0)] [] h = (hpf h [18] a0 10 (.int ((-1)))).bind fun h1 => R_X7_init d 45 [some (.ref a0)] [] h1 := by
  refine (p_aload rfl rfl).trans ?_
  refine (p_const rfl).trans ?_
  exact s_putT rfl rfl
theorem r_X7_init_45 {d : Nat} {a0 : Nat} {h : AH} : R_X7_init d 45 [some (.ref a0)] [] h = bif hin (nI 6) 65537 then R_X7_init d 50 [some (.ref a0)] [.ref h.2.1, .ref a0] (hnew h (true, .inl (0, ((nI 6)).toNatClampNeg, (.inl (fun _ => 0)))) ((nI 6)).toNatClampNeg) else none := by
  refine (p_aload rfl rfl).trans ?_
  refine (p_const rfl).trans ?_
  exact s_newa (t := 0) (z := (.inl (fun _ => 0))) rfl
theorem r_X7_init_50 {d : Nat} {b0 b1 : Nat} {l0 : Option Value} {h : AH} : R_X7_init d 50 [l0] [.ref b1, .ref b0] h = (hpf h [18] b0 13 (.ref b1)).bind fun h1 => R_X7_init d 53 [l0] [] h1 := s_putT rfl rfl
theorem r_X7_init_50N {d : Nat} {b0 : Nat} {l0 : Option Value} {h : AH} : R_X7_init d 50 [l0] [.null, .ref b0] h = (hpf h [18] b0 13 (.null)).bind fun h1 => R_X7_init d 53 [l0] [] h1 := s_putT rfl rfl
theorem r_X7_init_53 {d : Nat} {a0 : Nat} {h : AH} : R_X7_init d 53 [some (.ref a0)] [] h = bif hin (nI 144) 65537 then R_X7_init d 59 [some (.ref a0)] [.ref h.2.1, .ref a0] (hnew h (true, .inl (0, ((nI 144)).toNatClampNeg, (.inl (fun _ => 0)))) ((nI 144)).toNatClampNeg) else none := by
  refine (p_aload rfl rfl).trans ?_
  refine (p_const rfl).trans ?_
  exact s_newa (t := 0) (z := (.inl (fun _ => 0))) rfl
theorem r_X7_init_59 {d : Nat} {b0 b1 : Nat} {l0 : Option Value} {h : AH} : R_X7_init d 59 [l0] [.ref b1, .ref b0] h = (hpf h [18] b0 18 (.ref b1)).bind fun h1 => R_X7_init d 62 [l0] [] h1 := s_putT rfl rfl
theorem r_X7_init_59N {d : Nat} {b0 : Nat} {l0 : Option Value} {h : AH} : R_X7_init d 59 [l0] [.null, .ref b0] h = (hpf h [18] b0 18 (.null)).bind fun h1 => R_X7_init d 62 [l0] [] h1 := s_putT rfl rfl
theorem r_X7_init_62 {d : Nat} {a0 : Nat} {h : AH} : R_X7_init d 62 [some (.ref a0)] [] h = bif hin (nI 12) 65537 then R_X7_init d 67 [some (.ref a0)] [.ref h.2.1, .ref a0] (hnew h (true, .inl (0, ((nI 12)).toNatClampNeg, (.inl (fun _ => 0)))) ((nI 12)).toNatClampNeg) else none := by
  refine (p_aload rfl rfl).trans ?_
  refine (p_const rfl).trans ?_
  exact s_newa (t := 0) (z := (.inl (fun _ => 0))) rfl
theorem r_X7_init_67 {d : Nat} {b0 b1 : Nat} {l0 : Option Value} {h : AH} : R_X7_init d 67 [l0] [.ref b1, .ref b0] h = (hpf h [18] b0 19 (.ref b1)).bind fun h1 => R_X7_init d 70 [l0] [] h1 := s_putT rfl rfl
theorem r_X7_init_67N {d : Nat} {b0 : Nat} {l0 : Option Value} {h : AH} : R_X7_init d 67 [l0] [.null, .ref b0] h = (hpf h [18] b0 19 (.null)).bind fun h1 => R_X7_init d 70 [l0] [] h1 := s_putT rfl rfl
theorem r_X7_init_70 {d : Nat} {a0 : Nat} {h : AH} : R_X7_init d 70 [some (.ref a0)] [] h = bif hin (nI 12) 65537 then R_X7_init d 75 [some (.ref a0)] [.ref h.2.1, .ref a0] (hnew h (true, .inl (0, ((nI 12)).toNatClampNeg, (.inl (fun _ => 0)))) ((nI 12)).toNatClampNeg) else none := by
  refine (p_aload rfl rfl).trans ?_
  refine (p_const rfl).trans ?_
  exact s_newa (t := 0) (z := (.inl (fun _ => 0))) rfl
theorem r_X7_init_75 {d : Nat} {b0 b1 : Nat} {l0 : Option Value} {h : AH} : R_X7_init d 75 [l0] [.ref b1, .ref b0] h = (hpf h [18] b0 20 (.ref b1)).bind fun h1 => R_X7_init d 78 [l0] [] h1 := s_putT rfl rfl
theorem r_X7_init_75N {d : Nat} {b0 : Nat} {l0 : Option Value} {h : AH} : R_X7_init d 75 [l0] [.null, .ref b0] h = (hpf h [18] b0 20 (.null)).bind fun h1 => R_X7_init d 78 [l0] [] h1 := s_putT rfl rfl
theorem r_X7_init_78 {d : Nat} {a0 : Nat} {h : AH} : R_X7_init d 78 [some (.ref a0)] [] h = bif hin (nI 12) 65537 then R_X7_init d 83 [some (.ref a0)] [.ref h.2.1, .ref a0] (hnew h (true, .inl (0, ((nI 12)).toNatClampNeg, (.inl (fun _ => 0)))) ((nI 12)).toNatClampNeg) else none := by
  refine (p_aload rfl rfl).trans ?_
  refine (p_const rfl).trans ?_
  exact s_newa (t := 0) (z := (.inl (fun _ => 0))) rfl
theorem r_X7_init_83 {d : Nat} {b0 b1 : Nat} {l0 : Option Value} {h : AH} : R_X7_init d 83 [l0] [.ref b1, .ref b0] h = (hpf h [18] b0 21 (.ref b1)).bind fun h1 => R_X7_init d 86 [l0] [] h1 := s_putT rfl rfl
theorem r_X7_init_83N {d : Nat} {b0 : Nat} {l0 : Option Value} {h : AH} : R_X7_init d 83 [l0] [.null, .ref b0] h = (hpf h [18] b0 21 (.null)).bind fun h1 => R_X7_init d 86 [l0] [] h1 := s_putT rfl rfl
theorem r_X7_init_86 {d : Nat} {a0 : Nat} {h : AH} : R_X7_init d 86 [some (.ref a0)] [] h = bif hin (nI 144) 65537 then R_X7_init d 92 [some (.ref a0)] [.ref h.2.1, .ref a0] (hnew h (true, .inl (0, ((nI 144)).toNatClampNeg, (.inl (fun _ => 0)))) ((nI 144)).toNatClampNeg) else none := by
  refine (p_aload rfl rfl).trans ?_
  refine (p_const rfl).trans ?_
  exact s_newa (t := 0) (z := (.inl (fun _ => 0))) rfl
theorem r_X7_init_92 {d : Nat} {b0 b1 : Nat} {l0 : Option Value} {h : AH} : R_X7_init d 92 [l0] [.ref b1, .ref b0] h = (hpf h [18] b0 22 (.ref b1)).bind fun h1 => R_X7_init d 95 [l0] [] h1 := s_putT rfl rfl
theorem r_X7_init_92N {d : Nat} {b0 : Nat} {l0 : Option Value} {h : AH} : R_X7_init d 92 [l0] [.null, .ref b0] h = (hpf h [18] b0 22 (.null)).bind fun h1 => R_X7_init d 95 [l0] [] h1 := s_putT rfl rfl
theorem r_X7_init_95 {d : Nat} {a0 : Nat} {h : AH} : R_X7_init d 95 [some (.ref a0)] [] h = bif hin (nI 8) 65537 then R_X7_init d 100 [some (.ref a0)] [.ref h.2.1, .ref a0] (hnew h (true, .inl (0, ((nI 8)).toNatClampNeg, (.inl (fun _ => 0)))) ((nI 8)).toNatClampNeg) else none := by
  refine (p_aload rfl rfl).trans ?_
  refine (p_const rfl).trans ?_
  exact s_newa (t := 0) (z := (.inl (fun _ => 0))) rfl
theorem r_X7_init_100 {d : Nat} {b0 b1 : Nat} {l0 : Option Value} {h : AH} : R_X7_init d 100 [l0] [.ref b1, .ref b0] h = (hpf h [18] b0 23 (.ref b1)).bind fun h1 => R_X7_init d 103 [l0] [] h1 := s_putT rfl rfl
theorem r_X7_init_100N {d : Nat} {b0 : Nat} {l0 : Option Value} {h : AH} : R_X7_init d 100 [l0] [.null, .ref b0] h = (hpf h [18] b0 23 (.null)).bind fun h1 => R_X7_init d 103 [l0] [] h1 := s_putT rfl rfl
theorem r_X7_init_103 {d : Nat} {a0 : Nat} {h : AH} : R_X7_init d 103 [some (.ref a0)] [] h = bif hin (nI 8) 65537 then R_X7_init d 108 [some (.ref a0)] [.ref h.2.1, .ref a0] (hnew h (true, .inl (0, ((nI 8)).toNatClampNeg, (.inl (fun _ => 0)))) ((nI 8)).toNatClampNeg) else none := by
  refine (p_aload rfl rfl).trans ?_
  refine (p_const rfl).trans ?_
  exact s_newa (t := 0) (z := (.inl (fun _ => 0))) rfl
theorem r_X7_init_108 {d : Nat} {b0 b1 : Nat} {l0 : Option Value} {h : AH} : R_X7_init d 108 [l0] [.ref b1, .ref b0] h = (hpf h [18] b0 24 (.ref b1)).bind fun h1 => R_X7_init d 111 [l0] [] h1 := s_putT rfl rfl
theorem r_X7_init_108N {d : Nat} {b0 : Nat} {l0 : Option Value} {h : AH} : R_X7_init d 108 [l0] [.null, .ref b0] h = (hpf h [18] b0 24 (.null)).bind fun h1 => R_X7_init d 111 [l0] [] h1 := s_putT rfl rfl
theorem r_X7_init_111 {d : Nat} {a0 : Nat} {h : AH} : R_X7_init d 111 [some (.ref a0)] [] h = bif hin (nI 40) 65537 then R_X7_init d 116 [some (.ref a0)] [.ref h.2.1, .ref a0] (hnew h (true, .inl (0, ((nI 40)).toNatClampNeg, (.inl (fun _ => 0)))) ((nI 40)).toNatClampNeg) else none := by
  refine (p_aload rfl rfl).trans ?_
  refine (p_const rfl).trans ?_
  exact s_newa (t := 0) (z := (.inl (fun _ => 0))) rfl
theorem r_X7_init_116 {d : Nat} {b0 b1 : Nat} {l0 : Option Value} {h : AH} : R_X7_init d 116 [l0] [.ref b1, .ref b0] h = (hpf h [18] b0 27 (.ref b1)).bind fun h1 => R_X7_init d 119 [l0] [] h1 := s_putT rfl rfl
theorem r_X7_init_116N {d : Nat} {b0 : Nat} {l0 : Option Value} {h : AH} : R_X7_init d 116 [l0] [.null, .ref b0] h = (hpf h [18] b0 27 (.null)).bind fun h1 => R_X7_init d 119 [l0] [] h1 := s_putT rfl rfl
theorem r_X7_init_119 {d : Nat} {a0 : Nat} {h : AH} : R_X7_init d 119 [some (.ref a0)] [] h = (hgf h [18] a0 1).bind fun v => R_X7_init d 123 [some (.ref a0)] [v] h := by
  refine (p_aload rfl rfl).trans ?_
  exact s_getf rfl
theorem r_X7_init_123 {d : Nat} {b0 : Nat} {l0 : Option Value} {h : AH} : R_X7_init d 123 [l0] [.ref b0] h = (hsi h 0 b0 (nI 7) (nI 10)).bind fun h1 => R_X7_init d 128 [l0] [] h1 := by
  refine (p_const rfl).trans ?_
  refine (p_const rfl).trans ?_
  exact s_iast (t := 0) (nar := (fun y => y)) rfl
theorem r_X7_init_128 {d : Nat} {l0 : Option Value} {h : AH} : R_X7_init d 128 [l0] [] h = some (.inl none, h) := s_vret rfl
theorem e_X7_init {d : Nat} {a0 : Nat} {h : AH} : exec tTab (d + 1) K_X7_init [.ref a0] h = R_X7_init d 0 [some (.ref a0)] [] h := exec_eq (cd := k_X7_init) (hd := (fun _ _ => some none)) (L := 1) rfl rfl rfl
/-- FavourTownModel.thrown()I -/
abbrev K_X7_thrown : Nat := 150
noncomputable def R_X7_thrown (d pc : Nat) (ls : ALs) (st : List Value) (h : AH) : Option (AOut × AH) := aR (exec tTab d) k_X7_thrown (fun _ _ => some none) (pc, ls, st, h)
theorem r_X7_thrown_0 {d : Nat} {a0 : Nat} {h : AH} : R_X7_thrown d 0 [some (.ref a0)] [] h = (hgf h [18] a0 0).bind fun v => R_X7_thrown d 4 [some (.ref a0)] [v] h := by
  refine (p_aload rfl rfl).trans ?_
  exact s_getf rfl
theorem r_X7_thrown_4 {d : Nat} {s0 : Int32} {l0 : Option Value} {h : AH} : R_X7_thrown d 4 [l0] [.int (s0)] h = some (.inl (some (.int (s0))), h) := s_iretT rfl rfl
theorem e_X7_thrown {d : Nat} {a0 : Nat} {h : AH} : exec tTab (d + 1) K_X7_thrown [.ref a0] h = R_X7_thrown d 0 [some (.ref a0)] [] h := exec_eq (cd := k_X7_thrown) (hd := (fun _ _ => some none)) (L := 1) rfl rfl rfl
/-- FavourTownModel.feed(IIIII)I -/
abbrev K_X7_feed : Nat := 151
noncomputable def R_X7_feed (d pc : Nat) (ls : ALs) (st : List Value) (h : AH) : Option (AOut × AH) := aR (exec tTab d) k_X7_feed (fun _ _ => some none) (pc, ls, st, h)
theorem r_X7_feed_0 {d : Nat} {a0 : Nat} {l1 l2 l3 l4 l5 l6 l7 : Option Value} {h : AH} : R_X7_feed d 0 [some (.ref a0), l1, l2, l3, l4, l5, l6, l7] [] h = (hpf h [18] a0 0 (.int ((nI 0)))).bind fun h1 => R_X7_feed d 5 [some (.ref a0), l1, l2, l3, l4, l5, l6, l7] [] h1 := by
  refine (p_aload rfl rfl).trans ?_
  refine (p_const rfl).trans ?_
  exact s_putT rfl rfl
theorem r_X7_feed_5 {d : Nat} {a0 : Nat} {l1 l2 l3 l4 l5 l6 l7 : Option Value} {h : AH} : R_X7_feed d 5 [some (.ref a0), l1, l2, l3, l4, l5, l6, l7] [] h = (hgf h [18] a0 6).bind fun v => R_X7_feed d 9 [some (.ref a0), l1, l2, l3, l4, l5, l6, l7] [v] h := by
  refine (p_aload rfl rfl).trans ?_
  exact s_getf rfl
theorem r_X7_feed_9 {d : Nat} {s0 : Int32} {l0 l1 l2 l3 l4 l5 l6 l7 : Option Value} {h : AH} : R_X7_feed d 9 [l0, l1, l2, l3, l4, l5, l6, l7] [.int (s0)] h = if (s0 + (nI 20)) ≤ (nI 400) then R_X7_feed d 20 [l0, l1, l2, l3, l4, l5, l6, l7] [] h else R_X7_feed d 18 [l0, l1, l2, l3, l4, l5, l6, l7] [] h := by
  refine (p_const rfl).trans ?_
  refine (p_bin rfl).trans ?_
  refine (p_const rfl).trans ?_
  exact (s_icmp (g := (fun x y => decide (x ≤ y))) (t := 20) (nx := 18) rfl).trans bif_dec
theorem r_X7_feed_20 {d : Nat} {l0 l1 l2 l3 l4 l5 l6 l7 : Option Value} {h : AH} : R_X7_feed d 20 [l0, l1, l2, l3, l4, l5, l6, l7] [] h = R_X7_feed d 23 [l0, l1, l2, l3, l4, l5, some (.int ((nI 0))), l7] [] h := by
  refine (p_const rfl).trans ?_
  refine (p_istore rfl rfl rfl).trans ?_
  exact rfl
theorem r_X7_feed_18 {d : Nat} {l0 l1 l2 l3 l4 l5 l6 l7 : Option Value} {h : AH} : R_X7_feed d 18 [l0, l1, l2, l3, l4, l5, l6, l7] [] h = some (.inl (some (.int ((-1)))), h) := by
  refine (p_const rfl).trans ?_
  exact s_iretT rfl rfl
theorem q_X7_feed_23 {d : Nat} {x6 : Int32} {l0 l1 l2 l3 l4 l5 l7 : Option Value} {h : AH} : R_X7_feed d 23 [l0, l1, l2, l3, l4, l5, some (.int (x6)), l7] [] h = if (nI 20) ≤ x6 then R_X7_feed d 120 [l0, l1, l2, l3, l4, l5, some (.int (x6)), l7] [] h else R_X7_feed d 30 [l0, l1, l2, l3, l4, l5, some (.int (x6)), l7] [] h := by
  refine (p_iload rfl rfl).trans ?_
  refine (p_const rfl).trans ?_
  exact (s_icmp (g := (fun x y => decide (y ≤ x))) (t := 120) (nx := 30) rfl).trans bif_dec
theorem r_X7_feed_120 {d : Nat} {a0 : Nat} {l1 l2 l3 l4 l5 l6 l7 : Option Value} {h : AH} : R_X7_feed d 120 [some (.ref a0), l1, l2, l3, l4, l5, l6, l7] [] h = (hgf h [18] a0 6).bind fun v => R_X7_feed d 124 [some (.ref a0), l1, l2, l3, l4, l5, l6, l7] [v] h := by
  refine (p_aload rfl rfl).trans ?_
  exact s_getf rfl
theorem r_X7_feed_30 {d : Nat} {x6 : Int32} {l0 l1 l2 l3 l4 l5 l7 : Option Value} {h : AH} : R_X7_feed d 30 [l0, l1, l2, l3, l4, l5, some (.int (x6)), l7] [] h = if (nI 4) ≤ x6 then R_X7_feed d 40 [l0, l1, l2, l3, l4, l5, some (.int (x6)), l7] [] h else R_X7_feed d 36 [l0, l1, l2, l3, l4, l5, some (.int (x6)), l7] [] h := by
  refine (p_iload rfl rfl).trans ?_
  refine (p_const rfl).trans ?_
  exact (s_icmp (g := (fun x y => decide (y ≤ x))) (t := 40) (nx := 36) rfl).trans bif_dec
theorem r_X7_feed_124 {d : Nat} {s0 : Int32} {l0 l1 l2 l3 l4 l5 l6 l7 : Option Value} {h : AH} : R_X7_feed d 124 [l0, l1, l2, l3, l4, l5, l6, l7] [.int (s0)] h = some (.inl (some (.int (s0))), h) := s_iretT rfl rfl
theorem r_X7_feed_40 {d : Nat} {x6 : Int32} {l0 l1 l2 l3 l4 l5 l7 : Option Value} {h : AH} : R_X7_feed d 40 [l0, l1, l2, l3, l4, l5, some (.int (x6)), l7] [] h = if (nI 8) ≤ x6 then R_X7_feed d 51 [l0, l1, l2, l3, l4, l5, some (.int (x6)), l7] [] h else R_X7_feed d 47 [l0, l1, l2, l3, l4, l5, some (.int (x6)), l7] [] h := by
  refine (p_iload rfl rfl).trans ?_
  refine (p_const rfl).trans ?_
  exact (s_icmp (g := (fun x y => decide (y ≤ x))) (t := 51) (nx := 47) rfl).trans bif_dec
theorem r_X7_feed_36 {d : Nat} {x1 : Int32} {a0 : Nat} {l2 l3 l4 l5 l6 l7 : Option Value} {h : AH} : R_X7_feed d 36 [some (.ref a0), some (.int (x1)), l2, l3, l4, l5, l6, l7] [] h = (hgf h [18] a0 5).bind fun v => R_X7_feed d 82 [some (.ref a0), some (.int (x1)), l2, l3, l4, l5, l6, some (.int (x1))] [v] h := by
  refine (p_iload rfl rfl).trans ?_
  refine (p_goto rfl).trans ?_
  refine (p_istore rfl rfl rfl).trans ?_
  refine (p_aload rfl rfl).trans ?_
  exact s_getf rfl
theorem r_X7_feed_51 {d : Nat} {x6 : Int32} {l0 l1 l2 l3 l4 l5 l7 : Option Value} {h : AH} : R_X7_feed d 51 [l0, l1, l2, l3, l4, l5, some (.int (x6)), l7] [] h = if (nI 12) ≤ x6 then R_X7_feed d 62 [l0, l1, l2, l3, l4, l5, some (.int (x6)), l7] [] h else R_X7_feed d 58 [l0, l1, l2, l3, l4, l5, some (.int (x6)), l7] [] h := by
  refine (p_iload rfl rfl).trans ?_
  refine (p_const rfl).trans ?_
  exact (s_icmp (g := (fun x y => decide (y ≤ x))) (t := 62) (nx := 58) rfl).trans bif_dec
theorem r_X7_feed_47 {d : Nat} {x2 : Int32} {a0 : Nat} {l1 l3 l4 l5 l6 l7 : Option Value} {h : AH} : R_X7_feed d 47 [some (.ref a0), l1, some (.int (x2)), l3, l4, l5, l6, l7] [] h = (hgf h [18] a0 5).bind fun v => R_X7_feed d 82 [some (.ref a0), l1, some (.int (x2)), l3, l4, l5, l6, some (.int (x2))] [v] h := by
  refine (p_iload rfl rfl).trans ?_
  refine (p_goto rfl).trans ?_
  refine (p_istore rfl rfl rfl).trans ?_
  refine (p_aload rfl rfl).trans ?_
  exact s_getf rfl
theorem r_X7_feed_82 {d : Nat} {b0 a0 : Nat} {l1 l2 l3 l4 l5 l6 l7 : Option Value} {h : AH} : R_X7_feed d 82 [some (.ref a0), l1, l2, l3, l4, l5, l6, l7] [.ref b0] h = (hgf h [18] a0 6).bind fun v => R_X7_feed d 86 [some (.ref a0), l1, l2, l3, l4, l5, l6, l7] [v, .ref b0] h := by
  refine (p_aload rfl rfl).trans ?_
  exact s_getf rfl
theorem r_X7_feed_82N {d : Nat} {a0 : Nat} {l1 l2 l3 l4 l5 l6 l7 : Option Value} {h : AH} : R_X7_feed d 82 [some (.ref a0), l1, l2, l3, l4, l5, l6, l7] [.null] h = (hgf h [18] a0 6).bind fun v => R_X7_feed d 86 [some (.ref a0), l1, l2, l3, l4, l5, l6, l7] [v, .null] h := by
  refine (p_aload rfl rfl).trans ?_
  exact s_getf rfl
theorem r_X7_feed_62 {d : Nat} {x6 : Int32} {l0 l1 l2 l3 l4 l5 l7 : Option Value} {h : AH} : R_X7_feed d 62 [l0, l1, l2, l3, l4, l5, some (.int (x6)), l7] [] h = if (nI 16) ≤ x6 then R_X7_feed d 74 [l0, l1, l2, l3, l4, l5, some (.int (x6)), l7] [] h else R_X7_feed d 69 [l0, l1, l2, l3, l4, l5, some (.int (x6)), l7] [] h := by
  refine (p_iload rfl rfl).trans ?_
  refine (p_const rfl).trans ?_
  exact (s_icmp (g := (fun x y => decide (y ≤ x))) (t := 74) (nx := 69) rfl).trans bif_dec
theorem r_X7_feed_58 {d : Nat} {x3 : Int32} {a0 : Nat} {l1 l2 l4 l5 l6 l7 : Option Value} {h : AH} : R_X7_feed d 58 [some (.ref a0), l1, l2, some (.int (x3)), l4, l5, l6, l7] [] h = (hgf h [18] a0 5).bind fun v => R_X7_feed d 82 [some (.ref a0), l1, l2, some (.int (x3)), l4, l5, l6, some (.int (x3))] [v] h := by
  refine (p_iload rfl rfl).trans ?_
  refine (p_goto rfl).trans ?_
  refine (p_istore rfl rfl rfl).trans ?_
  refine (p_aload rfl rfl).trans ?_
  exact s_getf rfl
theorem r_X7_feed_86 {d : Nat} {b0 : Nat} {s1 x7 x6 : Int32} {l0 l1 l2 l3 l4 l5 : Option Value} {h : AH} : R_X7_feed d 86 [l0, l1, l2, l3, l4, l5, some (.int (x6)), some (.int (x7))] [.int (s1), .ref b0] h = (hsi h 0 b0 s1 (((x7.toUInt32 >>> (((nI 24) - ((nI 8) * (x6 - x6 / (nI 4) * (nI 4)))).toUInt32 &&& Int32.toUInt32 31)).toInt32) &&& (nI 255))).bind fun h1 => R_X7_feed d 104 [l0, l1, l2, l3, l4, l5, some (.int (x6)), some (.int (x7))] [] h1 := by
  refine (p_iload rfl rfl).trans ?_
  refine (p_const rfl).trans ?_
  refine (p_const rfl).trans ?_
  refine (p_iload rfl rfl).trans ?_
  refine (p_const rfl).trans ?_
  refine (p_divC rfl (by decide)).trans ?_
  refine (p_bin rfl).trans ?_
  refine (p_bin rfl).trans ?_
  refine (p_bin rfl).trans ?_
  refine (p_const rfl).trans ?_
  refine (p_bin rfl).trans ?_
  exact s_iast (t := 0) (nar := (fun y => y)) rfl
theorem r_X7_feed_74 {d : Nat} {x5 : Int32} {a0 : Nat} {l1 l2 l3 l4 l6 l7 : Option Value} {h : AH} : R_X7_feed d 74 [some (.ref a0), l1, l2, l3, l4, some (.int (x5)), l6, l7] [] h = (hgf h [18] a0 5).bind fun v => R_X7_feed d 82 [some (.ref a0), l1, l2, l3, l4, some (.int (x5)), l6, some (.int (x5))] [v] h := by
  refine (p_iload rfl rfl).trans ?_
  refine (p_istore rfl rfl rfl).trans ?_
  refine (p_aload rfl rfl).trans ?_
  exact s_getf rfl
theorem r_X7_feed_69 {d : Nat} {x4 : Int32} {a0 : Nat} {l1 l2 l3 l5 l6 l7 : Option Value} {h : AH} : R_X7_feed d 69 [some (.ref a0), l1, l2, l3, some (.int (x4)), l5, l6, l7] [] h = (hgf h [18] a0 5).bind fun v => R_X7_feed d 82 [some (.ref a0), l1, l2, l3, some (.int (x4)), l5, l6, some (.int (x4))] [v] h := by
  refine (p_iload rfl rfl).trans ?_
  refine (p_goto rfl).trans ?_
  refine (p_istore rfl rfl rfl).trans ?_
  refine (p_aload rfl rfl).trans ?_
  exact s_getf rfl
theorem r_X7_feed_104 {d : Nat} {a0 : Nat} {l1 l2 l3 l4 l5 l6 l7 : Option Value} {h : AH} : R_X7_feed d 104 [some (.ref a0), l1, l2, l3, l4, l5, l6, l7] [] h = (hgf h [18] a0 6).bind fun v => R_X7_feed d 109 [some (.ref a0), l1, l2, l3, l4, l5, l6, l7] [v, .ref a0] h := by
  refine (p_aload rfl rfl).trans ?_
  refine (p_dup rfl rfl).trans ?_
  exact s_getf rfl
theorem r_X7_feed_109 {d : Nat} {b0 : Nat} {s1 : Int32} {l0 l1 l2 l3 l4 l5 l6 l7 : Option Value} {h : AH} : R_X7_feed d 109 [l0, l1, l2, l3, l4, l5, l6, l7] [.int (s1), .ref b0] h = (hpf h [18] b0 6 (.int (s1 + (nI 1)))).bind fun h1 => R_X7_feed d 114 [l0, l1, l2, l3, l4, l5, l6, l7] [] h1 := by
  refine (p_const rfl).trans ?_
  refine (p_bin rfl).trans ?_
  exact s_putT rfl rfl
theorem r_X7_feed_114 {d : Nat} {x6 : Int32} {l0 l1 l2 l3 l4 l5 l7 : Option Value} {h : AH} : R_X7_feed d 114 [l0, l1, l2, l3, l4, l5, some (.int (x6)), l7] [] h = R_X7_feed d 23 [l0, l1, l2, l3, l4, l5, some (.int (x6 + (nI 1))), l7] [] h := by
  refine (p_iinc rfl rfl rfl).trans ?_
  refine (p_goto rfl).trans ?_
  exact rfl
theorem e_X7_feed {d : Nat} {a0 : Nat} {x1 x2 x3 x4 x5 : Int32} {h : AH} : exec tTab (d + 1) K_X7_feed [.ref a0, .int x1, .int x2, .int x3, .int x4, .int x5] h = R_X7_feed d 0 [some (.ref a0), some (.int x1), some (.int x2), some (.int x3), some (.int x4), some (.int x5), none, none] [] h := exec_eq (cd := k_X7_feed) (hd := (fun _ _ => some none)) (L := 8) rfl rfl rfl
/-- FavourTownModel.end(I)Z -/
abbrev K_X7_end : Nat := 152
noncomputable def R_X7_end (d pc : Nat) (ls : ALs) (st : List Value) (h : AH) : Option (AOut × AH) := aR (exec tTab d) k_X7_end (fun _ _ => some none) (pc, ls, st, h)
theorem r_X7_end_0 {d : Nat} {a0 : Nat} {l1 : Option Value} {h : AH} : R_X7_end d 0 [some (.ref a0), l1] [] h = (hpf h [18] a0 0 (.int ((nI 0)))).bind fun h1 => R_X7_end d 5 [some (.ref a0), l1] [] h1 := by
  refine (p_aload rfl rfl).trans ?_
  refine (p_const rfl).trans ?_
  exact s_putT rfl rfl
theorem r_X7_end_5 {d : Nat} {x1 : Int32} {a0 : Nat} {h : AH} : R_X7_end d 5 [some (.ref a0), some (.int (x1))] [] h = (hgf h [18] a0 6).bind fun v => R_X7_end d 11 [some (.ref a0), some (.int (x1))] [v, .int ((nI 0)), .int (x1)] h := by
  refine (p_iload rfl rfl).trans ?_
  refine (p_const rfl).trans ?_
  refine (p_aload rfl rfl).trans ?_
  exact s_getf rfl
theorem r_X7_end_11 {d : Nat} {s0 s1 s2 : Int32} {l0 l1 : Option Value} {h : AH} : R_X7_end d 11 [l0, l1] [.int (s2), .int (s1), .int (s0)] h = aK (exec tTab d 153 [.int (s0), .int (s1), .int (s2)] h) (fun v h1 => R_X7_end d 14 [l0, l1] (v.toList ++ []) h1) (fun E h1 => some (.inr E, h1)) := s_callS (y := 153) (n := 3) rfl rfl
theorem r_X7_end_14 {d : Nat} {s0 : Int32} {l0 l1 : Option Value} {h : AH} : R_X7_end d 14 [l0, l1] [.int (s0)] h = if ¬ s0 = 0 then R_X7_end d 19 [l0, l1] [] h else R_X7_end d 17 [l0, l1] [] h := (s_if (g := (fun x => decide (¬ x = 0))) (t := 19) (nx := 17) rfl).trans bif_dec
theorem r_X7_end_19 {d : Nat} {a0 : Nat} {x1 : Int32} {h : AH} : R_X7_end d 19 [some (.ref a0), some (.int (x1))] [] h = (hpf h [18] a0 6 (.int (x1))).bind fun h1 => R_X7_end d 24 [some (.ref a0), some (.int (x1))] [] h1 := by
  refine (p_aload rfl rfl).trans ?_
  refine (p_iload rfl rfl).trans ?_
  exact s_putT rfl rfl
theorem r_X7_end_17 {d : Nat} {l0 l1 : Option Value} {h : AH} : R_X7_end d 17 [l0, l1] [] h = some (.inl (some (.int ((nI 0)))), h) := by
  refine (p_const rfl).trans ?_
  exact s_iretT rfl rfl
theorem r_X7_end_24 {d : Nat} {l0 l1 : Option Value} {h : AH} : R_X7_end d 24 [l0, l1] [] h = some (.inl (some (.int ((nI 1)))), h) := by
  refine (p_const rfl).trans ?_
  exact s_iretT rfl rfl
theorem e_X7_end {d : Nat} {a0 : Nat} {x1 : Int32} {h : AH} : exec tTab (d + 1) K_X7_end [.ref a0, .int x1] h = R_X7_end d 0 [some (.ref a0), some (.int x1)] [] h := exec_eq (cd := k_X7_end) (hd := (fun _ _ => some none)) (L := 2) rfl rfl rfl
/-- FavourTownModel.isIn(III)Z -/
abbrev K_X7_isIn : Nat := 153
noncomputable def R_X7_isIn (d pc : Nat) (ls : ALs) (st : List Value) (h : AH) : Option (AOut × AH) := aR (exec tTab d) k_X7_isIn (fun _ _ => some none) (pc, ls, st, h)
theorem r_X7_isIn_0 {d : Nat} {x0 x1 : Int32} {l2 : Option Value} {h : AH} : R_X7_isIn d 0 [some (.int (x0)), some (.int (x1)), l2] [] h = if x0 < x1 then R_X7_isIn d 14 [some (.int (x0)), some (.int (x1)), l2] [] h else R_X7_isIn d 5 [some (.int (x0)), some (.int (x1)), l2] [] h := by
  refine (p_iload rfl rfl).trans ?_
  refine (p_iload rfl rfl).trans ?_
  exact (s_icmp (g := (fun x y => decide (x < y))) (t := 14) (nx := 5) rfl).trans bif_dec
theorem r_X7_isIn_14 {d : Nat} {l0 l1 l2 : Option Value} {h : AH} : R_X7_isIn d 14 [l0, l1, l2] [] h = some (.inl (some (.int ((nI 0)))), h) := by
  refine (p_const rfl).trans ?_
  exact s_iretT rfl rfl
theorem r_X7_isIn_5 {d : Nat} {x0 x2 : Int32} {l1 : Option Value} {h : AH} : R_X7_isIn d 5 [some (.int (x0)), l1, some (.int (x2))] [] h = if x2 < x0 then R_X7_isIn d 14 [some (.int (x0)), l1, some (.int (x2))] [] h else R_X7_isIn d 10 [some (.int (x0)), l1, some (.int (x2))] [] h := by
  refine (p_iload rfl rfl).trans ?_
  refine (p_iload rfl rfl).trans ?_
  exact (s_icmp (g := (fun x y => decide (y < x))) (t := 14) (nx := 10) rfl).trans bif_dec
theorem r_X7_isIn_10 {d : Nat} {l0 l1 l2 : Option Value} {h : AH} : R_X7_isIn d 10 [l0, l1, l2] [] h = some (.inl (some (.int ((nI 1)))), h) := by
  refine (p_const rfl).trans ?_
  refine (p_goto rfl).trans ?_
  exact s_iretT rfl rfl
theorem e_X7_isIn {d : Nat} {x0 x1 x2 : Int32} {h : AH} : exec tTab (d + 1) K_X7_isIn [.int x0, .int x1, .int x2] h = R_X7_isIn d 0 [some (.int x0), some (.int x1), some (.int x2)] [] h := exec_eq (cd := k_X7_isIn) (hd := (fun _ _ => some none)) (L := 3) rfl rfl rfl
/-- FavourTownModel.town()I -/
abbrev K_X7_town : Nat := 154
noncomputable def R_X7_town (d pc : Nat) (ls : ALs) (st : List Value) (h : AH) : Option (AOut × AH) := aR (exec tTab d) k_X7_town (fun _ _ => some none) (pc, ls, st, h)
theorem r_X7_town_0 {d : Nat} {l0 l1 : Option Value} {h : AH} : R_X7_town d 0 [l0, l1] [] h = R_X7_town d 2 [l0, some (.int ((nI 0)))] [] h := by
  refine (p_const rfl).trans ?_
  refine (p_istore rfl rfl rfl).trans ?_
  exact rfl
theorem q_X7_town_2 {d : Nat} {x1 : Int32} {l0 : Option Value} {h : AH} : R_X7_town d 2 [l0, some (.int (x1))] [] h = if (nI 940) ≤ x1 then R_X7_town d 27 [l0, some (.int (x1))] [] h else R_X7_town d 9 [l0, some (.int (x1))] [] h := by
  refine (p_iload rfl rfl).trans ?_
  refine (p_const rfl).trans ?_
  exact (s_icmp (g := (fun x y => decide (y ≤ x))) (t := 27) (nx := 9) rfl).trans bif_dec
theorem r_X7_town_27 {d : Nat} {a0 : Nat} {l1 : Option Value} {h : AH} : R_X7_town d 27 [some (.ref a0), l1] [] h = (hpf h [18] a0 10 (.int ((-1)))).bind fun h1 => R_X7_town d 32 [some (.ref a0), l1] [] h1 := by
  refine (p_aload rfl rfl).trans ?_
  refine (p_const rfl).trans ?_
  exact s_putT rfl rfl
theorem r_X7_town_9 {d : Nat} {a0 : Nat} {l1 : Option Value} {h : AH} : R_X7_town d 9 [some (.ref a0), l1] [] h = (hgf h [18] a0 4).bind fun v => R_X7_town d 13 [some (.ref a0), l1] [v] h := by
  refine (p_aload rfl rfl).trans ?_
  exact s_getf rfl
theorem r_X7_town_32 {d : Nat} {a0 : Nat} {l1 : Option Value} {h : AH} : R_X7_town d 32 [some (.ref a0), l1] [] h = (hpf h [18] a0 7 (.int ((-1)))).bind fun h1 => R_X7_town d 37 [some (.ref a0), l1] [] h1 := by
  refine (p_aload rfl rfl).trans ?_
  refine (p_const rfl).trans ?_
  exact s_putT rfl rfl
theorem r_X7_town_13 {d : Nat} {b0 a0 : Nat} {x1 : Int32} {h : AH} : R_X7_town d 13 [some (.ref a0), some (.int (x1))] [.ref b0] h = (hgf h [18] a0 1).bind fun v => R_X7_town d 18 [some (.ref a0), some (.int (x1))] [v, .int (x1), .ref b0] h := by
  refine (p_iload rfl rfl).trans ?_
  refine (p_aload rfl rfl).trans ?_
  exact s_getf rfl
theorem r_X7_town_13N {d : Nat} {x1 : Int32} {a0 : Nat} {h : AH} : R_X7_town d 13 [some (.ref a0), some (.int (x1))] [.null] h = (hgf h [18] a0 1).bind fun v => R_X7_town d 18 [some (.ref a0), some (.int (x1))] [v, .int (x1), .null] h := by
  refine (p_iload rfl rfl).trans ?_
  refine (p_aload rfl rfl).trans ?_
  exact s_getf rfl
theorem r_X7_town_37 {d : Nat} {a0 : Nat} {l1 : Option Value} {h : AH} : R_X7_town d 37 [some (.ref a0), l1] [] h = (hgf h [18] a0 6).bind fun v => R_X7_town d 42 [some (.ref a0), l1] [v, .ref a0] h := by
  refine (p_aload rfl rfl).trans ?_
  refine (p_aload rfl rfl).trans ?_
  exact s_getf rfl
theorem r_X7_town_18 {d : Nat} {b0 b2 : Nat} {s1 x1 : Int32} {l0 : Option Value} {h : AH} : R_X7_town d 18 [l0, some (.int (x1))] [.ref b2, .int (s1), .ref b0] h = (hai h 0 b2 x1).bind fun v => R_X7_town d 20 [l0, some (.int (x1))] [.int v, .int (s1), .ref b0] h := by
  refine (p_iload rfl rfl).trans ?_
  exact s_iald rfl
theorem r_X7_town_42 {d : Nat} {b0 : Nat} {s1 : Int32} {l0 l1 : Option Value} {h : AH} : R_X7_town d 42 [l0, l1] [.int (s1), .ref b0] h = (hpf h [18] b0 8 (.int (s1))).bind fun h1 => R_X7_town d 45 [l0, l1] [] h1 := s_putT rfl rfl
theorem r_X7_town_20 {d : Nat} {b0 : Nat} {s1 s2 : Int32} {l0 l1 : Option Value} {h : AH} : R_X7_town d 20 [l0, l1] [.int (s2), .int (s1), .ref b0] h = (hsi h 0 b0 s1 s2).bind fun h1 => R_X7_town d 21 [l0, l1] [] h1 := s_iast (t := 0) (nar := (fun y => y)) rfl
theorem r_X7_town_45 {d : Nat} {a0 : Nat} {l1 : Option Value} {h : AH} : R_X7_town d 45 [some (.ref a0), l1] [] h = (hpf h [18] a0 6 (.int ((nI 0)))).bind fun h1 => R_X7_town d 50 [some (.ref a0), l1] [] h1 := by
  refine (p_aload rfl rfl).trans ?_
  refine (p_const rfl).trans ?_
  exact s_putT rfl rfl
theorem r_X7_town_21 {d : Nat} {x1 : Int32} {l0 : Option Value} {h : AH} : R_X7_town d 21 [l0, some (.int (x1))] [] h = R_X7_town d 2 [l0, some (.int (x1 + (nI 1)))] [] h := by
  refine (p_iinc rfl rfl rfl).trans ?_
  refine (p_goto rfl).trans ?_
  exact rfl
theorem r_X7_town_50 {d : Nat} {a0 : Nat} {l1 : Option Value} {h : AH} : R_X7_town d 50 [some (.ref a0), l1] [] h = ((hci h a0).bind (lkN [(18, 155)])).bind fun y => aK (exec tTab d y [.ref a0, .int ((nI 0))] h) (fun v h1 => R_X7_town d 55 [some (.ref a0), l1] (v.toList ++ []) h1) (fun E h1 => some (.inr E, h1)) := by
  refine (p_aload rfl rfl).trans ?_
  refine (p_const rfl).trans ?_
  exact s_callV (L := [(18, 155)]) (n := 1) (b := a0) (rest := []) rfl rfl rfl
theorem r_X7_town_55 {d : Nat} {a0 : Nat} {l1 : Option Value} {h : AH} : R_X7_town d 55 [some (.ref a0), l1] [] h = (hgf h [18] a0 10).bind fun v => R_X7_town d 60 [some (.ref a0), l1] [v, .ref a0] h := by
  refine (p_aload rfl rfl).trans ?_
  refine (p_aload rfl rfl).trans ?_
  exact s_getf rfl
theorem r_X7_town_60 {d : Nat} {b0 : Nat} {s1 : Int32} {l0 l1 : Option Value} {h : AH} : R_X7_town d 60 [l0, l1] [.int (s1), .ref b0] h = if s1 = (-1) then R_X7_town d 68 [l0, l1] [.ref b0] h else R_X7_town d 64 [l0, l1] [.ref b0] h := by
  refine (p_const rfl).trans ?_
  exact (s_icmp (g := (fun x y => decide (x = y))) (t := 68) (nx := 64) rfl).trans bif_dec
theorem r_X7_town_68 {d : Nat} {b0 a0 : Nat} {l1 : Option Value} {h : AH} : R_X7_town d 68 [some (.ref a0), l1] [.ref b0] h = (hgf h [18] a0 1).bind fun v => R_X7_town d 72 [some (.ref a0), l1] [v, .ref b0] h := by
  refine (p_aload rfl rfl).trans ?_
  exact s_getf rfl
theorem r_X7_town_68N {d : Nat} {a0 : Nat} {l1 : Option Value} {h : AH} : R_X7_town d 68 [some (.ref a0), l1] [.null] h = (hgf h [18] a0 1).bind fun v => R_X7_town d 72 [some (.ref a0), l1] [v, .null] h := by
  refine (p_aload rfl rfl).trans ?_
  exact s_getf rfl
theorem r_X7_town_64 {d : Nat} {b0 : Nat} {l0 l1 : Option Value} {h : AH} : R_X7_town d 64 [l0, l1] [.ref b0] h = (hpf h [18] b0 0 (.int ((nI 1)))).bind fun h1 => R_X7_town d 87 [l0, l1] [] h1 := by
  refine (p_const rfl).trans ?_
  refine (p_goto rfl).trans ?_
  exact s_putT rfl rfl
theorem r_X7_town_72 {d : Nat} {b0 b1 : Nat} {l0 l1 : Option Value} {h : AH} : R_X7_town d 72 [l0, l1] [.ref b1, .ref b0] h = (hai h 0 b1 (nI 0)).bind fun v => R_X7_town d 74 [l0, l1] [.int v, .ref b0] h := by
  refine (p_const rfl).trans ?_
  exact s_iald rfl
theorem r_X7_town_87 {d : Nat} {a0 : Nat} {l1 : Option Value} {h : AH} : R_X7_town d 87 [some (.ref a0), l1] [] h = (hgf h [18] a0 0).bind fun v => R_X7_town d 91 [some (.ref a0), l1] [v] h := by
  refine (p_aload rfl rfl).trans ?_
  exact s_getf rfl
theorem r_X7_town_74 {d : Nat} {b0 : Nat} {s1 : Int32} {l0 l1 : Option Value} {h : AH} : R_X7_town d 74 [l0, l1] [.int (s1), .ref b0] h = if ¬ s1 = (nI 10) then R_X7_town d 83 [l0, l1] [.ref b0] h else R_X7_town d 79 [l0, l1] [.ref b0] h := by
  refine (p_const rfl).trans ?_
  exact (s_icmp (g := (fun x y => decide (¬ x = y))) (t := 83) (nx := 79) rfl).trans bif_dec
theorem r_X7_town_91 {d : Nat} {s0 : Int32} {l0 l1 : Option Value} {h : AH} : R_X7_town d 91 [l0, l1] [.int (s0)] h = if s0 ≤ 0 then R_X7_town d 123 [l0, l1] [] h else R_X7_town d 94 [l0, l1] [] h := (s_if (g := (fun x => decide (x ≤ 0))) (t := 123) (nx := 94) rfl).trans bif_dec
theorem r_X7_town_83 {d : Nat} {b0 : Nat} {l0 l1 : Option Value} {h : AH} : R_X7_town d 83 [l0, l1] [.ref b0] h = (hpf h [18] b0 0 (.int ((nI 0)))).bind fun h1 => R_X7_town d 87 [l0, l1] [] h1 := by
  refine (p_const rfl).trans ?_
  exact s_putT rfl rfl
theorem r_X7_town_79 {d : Nat} {b0 : Nat} {l0 l1 : Option Value} {h : AH} : R_X7_town d 79 [l0, l1] [.ref b0] h = (hpf h [18] b0 0 (.int ((nI 2)))).bind fun h1 => R_X7_town d 87 [l0, l1] [] h1 := by
  refine (p_const rfl).trans ?_
  refine (p_goto rfl).trans ?_
  exact s_putT rfl rfl
theorem r_X7_town_123 {d : Nat} {a0 : Nat} {l1 : Option Value} {h : AH} : R_X7_town d 123 [some (.ref a0), l1] [] h = (hgf h [18] a0 1).bind fun v => R_X7_town d 127 [some (.ref a0), l1] [v] h := by
  refine (p_aload rfl rfl).trans ?_
  exact s_getf rfl
theorem r_X7_town_94 {d : Nat} {l0 l1 : Option Value} {h : AH} : R_X7_town d 94 [l0, l1] [] h = R_X7_town d 96 [l0, some (.int ((nI 0)))] [] h := by
  refine (p_const rfl).trans ?_
  refine (p_istore rfl rfl rfl).trans ?_
  exact rfl
theorem r_X7_town_127 {d : Nat} {b0 : Nat} {l0 l1 : Option Value} {h : AH} : R_X7_town d 127 [l0, l1] [.ref b0] h = (hai h 0 b0 (nI 0)).bind fun v => R_X7_town d 130 [l0, l1] [.int v, .int ((nI 0)), .ref b0] h := by
  refine (p_const rfl).trans ?_
  refine (p_dup2 rfl rfl).trans ?_
  exact s_iald rfl
theorem q_X7_town_96 {d : Nat} {x1 : Int32} {l0 : Option Value} {h : AH} : R_X7_town d 96 [l0, some (.int (x1))] [] h = if (nI 940) ≤ x1 then R_X7_town d 121 [l0, some (.int (x1))] [] h else R_X7_town d 103 [l0, some (.int (x1))] [] h := by
  refine (p_iload rfl rfl).trans ?_
  refine (p_const rfl).trans ?_
  exact (s_icmp (g := (fun x y => decide (y ≤ x))) (t := 121) (nx := 103) rfl).trans bif_dec
theorem r_X7_town_130 {d : Nat} {b0 : Nat} {s1 s2 : Int32} {l0 l1 : Option Value} {h : AH} : R_X7_town d 130 [l0, l1] [.int (s2), .int (s1), .ref b0] h = (hsi h 0 b0 s1 (s2 + (nI 1))).bind fun h1 => R_X7_town d 133 [l0, l1] [] h1 := by
  refine (p_const rfl).trans ?_
  refine (p_bin rfl).trans ?_
  exact s_iast (t := 0) (nar := (fun y => y)) rfl
theorem r_X7_town_121 {d : Nat} {l0 l1 : Option Value} {h : AH} : R_X7_town d 121 [l0, l1] [] h = some (.inl (some (.int ((nI 0)))), h) := by
  refine (p_const rfl).trans ?_
  exact s_iretT rfl rfl
theorem r_X7_town_103 {d : Nat} {a0 : Nat} {l1 : Option Value} {h : AH} : R_X7_town d 103 [some (.ref a0), l1] [] h = (hgf h [18] a0 1).bind fun v => R_X7_town d 107 [some (.ref a0), l1] [v] h := by
  refine (p_aload rfl rfl).trans ?_
  exact s_getf rfl
theorem r_X7_town_133 {d : Nat} {a0 : Nat} {l1 : Option Value} {h : AH} : R_X7_town d 133 [some (.ref a0), l1] [] h = (hgf h [18] a0 1).bind fun v => R_X7_town d 137 [some (.ref a0), l1] [v] h := by
  refine (p_aload rfl rfl).trans ?_
  exact s_getf rfl
theorem r_X7_town_107 {d : Nat} {b0 a0 : Nat} {x1 : Int32} {h : AH} : R_X7_town d 107 [some (.ref a0), some (.int (x1))] [.ref b0] h = (hgf h [18] a0 4).bind fun v => R_X7_town d 112 [some (.ref a0), some (.int (x1))] [v, .int (x1), .ref b0] h := by
  refine (p_iload rfl rfl).trans ?_
  refine (p_aload rfl rfl).trans ?_
  exact s_getf rfl
theorem r_X7_town_107N {d : Nat} {x1 : Int32} {a0 : Nat} {h : AH} : R_X7_town d 107 [some (.ref a0), some (.int (x1))] [.null] h = (hgf h [18] a0 4).bind fun v => R_X7_town d 112 [some (.ref a0), some (.int (x1))] [v, .int (x1), .null] h := by
  refine (p_iload rfl rfl).trans ?_
  refine (p_aload rfl rfl).trans ?_
  exact s_getf rfl
theorem r_X7_town_137 {d : Nat} {b0 : Nat} {l0 l1 : Option Value} {h : AH} : R_X7_town d 137 [l0, l1] [.ref b0] h = (hai h 0 b0 (nI 0)).bind fun v => R_X7_town d 139 [l0, l1] [.int v] h := by
  refine (p_const rfl).trans ?_
  exact s_iald rfl
theorem r_X7_town_112 {d : Nat} {b0 b2 : Nat} {s1 x1 : Int32} {l0 : Option Value} {h : AH} : R_X7_town d 112 [l0, some (.int (x1))] [.ref b2, .int (s1), .ref b0] h = (hai h 0 b2 x1).bind fun v => R_X7_town d 114 [l0, some (.int (x1))] [.int v, .int (s1), .ref b0] h := by
  refine (p_iload rfl rfl).trans ?_
  exact s_iald rfl
theorem r_X7_town_139 {d : Nat} {s0 : Int32} {l0 l1 : Option Value} {h : AH} : R_X7_town d 139 [l0, l1] [.int (s0)] h = some (.inl (some (.int (s0))), h) := s_iretT rfl rfl
theorem r_X7_town_114 {d : Nat} {b0 : Nat} {s1 s2 : Int32} {l0 l1 : Option Value} {h : AH} : R_X7_town d 114 [l0, l1] [.int (s2), .int (s1), .ref b0] h = (hsi h 0 b0 s1 s2).bind fun h1 => R_X7_town d 115 [l0, l1] [] h1 := s_iast (t := 0) (nar := (fun y => y)) rfl
theorem r_X7_town_115 {d : Nat} {x1 : Int32} {l0 : Option Value} {h : AH} : R_X7_town d 115 [l0, some (.int (x1))] [] h = R_X7_town d 96 [l0, some (.int (x1 + (nI 1)))] [] h := by
  refine (p_iinc rfl rfl rfl).trans ?_
  refine (p_goto rfl).trans ?_
  exact rfl
theorem e_X7_town {d : Nat} {a0 : Nat} {h : AH} : exec tTab (d + 1) K_X7_town [.ref a0] h = R_X7_town d 0 [some (.ref a0), none] [] h := exec_eq (cd := k_X7_town) (hd := (fun _ _ => some none)) (L := 2) rfl rfl rfl
/-- FavourTownModel.read(Z)V -/
abbrev K_X7_read : Nat := 155
noncomputable def R_X7_read (d pc : Nat) (ls : ALs) (st : List Value) (h : AH) : Option (AOut × AH) := aR (exec tTab d) k_X7_read (fun _ _ => some none) (pc, ls, st, h)
theorem r_X7_read_0 {d : Nat} {a0 : Nat} {l1 l2 : Option Value} {h : AH} : R_X7_read d 0 [some (.ref a0), l1, l2] [] h = (hpf h [18] a0 9 (.int ((nI 0)))).bind fun h1 => R_X7_read d 5 [some (.ref a0), l1, l2] [] h1 := by
  refine (p_aload rfl rfl).trans ?_
  refine (p_const rfl).trans ?_
  exact s_putT rfl rfl
theorem r_X7_read_5 {d : Nat} {a0 : Nat} {l1 l2 : Option Value} {h : AH} : R_X7_read d 5 [some (.ref a0), l1, l2] [] h = (hpf h [18] a0 11 (.int ((nI 0)))).bind fun h1 => R_X7_read d 10 [some (.ref a0), l1, l2] [] h1 := by
  refine (p_aload rfl rfl).trans ?_
  refine (p_const rfl).trans ?_
  exact s_putT rfl rfl
theorem r_X7_read_10 {d : Nat} {a0 : Nat} {l1 l2 : Option Value} {h : AH} : R_X7_read d 10 [some (.ref a0), l1, l2] [] h = (hpf h [18] a0 12 (.int ((nI 0)))).bind fun h1 => R_X7_read d 15 [some (.ref a0), l1, l2] [] h1 := by
  refine (p_aload rfl rfl).trans ?_
  refine (p_const rfl).trans ?_
  exact s_putT rfl rfl
theorem r_X7_read_15 {d : Nat} {a0 : Nat} {l1 l2 : Option Value} {h : AH} : R_X7_read d 15 [some (.ref a0), l1, l2] [] h = ((hci h a0).bind (lkN [(18, 156)])).bind fun y => aK (exec tTab d y [.ref a0] h) (fun v h1 => R_X7_read d 19 [some (.ref a0), l1, l2] (v.toList ++ []) h1) (fun E h1 => some (.inr E, h1)) := by
  refine (p_aload rfl rfl).trans ?_
  exact s_callV (L := [(18, 156)]) (n := 0) (b := a0) (rest := []) rfl rfl rfl
theorem r_X7_read_19 {d : Nat} {a0 : Nat} {l1 l2 : Option Value} {h : AH} : R_X7_read d 19 [some (.ref a0), l1, l2] [] h = (hgf h [18] a0 9).bind fun v => R_X7_read d 23 [some (.ref a0), l1, l2] [v] h := by
  refine (p_aload rfl rfl).trans ?_
  exact s_getf rfl
theorem r_X7_read_23 {d : Nat} {s0 : Int32} {a0 : Nat} {l1 l2 : Option Value} {h : AH} : R_X7_read d 23 [some (.ref a0), l1, l2] [.int (s0)] h = (hgf h [18] a0 8).bind fun v => R_X7_read d 27 [some (.ref a0), l1, l2] [v, .int (s0)] h := by
  refine (p_aload rfl rfl).trans ?_
  exact s_getf rfl
theorem r_X7_read_27 {d : Nat} {s0 s1 : Int32} {l0 l1 l2 : Option Value} {h : AH} : R_X7_read d 27 [l0, l1, l2] [.int (s1), .int (s0)] h = if s1 ≤ s0 then R_X7_read d 34 [l0, l1, l2] [] h else R_X7_read d 30 [l0, l1, l2] [] h := (s_icmp (g := (fun x y => decide (y ≤ x))) (t := 34) (nx := 30) rfl).trans bif_dec
theorem r_X7_read_34 {d : Nat} {l0 l1 l2 : Option Value} {h : AH} : R_X7_read d 34 [l0, l1, l2] [] h = R_X7_read d 36 [l0, l1, some (.int ((nI 0)))] [] h := by
  refine (p_const rfl).trans ?_
  refine (p_istore rfl rfl rfl).trans ?_
  exact rfl
theorem r_X7_read_30 {d : Nat} {l0 l1 l2 : Option Value} {h : AH} : R_X7_read d 30 [l0, l1, l2] [] h = R_X7_read d 36 [l0, l1, some (.int ((nI 1)))] [] h := by
  refine (p_const rfl).trans ?_
  refine (p_goto rfl).trans ?_
  refine (p_istore rfl rfl rfl).trans ?_
  exact rfl
theorem q_X7_read_36 {d : Nat} {x2 : Int32} {l0 l1 : Option Value} {h : AH} : R_X7_read d 36 [l0, l1, some (.int (x2))] [] h = if x2 = 0 then R_X7_read d 167 [l0, l1, some (.int (x2))] [] h else R_X7_read d 40 [l0, l1, some (.int (x2))] [] h := by
  refine (p_iload rfl rfl).trans ?_
  exact (s_if (g := (fun x => decide (x = 0))) (t := 167) (nx := 40) rfl).trans bif_dec
theorem r_X7_read_167 {d : Nat} {l0 l1 l2 : Option Value} {h : AH} : R_X7_read d 167 [l0, l1, l2] [] h = some (.inl none, h) := s_vret rfl
theorem r_X7_read_40 {d : Nat} {a0 : Nat} {l1 l2 : Option Value} {h : AH} : R_X7_read d 40 [some (.ref a0), l1, l2] [] h = (hgf h [18] a0 10).bind fun v => R_X7_read d 44 [some (.ref a0), l1, l2] [v] h := by
  refine (p_aload rfl rfl).trans ?_
  exact s_getf rfl
theorem r_X7_read_44 {d : Nat} {s0 : Int32} {l0 l1 l2 : Option Value} {h : AH} : R_X7_read d 44 [l0, l1, l2] [.int (s0)] h = if ¬ s0 = (-1) then R_X7_read d 167 [l0, l1, l2] [] h else R_X7_read d 48 [l0, l1, l2] [] h := by
  refine (p_const rfl).trans ?_
  exact (s_icmp (g := (fun x y => decide (¬ x = y))) (t := 167) (nx := 48) rfl).trans bif_dec
theorem r_X7_read_48 {d : Nat} {a0 : Nat} {l1 l2 : Option Value} {h : AH} : R_X7_read d 48 [some (.ref a0), l1, l2] [] h = ((hci h a0).bind (lkN [(18, 156)])).bind fun y => aK (exec tTab d y [.ref a0] h) (fun v h1 => R_X7_read d 52 [some (.ref a0), l1, l2] (v.toList ++ []) h1) (fun E h1 => some (.inr E, h1)) := by
  refine (p_aload rfl rfl).trans ?_
  exact s_callV (L := [(18, 156)]) (n := 0) (b := a0) (rest := []) rfl rfl rfl
theorem r_X7_read_52 {d : Nat} {a0 : Nat} {l1 l2 : Option Value} {h : AH} : R_X7_read d 52 [some (.ref a0), l1, l2] [] h = (hgf h [18] a0 12).bind fun v => R_X7_read d 56 [some (.ref a0), l1, l2] [v] h := by
  refine (p_aload rfl rfl).trans ?_
  exact s_getf rfl
theorem r_X7_read_56 {d : Nat} {s0 x1 : Int32} {l0 l2 : Option Value} {h : AH} : R_X7_read d 56 [l0, some (.int (x1)), l2] [.int (s0)] h = if x1 = 0 then R_X7_read d 65 [l0, some (.int (x1)), l2] [.int (s0)] h else R_X7_read d 60 [l0, some (.int (x1)), l2] [.int (s0)] h := by
  refine (p_iload rfl rfl).trans ?_
  exact (s_if (g := (fun x => decide (x = 0))) (t := 65) (nx := 60) rfl).trans bif_dec
theorem r_X7_read_65 {d : Nat} {s0 : Int32} {l0 l1 l2 : Option Value} {h : AH} : R_X7_read d 65 [l0, l1, l2] [.int (s0)] h = if ¬ s0 = (nI 14) then R_X7_read d 81 [l0, l1, l2] [] h else R_X7_read d 70 [l0, l1, l2] [] h := by
  refine (p_const rfl).trans ?_
  exact (s_icmp (g := (fun x y => decide (¬ x = y))) (t := 81) (nx := 70) rfl).trans bif_dec
theorem r_X7_read_60 {d : Nat} {s0 : Int32} {l0 l1 l2 : Option Value} {h : AH} : R_X7_read d 60 [l0, l1, l2] [.int (s0)] h = if ¬ s0 = (nI 12) then R_X7_read d 81 [l0, l1, l2] [] h else R_X7_read d 70 [l0, l1, l2] [] h := by
  refine (p_const rfl).trans ?_
  refine (p_goto rfl).trans ?_
  exact (s_icmp (g := (fun x y => decide (¬ x = y))) (t := 81) (nx := 70) rfl).trans bif_dec
theorem r_X7_read_81 {d : Nat} {x1 : Int32} {l0 l2 : Option Value} {h : AH} : R_X7_read d 81 [l0, some (.int (x1)), l2] [] h = if x1 = 0 then R_X7_read d 92 [l0, some (.int (x1)), l2] [] h else R_X7_read d 85 [l0, some (.int (x1)), l2] [] h := by
  refine (p_iload rfl rfl).trans ?_
  exact (s_if (g := (fun x => decide (x = 0))) (t := 92) (nx := 85) rfl).trans bif_dec
theorem r_X7_read_70 {d : Nat} {a0 : Nat} {l1 l2 : Option Value} {h : AH} : R_X7_read d 70 [some (.ref a0), l1, l2] [] h = (hgf h [18] a0 9).bind fun v => R_X7_read d 75 [some (.ref a0), l1, l2] [v, .ref a0] h := by
  refine (p_aload rfl rfl).trans ?_
  refine (p_aload rfl rfl).trans ?_
  exact s_getf rfl
theorem r_X7_read_92 {d : Nat} {a0 : Nat} {l1 l2 : Option Value} {h : AH} : R_X7_read d 92 [some (.ref a0), l1, l2] [] h = ((hci h a0).bind (lkN [(18, 169)])).bind fun y => aK (exec tTab d y [.ref a0] h) (fun v h1 => R_X7_read d 96 [some (.ref a0), l1, l2] (v.toList ++ []) h1) (fun E h1 => some (.inr E, h1)) := by
  refine (p_aload rfl rfl).trans ?_
  exact s_callV (L := [(18, 169)]) (n := 0) (b := a0) (rest := []) rfl rfl rfl
theorem r_X7_read_85 {d : Nat} {a0 : Nat} {l1 l2 : Option Value} {h : AH} : R_X7_read d 85 [some (.ref a0), l1, l2] [] h = ((hci h a0).bind (lkN [(18, 159)])).bind fun y => aK (exec tTab d y [.ref a0] h) (fun v h1 => R_X7_read d 89 [some (.ref a0), l1, l2] (v.toList ++ []) h1) (fun E h1 => some (.inr E, h1)) := by
  refine (p_aload rfl rfl).trans ?_
  exact s_callV (L := [(18, 159)]) (n := 0) (b := a0) (rest := []) rfl rfl rfl
theorem r_X7_read_75 {d : Nat} {b0 : Nat} {s1 : Int32} {l0 l1 l2 : Option Value} {h : AH} : R_X7_read d 75 [l0, l1, l2] [.int (s1), .ref b0] h = ((hci h b0).bind (lkN [(18, 158)])).bind fun y => aK (exec tTab d y [.ref b0, .int (s1)] h) (fun v h1 => R_X7_read d 78 [l0, l1, l2] (v.toList ++ []) h1) (fun E h1 => some (.inr E, h1)) := s_callV (L := [(18, 158)]) (n := 1) (b := b0) (rest := []) rfl rfl rfl
theorem r_X7_read_96 {d : Nat} {a0 : Nat} {l1 l2 : Option Value} {h : AH} : R_X7_read d 96 [some (.ref a0), l1, l2] [] h = (hgf h [18] a0 12).bind fun v => R_X7_read d 101 [some (.ref a0), l1, l2] [v, .ref a0] h := by
  refine (p_aload rfl rfl).trans ?_
  refine (p_dup rfl rfl).trans ?_
  exact s_getf rfl
theorem r_X7_read_89 {d : Nat} {a0 : Nat} {l1 l2 : Option Value} {h : AH} : R_X7_read d 89 [some (.ref a0), l1, l2] [] h = (hgf h [18] a0 12).bind fun v => R_X7_read d 101 [some (.ref a0), l1, l2] [v, .ref a0] h := by
  refine (p_goto rfl).trans ?_
  refine (p_aload rfl rfl).trans ?_
  refine (p_dup rfl rfl).trans ?_
  exact s_getf rfl
theorem r_X7_read_78 {d : Nat} {a0 : Nat} {l1 l2 : Option Value} {h : AH} : R_X7_read d 78 [some (.ref a0), l1, l2] [] h = (hgf h [18] a0 12).bind fun v => R_X7_read d 101 [some (.ref a0), l1, l2] [v, .ref a0] h := by
  refine (p_goto rfl).trans ?_
  refine (p_aload rfl rfl).trans ?_
  refine (p_dup rfl rfl).trans ?_
  exact s_getf rfl
theorem r_X7_read_101 {d : Nat} {b0 : Nat} {s1 : Int32} {l0 l1 l2 : Option Value} {h : AH} : R_X7_read d 101 [l0, l1, l2] [.int (s1), .ref b0] h = (hpf h [18] b0 12 (.int (s1 + (nI 1)))).bind fun h1 => R_X7_read d 106 [l0, l1, l2] [] h1 := by
  refine (p_const rfl).trans ?_
  refine (p_bin rfl).trans ?_
  exact s_putT rfl rfl
theorem r_X7_read_106 {d : Nat} {a0 : Nat} {l1 l2 : Option Value} {h : AH} : R_X7_read d 106 [some (.ref a0), l1, l2] [] h = ((hci h a0).bind (lkN [(18, 156)])).bind fun y => aK (exec tTab d y [.ref a0] h) (fun v h1 => R_X7_read d 110 [some (.ref a0), l1, l2] (v.toList ++ []) h1) (fun E h1 => some (.inr E, h1)) := by
  refine (p_aload rfl rfl).trans ?_
  exact s_callV (L := [(18, 156)]) (n := 0) (b := a0) (rest := []) rfl rfl rfl
theorem r_X7_read_110 {d : Nat} {a0 : Nat} {l1 l2 : Option Value} {h : AH} : R_X7_read d 110 [some (.ref a0), l1, l2] [] h = (hgf h [18] a0 10).bind fun v => R_X7_read d 114 [some (.ref a0), l1, l2] [v] h := by
  refine (p_aload rfl rfl).trans ?_
  exact s_getf rfl
theorem r_X7_read_114 {d : Nat} {s0 : Int32} {l0 l1 l2 : Option Value} {h : AH} : R_X7_read d 114 [l0, l1, l2] [.int (s0)] h = if ¬ s0 = (-1) then R_X7_read d 129 [l0, l1, l2] [] h else R_X7_read d 118 [l0, l1, l2] [] h := by
  refine (p_const rfl).trans ?_
  exact (s_icmp (g := (fun x y => decide (¬ x = y))) (t := 129) (nx := 118) rfl).trans bif_dec
theorem r_X7_read_129 {d : Nat} {l0 l1 l2 : Option Value} {h : AH} : R_X7_read d 129 [l0, l1, l2] [] h = R_X7_read d 36 [l0, l1, some (.int ((nI 0)))] [] h := by
  refine (p_const rfl).trans ?_
  refine (p_istore rfl rfl rfl).trans ?_
  refine (p_goto rfl).trans ?_
  exact rfl
theorem r_X7_read_118 {d : Nat} {a0 : Nat} {l1 l2 : Option Value} {h : AH} : R_X7_read d 118 [some (.ref a0), l1, l2] [] h = (hgf h [18] a0 9).bind fun v => R_X7_read d 122 [some (.ref a0), l1, l2] [v] h := by
  refine (p_aload rfl rfl).trans ?_
  exact s_getf rfl
theorem r_X7_read_122 {d : Nat} {s0 : Int32} {a0 : Nat} {l1 l2 : Option Value} {h : AH} : R_X7_read d 122 [some (.ref a0), l1, l2] [.int (s0)] h = (hgf h [18] a0 8).bind fun v => R_X7_read d 126 [some (.ref a0), l1, l2] [v, .int (s0)] h := by
  refine (p_aload rfl rfl).trans ?_
  exact s_getf rfl
theorem r_X7_read_126 {d : Nat} {s0 s1 : Int32} {l0 l1 l2 : Option Value} {h : AH} : R_X7_read d 126 [l0, l1, l2] [.int (s1), .int (s0)] h = if ¬ s0 = s1 then R_X7_read d 134 [l0, l1, l2] [] h else R_X7_read d 129 [l0, l1, l2] [] h := (s_icmp (g := (fun x y => decide (¬ x = y))) (t := 134) (nx := 129) rfl).trans bif_dec
theorem r_X7_read_134 {d : Nat} {a0 : Nat} {l1 l2 : Option Value} {h : AH} : R_X7_read d 134 [some (.ref a0), l1, l2] [] h = ((hci h a0).bind (lkN [(18, 164)])).bind fun y => aK (exec tTab d y [.ref a0, .int ((nI 59))] h) (fun v h1 => R_X7_read d 140 [some (.ref a0), l1, l2] (v.toList ++ []) h1) (fun E h1 => some (.inr E, h1)) := by
  refine (p_aload rfl rfl).trans ?_
  refine (p_const rfl).trans ?_
  exact s_callV (L := [(18, 164)]) (n := 1) (b := a0) (rest := []) rfl rfl rfl
theorem r_X7_read_140 {d : Nat} {s0 : Int32} {l0 l1 l2 : Option Value} {h : AH} : R_X7_read d 140 [l0, l1, l2] [.int (s0)] h = if s0 = 0 then R_X7_read d 156 [l0, l1, l2] [] h else R_X7_read d 143 [l0, l1, l2] [] h := (s_if (g := (fun x => decide (x = 0))) (t := 156) (nx := 143) rfl).trans bif_dec
theorem r_X7_read_156 {d : Nat} {a0 : Nat} {l1 l2 : Option Value} {h : AH} : R_X7_read d 156 [some (.ref a0), l1, l2] [] h = (hgf h [18] a0 9).bind fun v => R_X7_read d 161 [some (.ref a0), l1, l2] [v, .ref a0] h := by
  refine (p_aload rfl rfl).trans ?_
  refine (p_aload rfl rfl).trans ?_
  exact s_getf rfl
theorem r_X7_read_143 {d : Nat} {a0 : Nat} {l1 l2 : Option Value} {h : AH} : R_X7_read d 143 [some (.ref a0), l1, l2] [] h = (hgf h [18] a0 9).bind fun v => R_X7_read d 148 [some (.ref a0), l1, l2] [v, .ref a0] h := by
  refine (p_aload rfl rfl).trans ?_
  refine (p_dup rfl rfl).trans ?_
  exact s_getf rfl
theorem r_X7_read_161 {d : Nat} {b0 : Nat} {s1 : Int32} {l0 l1 l2 : Option Value} {h : AH} : R_X7_read d 161 [l0, l1, l2] [.int (s1), .ref b0] h = ((hci h b0).bind (lkN [(18, 158)])).bind fun y => aK (exec tTab d y [.ref b0, .int (s1)] h) (fun v h1 => R_X7_read d 164 [l0, l1, l2] (v.toList ++ []) h1) (fun E h1 => some (.inr E, h1)) := s_callV (L := [(18, 158)]) (n := 1) (b := b0) (rest := []) rfl rfl rfl
theorem r_X7_read_148 {d : Nat} {b0 : Nat} {s1 : Int32} {l0 l1 l2 : Option Value} {h : AH} : R_X7_read d 148 [l0, l1, l2] [.int (s1), .ref b0] h = (hpf h [18] b0 9 (.int (s1 + (nI 1)))).bind fun h1 => R_X7_read d 153 [l0, l1, l2] [] h1 := by
  refine (p_const rfl).trans ?_
  refine (p_bin rfl).trans ?_
  exact s_putT rfl rfl
theorem r_X7_read_164 {d : Nat} {l0 l1 l2 : Option Value} {h : AH} : R_X7_read d 164 [l0, l1, l2] [] h = R_X7_read d 36 [l0, l1, l2] [] h := by
  refine (p_goto rfl).trans ?_
  exact rfl
theorem r_X7_read_153 {d : Nat} {l0 l1 l2 : Option Value} {h : AH} : R_X7_read d 153 [l0, l1, l2] [] h = R_X7_read d 36 [l0, l1, l2] [] h := by
  refine (p_goto rfl).trans ?_
  exact rfl
theorem e_X7_read {d : Nat} {a0 : Nat} {x1 : Int32} {h : AH} : exec tTab (d + 1) K_X7_read [.ref a0, .int x1] h = R_X7_read d 0 [some (.ref a0), some (.int x1), none] [] h := exec_eq (cd := k_X7_read) (hd := (fun _ _ => some none)) (L := 3) rfl rfl rfl
/-- FavourTownModel.skip()V -/
abbrev K_X7_skip : Nat := 156
noncomputable def R_X7_skip (d pc : Nat) (ls : ALs) (st : List Value) (h : AH) : Option (AOut × AH) := aR (exec tTab d) k_X7_skip (fun _ _ => some none) (pc, ls, st, h)
theorem q_X7_skip_0 {d : Nat} {a0 : Nat} {h : AH} : R_X7_skip d 0 [some (.ref a0)] [] h = (hgf h [18] a0 9).bind fun v => R_X7_skip d 4 [some (.ref a0)] [v] h := by
  refine (p_aload rfl rfl).trans ?_
  exact s_getf rfl
theorem r_X7_skip_4 {d : Nat} {s0 : Int32} {a0 : Nat} {h : AH} : R_X7_skip d 4 [some (.ref a0)] [.int (s0)] h = (hgf h [18] a0 8).bind fun v => R_X7_skip d 8 [some (.ref a0)] [v, .int (s0)] h := by
  refine (p_aload rfl rfl).trans ?_
  exact s_getf rfl
theorem r_X7_skip_8 {d : Nat} {s0 s1 : Int32} {l0 : Option Value} {h : AH} : R_X7_skip d 8 [l0] [.int (s1), .int (s0)] h = if s1 ≤ s0 then R_X7_skip d 37 [l0] [] h else R_X7_skip d 11 [l0] [] h := (s_icmp (g := (fun x y => decide (y ≤ x))) (t := 37) (nx := 11) rfl).trans bif_dec
theorem r_X7_skip_37 {d : Nat} {l0 : Option Value} {h : AH} : R_X7_skip d 37 [l0] [] h = some (.inl none, h) := s_vret rfl
theorem r_X7_skip_11 {d : Nat} {a0 : Nat} {h : AH} : R_X7_skip d 11 [some (.ref a0)] [] h = (hgf h [18] a0 9).bind fun v => R_X7_skip d 16 [some (.ref a0)] [v, .ref a0] h := by
  refine (p_aload rfl rfl).trans ?_
  refine (p_aload rfl rfl).trans ?_
  exact s_getf rfl
theorem r_X7_skip_16 {d : Nat} {b0 : Nat} {s1 : Int32} {l0 : Option Value} {h : AH} : R_X7_skip d 16 [l0] [.int (s1), .ref b0] h = ((hci h b0).bind (lkN [(18, 157)])).bind fun y => aK (exec tTab d y [.ref b0, .int (s1)] h) (fun v h1 => R_X7_skip d 19 [l0] (v.toList ++ []) h1) (fun E h1 => some (.inr E, h1)) := s_callV (L := [(18, 157)]) (n := 1) (b := b0) (rest := []) rfl rfl rfl
theorem r_X7_skip_19 {d : Nat} {s0 : Int32} {l0 : Option Value} {h : AH} : R_X7_skip d 19 [l0] [.int (s0)] h = if ¬ s0 = (nI 32) then R_X7_skip d 37 [l0] [] h else R_X7_skip d 24 [l0] [] h := by
  refine (p_const rfl).trans ?_
  exact (s_icmp (g := (fun x y => decide (¬ x = y))) (t := 37) (nx := 24) rfl).trans bif_dec
theorem r_X7_skip_24 {d : Nat} {a0 : Nat} {h : AH} : R_X7_skip d 24 [some (.ref a0)] [] h = (hgf h [18] a0 9).bind fun v => R_X7_skip d 29 [some (.ref a0)] [v, .ref a0] h := by
  refine (p_aload rfl rfl).trans ?_
  refine (p_dup rfl rfl).trans ?_
  exact s_getf rfl
theorem r_X7_skip_29 {d : Nat} {b0 : Nat} {s1 : Int32} {l0 : Option Value} {h : AH} : R_X7_skip d 29 [l0] [.int (s1), .ref b0] h = (hpf h [18] b0 9 (.int (s1 + (nI 1)))).bind fun h1 => R_X7_skip d 34 [l0] [] h1 := by
  refine (p_const rfl).trans ?_
  refine (p_bin rfl).trans ?_
  exact s_putT rfl rfl
theorem r_X7_skip_34 {d : Nat} {l0 : Option Value} {h : AH} : R_X7_skip d 34 [l0] [] h = R_X7_skip d 0 [l0] [] h := by
  refine (p_goto rfl).trans ?_
  exact rfl
theorem e_X7_skip {d : Nat} {a0 : Nat} {h : AH} : exec tTab (d + 1) K_X7_skip [.ref a0] h = R_X7_skip d 0 [some (.ref a0)] [] h := exec_eq (cd := k_X7_skip) (hd := (fun _ _ => some none)) (L := 1) rfl rfl rfl
/-- FavourTownModel.letter(I)I -/
abbrev K_X7_letter : Nat := 157
noncomputable def R_X7_letter (d pc : Nat) (ls : ALs) (st : List Value) (h : AH) : Option (AOut × AH) := aR (exec tTab d) k_X7_letter (fun _ _ => some none) (pc, ls, st, h)
theorem r_X7_letter_0 {d : Nat} {a0 : Nat} {l1 : Option Value} {h : AH} : R_X7_letter d 0 [some (.ref a0), l1] [] h = (hgf h [18] a0 7).bind fun v => R_X7_letter d 4 [some (.ref a0), l1] [v] h := by
  refine (p_aload rfl rfl).trans ?_
  exact s_getf rfl
theorem r_X7_letter_4 {d : Nat} {s0 : Int32} {l0 l1 : Option Value} {h : AH} : R_X7_letter d 4 [l0, l1] [.int (s0)] h = if ¬ s0 = (-1) then R_X7_letter d 17 [l0, l1] [] h else R_X7_letter d 8 [l0, l1] [] h := by
  refine (p_const rfl).trans ?_
  exact (s_icmp (g := (fun x y => decide (¬ x = y))) (t := 17) (nx := 8) rfl).trans bif_dec
theorem r_X7_letter_17 {d : Nat} {a0 : Nat} {l1 : Option Value} {h : AH} : R_X7_letter d 17 [some (.ref a0), l1] [] h = (hgf h [18] a0 1).bind fun v => R_X7_letter d 21 [some (.ref a0), l1] [v] h := by
  refine (p_aload rfl rfl).trans ?_
  exact s_getf rfl
theorem r_X7_letter_8 {d : Nat} {a0 : Nat} {l1 : Option Value} {h : AH} : R_X7_letter d 8 [some (.ref a0), l1] [] h = (hgf h [18] a0 5).bind fun v => R_X7_letter d 12 [some (.ref a0), l1] [v] h := by
  refine (p_aload rfl rfl).trans ?_
  exact s_getf rfl
theorem r_X7_letter_21 {d : Nat} {b0 a0 : Nat} {l1 : Option Value} {h : AH} : R_X7_letter d 21 [some (.ref a0), l1] [.ref b0] h = (hgf h [18] a0 7).bind fun v => R_X7_letter d 25 [some (.ref a0), l1] [v, .ref b0] h := by
  refine (p_aload rfl rfl).trans ?_
  exact s_getf rfl
theorem r_X7_letter_21N {d : Nat} {a0 : Nat} {l1 : Option Value} {h : AH} : R_X7_letter d 21 [some (.ref a0), l1] [.null] h = (hgf h [18] a0 7).bind fun v => R_X7_letter d 25 [some (.ref a0), l1] [v, .null] h := by
  refine (p_aload rfl rfl).trans ?_
  exact s_getf rfl
theorem r_X7_letter_12 {d : Nat} {b0 : Nat} {x1 : Int32} {l0 : Option Value} {h : AH} : R_X7_letter d 12 [l0, some (.int (x1))] [.ref b0] h = (hai h 0 b0 x1).bind fun v => R_X7_letter d 14 [l0, some (.int (x1))] [.int v] h := by
  refine (p_iload rfl rfl).trans ?_
  exact s_iald rfl
theorem r_X7_letter_25 {d : Nat} {b0 : Nat} {s1 x1 : Int32} {l0 : Option Value} {h : AH} : R_X7_letter d 25 [l0, some (.int (x1))] [.int (s1), .ref b0] h = (hai h 0 b0 (s1 + x1)).bind fun v => R_X7_letter d 28 [l0, some (.int (x1))] [.int v] h := by
  refine (p_iload rfl rfl).trans ?_
  refine (p_bin rfl).trans ?_
  exact s_iald rfl
theorem r_X7_letter_14 {d : Nat} {s0 : Int32} {l0 l1 : Option Value} {h : AH} : R_X7_letter d 14 [l0, l1] [.int (s0)] h = some (.inl (some (.int (s0))), h) := by
  refine (p_goto rfl).trans ?_
  exact s_iretT rfl rfl
theorem r_X7_letter_28 {d : Nat} {s0 : Int32} {l0 l1 : Option Value} {h : AH} : R_X7_letter d 28 [l0, l1] [.int (s0)] h = some (.inl (some (.int (s0))), h) := s_iretT rfl rfl
theorem e_X7_letter {d : Nat} {a0 : Nat} {x1 : Int32} {h : AH} : exec tTab (d + 1) K_X7_letter [.ref a0, .int x1] h = R_X7_letter d 0 [some (.ref a0), some (.int x1)] [] h := exec_eq (cd := k_X7_letter) (hd := (fun _ _ => some none)) (L := 2) rfl rfl rfl
/-- FavourTownModel.wrong(I)V -/
abbrev K_X7_wrong : Nat := 158
noncomputable def R_X7_wrong (d pc : Nat) (ls : ALs) (st : List Value) (h : AH) : Option (AOut × AH) := aR (exec tTab d) k_X7_wrong (fun _ _ => some none) (pc, ls, st, h)
theorem r_X7_wrong_0 {d : Nat} {a0 : Nat} {l1 : Option Value} {h : AH} : R_X7_wrong d 0 [some (.ref a0), l1] [] h = (hgf h [18] a0 10).bind fun v => R_X7_wrong d 4 [some (.ref a0), l1] [v] h := by
  refine (p_aload rfl rfl).trans ?_
  exact s_getf rfl
theorem r_X7_wrong_4 {d : Nat} {s0 : Int32} {l0 l1 : Option Value} {h : AH} : R_X7_wrong d 4 [l0, l1] [.int (s0)] h = if ¬ s0 = (-1) then R_X7_wrong d 13 [l0, l1] [] h else R_X7_wrong d 8 [l0, l1] [] h := by
  refine (p_const rfl).trans ?_
  exact (s_icmp (g := (fun x y => decide (¬ x = y))) (t := 13) (nx := 8) rfl).trans bif_dec
theorem r_X7_wrong_13 {d : Nat} {l0 l1 : Option Value} {h : AH} : R_X7_wrong d 13 [l0, l1] [] h = some (.inl none, h) := s_vret rfl
theorem r_X7_wrong_8 {d : Nat} {a0 : Nat} {x1 : Int32} {h : AH} : R_X7_wrong d 8 [some (.ref a0), some (.int (x1))] [] h = (hpf h [18] a0 10 (.int (x1))).bind fun h1 => R_X7_wrong d 13 [some (.ref a0), some (.int (x1))] [] h1 := by
  refine (p_aload rfl rfl).trans ?_
  refine (p_iload rfl rfl).trans ?_
  exact s_putT rfl rfl
theorem e_X7_wrong {d : Nat} {a0 : Nat} {x1 : Int32} {h : AH} : exec tTab (d + 1) K_X7_wrong [.ref a0, .int x1] h = R_X7_wrong d 0 [some (.ref a0), some (.int x1)] [] h := exec_eq (cd := k_X7_wrong) (hd := (fun _ _ => some none)) (L := 2) rfl rfl rfl
/-- FavourTownModel.temperLine()V -/
abbrev K_X7_temperLine : Nat := 159
noncomputable def R_X7_temperLine (d pc : Nat) (ls : ALs) (st : List Value) (h : AH) : Option (AOut × AH) := aR (exec tTab d) k_X7_temperLine (fun _ _ => some none) (pc, ls, st, h)
theorem r_X7_temperLine_0 {d : Nat} {a0 : Nat} {l1 l2 : Option Value} {h : AH} : R_X7_temperLine d 0 [some (.ref a0), l1, l2] [] h = R_X7_temperLine d 3 [some (.ref a0), l1, l2] [h.2.2.2 59, .ref a0] h := by
  refine (p_aload rfl rfl).trans ?_
  exact p_stat rfl
theorem r_X7_temperLine_3 {d : Nat} {b0 b1 : Nat} {l0 l1 l2 : Option Value} {h : AH} : R_X7_temperLine d 3 [l0, l1, l2] [.ref b1, .ref b0] h = ((hci h b0).bind (lkN [(18, 160)])).bind fun y => aK (exec tTab d y [.ref b0, .ref b1] h) (fun v h1 => R_X7_temperLine d 6 [l0, l1, l2] (v.toList ++ []) h1) (fun E h1 => some (.inr E, h1)) := s_callV (L := [(18, 160)]) (n := 1) (b := b0) (rest := []) rfl rfl rfl
theorem r_X7_temperLine_3N {d : Nat} {b0 : Nat} {l0 l1 l2 : Option Value} {h : AH} : R_X7_temperLine d 3 [l0, l1, l2] [.null, .ref b0] h = ((hci h b0).bind (lkN [(18, 160)])).bind fun y => aK (exec tTab d y [.ref b0, .null] h) (fun v h1 => R_X7_temperLine d 6 [l0, l1, l2] (v.toList ++ []) h1) (fun E h1 => some (.inr E, h1)) := s_callV (L := [(18, 160)]) (n := 1) (b := b0) (rest := []) rfl rfl rfl
theorem r_X7_temperLine_6 {d : Nat} {s0 : Int32} {l0 l1 l2 : Option Value} {h : AH} : R_X7_temperLine d 6 [l0, l1, l2] [.int (s0)] h = if ¬ s0 = 0 then R_X7_temperLine d 29 [l0, some (.int (s0)), l2] [] h else R_X7_temperLine d 11 [l0, some (.int (s0)), l2] [] h := by
  refine (p_istore rfl rfl rfl).trans ?_
  refine (p_iload rfl rfl).trans ?_
  exact (s_if (g := (fun x => decide (¬ x = 0))) (t := 29) (nx := 11) rfl).trans bif_dec
theorem r_X7_temperLine_29 {d : Nat} {a0 : Nat} {l1 l2 : Option Value} {h : AH} : R_X7_temperLine d 29 [some (.ref a0), l1, l2] [] h = R_X7_temperLine d 32 [some (.ref a0), l1, l2] [h.2.2.2 61, .ref a0] h := by
  refine (p_aload rfl rfl).trans ?_
  exact p_stat rfl
theorem r_X7_temperLine_11 {d : Nat} {a0 : Nat} {l1 l2 : Option Value} {h : AH} : R_X7_temperLine d 11 [some (.ref a0), l1, l2] [] h = R_X7_temperLine d 14 [some (.ref a0), l1, l2] [h.2.2.2 60, .ref a0] h := by
  refine (p_aload rfl rfl).trans ?_
  exact p_stat rfl
theorem r_X7_temperLine_32 {d : Nat} {b0 b1 : Nat} {l0 l1 l2 : Option Value} {h : AH} : R_X7_temperLine d 32 [l0, l1, l2] [.ref b1, .ref b0] h = ((hci h b0).bind (lkN [(18, 160)])).bind fun y => aK (exec tTab d y [.ref b0, .ref b1] h) (fun v h1 => R_X7_temperLine d 35 [l0, l1, l2] (v.toList ++ []) h1) (fun E h1 => some (.inr E, h1)) := s_callV (L := [(18, 160)]) (n := 1) (b := b0) (rest := []) rfl rfl rfl
theorem r_X7_temperLine_32N {d : Nat} {b0 : Nat} {l0 l1 l2 : Option Value} {h : AH} : R_X7_temperLine d 32 [l0, l1, l2] [.null, .ref b0] h = ((hci h b0).bind (lkN [(18, 160)])).bind fun y => aK (exec tTab d y [.ref b0, .null] h) (fun v h1 => R_X7_temperLine d 35 [l0, l1, l2] (v.toList ++ []) h1) (fun E h1 => some (.inr E, h1)) := s_callV (L := [(18, 160)]) (n := 1) (b := b0) (rest := []) rfl rfl rfl
theorem r_X7_temperLine_14 {d : Nat} {b0 b1 : Nat} {l0 l1 l2 : Option Value} {h : AH} : R_X7_temperLine d 14 [l0, l1, l2] [.ref b1, .ref b0] h = ((hci h b0).bind (lkN [(18, 160)])).bind fun y => aK (exec tTab d y [.ref b0, .ref b1] h) (fun v h1 => R_X7_temperLine d 17 [l0, l1, l2] (v.toList ++ []) h1) (fun E h1 => some (.inr E, h1)) := s_callV (L := [(18, 160)]) (n := 1) (b := b0) (rest := []) rfl rfl rfl
theorem r_X7_temperLine_14N {d : Nat} {b0 : Nat} {l0 l1 l2 : Option Value} {h : AH} : R_X7_temperLine d 14 [l0, l1, l2] [.null, .ref b0] h = ((hci h b0).bind (lkN [(18, 160)])).bind fun y => aK (exec tTab d y [.ref b0, .null] h) (fun v h1 => R_X7_temperLine d 17 [l0, l1, l2] (v.toList ++ []) h1) (fun E h1 => some (.inr E, h1)) := s_callV (L := [(18, 160)]) (n := 1) (b := b0) (rest := []) rfl rfl rfl
theorem r_X7_temperLine_35 {d : Nat} {s0 : Int32} {l0 l1 l2 : Option Value} {h : AH} : R_X7_temperLine d 35 [l0, l1, l2] [.int (s0)] h = if s0 = 0 then R_X7_temperLine d 45 [l0, l1, l2] [] h else R_X7_temperLine d 38 [l0, l1, l2] [] h := (s_if (g := (fun x => decide (x = 0))) (t := 45) (nx := 38) rfl).trans bif_dec
theorem r_X7_temperLine_17 {d : Nat} {s0 : Int32} {l0 l1 l2 : Option Value} {h : AH} : R_X7_temperLine d 17 [l0, l1, l2] [.int (s0)] h = if ¬ s0 = 0 then R_X7_temperLine d 29 [l0, l1, l2] [] h else R_X7_temperLine d 20 [l0, l1, l2] [] h := (s_if (g := (fun x => decide (¬ x = 0))) (t := 29) (nx := 20) rfl).trans bif_dec
theorem r_X7_temperLine_45 {d : Nat} {a0 : Nat} {l1 l2 : Option Value} {h : AH} : R_X7_temperLine d 45 [some (.ref a0), l1, l2] [] h = (hgf h [18] a0 10).bind fun v => R_X7_temperLine d 55 [some (.ref a0), l1, some (.int ((nI 1)))] [v] h := by
  refine (p_const rfl).trans ?_
  refine (p_goto rfl).trans ?_
  refine (p_istore rfl rfl rfl).trans ?_
  refine (p_aload rfl rfl).trans ?_
  exact s_getf rfl
theorem r_X7_temperLine_38 {d : Nat} {a0 : Nat} {l1 l2 : Option Value} {h : AH} : R_X7_temperLine d 38 [some (.ref a0), l1, l2] [] h = ((hci h a0).bind (lkN [(18, 161)])).bind fun y => aK (exec tTab d y [.ref a0] h) (fun v h1 => R_X7_temperLine d 42 [some (.ref a0), l1, l2] (v.toList ++ []) h1) (fun E h1 => some (.inr E, h1)) := by
  refine (p_aload rfl rfl).trans ?_
  exact s_callV (L := [(18, 161)]) (n := 0) (b := a0) (rest := []) rfl rfl rfl
theorem r_X7_temperLine_20 {d : Nat} {a0 : Nat} {l1 l2 : Option Value} {h : AH} : R_X7_temperLine d 20 [some (.ref a0), l1, l2] [] h = (hgf h [18] a0 9).bind fun v => R_X7_temperLine d 25 [some (.ref a0), l1, l2] [v, .ref a0] h := by
  refine (p_aload rfl rfl).trans ?_
  refine (p_aload rfl rfl).trans ?_
  exact s_getf rfl
theorem r_X7_temperLine_55 {d : Nat} {s0 : Int32} {l0 l1 l2 : Option Value} {h : AH} : R_X7_temperLine d 55 [l0, l1, l2] [.int (s0)] h = if ¬ s0 = (-1) then R_X7_temperLine d 84 [l0, l1, l2] [] h else R_X7_temperLine d 59 [l0, l1, l2] [] h := by
  refine (p_const rfl).trans ?_
  exact (s_icmp (g := (fun x y => decide (¬ x = y))) (t := 84) (nx := 59) rfl).trans bif_dec
theorem r_X7_temperLine_42 {d : Nat} {s0 : Int32} {l0 l1 l2 : Option Value} {h : AH} : R_X7_temperLine d 42 [l0, l1, l2] [.int (s0)] h = if s0 = 0 then R_X7_temperLine d 49 [l0, l1, l2] [] h else R_X7_temperLine d 45 [l0, l1, l2] [] h := (s_if (g := (fun x => decide (x = 0))) (t := 49) (nx := 45) rfl).trans bif_dec
theorem r_X7_temperLine_25 {d : Nat} {b0 : Nat} {s1 : Int32} {l0 l1 l2 : Option Value} {h : AH} : R_X7_temperLine d 25 [l0, l1, l2] [.int (s1), .ref b0] h = ((hci h b0).bind (lkN [(18, 158)])).bind fun y => aK (exec tTab d y [.ref b0, .int (s1)] h) (fun v h1 => R_X7_temperLine d 28 [l0, l1, l2] (v.toList ++ []) h1) (fun E h1 => some (.inr E, h1)) := s_callV (L := [(18, 158)]) (n := 1) (b := b0) (rest := []) rfl rfl rfl
theorem r_X7_temperLine_84 {d : Nat} {l0 l1 l2 : Option Value} {h : AH} : R_X7_temperLine d 84 [l0, l1, l2] [] h = some (.inl none, h) := s_vret rfl
theorem r_X7_temperLine_59 {d : Nat} {x2 : Int32} {l0 l1 : Option Value} {h : AH} : R_X7_temperLine d 59 [l0, l1, some (.int (x2))] [] h = if x2 = 0 then R_X7_temperLine d 84 [l0, l1, some (.int (x2))] [] h else R_X7_temperLine d 63 [l0, l1, some (.int (x2))] [] h := by
  refine (p_iload rfl rfl).trans ?_
  exact (s_if (g := (fun x => decide (x = 0))) (t := 84) (nx := 63) rfl).trans bif_dec
theorem r_X7_temperLine_49 {d : Nat} {a0 : Nat} {l1 l2 : Option Value} {h : AH} : R_X7_temperLine d 49 [some (.ref a0), l1, l2] [] h = (hgf h [18] a0 10).bind fun v => R_X7_temperLine d 55 [some (.ref a0), l1, some (.int ((nI 0)))] [v] h := by
  refine (p_const rfl).trans ?_
  refine (p_istore rfl rfl rfl).trans ?_
  refine (p_aload rfl rfl).trans ?_
  exact s_getf rfl
theorem r_X7_temperLine_28 {d : Nat} {l0 l1 l2 : Option Value} {h : AH} : R_X7_temperLine d 28 [l0, l1, l2] [] h = some (.inl none, h) := s_vret rfl
theorem r_X7_temperLine_63 {d : Nat} {a0 : Nat} {l1 l2 : Option Value} {h : AH} : R_X7_temperLine d 63 [some (.ref a0), l1, l2] [] h = (hgf h [18] a0 17).bind fun v => R_X7_temperLine d 67 [some (.ref a0), l1, l2] [v] h := by
  refine (p_aload rfl rfl).trans ?_
  exact s_getf rfl
theorem r_X7_temperLine_67 {d : Nat} {s0 : Int32} {l0 l1 l2 : Option Value} {h : AH} : R_X7_temperLine d 67 [l0, l1, l2] [.int (s0)] h = if ¬ s0 = (-1) then R_X7_temperLine d 84 [l0, l1, l2] [] h else R_X7_temperLine d 71 [l0, l1, l2] [] h := by
  refine (p_const rfl).trans ?_
  exact (s_icmp (g := (fun x y => decide (¬ x = y))) (t := 84) (nx := 71) rfl).trans bif_dec
theorem r_X7_temperLine_71 {d : Nat} {a0 : Nat} {x1 : Int32} {l2 : Option Value} {h : AH} : R_X7_temperLine d 71 [some (.ref a0), some (.int (x1)), l2] [] h = if x1 = 0 then R_X7_temperLine d 80 [some (.ref a0), some (.int (x1)), l2] [.ref a0] h else R_X7_temperLine d 76 [some (.ref a0), some (.int (x1)), l2] [.ref a0] h := by
  refine (p_aload rfl rfl).trans ?_
  refine (p_iload rfl rfl).trans ?_
  exact (s_if (g := (fun x => decide (x = 0))) (t := 80) (nx := 76) rfl).trans bif_dec
theorem r_X7_temperLine_80 {d : Nat} {b0 : Nat} {l0 l1 l2 : Option Value} {h : AH} : R_X7_temperLine d 80 [l0, l1, l2] [.ref b0] h = (hpf h [18] b0 17 (.int ((nI 0)))).bind fun h1 => R_X7_temperLine d 84 [l0, l1, l2] [] h1 := by
  refine (p_const rfl).trans ?_
  exact s_putT rfl rfl
theorem r_X7_temperLine_76 {d : Nat} {b0 : Nat} {l0 l1 l2 : Option Value} {h : AH} : R_X7_temperLine d 76 [l0, l1, l2] [.ref b0] h = (hpf h [18] b0 17 (.int ((nI 1)))).bind fun h1 => R_X7_temperLine d 84 [l0, l1, l2] [] h1 := by
  refine (p_const rfl).trans ?_
  refine (p_goto rfl).trans ?_
  exact s_putT rfl rfl
theorem e_X7_temperLine {d : Nat} {a0 : Nat} {h : AH} : exec tTab (d + 1) K_X7_temperLine [.ref a0] h = R_X7_temperLine d 0 [some (.ref a0), none, none] [] h := exec_eq (cd := k_X7_temperLine) (hd := (fun _ _ => some none)) (L := 3) rfl rfl rfl
/-- FavourTownModel.has0(Ljava/lang/String;)Z -/
abbrev K_X7_has0 : Nat := 160
noncomputable def R_X7_has0 (d pc : Nat) (ls : ALs) (st : List Value) (h : AH) : Option (AOut × AH) := aR (exec tTab d) k_X7_has0 (fun _ _ => some none) (pc, ls, st, h)
theorem r_X7_has0_0 {d : Nat} {a0 : Nat} {l1 l2 l3 : Option Value} {h : AH} : R_X7_has0 d 0 [some (.ref a0), l1, l2, l3] [] h = ((hci h a0).bind (lkN [(18, 156)])).bind fun y => aK (exec tTab d y [.ref a0] h) (fun v h1 => R_X7_has0 d 4 [some (.ref a0), l1, l2, l3] (v.toList ++ []) h1) (fun E h1 => some (.inr E, h1)) := by
  refine (p_aload rfl rfl).trans ?_
  exact s_callV (L := [(18, 156)]) (n := 0) (b := a0) (rest := []) rfl rfl rfl
theorem r_X7_has0_4 {d : Nat} {a0 : Nat} {l1 l2 l3 : Option Value} {h : AH} : R_X7_has0 d 4 [some (.ref a0), l1, l2, l3] [] h = (hgf h [18] a0 9).bind fun v => R_X7_has0 d 8 [some (.ref a0), l1, l2, l3] [v] h := by
  refine (p_aload rfl rfl).trans ?_
  exact s_getf rfl
theorem r_X7_has0_8 {d : Nat} {s0 : Int32} {l0 l1 l2 l3 : Option Value} {h : AH} : R_X7_has0 d 8 [l0, l1, l2, l3] [.int (s0)] h = R_X7_has0 d 9 [l0, l1, some (.int (s0)), l3] [] h := by
  refine (p_istore rfl rfl rfl).trans ?_
  exact rfl
theorem q_X7_has0_9 {d : Nat} {x2 : Int32} {a0 : Nat} {l1 l3 : Option Value} {h : AH} : R_X7_has0 d 9 [some (.ref a0), l1, some (.int (x2)), l3] [] h = (hgf h [18] a0 8).bind fun v => R_X7_has0 d 14 [some (.ref a0), l1, some (.int (x2)), l3] [v, .int (x2)] h := by
  refine (p_iload rfl rfl).trans ?_
  refine (p_aload rfl rfl).trans ?_
  exact s_getf rfl
theorem r_X7_has0_14 {d : Nat} {s0 s1 : Int32} {l0 l1 l2 l3 : Option Value} {h : AH} : R_X7_has0 d 14 [l0, l1, l2, l3] [.int (s1), .int (s0)] h = if s1 ≤ s0 then R_X7_has0 d 38 [l0, l1, l2, l3] [] h else R_X7_has0 d 17 [l0, l1, l2, l3] [] h := (s_icmp (g := (fun x y => decide (y ≤ x))) (t := 38) (nx := 17) rfl).trans bif_dec
theorem r_X7_has0_38 {d : Nat} {x2 : Int32} {a0 : Nat} {l1 l3 : Option Value} {h : AH} : R_X7_has0 d 38 [some (.ref a0), l1, some (.int (x2)), l3] [] h = (hgf h [18] a0 9).bind fun v => R_X7_has0 d 43 [some (.ref a0), l1, some (.int (x2)), l3] [v, .int (x2)] h := by
  refine (p_iload rfl rfl).trans ?_
  refine (p_aload rfl rfl).trans ?_
  exact s_getf rfl
theorem r_X7_has0_17 {d : Nat} {a0 : Nat} {x2 : Int32} {l1 l3 : Option Value} {h : AH} : R_X7_has0 d 17 [some (.ref a0), l1, some (.int (x2)), l3] [] h = ((hci h a0).bind (lkN [(18, 157)])).bind fun y => aK (exec tTab d y [.ref a0, .int (x2)] h) (fun v h1 => R_X7_has0 d 22 [some (.ref a0), l1, some (.int (x2)), l3] (v.toList ++ []) h1) (fun E h1 => some (.inr E, h1)) := by
  refine (p_aload rfl rfl).trans ?_
  refine (p_iload rfl rfl).trans ?_
  exact s_callV (L := [(18, 157)]) (n := 1) (b := a0) (rest := []) rfl rfl rfl
theorem r_X7_has0_43 {d : Nat} {s0 s1 : Int32} {a1 : Nat} {l0 l2 l3 : Option Value} {h : AH} : R_X7_has0 d 43 [l0, some (.ref a1), l2, l3] [.int (s1), .int (s0)] h = ((hci h a1).bind (lkN [(21, 280)])).bind fun y => aK (exec tTab d y [.ref a1] h) (fun v h1 => R_X7_has0 d 48 [l0, some (.ref a1), l2, l3] (v.toList ++ [.int (s0 - s1)]) h1) (fun E h1 => some (.inr E, h1)) := by
  refine (p_bin rfl).trans ?_
  refine (p_aload rfl rfl).trans ?_
  exact s_callV (L := [(21, 280)]) (n := 0) (b := a1) (rest := [.int (s0 - s1)]) rfl rfl rfl
theorem r_X7_has0_22 {d : Nat} {s0 : Int32} {l0 l1 l2 l3 : Option Value} {h : AH} : R_X7_has0 d 22 [l0, l1, l2, l3] [.int (s0)] h = aK (exec tTab d 153 [.int (s0), .int ((nI 97)), .int ((nI 122))] h) (fun v h1 => R_X7_has0 d 29 [l0, l1, l2, l3] (v.toList ++ []) h1) (fun E h1 => some (.inr E, h1)) := by
  refine (p_const rfl).trans ?_
  refine (p_const rfl).trans ?_
  exact s_callS (y := 153) (n := 3) rfl rfl
theorem r_X7_has0_48 {d : Nat} {s0 s1 : Int32} {l0 l1 l2 l3 : Option Value} {h : AH} : R_X7_has0 d 48 [l0, l1, l2, l3] [.int (s1), .int (s0)] h = if s0 = s1 then R_X7_has0 d 53 [l0, l1, l2, l3] [] h else R_X7_has0 d 51 [l0, l1, l2, l3] [] h := (s_icmp (g := (fun x y => decide (x = y))) (t := 53) (nx := 51) rfl).trans bif_dec
theorem r_X7_has0_29 {d : Nat} {s0 : Int32} {l0 l1 l2 l3 : Option Value} {h : AH} : R_X7_has0 d 29 [l0, l1, l2, l3] [.int (s0)] h = if s0 = 0 then R_X7_has0 d 38 [l0, l1, l2, l3] [] h else R_X7_has0 d 32 [l0, l1, l2, l3] [] h := (s_if (g := (fun x => decide (x = 0))) (t := 38) (nx := 32) rfl).trans bif_dec
theorem r_X7_has0_53 {d : Nat} {l0 l1 l2 l3 : Option Value} {h : AH} : R_X7_has0 d 53 [l0, l1, l2, l3] [] h = R_X7_has0 d 55 [l0, l1, l2, some (.int ((nI 0)))] [] h := by
  refine (p_const rfl).trans ?_
  refine (p_istore rfl rfl rfl).trans ?_
  exact rfl
theorem r_X7_has0_51 {d : Nat} {l0 l1 l2 l3 : Option Value} {h : AH} : R_X7_has0 d 51 [l0, l1, l2, l3] [] h = some (.inl (some (.int ((nI 0)))), h) := by
  refine (p_const rfl).trans ?_
  exact s_iretT rfl rfl
theorem r_X7_has0_32 {d : Nat} {x2 : Int32} {l0 l1 l3 : Option Value} {h : AH} : R_X7_has0 d 32 [l0, l1, some (.int (x2)), l3] [] h = R_X7_has0 d 9 [l0, l1, some (.int (x2 + (nI 1))), l3] [] h := by
  refine (p_iinc rfl rfl rfl).trans ?_
  refine (p_goto rfl).trans ?_
  exact rfl
theorem q_X7_has0_55 {d : Nat} {x3 : Int32} {a1 : Nat} {l0 l2 : Option Value} {h : AH} : R_X7_has0 d 55 [l0, some (.ref a1), l2, some (.int (x3))] [] h = ((hci h a1).bind (lkN [(21, 280)])).bind fun y => aK (exec tTab d y [.ref a1] h) (fun v h1 => R_X7_has0 d 60 [l0, some (.ref a1), l2, some (.int (x3))] (v.toList ++ [.int (x3)]) h1) (fun E h1 => some (.inr E, h1)) := by
  refine (p_iload rfl rfl).trans ?_
  refine (p_aload rfl rfl).trans ?_
  exact s_callV (L := [(21, 280)]) (n := 0) (b := a1) (rest := [.int (x3)]) rfl rfl rfl
theorem r_X7_has0_60 {d : Nat} {s0 s1 : Int32} {l0 l1 l2 l3 : Option Value} {h : AH} : R_X7_has0 d 60 [l0, l1, l2, l3] [.int (s1), .int (s0)] h = if s1 ≤ s0 then R_X7_has0 d 89 [l0, l1, l2, l3] [] h else R_X7_has0 d 63 [l0, l1, l2, l3] [] h := (s_icmp (g := (fun x y => decide (y ≤ x))) (t := 89) (nx := 63) rfl).trans bif_dec
theorem r_X7_has0_89 {d : Nat} {a0 : Nat} {x2 : Int32} {l1 l3 : Option Value} {h : AH} : R_X7_has0 d 89 [some (.ref a0), l1, some (.int (x2)), l3] [] h = (hpf h [18] a0 9 (.int (x2))).bind fun h1 => R_X7_has0 d 94 [some (.ref a0), l1, some (.int (x2)), l3] [] h1 := by
  refine (p_aload rfl rfl).trans ?_
  refine (p_iload rfl rfl).trans ?_
  exact s_putT rfl rfl
theorem r_X7_has0_63 {d : Nat} {a0 : Nat} {l1 l2 l3 : Option Value} {h : AH} : R_X7_has0 d 63 [some (.ref a0), l1, l2, l3] [] h = (hgf h [18] a0 9).bind fun v => R_X7_has0 d 68 [some (.ref a0), l1, l2, l3] [v, .ref a0] h := by
  refine (p_aload rfl rfl).trans ?_
  refine (p_aload rfl rfl).trans ?_
  exact s_getf rfl
theorem r_X7_has0_94 {d : Nat} {l0 l1 l2 l3 : Option Value} {h : AH} : R_X7_has0 d 94 [l0, l1, l2, l3] [] h = some (.inl (some (.int ((nI 1)))), h) := by
  refine (p_const rfl).trans ?_
  exact s_iretT rfl rfl
theorem r_X7_has0_68 {d : Nat} {b0 : Nat} {s1 x3 : Int32} {l0 l1 l2 : Option Value} {h : AH} : R_X7_has0 d 68 [l0, l1, l2, some (.int (x3))] [.int (s1), .ref b0] h = ((hci h b0).bind (lkN [(18, 157)])).bind fun y => aK (exec tTab d y [.ref b0, .int (s1 + x3)] h) (fun v h1 => R_X7_has0 d 73 [l0, l1, l2, some (.int (x3))] (v.toList ++ []) h1) (fun E h1 => some (.inr E, h1)) := by
  refine (p_iload rfl rfl).trans ?_
  refine (p_bin rfl).trans ?_
  exact s_callV (L := [(18, 157)]) (n := 1) (b := b0) (rest := []) rfl rfl rfl
theorem r_X7_has0_73 {d : Nat} {s0 x3 : Int32} {a1 : Nat} {l0 l2 : Option Value} {h : AH} : R_X7_has0 d 73 [l0, some (.ref a1), l2, some (.int (x3))] [.int (s0)] h = ((hci h a1).bind (lkN [(21, 286)])).bind fun y => aK (exec tTab d y [.ref a1, .int (x3)] h) (fun v h1 => R_X7_has0 d 78 [l0, some (.ref a1), l2, some (.int (x3))] (v.toList ++ [.int (s0)]) h1) (fun E h1 => some (.inr E, h1)) := by
  refine (p_aload rfl rfl).trans ?_
  refine (p_iload rfl rfl).trans ?_
  exact s_callV (L := [(21, 286)]) (n := 1) (b := a1) (rest := [.int (s0)]) rfl rfl rfl
theorem r_X7_has0_78 {d : Nat} {s0 s1 : Int32} {l0 l1 l2 l3 : Option Value} {h : AH} : R_X7_has0 d 78 [l0, l1, l2, l3] [.int (s1), .int (s0)] h = if s0 = s1 then R_X7_has0 d 83 [l0, l1, l2, l3] [] h else R_X7_has0 d 81 [l0, l1, l2, l3] [] h := (s_icmp (g := (fun x y => decide (x = y))) (t := 83) (nx := 81) rfl).trans bif_dec
theorem r_X7_has0_83 {d : Nat} {x3 : Int32} {l0 l1 l2 : Option Value} {h : AH} : R_X7_has0 d 83 [l0, l1, l2, some (.int (x3))] [] h = R_X7_has0 d 55 [l0, l1, l2, some (.int (x3 + (nI 1)))] [] h := by
  refine (p_iinc rfl rfl rfl).trans ?_
  refine (p_goto rfl).trans ?_
  exact rfl
theorem r_X7_has0_81 {d : Nat} {l0 l1 l2 l3 : Option Value} {h : AH} : R_X7_has0 d 81 [l0, l1, l2, l3] [] h = some (.inl (some (.int ((nI 0)))), h) := by
  refine (p_const rfl).trans ?_
  exact s_iretT rfl rfl
theorem e_X7_has0 {d : Nat} {a0 a1 : Nat} {h : AH} : exec tTab (d + 1) K_X7_has0 [.ref a0, .ref a1] h = R_X7_has0 d 0 [some (.ref a0), some (.ref a1), none, none] [] h := exec_eq (cd := k_X7_has0) (hd := (fun _ _ => some none)) (L := 4) rfl rfl rfl
/-- FavourTownModel.some()Z -/
abbrev K_X7_some : Nat := 161
noncomputable def R_X7_some (d pc : Nat) (ls : ALs) (st : List Value) (h : AH) : Option (AOut × AH) := aR (exec tTab d) k_X7_some (fun _ _ => some none) (pc, ls, st, h)
theorem r_X7_some_0 {d : Nat} {a0 : Nat} {l1 l2 : Option Value} {h : AH} : R_X7_some d 0 [some (.ref a0), l1, l2] [] h = ((hci h a0).bind (lkN [(18, 162)])).bind fun y => aK (exec tTab d y [.ref a0] h) (fun v h1 => R_X7_some d 4 [some (.ref a0), l1, l2] (v.toList ++ []) h1) (fun E h1 => some (.inr E, h1)) := by
  refine (p_aload rfl rfl).trans ?_
  exact s_callV (L := [(18, 162)]) (n := 0) (b := a0) (rest := []) rfl rfl rfl
theorem r_X7_some_4 {d : Nat} {s0 : Int32} {l0 l1 l2 : Option Value} {h : AH} : R_X7_some d 4 [l0, l1, l2] [.int (s0)] h = R_X7_some d 5 [l0, some (.int (s0)), l2] [] h := by
  refine (p_istore rfl rfl rfl).trans ?_
  exact rfl
theorem q_X7_some_5 {d : Nat} {a0 : Nat} {l1 l2 : Option Value} {h : AH} : R_X7_some d 5 [some (.ref a0), l1, l2] [] h = (hgf h [18] a0 10).bind fun v => R_X7_some d 9 [some (.ref a0), l1, l2] [v] h := by
  refine (p_aload rfl rfl).trans ?_
  exact s_getf rfl
theorem r_X7_some_9 {d : Nat} {s0 : Int32} {l0 l1 l2 : Option Value} {h : AH} : R_X7_some d 9 [l0, l1, l2] [.int (s0)] h = if ¬ s0 = (-1) then R_X7_some d 44 [l0, l1, l2] [] h else R_X7_some d 13 [l0, l1, l2] [] h := by
  refine (p_const rfl).trans ?_
  exact (s_icmp (g := (fun x y => decide (¬ x = y))) (t := 44) (nx := 13) rfl).trans bif_dec
theorem r_X7_some_44 {d : Nat} {x1 : Int32} {l0 l2 : Option Value} {h : AH} : R_X7_some d 44 [l0, some (.int (x1)), l2] [] h = bif x1 == 0 || x1 == 1 then some (.inl (some (.int (x1))), h) else none := by
  refine (p_iload rfl rfl).trans ?_
  exact s_iret (ok := (fun x => x == 0 || x == 1)) rfl
theorem r_X7_some_13 {d : Nat} {a0 : Nat} {l1 l2 : Option Value} {h : AH} : R_X7_some d 13 [some (.ref a0), l1, l2] [] h = R_X7_some d 16 [some (.ref a0), l1, l2] [h.2.2.2 58, .ref a0] h := by
  refine (p_aload rfl rfl).trans ?_
  exact p_stat rfl
theorem r_X7_some_16 {d : Nat} {b0 b1 : Nat} {l0 l1 l2 : Option Value} {h : AH} : R_X7_some d 16 [l0, l1, l2] [.ref b1, .ref b0] h = ((hci h b0).bind (lkN [(18, 160)])).bind fun y => aK (exec tTab d y [.ref b0, .ref b1] h) (fun v h1 => R_X7_some d 19 [l0, l1, l2] (v.toList ++ []) h1) (fun E h1 => some (.inr E, h1)) := s_callV (L := [(18, 160)]) (n := 1) (b := b0) (rest := []) rfl rfl rfl
theorem r_X7_some_16N {d : Nat} {b0 : Nat} {l0 l1 l2 : Option Value} {h : AH} : R_X7_some d 16 [l0, l1, l2] [.null, .ref b0] h = ((hci h b0).bind (lkN [(18, 160)])).bind fun y => aK (exec tTab d y [.ref b0, .null] h) (fun v h1 => R_X7_some d 19 [l0, l1, l2] (v.toList ++ []) h1) (fun E h1 => some (.inr E, h1)) := s_callV (L := [(18, 160)]) (n := 1) (b := b0) (rest := []) rfl rfl rfl
theorem r_X7_some_19 {d : Nat} {s0 : Int32} {l0 l1 l2 : Option Value} {h : AH} : R_X7_some d 19 [l0, l1, l2] [.int (s0)] h = if s0 = 0 then R_X7_some d 44 [l0, l1, l2] [] h else R_X7_some d 22 [l0, l1, l2] [] h := (s_if (g := (fun x => decide (x = 0))) (t := 44) (nx := 22) rfl).trans bif_dec
theorem r_X7_some_22 {d : Nat} {a0 : Nat} {l1 l2 : Option Value} {h : AH} : R_X7_some d 22 [some (.ref a0), l1, l2] [] h = ((hci h a0).bind (lkN [(18, 162)])).bind fun y => aK (exec tTab d y [.ref a0] h) (fun v h1 => R_X7_some d 26 [some (.ref a0), l1, l2] (v.toList ++ []) h1) (fun E h1 => some (.inr E, h1)) := by
  refine (p_aload rfl rfl).trans ?_
  exact s_callV (L := [(18, 162)]) (n := 0) (b := a0) (rest := []) rfl rfl rfl
theorem r_X7_some_26 {d : Nat} {s0 x1 : Int32} {l0 l2 : Option Value} {h : AH} : R_X7_some d 26 [l0, some (.int (x1)), l2] [.int (s0)] h = if ¬ x1 = 0 then R_X7_some d 35 [l0, some (.int (x1)), some (.int (s0))] [] h else R_X7_some d 31 [l0, some (.int (x1)), some (.int (s0))] [] h := by
  refine (p_istore rfl rfl rfl).trans ?_
  refine (p_iload rfl rfl).trans ?_
  exact (s_if (g := (fun x => decide (¬ x = 0))) (t := 35) (nx := 31) rfl).trans bif_dec
theorem r_X7_some_35 {d : Nat} {l0 l1 l2 : Option Value} {h : AH} : R_X7_some d 35 [l0, l1, l2] [] h = R_X7_some d 5 [l0, some (.int ((nI 1))), l2] [] h := by
  refine (p_const rfl).trans ?_
  refine (p_goto rfl).trans ?_
  refine (p_istore rfl rfl rfl).trans ?_
  refine (p_goto rfl).trans ?_
  exact rfl
theorem r_X7_some_31 {d : Nat} {x2 : Int32} {l0 l1 : Option Value} {h : AH} : R_X7_some d 31 [l0, l1, some (.int (x2))] [] h = if x2 = 0 then R_X7_some d 39 [l0, l1, some (.int (x2))] [] h else R_X7_some d 35 [l0, l1, some (.int (x2))] [] h := by
  refine (p_iload rfl rfl).trans ?_
  exact (s_if (g := (fun x => decide (x = 0))) (t := 39) (nx := 35) rfl).trans bif_dec
theorem r_X7_some_39 {d : Nat} {l0 l1 l2 : Option Value} {h : AH} : R_X7_some d 39 [l0, l1, l2] [] h = R_X7_some d 5 [l0, some (.int ((nI 0))), l2] [] h := by
  refine (p_const rfl).trans ?_
  refine (p_istore rfl rfl rfl).trans ?_
  refine (p_goto rfl).trans ?_
  exact rfl
theorem e_X7_some {d : Nat} {a0 : Nat} {h : AH} : exec tTab (d + 1) K_X7_some [.ref a0] h = R_X7_some d 0 [some (.ref a0), none, none] [] h := exec_eq (cd := k_X7_some) (hd := (fun _ _ => some none)) (L := 3) rfl rfl rfl
/-- FavourTownModel.every()Z -/
abbrev K_X7_every : Nat := 162
noncomputable def R_X7_every (d pc : Nat) (ls : ALs) (st : List Value) (h : AH) : Option (AOut × AH) := aR (exec tTab d) k_X7_every (fun _ _ => some none) (pc, ls, st, h)
theorem r_X7_every_0 {d : Nat} {a0 : Nat} {l1 l2 : Option Value} {h : AH} : R_X7_every d 0 [some (.ref a0), l1, l2] [] h = ((hci h a0).bind (lkN [(18, 163)])).bind fun y => aK (exec tTab d y [.ref a0] h) (fun v h1 => R_X7_every d 4 [some (.ref a0), l1, l2] (v.toList ++ []) h1) (fun E h1 => some (.inr E, h1)) := by
  refine (p_aload rfl rfl).trans ?_
  exact s_callV (L := [(18, 163)]) (n := 0) (b := a0) (rest := []) rfl rfl rfl
theorem r_X7_every_4 {d : Nat} {s0 : Int32} {l0 l1 l2 : Option Value} {h : AH} : R_X7_every d 4 [l0, l1, l2] [.int (s0)] h = R_X7_every d 5 [l0, some (.int (s0)), l2] [] h := by
  refine (p_istore rfl rfl rfl).trans ?_
  exact rfl
theorem q_X7_every_5 {d : Nat} {a0 : Nat} {l1 l2 : Option Value} {h : AH} : R_X7_every d 5 [some (.ref a0), l1, l2] [] h = (hgf h [18] a0 10).bind fun v => R_X7_every d 9 [some (.ref a0), l1, l2] [v] h := by
  refine (p_aload rfl rfl).trans ?_
  exact s_getf rfl
theorem r_X7_every_9 {d : Nat} {s0 : Int32} {l0 l1 l2 : Option Value} {h : AH} : R_X7_every d 9 [l0, l1, l2] [.int (s0)] h = if ¬ s0 = (-1) then R_X7_every d 44 [l0, l1, l2] [] h else R_X7_every d 13 [l0, l1, l2] [] h := by
  refine (p_const rfl).trans ?_
  exact (s_icmp (g := (fun x y => decide (¬ x = y))) (t := 44) (nx := 13) rfl).trans bif_dec
theorem r_X7_every_44 {d : Nat} {x1 : Int32} {l0 l2 : Option Value} {h : AH} : R_X7_every d 44 [l0, some (.int (x1)), l2] [] h = bif x1 == 0 || x1 == 1 then some (.inl (some (.int (x1))), h) else none := by
  refine (p_iload rfl rfl).trans ?_
  exact s_iret (ok := (fun x => x == 0 || x == 1)) rfl
theorem r_X7_every_13 {d : Nat} {a0 : Nat} {l1 l2 : Option Value} {h : AH} : R_X7_every d 13 [some (.ref a0), l1, l2] [] h = R_X7_every d 16 [some (.ref a0), l1, l2] [h.2.2.2 57, .ref a0] h := by
  refine (p_aload rfl rfl).trans ?_
  exact p_stat rfl
theorem r_X7_every_16 {d : Nat} {b0 b1 : Nat} {l0 l1 l2 : Option Value} {h : AH} : R_X7_every d 16 [l0, l1, l2] [.ref b1, .ref b0] h = ((hci h b0).bind (lkN [(18, 160)])).bind fun y => aK (exec tTab d y [.ref b0, .ref b1] h) (fun v h1 => R_X7_every d 19 [l0, l1, l2] (v.toList ++ []) h1) (fun E h1 => some (.inr E, h1)) := s_callV (L := [(18, 160)]) (n := 1) (b := b0) (rest := []) rfl rfl rfl
theorem r_X7_every_16N {d : Nat} {b0 : Nat} {l0 l1 l2 : Option Value} {h : AH} : R_X7_every d 16 [l0, l1, l2] [.null, .ref b0] h = ((hci h b0).bind (lkN [(18, 160)])).bind fun y => aK (exec tTab d y [.ref b0, .null] h) (fun v h1 => R_X7_every d 19 [l0, l1, l2] (v.toList ++ []) h1) (fun E h1 => some (.inr E, h1)) := s_callV (L := [(18, 160)]) (n := 1) (b := b0) (rest := []) rfl rfl rfl
theorem r_X7_every_19 {d : Nat} {s0 : Int32} {l0 l1 l2 : Option Value} {h : AH} : R_X7_every d 19 [l0, l1, l2] [.int (s0)] h = if s0 = 0 then R_X7_every d 44 [l0, l1, l2] [] h else R_X7_every d 22 [l0, l1, l2] [] h := (s_if (g := (fun x => decide (x = 0))) (t := 44) (nx := 22) rfl).trans bif_dec
theorem r_X7_every_22 {d : Nat} {a0 : Nat} {l1 l2 : Option Value} {h : AH} : R_X7_every d 22 [some (.ref a0), l1, l2] [] h = ((hci h a0).bind (lkN [(18, 163)])).bind fun y => aK (exec tTab d y [.ref a0] h) (fun v h1 => R_X7_every d 26 [some (.ref a0), l1, l2] (v.toList ++ []) h1) (fun E h1 => some (.inr E, h1)) := by
  refine (p_aload rfl rfl).trans ?_
  exact s_callV (L := [(18, 163)]) (n := 0) (b := a0) (rest := []) rfl rfl rfl
theorem r_X7_every_26 {d : Nat} {s0 x1 : Int32} {l0 l2 : Option Value} {h : AH} : R_X7_every d 26 [l0, some (.int (x1)), l2] [.int (s0)] h = if x1 = 0 then R_X7_every d 39 [l0, some (.int (x1)), some (.int (s0))] [] h else R_X7_every d 31 [l0, some (.int (x1)), some (.int (s0))] [] h := by
  refine (p_istore rfl rfl rfl).trans ?_
  refine (p_iload rfl rfl).trans ?_
  exact (s_if (g := (fun x => decide (x = 0))) (t := 39) (nx := 31) rfl).trans bif_dec
theorem r_X7_every_39 {d : Nat} {l0 l1 l2 : Option Value} {h : AH} : R_X7_every d 39 [l0, l1, l2] [] h = R_X7_every d 5 [l0, some (.int ((nI 0))), l2] [] h := by
  refine (p_const rfl).trans ?_
  refine (p_istore rfl rfl rfl).trans ?_
  refine (p_goto rfl).trans ?_
  exact rfl
theorem r_X7_every_31 {d : Nat} {x2 : Int32} {l0 l1 : Option Value} {h : AH} : R_X7_every d 31 [l0, l1, some (.int (x2))] [] h = if x2 = 0 then R_X7_every d 39 [l0, l1, some (.int (x2))] [] h else R_X7_every d 35 [l0, l1, some (.int (x2))] [] h := by
  refine (p_iload rfl rfl).trans ?_
  exact (s_if (g := (fun x => decide (x = 0))) (t := 39) (nx := 35) rfl).trans bif_dec
theorem r_X7_every_35 {d : Nat} {l0 l1 l2 : Option Value} {h : AH} : R_X7_every d 35 [l0, l1, l2] [] h = R_X7_every d 5 [l0, some (.int ((nI 1))), l2] [] h := by
  refine (p_const rfl).trans ?_
  refine (p_goto rfl).trans ?_
  refine (p_istore rfl rfl rfl).trans ?_
  refine (p_goto rfl).trans ?_
  exact rfl
theorem e_X7_every {d : Nat} {a0 : Nat} {h : AH} : exec tTab (d + 1) K_X7_every [.ref a0] h = R_X7_every d 0 [some (.ref a0), none, none] [] h := exec_eq (cd := k_X7_every) (hd := (fun _ _ => some none)) (L := 3) rfl rfl rfl
/-- FavourTownModel.atom()Z -/
abbrev K_X7_atom : Nat := 163
noncomputable def R_X7_atom (d pc : Nat) (ls : ALs) (st : List Value) (h : AH) : Option (AOut × AH) := aR (exec tTab d) k_X7_atom (fun _ _ => some none) (pc, ls, st, h)
theorem r_X7_atom_0 {d : Nat} {a0 : Nat} {l1 l2 l3 : Option Value} {h : AH} : R_X7_atom d 0 [some (.ref a0), l1, l2, l3] [] h = (hgf h [18] a0 10).bind fun v => R_X7_atom d 4 [some (.ref a0), l1, l2, l3] [v] h := by
  refine (p_aload rfl rfl).trans ?_
  exact s_getf rfl
theorem r_X7_atom_4 {d : Nat} {s0 : Int32} {l0 l1 l2 l3 : Option Value} {h : AH} : R_X7_atom d 4 [l0, l1, l2, l3] [.int (s0)] h = if s0 = (-1) then R_X7_atom d 10 [l0, l1, l2, l3] [] h else R_X7_atom d 8 [l0, l1, l2, l3] [] h := by
  refine (p_const rfl).trans ?_
  exact (s_icmp (g := (fun x y => decide (x = y))) (t := 10) (nx := 8) rfl).trans bif_dec
theorem r_X7_atom_10 {d : Nat} {a0 : Nat} {l1 l2 l3 : Option Value} {h : AH} : R_X7_atom d 10 [some (.ref a0), l1, l2, l3] [] h = ((hci h a0).bind (lkN [(18, 156)])).bind fun y => aK (exec tTab d y [.ref a0] h) (fun v h1 => R_X7_atom d 14 [some (.ref a0), l1, l2, l3] (v.toList ++ []) h1) (fun E h1 => some (.inr E, h1)) := by
  refine (p_aload rfl rfl).trans ?_
  exact s_callV (L := [(18, 156)]) (n := 0) (b := a0) (rest := []) rfl rfl rfl
theorem r_X7_atom_8 {d : Nat} {l0 l1 l2 l3 : Option Value} {h : AH} : R_X7_atom d 8 [l0, l1, l2, l3] [] h = some (.inl (some (.int ((nI 0)))), h) := by
  refine (p_const rfl).trans ?_
  exact s_iretT rfl rfl
theorem r_X7_atom_14 {d : Nat} {a0 : Nat} {l1 l2 l3 : Option Value} {h : AH} : R_X7_atom d 14 [some (.ref a0), l1, l2, l3] [] h = (hgf h [18] a0 9).bind fun v => R_X7_atom d 18 [some (.ref a0), l1, l2, l3] [v] h := by
  refine (p_aload rfl rfl).trans ?_
  exact s_getf rfl
theorem r_X7_atom_18 {d : Nat} {s0 : Int32} {a0 : Nat} {l1 l2 l3 : Option Value} {h : AH} : R_X7_atom d 18 [some (.ref a0), l1, l2, l3] [.int (s0)] h = R_X7_atom d 22 [some (.ref a0), some (.int (s0)), l2, l3] [h.2.2.2 56, .ref a0] h := by
  refine (p_istore rfl rfl rfl).trans ?_
  refine (p_aload rfl rfl).trans ?_
  exact p_stat rfl
theorem r_X7_atom_22 {d : Nat} {b0 b1 : Nat} {l0 l1 l2 l3 : Option Value} {h : AH} : R_X7_atom d 22 [l0, l1, l2, l3] [.ref b1, .ref b0] h = ((hci h b0).bind (lkN [(18, 160)])).bind fun y => aK (exec tTab d y [.ref b0, .ref b1] h) (fun v h1 => R_X7_atom d 25 [l0, l1, l2, l3] (v.toList ++ []) h1) (fun E h1 => some (.inr E, h1)) := s_callV (L := [(18, 160)]) (n := 1) (b := b0) (rest := []) rfl rfl rfl
theorem r_X7_atom_22N {d : Nat} {b0 : Nat} {l0 l1 l2 l3 : Option Value} {h : AH} : R_X7_atom d 22 [l0, l1, l2, l3] [.null, .ref b0] h = ((hci h b0).bind (lkN [(18, 160)])).bind fun y => aK (exec tTab d y [.ref b0, .null] h) (fun v h1 => R_X7_atom d 25 [l0, l1, l2, l3] (v.toList ++ []) h1) (fun E h1 => some (.inr E, h1)) := s_callV (L := [(18, 160)]) (n := 1) (b := b0) (rest := []) rfl rfl rfl
theorem r_X7_atom_25 {d : Nat} {s0 : Int32} {l0 l1 l2 l3 : Option Value} {h : AH} : R_X7_atom d 25 [l0, l1, l2, l3] [.int (s0)] h = if ¬ s0 = 0 then R_X7_atom d 44 [l0, l1, some (.int (s0)), l3] [] h else R_X7_atom d 30 [l0, l1, some (.int (s0)), l3] [] h := by
  refine (p_istore rfl rfl rfl).trans ?_
  refine (p_iload rfl rfl).trans ?_
  exact (s_if (g := (fun x => decide (¬ x = 0))) (t := 44) (nx := 30) rfl).trans bif_dec
theorem r_X7_atom_44 {d : Nat} {a0 : Nat} {l1 l2 l3 : Option Value} {h : AH} : R_X7_atom d 44 [some (.ref a0), l1, l2, l3] [] h = (hgf h [18] a0 11).bind fun v => R_X7_atom d 48 [some (.ref a0), l1, l2, l3] [v] h := by
  refine (p_aload rfl rfl).trans ?_
  exact s_getf rfl
theorem r_X7_atom_30 {d : Nat} {a0 : Nat} {l1 l2 l3 : Option Value} {h : AH} : R_X7_atom d 30 [some (.ref a0), l1, l2, l3] [] h = ((hci h a0).bind (lkN [(18, 164)])).bind fun y => aK (exec tTab d y [.ref a0, .int ((nI 40))] h) (fun v h1 => R_X7_atom d 36 [some (.ref a0), l1, l2, l3] (v.toList ++ []) h1) (fun E h1 => some (.inr E, h1)) := by
  refine (p_aload rfl rfl).trans ?_
  refine (p_const rfl).trans ?_
  exact s_callV (L := [(18, 164)]) (n := 1) (b := a0) (rest := []) rfl rfl rfl
theorem r_X7_atom_48 {d : Nat} {s0 : Int32} {l0 l1 l2 l3 : Option Value} {h : AH} : R_X7_atom d 48 [l0, l1, l2, l3] [.int (s0)] h = if ¬ s0 = (nI 6) then R_X7_atom d 60 [l0, l1, l2, l3] [] h else R_X7_atom d 53 [l0, l1, l2, l3] [] h := by
  refine (p_const rfl).trans ?_
  exact (s_icmp (g := (fun x y => decide (¬ x = y))) (t := 60) (nx := 53) rfl).trans bif_dec
theorem r_X7_atom_36 {d : Nat} {s0 : Int32} {l0 l1 l2 l3 : Option Value} {h : AH} : R_X7_atom d 36 [l0, l1, l2, l3] [.int (s0)] h = if ¬ s0 = 0 then R_X7_atom d 44 [l0, l1, l2, l3] [] h else R_X7_atom d 39 [l0, l1, l2, l3] [] h := (s_if (g := (fun x => decide (¬ x = 0))) (t := 44) (nx := 39) rfl).trans bif_dec
theorem r_X7_atom_60 {d : Nat} {a0 : Nat} {l1 l2 l3 : Option Value} {h : AH} : R_X7_atom d 60 [some (.ref a0), l1, l2, l3] [] h = (hgf h [18] a0 11).bind fun v => R_X7_atom d 65 [some (.ref a0), l1, l2, l3] [v, .ref a0] h := by
  refine (p_aload rfl rfl).trans ?_
  refine (p_dup rfl rfl).trans ?_
  exact s_getf rfl
theorem r_X7_atom_53 {d : Nat} {a0 : Nat} {x1 : Int32} {l2 l3 : Option Value} {h : AH} : R_X7_atom d 53 [some (.ref a0), some (.int (x1)), l2, l3] [] h = ((hci h a0).bind (lkN [(18, 158)])).bind fun y => aK (exec tTab d y [.ref a0, .int (x1)] h) (fun v h1 => R_X7_atom d 58 [some (.ref a0), some (.int (x1)), l2, l3] (v.toList ++ []) h1) (fun E h1 => some (.inr E, h1)) := by
  refine (p_aload rfl rfl).trans ?_
  refine (p_iload rfl rfl).trans ?_
  exact s_callV (L := [(18, 158)]) (n := 1) (b := a0) (rest := []) rfl rfl rfl
theorem r_X7_atom_39 {d : Nat} {a0 : Nat} {l1 l2 l3 : Option Value} {h : AH} : R_X7_atom d 39 [some (.ref a0), l1, l2, l3] [] h = ((hci h a0).bind (lkN [(18, 165)])).bind fun y => aK (exec tTab d y [.ref a0] h) (fun v h1 => R_X7_atom d 43 [some (.ref a0), l1, l2, l3] (v.toList ++ []) h1) (fun E h1 => some (.inr E, h1)) := by
  refine (p_aload rfl rfl).trans ?_
  exact s_callV (L := [(18, 165)]) (n := 0) (b := a0) (rest := []) rfl rfl rfl
theorem r_X7_atom_65 {d : Nat} {b0 : Nat} {s1 : Int32} {l0 l1 l2 l3 : Option Value} {h : AH} : R_X7_atom d 65 [l0, l1, l2, l3] [.int (s1), .ref b0] h = (hpf h [18] b0 11 (.int (s1 + (nI 1)))).bind fun h1 => R_X7_atom d 70 [l0, l1, l2, l3] [] h1 := by
  refine (p_const rfl).trans ?_
  refine (p_bin rfl).trans ?_
  exact s_putT rfl rfl
theorem r_X7_atom_58 {d : Nat} {l0 l1 l2 l3 : Option Value} {h : AH} : R_X7_atom d 58 [l0, l1, l2, l3] [] h = some (.inl (some (.int ((nI 0)))), h) := by
  refine (p_const rfl).trans ?_
  exact s_iretT rfl rfl
theorem r_X7_atom_43 {d : Nat} {s0 : Int32} {l0 l1 l2 l3 : Option Value} {h : AH} : R_X7_atom d 43 [l0, l1, l2, l3] [.int (s0)] h = bif s0 == 0 || s0 == 1 then some (.inl (some (.int (s0))), h) else none := s_iret (ok := (fun x => x == 0 || x == 1)) rfl
theorem r_X7_atom_70 {d : Nat} {x2 : Int32} {l0 l1 l3 : Option Value} {h : AH} : R_X7_atom d 70 [l0, l1, some (.int (x2)), l3] [] h = if x2 = 0 then R_X7_atom d 92 [l0, l1, some (.int (x2)), some (.int ((nI 0)))] [] h else R_X7_atom d 76 [l0, l1, some (.int (x2)), some (.int ((nI 0)))] [] h := by
  refine (p_const rfl).trans ?_
  refine (p_istore rfl rfl rfl).trans ?_
  refine (p_iload rfl rfl).trans ?_
  exact (s_if (g := (fun x => decide (x = 0))) (t := 92) (nx := 76) rfl).trans bif_dec
theorem r_X7_atom_92 {d : Nat} {a0 : Nat} {l1 l2 l3 : Option Value} {h : AH} : R_X7_atom d 92 [some (.ref a0), l1, l2, l3] [] h = (hgf h [18] a0 9).bind fun v => R_X7_atom d 97 [some (.ref a0), l1, l2, l3] [v, .ref a0] h := by
  refine (p_aload rfl rfl).trans ?_
  refine (p_dup rfl rfl).trans ?_
  exact s_getf rfl
theorem r_X7_atom_76 {d : Nat} {a0 : Nat} {l1 l2 l3 : Option Value} {h : AH} : R_X7_atom d 76 [some (.ref a0), l1, l2, l3] [] h = ((hci h a0).bind (lkN [(18, 163)])).bind fun y => aK (exec tTab d y [.ref a0] h) (fun v h1 => R_X7_atom d 80 [some (.ref a0), l1, l2, l3] (v.toList ++ []) h1) (fun E h1 => some (.inr E, h1)) := by
  refine (p_aload rfl rfl).trans ?_
  exact s_callV (L := [(18, 163)]) (n := 0) (b := a0) (rest := []) rfl rfl rfl
theorem r_X7_atom_97 {d : Nat} {b0 : Nat} {s1 : Int32} {l0 l1 l2 l3 : Option Value} {h : AH} : R_X7_atom d 97 [l0, l1, l2, l3] [.int (s1), .ref b0] h = (hpf h [18] b0 9 (.int (s1 + (nI 1)))).bind fun h1 => R_X7_atom d 102 [l0, l1, l2, l3] [] h1 := by
  refine (p_const rfl).trans ?_
  refine (p_bin rfl).trans ?_
  exact s_putT rfl rfl
theorem r_X7_atom_80 {d : Nat} {s0 : Int32} {l0 l1 l2 l3 : Option Value} {h : AH} : R_X7_atom d 80 [l0, l1, l2, l3] [.int (s0)] h = if ¬ s0 = 0 then R_X7_atom d 87 [l0, l1, l2, l3] [] h else R_X7_atom d 83 [l0, l1, l2, l3] [] h := (s_if (g := (fun x => decide (¬ x = 0))) (t := 87) (nx := 83) rfl).trans bif_dec
theorem r_X7_atom_102 {d : Nat} {a0 : Nat} {l1 l2 l3 : Option Value} {h : AH} : R_X7_atom d 102 [some (.ref a0), l1, l2, l3] [] h = ((hci h a0).bind (lkN [(18, 161)])).bind fun y => aK (exec tTab d y [.ref a0] h) (fun v h1 => R_X7_atom d 106 [some (.ref a0), l1, l2, l3] (v.toList ++ []) h1) (fun E h1 => some (.inr E, h1)) := by
  refine (p_aload rfl rfl).trans ?_
  exact s_callV (L := [(18, 161)]) (n := 0) (b := a0) (rest := []) rfl rfl rfl
theorem r_X7_atom_87 {d : Nat} {a0 : Nat} {l1 l2 l3 : Option Value} {h : AH} : R_X7_atom d 87 [some (.ref a0), l1, l2, l3] [] h = (hgf h [18] a0 11).bind fun v => R_X7_atom d 147 [some (.ref a0), l1, l2, some (.int ((nI 0)))] [v, .ref a0] h := by
  refine (p_const rfl).trans ?_
  refine (p_istore rfl rfl rfl).trans ?_
  refine (p_goto rfl).trans ?_
  refine (p_aload rfl rfl).trans ?_
  refine (p_dup rfl rfl).trans ?_
  exact s_getf rfl
theorem r_X7_atom_83 {d : Nat} {a0 : Nat} {l1 l2 l3 : Option Value} {h : AH} : R_X7_atom d 83 [some (.ref a0), l1, l2, l3] [] h = (hgf h [18] a0 11).bind fun v => R_X7_atom d 147 [some (.ref a0), l1, l2, some (.int ((nI 1)))] [v, .ref a0] h := by
  refine (p_const rfl).trans ?_
  refine (p_goto rfl).trans ?_
  refine (p_istore rfl rfl rfl).trans ?_
  refine (p_goto rfl).trans ?_
  refine (p_aload rfl rfl).trans ?_
  refine (p_dup rfl rfl).trans ?_
  exact s_getf rfl
theorem r_X7_atom_106 {d : Nat} {s0 : Int32} {a0 : Nat} {l1 l2 l3 : Option Value} {h : AH} : R_X7_atom d 106 [some (.ref a0), l1, l2, l3] [.int (s0)] h = (hgf h [18] a0 10).bind fun v => R_X7_atom d 111 [some (.ref a0), l1, l2, some (.int (s0))] [v] h := by
  refine (p_istore rfl rfl rfl).trans ?_
  refine (p_aload rfl rfl).trans ?_
  exact s_getf rfl
theorem r_X7_atom_147 {d : Nat} {b0 : Nat} {s1 : Int32} {l0 l1 l2 l3 : Option Value} {h : AH} : R_X7_atom d 147 [l0, l1, l2, l3] [.int (s1), .ref b0] h = (hpf h [18] b0 11 (.int (s1 - (nI 1)))).bind fun h1 => R_X7_atom d 152 [l0, l1, l2, l3] [] h1 := by
  refine (p_const rfl).trans ?_
  refine (p_bin rfl).trans ?_
  exact s_putT rfl rfl
theorem r_X7_atom_111 {d : Nat} {s0 : Int32} {l0 l1 l2 l3 : Option Value} {h : AH} : R_X7_atom d 111 [l0, l1, l2, l3] [.int (s0)] h = if ¬ s0 = (-1) then R_X7_atom d 132 [l0, l1, l2, l3] [] h else R_X7_atom d 115 [l0, l1, l2, l3] [] h := by
  refine (p_const rfl).trans ?_
  exact (s_icmp (g := (fun x y => decide (¬ x = y))) (t := 132) (nx := 115) rfl).trans bif_dec
theorem r_X7_atom_152 {d : Nat} {x3 : Int32} {l0 l1 l2 : Option Value} {h : AH} : R_X7_atom d 152 [l0, l1, l2, some (.int (x3))] [] h = bif x3 == 0 || x3 == 1 then some (.inl (some (.int (x3))), h) else none := by
  refine (p_iload rfl rfl).trans ?_
  exact s_iret (ok := (fun x => x == 0 || x == 1)) rfl
theorem r_X7_atom_132 {d : Nat} {a0 : Nat} {l1 l2 l3 : Option Value} {h : AH} : R_X7_atom d 132 [some (.ref a0), l1, l2, l3] [] h = (hgf h [18] a0 9).bind fun v => R_X7_atom d 137 [some (.ref a0), l1, l2, l3] [v, .ref a0] h := by
  refine (p_aload rfl rfl).trans ?_
  refine (p_dup rfl rfl).trans ?_
  exact s_getf rfl
theorem r_X7_atom_115 {d : Nat} {a0 : Nat} {l1 l2 l3 : Option Value} {h : AH} : R_X7_atom d 115 [some (.ref a0), l1, l2, l3] [] h = ((hci h a0).bind (lkN [(18, 164)])).bind fun y => aK (exec tTab d y [.ref a0, .int ((nI 41))] h) (fun v h1 => R_X7_atom d 121 [some (.ref a0), l1, l2, l3] (v.toList ++ []) h1) (fun E h1 => some (.inr E, h1)) := by
  refine (p_aload rfl rfl).trans ?_
  refine (p_const rfl).trans ?_
  exact s_callV (L := [(18, 164)]) (n := 1) (b := a0) (rest := []) rfl rfl rfl
theorem r_X7_atom_137 {d : Nat} {b0 : Nat} {s1 : Int32} {l0 l1 l2 l3 : Option Value} {h : AH} : R_X7_atom d 137 [l0, l1, l2, l3] [.int (s1), .ref b0] h = (hpf h [18] b0 9 (.int (s1 + (nI 1)))).bind fun h1 => R_X7_atom d 142 [l0, l1, l2, l3] [] h1 := by
  refine (p_const rfl).trans ?_
  refine (p_bin rfl).trans ?_
  exact s_putT rfl rfl
theorem r_X7_atom_121 {d : Nat} {s0 : Int32} {l0 l1 l2 l3 : Option Value} {h : AH} : R_X7_atom d 121 [l0, l1, l2, l3] [.int (s0)] h = if ¬ s0 = 0 then R_X7_atom d 132 [l0, l1, l2, l3] [] h else R_X7_atom d 124 [l0, l1, l2, l3] [] h := (s_if (g := (fun x => decide (¬ x = 0))) (t := 132) (nx := 124) rfl).trans bif_dec
theorem r_X7_atom_142 {d : Nat} {a0 : Nat} {l1 l2 l3 : Option Value} {h : AH} : R_X7_atom d 142 [some (.ref a0), l1, l2, l3] [] h = (hgf h [18] a0 11).bind fun v => R_X7_atom d 147 [some (.ref a0), l1, l2, l3] [v, .ref a0] h := by
  refine (p_aload rfl rfl).trans ?_
  refine (p_dup rfl rfl).trans ?_
  exact s_getf rfl
theorem r_X7_atom_124 {d : Nat} {a0 : Nat} {l1 l2 l3 : Option Value} {h : AH} : R_X7_atom d 124 [some (.ref a0), l1, l2, l3] [] h = (hgf h [18] a0 9).bind fun v => R_X7_atom d 129 [some (.ref a0), l1, l2, l3] [v, .ref a0] h := by
  refine (p_aload rfl rfl).trans ?_
  refine (p_aload rfl rfl).trans ?_
  exact s_getf rfl
theorem r_X7_atom_129 {d : Nat} {b0 : Nat} {s1 : Int32} {l0 l1 l2 l3 : Option Value} {h : AH} : R_X7_atom d 129 [l0, l1, l2, l3] [.int (s1), .ref b0] h = ((hci h b0).bind (lkN [(18, 158)])).bind fun y => aK (exec tTab d y [.ref b0, .int (s1)] h) (fun v h1 => R_X7_atom d 132 [l0, l1, l2, l3] (v.toList ++ []) h1) (fun E h1 => some (.inr E, h1)) := s_callV (L := [(18, 158)]) (n := 1) (b := b0) (rest := []) rfl rfl rfl
theorem e_X7_atom {d : Nat} {a0 : Nat} {h : AH} : exec tTab (d + 1) K_X7_atom [.ref a0] h = R_X7_atom d 0 [some (.ref a0), none, none, none] [] h := exec_eq (cd := k_X7_atom) (hd := (fun _ _ => some none)) (L := 4) rfl rfl rfl
/-- FavourTownModel.isSign(I)Z -/
abbrev K_X7_isSign : Nat := 164
noncomputable def R_X7_isSign (d pc : Nat) (ls : ALs) (st : List Value) (h : AH) : Option (AOut × AH) := aR (exec tTab d) k_X7_isSign (fun _ _ => some none) (pc, ls, st, h)
theorem r_X7_isSign_0 {d : Nat} {a0 : Nat} {l1 : Option Value} {h : AH} : R_X7_isSign d 0 [some (.ref a0), l1] [] h = ((hci h a0).bind (lkN [(18, 156)])).bind fun y => aK (exec tTab d y [.ref a0] h) (fun v h1 => R_X7_isSign d 4 [some (.ref a0), l1] (v.toList ++ []) h1) (fun E h1 => some (.inr E, h1)) := by
  refine (p_aload rfl rfl).trans ?_
  exact s_callV (L := [(18, 156)]) (n := 0) (b := a0) (rest := []) rfl rfl rfl
theorem r_X7_isSign_4 {d : Nat} {a0 : Nat} {l1 : Option Value} {h : AH} : R_X7_isSign d 4 [some (.ref a0), l1] [] h = (hgf h [18] a0 9).bind fun v => R_X7_isSign d 8 [some (.ref a0), l1] [v] h := by
  refine (p_aload rfl rfl).trans ?_
  exact s_getf rfl
theorem r_X7_isSign_8 {d : Nat} {s0 : Int32} {a0 : Nat} {l1 : Option Value} {h : AH} : R_X7_isSign d 8 [some (.ref a0), l1] [.int (s0)] h = (hgf h [18] a0 8).bind fun v => R_X7_isSign d 12 [some (.ref a0), l1] [v, .int (s0)] h := by
  refine (p_aload rfl rfl).trans ?_
  exact s_getf rfl
theorem r_X7_isSign_12 {d : Nat} {s0 s1 : Int32} {l0 l1 : Option Value} {h : AH} : R_X7_isSign d 12 [l0, l1] [.int (s1), .int (s0)] h = if s1 ≤ s0 then R_X7_isSign d 31 [l0, l1] [] h else R_X7_isSign d 15 [l0, l1] [] h := (s_icmp (g := (fun x y => decide (y ≤ x))) (t := 31) (nx := 15) rfl).trans bif_dec
theorem r_X7_isSign_31 {d : Nat} {l0 l1 : Option Value} {h : AH} : R_X7_isSign d 31 [l0, l1] [] h = some (.inl (some (.int ((nI 0)))), h) := by
  refine (p_const rfl).trans ?_
  exact s_iretT rfl rfl
theorem r_X7_isSign_15 {d : Nat} {a0 : Nat} {l1 : Option Value} {h : AH} : R_X7_isSign d 15 [some (.ref a0), l1] [] h = (hgf h [18] a0 9).bind fun v => R_X7_isSign d 20 [some (.ref a0), l1] [v, .ref a0] h := by
  refine (p_aload rfl rfl).trans ?_
  refine (p_aload rfl rfl).trans ?_
  exact s_getf rfl
theorem r_X7_isSign_20 {d : Nat} {b0 : Nat} {s1 : Int32} {l0 l1 : Option Value} {h : AH} : R_X7_isSign d 20 [l0, l1] [.int (s1), .ref b0] h = ((hci h b0).bind (lkN [(18, 157)])).bind fun y => aK (exec tTab d y [.ref b0, .int (s1)] h) (fun v h1 => R_X7_isSign d 23 [l0, l1] (v.toList ++ []) h1) (fun E h1 => some (.inr E, h1)) := s_callV (L := [(18, 157)]) (n := 1) (b := b0) (rest := []) rfl rfl rfl
theorem r_X7_isSign_23 {d : Nat} {s0 x1 : Int32} {l0 : Option Value} {h : AH} : R_X7_isSign d 23 [l0, some (.int (x1))] [.int (s0)] h = if ¬ s0 = x1 then R_X7_isSign d 31 [l0, some (.int (x1))] [] h else R_X7_isSign d 27 [l0, some (.int (x1))] [] h := by
  refine (p_iload rfl rfl).trans ?_
  exact (s_icmp (g := (fun x y => decide (¬ x = y))) (t := 31) (nx := 27) rfl).trans bif_dec
theorem r_X7_isSign_27 {d : Nat} {l0 l1 : Option Value} {h : AH} : R_X7_isSign d 27 [l0, l1] [] h = some (.inl (some (.int ((nI 1)))), h) := by
  refine (p_const rfl).trans ?_
  refine (p_goto rfl).trans ?_
  exact s_iretT rfl rfl
theorem e_X7_isSign {d : Nat} {a0 : Nat} {x1 : Int32} {h : AH} : exec tTab (d + 1) K_X7_isSign [.ref a0, .int x1] h = R_X7_isSign d 0 [some (.ref a0), some (.int x1)] [] h := exec_eq (cd := k_X7_isSign) (hd := (fun _ _ => some none)) (L := 2) rfl rfl rfl
/-- FavourTownModel.plain()Z -/
abbrev K_X7_plain : Nat := 165
noncomputable def R_X7_plain (d pc : Nat) (ls : ALs) (st : List Value) (h : AH) : Option (AOut × AH) := aR (exec tTab d) k_X7_plain (fun _ _ => some none) (pc, ls, st, h)
theorem r_X7_plain_0 {d : Nat} {a0 : Nat} {l1 l2 l3 : Option Value} {h : AH} : R_X7_plain d 0 [some (.ref a0), l1, l2, l3] [] h = R_X7_plain d 3 [some (.ref a0), l1, l2, l3] [h.2.2.2 37, .ref a0] h := by
  refine (p_aload rfl rfl).trans ?_
  exact p_stat rfl
theorem r_X7_plain_3 {d : Nat} {b0 b1 : Nat} {l0 l1 l2 l3 : Option Value} {h : AH} : R_X7_plain d 3 [l0, l1, l2, l3] [.ref b1, .ref b0] h = ((hci h b0).bind (lkN [(18, 160)])).bind fun y => aK (exec tTab d y [.ref b0, .ref b1] h) (fun v h1 => R_X7_plain d 6 [l0, l1, l2, l3] (v.toList ++ []) h1) (fun E h1 => some (.inr E, h1)) := s_callV (L := [(18, 160)]) (n := 1) (b := b0) (rest := []) rfl rfl rfl
theorem r_X7_plain_3N {d : Nat} {b0 : Nat} {l0 l1 l2 l3 : Option Value} {h : AH} : R_X7_plain d 3 [l0, l1, l2, l3] [.null, .ref b0] h = ((hci h b0).bind (lkN [(18, 160)])).bind fun y => aK (exec tTab d y [.ref b0, .null] h) (fun v h1 => R_X7_plain d 6 [l0, l1, l2, l3] (v.toList ++ []) h1) (fun E h1 => some (.inr E, h1)) := s_callV (L := [(18, 160)]) (n := 1) (b := b0) (rest := []) rfl rfl rfl
theorem r_X7_plain_6 {d : Nat} {s0 : Int32} {l0 l1 l2 l3 : Option Value} {h : AH} : R_X7_plain d 6 [l0, l1, l2, l3] [.int (s0)] h = if s0 = 0 then R_X7_plain d 14 [l0, l1, l2, l3] [] h else R_X7_plain d 9 [l0, l1, l2, l3] [] h := (s_if (g := (fun x => decide (x = 0))) (t := 14) (nx := 9) rfl).trans bif_dec
theorem r_X7_plain_14 {d : Nat} {a0 : Nat} {l1 l2 l3 : Option Value} {h : AH} : R_X7_plain d 14 [some (.ref a0), l1, l2, l3] [] h = R_X7_plain d 17 [some (.ref a0), l1, l2, l3] [h.2.2.2 54, .ref a0] h := by
  refine (p_aload rfl rfl).trans ?_
  exact p_stat rfl
theorem r_X7_plain_9 {d : Nat} {a0 : Nat} {l1 l2 l3 : Option Value} {h : AH} : R_X7_plain d 9 [some (.ref a0), l1, l2, l3] [] h = (hgf h [18] a0 14).bind fun v => R_X7_plain d 13 [some (.ref a0), l1, l2, l3] [v] h := by
  refine (p_aload rfl rfl).trans ?_
  exact s_getf rfl
theorem r_X7_plain_17 {d : Nat} {b0 b1 : Nat} {l0 l1 l2 l3 : Option Value} {h : AH} : R_X7_plain d 17 [l0, l1, l2, l3] [.ref b1, .ref b0] h = ((hci h b0).bind (lkN [(18, 160)])).bind fun y => aK (exec tTab d y [.ref b0, .ref b1] h) (fun v h1 => R_X7_plain d 20 [l0, l1, l2, l3] (v.toList ++ []) h1) (fun E h1 => some (.inr E, h1)) := s_callV (L := [(18, 160)]) (n := 1) (b := b0) (rest := []) rfl rfl rfl
theorem r_X7_plain_17N {d : Nat} {b0 : Nat} {l0 l1 l2 l3 : Option Value} {h : AH} : R_X7_plain d 17 [l0, l1, l2, l3] [.null, .ref b0] h = ((hci h b0).bind (lkN [(18, 160)])).bind fun y => aK (exec tTab d y [.ref b0, .null] h) (fun v h1 => R_X7_plain d 20 [l0, l1, l2, l3] (v.toList ++ []) h1) (fun E h1 => some (.inr E, h1)) := s_callV (L := [(18, 160)]) (n := 1) (b := b0) (rest := []) rfl rfl rfl
theorem r_X7_plain_13 {d : Nat} {s0 : Int32} {l0 l1 l2 l3 : Option Value} {h : AH} : R_X7_plain d 13 [l0, l1, l2, l3] [.int (s0)] h = bif s0 == 0 || s0 == 1 then some (.inl (some (.int (s0))), h) else none := s_iret (ok := (fun x => x == 0 || x == 1)) rfl
theorem r_X7_plain_20 {d : Nat} {s0 : Int32} {l0 l1 l2 l3 : Option Value} {h : AH} : R_X7_plain d 20 [l0, l1, l2, l3] [.int (s0)] h = if s0 = 0 then R_X7_plain d 28 [l0, l1, l2, l3] [] h else R_X7_plain d 23 [l0, l1, l2, l3] [] h := (s_if (g := (fun x => decide (x = 0))) (t := 28) (nx := 23) rfl).trans bif_dec
theorem r_X7_plain_28 {d : Nat} {a0 : Nat} {l1 l2 l3 : Option Value} {h : AH} : R_X7_plain d 28 [some (.ref a0), l1, l2, l3] [] h = R_X7_plain d 31 [some (.ref a0), l1, l2, l3] [h.2.2.2 55, .ref a0] h := by
  refine (p_aload rfl rfl).trans ?_
  exact p_stat rfl
theorem r_X7_plain_23 {d : Nat} {a0 : Nat} {l1 l2 l3 : Option Value} {h : AH} : R_X7_plain d 23 [some (.ref a0), l1, l2, l3] [] h = (hgf h [18] a0 15).bind fun v => R_X7_plain d 27 [some (.ref a0), l1, l2, l3] [v] h := by
  refine (p_aload rfl rfl).trans ?_
  exact s_getf rfl
theorem r_X7_plain_31 {d : Nat} {b0 b1 : Nat} {l0 l1 l2 l3 : Option Value} {h : AH} : R_X7_plain d 31 [l0, l1, l2, l3] [.ref b1, .ref b0] h = ((hci h b0).bind (lkN [(18, 160)])).bind fun y => aK (exec tTab d y [.ref b0, .ref b1] h) (fun v h1 => R_X7_plain d 34 [l0, l1, l2, l3] (v.toList ++ []) h1) (fun E h1 => some (.inr E, h1)) := s_callV (L := [(18, 160)]) (n := 1) (b := b0) (rest := []) rfl rfl rfl
theorem r_X7_plain_31N {d : Nat} {b0 : Nat} {l0 l1 l2 l3 : Option Value} {h : AH} : R_X7_plain d 31 [l0, l1, l2, l3] [.null, .ref b0] h = ((hci h b0).bind (lkN [(18, 160)])).bind fun y => aK (exec tTab d y [.ref b0, .null] h) (fun v h1 => R_X7_plain d 34 [l0, l1, l2, l3] (v.toList ++ []) h1) (fun E h1 => some (.inr E, h1)) := s_callV (L := [(18, 160)]) (n := 1) (b := b0) (rest := []) rfl rfl rfl
theorem r_X7_plain_27 {d : Nat} {s0 : Int32} {l0 l1 l2 l3 : Option Value} {h : AH} : R_X7_plain d 27 [l0, l1, l2, l3] [.int (s0)] h = bif s0 == 0 || s0 == 1 then some (.inl (some (.int (s0))), h) else none := s_iret (ok := (fun x => x == 0 || x == 1)) rfl
theorem r_X7_plain_34 {d : Nat} {s0 : Int32} {l0 l1 l2 l3 : Option Value} {h : AH} : R_X7_plain d 34 [l0, l1, l2, l3] [.int (s0)] h = if s0 = 0 then R_X7_plain d 42 [l0, l1, l2, l3] [] h else R_X7_plain d 37 [l0, l1, l2, l3] [] h := (s_if (g := (fun x => decide (x = 0))) (t := 42) (nx := 37) rfl).trans bif_dec
theorem r_X7_plain_42 {d : Nat} {a0 : Nat} {l1 l2 l3 : Option Value} {h : AH} : R_X7_plain d 42 [some (.ref a0), l1, l2, l3] [] h = ((hci h a0).bind (lkN [(18, 166)])).bind fun y => aK (exec tTab d y [.ref a0] h) (fun v h1 => R_X7_plain d 46 [some (.ref a0), l1, l2, l3] (v.toList ++ []) h1) (fun E h1 => some (.inr E, h1)) := by
  refine (p_aload rfl rfl).trans ?_
  exact s_callV (L := [(18, 166)]) (n := 0) (b := a0) (rest := []) rfl rfl rfl
theorem r_X7_plain_37 {d : Nat} {a0 : Nat} {l1 l2 l3 : Option Value} {h : AH} : R_X7_plain d 37 [some (.ref a0), l1, l2, l3] [] h = (hgf h [18] a0 16).bind fun v => R_X7_plain d 41 [some (.ref a0), l1, l2, l3] [v] h := by
  refine (p_aload rfl rfl).trans ?_
  exact s_getf rfl
theorem r_X7_plain_46 {d : Nat} {s0 : Int32} {a0 : Nat} {l1 l2 l3 : Option Value} {h : AH} : R_X7_plain d 46 [some (.ref a0), l1, l2, l3] [.int (s0)] h = (hgf h [18] a0 10).bind fun v => R_X7_plain d 51 [some (.ref a0), some (.int (s0)), l2, l3] [v] h := by
  refine (p_istore rfl rfl rfl).trans ?_
  refine (p_aload rfl rfl).trans ?_
  exact s_getf rfl
theorem r_X7_plain_41 {d : Nat} {s0 : Int32} {l0 l1 l2 l3 : Option Value} {h : AH} : R_X7_plain d 41 [l0, l1, l2, l3] [.int (s0)] h = bif s0 == 0 || s0 == 1 then some (.inl (some (.int (s0))), h) else none := s_iret (ok := (fun x => x == 0 || x == 1)) rfl
theorem r_X7_plain_51 {d : Nat} {s0 : Int32} {l0 l1 l2 l3 : Option Value} {h : AH} : R_X7_plain d 51 [l0, l1, l2, l3] [.int (s0)] h = if s0 = (-1) then R_X7_plain d 57 [l0, l1, l2, l3] [] h else R_X7_plain d 55 [l0, l1, l2, l3] [] h := by
  refine (p_const rfl).trans ?_
  exact (s_icmp (g := (fun x y => decide (x = y))) (t := 57) (nx := 55) rfl).trans bif_dec
theorem r_X7_plain_57 {d : Nat} {a0 : Nat} {l1 l2 l3 : Option Value} {h : AH} : R_X7_plain d 57 [some (.ref a0), l1, l2, l3] [] h = ((hci h a0).bind (lkN [(18, 164)])).bind fun y => aK (exec tTab d y [.ref a0, .int ((nI 60))] h) (fun v h1 => R_X7_plain d 63 [some (.ref a0), l1, l2, l3] (v.toList ++ []) h1) (fun E h1 => some (.inr E, h1)) := by
  refine (p_aload rfl rfl).trans ?_
  refine (p_const rfl).trans ?_
  exact s_callV (L := [(18, 164)]) (n := 1) (b := a0) (rest := []) rfl rfl rfl
theorem r_X7_plain_55 {d : Nat} {l0 l1 l2 l3 : Option Value} {h : AH} : R_X7_plain d 55 [l0, l1, l2, l3] [] h = some (.inl (some (.int ((nI 0)))), h) := by
  refine (p_const rfl).trans ?_
  exact s_iretT rfl rfl
theorem r_X7_plain_63 {d : Nat} {s0 : Int32} {l0 l1 l2 l3 : Option Value} {h : AH} : R_X7_plain d 63 [l0, l1, l2, l3] [.int (s0)] h = if ¬ s0 = 0 then R_X7_plain d 87 [l0, l1, some (.int (s0)), l3] [] h else R_X7_plain d 68 [l0, l1, some (.int (s0)), l3] [] h := by
  refine (p_istore rfl rfl rfl).trans ?_
  refine (p_iload rfl rfl).trans ?_
  exact (s_if (g := (fun x => decide (¬ x = 0))) (t := 87) (nx := 68) rfl).trans bif_dec
theorem r_X7_plain_87 {d : Nat} {a0 : Nat} {l1 l2 l3 : Option Value} {h : AH} : R_X7_plain d 87 [some (.ref a0), l1, l2, l3] [] h = (hgf h [18] a0 9).bind fun v => R_X7_plain d 92 [some (.ref a0), l1, l2, l3] [v, .ref a0] h := by
  refine (p_aload rfl rfl).trans ?_
  refine (p_dup rfl rfl).trans ?_
  exact s_getf rfl
theorem r_X7_plain_68 {d : Nat} {a0 : Nat} {l1 l2 l3 : Option Value} {h : AH} : R_X7_plain d 68 [some (.ref a0), l1, l2, l3] [] h = ((hci h a0).bind (lkN [(18, 164)])).bind fun y => aK (exec tTab d y [.ref a0, .int ((nI 62))] h) (fun v h1 => R_X7_plain d 74 [some (.ref a0), l1, l2, l3] (v.toList ++ []) h1) (fun E h1 => some (.inr E, h1)) := by
  refine (p_aload rfl rfl).trans ?_
  refine (p_const rfl).trans ?_
  exact s_callV (L := [(18, 164)]) (n := 1) (b := a0) (rest := []) rfl rfl rfl
theorem r_X7_plain_92 {d : Nat} {b0 : Nat} {s1 : Int32} {l0 l1 l2 l3 : Option Value} {h : AH} : R_X7_plain d 92 [l0, l1, l2, l3] [.int (s1), .ref b0] h = (hpf h [18] b0 9 (.int (s1 + (nI 1)))).bind fun h1 => R_X7_plain d 97 [l0, l1, l2, l3] [] h1 := by
  refine (p_const rfl).trans ?_
  refine (p_bin rfl).trans ?_
  exact s_putT rfl rfl
theorem r_X7_plain_74 {d : Nat} {s0 : Int32} {l0 l1 l2 l3 : Option Value} {h : AH} : R_X7_plain d 74 [l0, l1, l2, l3] [.int (s0)] h = if ¬ s0 = 0 then R_X7_plain d 87 [l0, l1, l2, l3] [] h else R_X7_plain d 77 [l0, l1, l2, l3] [] h := (s_if (g := (fun x => decide (¬ x = 0))) (t := 87) (nx := 77) rfl).trans bif_dec
theorem r_X7_plain_97 {d : Nat} {a0 : Nat} {l1 l2 l3 : Option Value} {h : AH} : R_X7_plain d 97 [some (.ref a0), l1, l2, l3] [] h = ((hci h a0).bind (lkN [(18, 166)])).bind fun y => aK (exec tTab d y [.ref a0] h) (fun v h1 => R_X7_plain d 101 [some (.ref a0), l1, l2, l3] (v.toList ++ []) h1) (fun E h1 => some (.inr E, h1)) := by
  refine (p_aload rfl rfl).trans ?_
  exact s_callV (L := [(18, 166)]) (n := 0) (b := a0) (rest := []) rfl rfl rfl
theorem r_X7_plain_77 {d : Nat} {a0 : Nat} {l1 l2 l3 : Option Value} {h : AH} : R_X7_plain d 77 [some (.ref a0), l1, l2, l3] [] h = (hgf h [18] a0 9).bind fun v => R_X7_plain d 82 [some (.ref a0), l1, l2, l3] [v, .ref a0] h := by
  refine (p_aload rfl rfl).trans ?_
  refine (p_aload rfl rfl).trans ?_
  exact s_getf rfl
theorem r_X7_plain_101 {d : Nat} {s0 x2 : Int32} {l0 l1 l3 : Option Value} {h : AH} : R_X7_plain d 101 [l0, l1, some (.int (x2)), l3] [.int (s0)] h = if x2 = 0 then R_X7_plain d 119 [l0, l1, some (.int (x2)), some (.int (s0))] [] h else R_X7_plain d 106 [l0, l1, some (.int (x2)), some (.int (s0))] [] h := by
  refine (p_istore rfl rfl rfl).trans ?_
  refine (p_iload rfl rfl).trans ?_
  exact (s_if (g := (fun x => decide (x = 0))) (t := 119) (nx := 106) rfl).trans bif_dec
theorem r_X7_plain_82 {d : Nat} {b0 : Nat} {s1 : Int32} {l0 l1 l2 l3 : Option Value} {h : AH} : R_X7_plain d 82 [l0, l1, l2, l3] [.int (s1), .ref b0] h = ((hci h b0).bind (lkN [(18, 158)])).bind fun y => aK (exec tTab d y [.ref b0, .int (s1)] h) (fun v h1 => R_X7_plain d 85 [l0, l1, l2, l3] (v.toList ++ []) h1) (fun E h1 => some (.inr E, h1)) := s_callV (L := [(18, 158)]) (n := 1) (b := b0) (rest := []) rfl rfl rfl
theorem r_X7_plain_119 {d : Nat} {x1 x3 : Int32} {l0 l2 : Option Value} {h : AH} : R_X7_plain d 119 [l0, some (.int (x1)), l2, some (.int (x3))] [] h = if x1 ≤ x3 then R_X7_plain d 128 [l0, some (.int (x1)), l2, some (.int (x3))] [] h else R_X7_plain d 124 [l0, some (.int (x1)), l2, some (.int (x3))] [] h := by
  refine (p_iload rfl rfl).trans ?_
  refine (p_iload rfl rfl).trans ?_
  exact (s_icmp (g := (fun x y => decide (x ≤ y))) (t := 128) (nx := 124) rfl).trans bif_dec
theorem r_X7_plain_106 {d : Nat} {x1 x3 : Int32} {l0 l2 : Option Value} {h : AH} : R_X7_plain d 106 [l0, some (.int (x1)), l2, some (.int (x3))] [] h = if x3 ≤ x1 then R_X7_plain d 115 [l0, some (.int (x1)), l2, some (.int (x3))] [] h else R_X7_plain d 111 [l0, some (.int (x1)), l2, some (.int (x3))] [] h := by
  refine (p_iload rfl rfl).trans ?_
  refine (p_iload rfl rfl).trans ?_
  exact (s_icmp (g := (fun x y => decide (y ≤ x))) (t := 115) (nx := 111) rfl).trans bif_dec
theorem r_X7_plain_85 {d : Nat} {l0 l1 l2 l3 : Option Value} {h : AH} : R_X7_plain d 85 [l0, l1, l2, l3] [] h = some (.inl (some (.int ((nI 0)))), h) := by
  refine (p_const rfl).trans ?_
  exact s_iretT rfl rfl
theorem r_X7_plain_128 {d : Nat} {l0 l1 l2 l3 : Option Value} {h : AH} : R_X7_plain d 128 [l0, l1, l2, l3] [] h = some (.inl (some (.int ((nI 0)))), h) := by
  refine (p_const rfl).trans ?_
  exact s_iretT rfl rfl
theorem r_X7_plain_124 {d : Nat} {l0 l1 l2 l3 : Option Value} {h : AH} : R_X7_plain d 124 [l0, l1, l2, l3] [] h = some (.inl (some (.int ((nI 1)))), h) := by
  refine (p_const rfl).trans ?_
  refine (p_goto rfl).trans ?_
  exact s_iretT rfl rfl
theorem r_X7_plain_115 {d : Nat} {l0 l1 l2 l3 : Option Value} {h : AH} : R_X7_plain d 115 [l0, l1, l2, l3] [] h = some (.inl (some (.int ((nI 0)))), h) := by
  refine (p_const rfl).trans ?_
  refine (p_goto rfl).trans ?_
  exact s_iretT rfl rfl
theorem r_X7_plain_111 {d : Nat} {l0 l1 l2 l3 : Option Value} {h : AH} : R_X7_plain d 111 [l0, l1, l2, l3] [] h = some (.inl (some (.int ((nI 1)))), h) := by
  refine (p_const rfl).trans ?_
  refine (p_goto rfl).trans ?_
  exact s_iretT rfl rfl
theorem e_X7_plain {d : Nat} {a0 : Nat} {h : AH} : exec tTab (d + 1) K_X7_plain [.ref a0] h = R_X7_plain d 0 [some (.ref a0), none, none, none] [] h := exec_eq (cd := k_X7_plain) (hd := (fun _ _ => some none)) (L := 4) rfl rfl rfl
/-- FavourTownModel.sum()I -/
abbrev K_X7_sum : Nat := 166
noncomputable def R_X7_sum (d pc : Nat) (ls : ALs) (st : List Value) (h : AH) : Option (AOut × AH) := aR (exec tTab d) k_X7_sum (fun _ _ => some none) (pc, ls, st, h)
theorem r_X7_sum_0 {d : Nat} {a0 : Nat} {l1 : Option Value} {h : AH} : R_X7_sum d 0 [some (.ref a0), l1] [] h = ((hci h a0).bind (lkN [(18, 167)])).bind fun y => aK (exec tTab d y [.ref a0] h) (fun v h1 => R_X7_sum d 4 [some (.ref a0), l1] (v.toList ++ []) h1) (fun E h1 => some (.inr E, h1)) := by
  refine (p_aload rfl rfl).trans ?_
  exact s_callV (L := [(18, 167)]) (n := 0) (b := a0) (rest := []) rfl rfl rfl
theorem r_X7_sum_4 {d : Nat} {s0 : Int32} {l0 l1 : Option Value} {h : AH} : R_X7_sum d 4 [l0, l1] [.int (s0)] h = R_X7_sum d 5 [l0, some (.int (s0))] [] h := by
  refine (p_istore rfl rfl rfl).trans ?_
  exact rfl
theorem q_X7_sum_5 {d : Nat} {a0 : Nat} {l1 : Option Value} {h : AH} : R_X7_sum d 5 [some (.ref a0), l1] [] h = (hgf h [18] a0 10).bind fun v => R_X7_sum d 9 [some (.ref a0), l1] [v] h := by
  refine (p_aload rfl rfl).trans ?_
  exact s_getf rfl
theorem r_X7_sum_9 {d : Nat} {s0 : Int32} {l0 l1 : Option Value} {h : AH} : R_X7_sum d 9 [l0, l1] [.int (s0)] h = if ¬ s0 = (-1) then R_X7_sum d 42 [l0, l1] [] h else R_X7_sum d 13 [l0, l1] [] h := by
  refine (p_const rfl).trans ?_
  exact (s_icmp (g := (fun x y => decide (¬ x = y))) (t := 42) (nx := 13) rfl).trans bif_dec
theorem r_X7_sum_42 {d : Nat} {x1 : Int32} {l0 : Option Value} {h : AH} : R_X7_sum d 42 [l0, some (.int (x1))] [] h = some (.inl (some (.int (x1))), h) := by
  refine (p_iload rfl rfl).trans ?_
  exact s_iretT rfl rfl
theorem r_X7_sum_13 {d : Nat} {a0 : Nat} {l1 : Option Value} {h : AH} : R_X7_sum d 13 [some (.ref a0), l1] [] h = ((hci h a0).bind (lkN [(18, 164)])).bind fun y => aK (exec tTab d y [.ref a0, .int ((nI 43))] h) (fun v h1 => R_X7_sum d 19 [some (.ref a0), l1] (v.toList ++ []) h1) (fun E h1 => some (.inr E, h1)) := by
  refine (p_aload rfl rfl).trans ?_
  refine (p_const rfl).trans ?_
  exact s_callV (L := [(18, 164)]) (n := 1) (b := a0) (rest := []) rfl rfl rfl
theorem r_X7_sum_19 {d : Nat} {s0 : Int32} {l0 l1 : Option Value} {h : AH} : R_X7_sum d 19 [l0, l1] [.int (s0)] h = if s0 = 0 then R_X7_sum d 42 [l0, l1] [] h else R_X7_sum d 22 [l0, l1] [] h := (s_if (g := (fun x => decide (x = 0))) (t := 42) (nx := 22) rfl).trans bif_dec
theorem r_X7_sum_22 {d : Nat} {a0 : Nat} {l1 : Option Value} {h : AH} : R_X7_sum d 22 [some (.ref a0), l1] [] h = (hgf h [18] a0 9).bind fun v => R_X7_sum d 27 [some (.ref a0), l1] [v, .ref a0] h := by
  refine (p_aload rfl rfl).trans ?_
  refine (p_dup rfl rfl).trans ?_
  exact s_getf rfl
theorem r_X7_sum_27 {d : Nat} {b0 : Nat} {s1 : Int32} {l0 l1 : Option Value} {h : AH} : R_X7_sum d 27 [l0, l1] [.int (s1), .ref b0] h = (hpf h [18] b0 9 (.int (s1 + (nI 1)))).bind fun h1 => R_X7_sum d 32 [l0, l1] [] h1 := by
  refine (p_const rfl).trans ?_
  refine (p_bin rfl).trans ?_
  exact s_putT rfl rfl
theorem r_X7_sum_32 {d : Nat} {x1 : Int32} {a0 : Nat} {h : AH} : R_X7_sum d 32 [some (.ref a0), some (.int (x1))] [] h = ((hci h a0).bind (lkN [(18, 167)])).bind fun y => aK (exec tTab d y [.ref a0] h) (fun v h1 => R_X7_sum d 37 [some (.ref a0), some (.int (x1))] (v.toList ++ [.int (x1)]) h1) (fun E h1 => some (.inr E, h1)) := by
  refine (p_iload rfl rfl).trans ?_
  refine (p_aload rfl rfl).trans ?_
  exact s_callV (L := [(18, 167)]) (n := 0) (b := a0) (rest := [.int (x1)]) rfl rfl rfl
theorem r_X7_sum_37 {d : Nat} {s0 s1 : Int32} {l0 l1 : Option Value} {h : AH} : R_X7_sum d 37 [l0, l1] [.int (s1), .int (s0)] h = R_X7_sum d 5 [l0, some (.int (s0 + s1))] [] h := by
  refine (p_bin rfl).trans ?_
  refine (p_istore rfl rfl rfl).trans ?_
  refine (p_goto rfl).trans ?_
  exact rfl
theorem e_X7_sum {d : Nat} {a0 : Nat} {h : AH} : exec tTab (d + 1) K_X7_sum [.ref a0] h = R_X7_sum d 0 [some (.ref a0), none] [] h := exec_eq (cd := k_X7_sum) (hd := (fun _ _ => some none)) (L := 2) rfl rfl rfl
/-- FavourTownModel.part()I -/
abbrev K_X7_part : Nat := 167
noncomputable def R_X7_part (d pc : Nat) (ls : ALs) (st : List Value) (h : AH) : Option (AOut × AH) := aR (exec tTab d) k_X7_part (fun _ _ => some none) (pc, ls, st, h)
theorem r_X7_part_0 {d : Nat} {a0 : Nat} {l1 : Option Value} {h : AH} : R_X7_part d 0 [some (.ref a0), l1] [] h = (hgf h [18] a0 10).bind fun v => R_X7_part d 4 [some (.ref a0), l1] [v] h := by
  refine (p_aload rfl rfl).trans ?_
  exact s_getf rfl
theorem r_X7_part_4 {d : Nat} {s0 : Int32} {l0 l1 : Option Value} {h : AH} : R_X7_part d 4 [l0, l1] [.int (s0)] h = if s0 = (-1) then R_X7_part d 10 [l0, l1] [] h else R_X7_part d 8 [l0, l1] [] h := by
  refine (p_const rfl).trans ?_
  exact (s_icmp (g := (fun x y => decide (x = y))) (t := 10) (nx := 8) rfl).trans bif_dec
theorem r_X7_part_10 {d : Nat} {a0 : Nat} {l1 : Option Value} {h : AH} : R_X7_part d 10 [some (.ref a0), l1] [] h = ((hci h a0).bind (lkN [(18, 156)])).bind fun y => aK (exec tTab d y [.ref a0] h) (fun v h1 => R_X7_part d 14 [some (.ref a0), l1] (v.toList ++ []) h1) (fun E h1 => some (.inr E, h1)) := by
  refine (p_aload rfl rfl).trans ?_
  exact s_callV (L := [(18, 156)]) (n := 0) (b := a0) (rest := []) rfl rfl rfl
theorem r_X7_part_8 {d : Nat} {l0 l1 : Option Value} {h : AH} : R_X7_part d 8 [l0, l1] [] h = some (.inl (some (.int ((nI 0)))), h) := by
  refine (p_const rfl).trans ?_
  exact s_iretT rfl rfl
theorem r_X7_part_14 {d : Nat} {a0 : Nat} {l1 : Option Value} {h : AH} : R_X7_part d 14 [some (.ref a0), l1] [] h = (hgf h [18] a0 9).bind fun v => R_X7_part d 18 [some (.ref a0), l1] [v] h := by
  refine (p_aload rfl rfl).trans ?_
  exact s_getf rfl
theorem r_X7_part_18 {d : Nat} {s0 : Int32} {a0 : Nat} {l1 : Option Value} {h : AH} : R_X7_part d 18 [some (.ref a0), l1] [.int (s0)] h = (hgf h [18] a0 8).bind fun v => R_X7_part d 22 [some (.ref a0), l1] [v, .int (s0)] h := by
  refine (p_aload rfl rfl).trans ?_
  exact s_getf rfl
theorem r_X7_part_22 {d : Nat} {s0 s1 : Int32} {l0 l1 : Option Value} {h : AH} : R_X7_part d 22 [l0, l1] [.int (s1), .int (s0)] h = if s1 ≤ s0 then R_X7_part d 52 [l0, l1] [] h else R_X7_part d 25 [l0, l1] [] h := (s_icmp (g := (fun x y => decide (y ≤ x))) (t := 52) (nx := 25) rfl).trans bif_dec
theorem r_X7_part_52 {d : Nat} {a0 : Nat} {l1 : Option Value} {h : AH} : R_X7_part d 52 [some (.ref a0), l1] [] h = R_X7_part d 55 [some (.ref a0), l1] [h.2.2.2 48, .ref a0] h := by
  refine (p_aload rfl rfl).trans ?_
  exact p_stat rfl
theorem r_X7_part_25 {d : Nat} {a0 : Nat} {l1 : Option Value} {h : AH} : R_X7_part d 25 [some (.ref a0), l1] [] h = (hgf h [18] a0 9).bind fun v => R_X7_part d 30 [some (.ref a0), l1] [v, .ref a0] h := by
  refine (p_aload rfl rfl).trans ?_
  refine (p_aload rfl rfl).trans ?_
  exact s_getf rfl
theorem r_X7_part_55 {d : Nat} {b0 b1 : Nat} {l0 l1 : Option Value} {h : AH} : R_X7_part d 55 [l0, l1] [.ref b1, .ref b0] h = ((hci h b0).bind (lkN [(18, 160)])).bind fun y => aK (exec tTab d y [.ref b0, .ref b1] h) (fun v h1 => R_X7_part d 58 [l0, l1] (v.toList ++ []) h1) (fun E h1 => some (.inr E, h1)) := s_callV (L := [(18, 160)]) (n := 1) (b := b0) (rest := []) rfl rfl rfl
theorem r_X7_part_55N {d : Nat} {b0 : Nat} {l0 l1 : Option Value} {h : AH} : R_X7_part d 55 [l0, l1] [.null, .ref b0] h = ((hci h b0).bind (lkN [(18, 160)])).bind fun y => aK (exec tTab d y [.ref b0, .null] h) (fun v h1 => R_X7_part d 58 [l0, l1] (v.toList ++ []) h1) (fun E h1 => some (.inr E, h1)) := s_callV (L := [(18, 160)]) (n := 1) (b := b0) (rest := []) rfl rfl rfl
theorem r_X7_part_30 {d : Nat} {b0 : Nat} {s1 : Int32} {l0 l1 : Option Value} {h : AH} : R_X7_part d 30 [l0, l1] [.int (s1), .ref b0] h = ((hci h b0).bind (lkN [(18, 157)])).bind fun y => aK (exec tTab d y [.ref b0, .int (s1)] h) (fun v h1 => R_X7_part d 33 [l0, l1] (v.toList ++ []) h1) (fun E h1 => some (.inr E, h1)) := s_callV (L := [(18, 157)]) (n := 1) (b := b0) (rest := []) rfl rfl rfl
theorem r_X7_part_58 {d : Nat} {s0 : Int32} {l0 l1 : Option Value} {h : AH} : R_X7_part d 58 [l0, l1] [.int (s0)] h = if s0 = 0 then R_X7_part d 65 [l0, l1] [] h else R_X7_part d 61 [l0, l1] [] h := (s_if (g := (fun x => decide (x = 0))) (t := 65) (nx := 61) rfl).trans bif_dec
theorem r_X7_part_33 {d : Nat} {s0 : Int32} {l0 l1 : Option Value} {h : AH} : R_X7_part d 33 [l0, l1] [.int (s0)] h = aK (exec tTab d 153 [.int (s0), .int ((nI 48)), .int ((nI 57))] h) (fun v h1 => R_X7_part d 40 [l0, l1] (v.toList ++ []) h1) (fun E h1 => some (.inr E, h1)) := by
  refine (p_const rfl).trans ?_
  refine (p_const rfl).trans ?_
  exact s_callS (y := 153) (n := 3) rfl rfl
theorem r_X7_part_65 {d : Nat} {a0 : Nat} {l1 : Option Value} {h : AH} : R_X7_part d 65 [some (.ref a0), l1] [] h = R_X7_part d 68 [some (.ref a0), l1] [h.2.2.2 49, .ref a0] h := by
  refine (p_aload rfl rfl).trans ?_
  exact p_stat rfl
theorem r_X7_part_61 {d : Nat} {l0 l1 : Option Value} {h : AH} : R_X7_part d 61 [l0, l1] [] h = if ¬ (nI 0) = (-1) then R_X7_part d 147 [l0, some (.int ((nI 0)))] [] h else R_X7_part d 137 [l0, some (.int ((nI 0)))] [] h := by
  refine (p_const rfl).trans ?_
  refine (p_goto rfl).trans ?_
  refine (p_istore rfl rfl rfl).trans ?_
  refine (p_iload rfl rfl).trans ?_
  refine (p_const rfl).trans ?_
  exact (s_icmp (g := (fun x y => decide (¬ x = y))) (t := 147) (nx := 137) rfl).trans bif_dec
theorem r_X7_part_40 {d : Nat} {s0 : Int32} {l0 l1 : Option Value} {h : AH} : R_X7_part d 40 [l0, l1] [.int (s0)] h = if s0 = 0 then R_X7_part d 52 [l0, l1] [] h else R_X7_part d 43 [l0, l1] [] h := (s_if (g := (fun x => decide (x = 0))) (t := 52) (nx := 43) rfl).trans bif_dec
theorem r_X7_part_68 {d : Nat} {b0 b1 : Nat} {l0 l1 : Option Value} {h : AH} : R_X7_part d 68 [l0, l1] [.ref b1, .ref b0] h = ((hci h b0).bind (lkN [(18, 160)])).bind fun y => aK (exec tTab d y [.ref b0, .ref b1] h) (fun v h1 => R_X7_part d 71 [l0, l1] (v.toList ++ []) h1) (fun E h1 => some (.inr E, h1)) := s_callV (L := [(18, 160)]) (n := 1) (b := b0) (rest := []) rfl rfl rfl
theorem r_X7_part_68N {d : Nat} {b0 : Nat} {l0 l1 : Option Value} {h : AH} : R_X7_part d 68 [l0, l1] [.null, .ref b0] h = ((hci h b0).bind (lkN [(18, 160)])).bind fun y => aK (exec tTab d y [.ref b0, .null] h) (fun v h1 => R_X7_part d 71 [l0, l1] (v.toList ++ []) h1) (fun E h1 => some (.inr E, h1)) := s_callV (L := [(18, 160)]) (n := 1) (b := b0) (rest := []) rfl rfl rfl
theorem r_X7_part_147 {d : Nat} {a0 : Nat} {l1 : Option Value} {h : AH} : R_X7_part d 147 [some (.ref a0), l1] [] h = (hgf h [18] a0 13).bind fun v => R_X7_part d 151 [some (.ref a0), l1] [v] h := by
  refine (p_aload rfl rfl).trans ?_
  exact s_getf rfl
theorem r_X7_part_137 {d : Nat} {a0 : Nat} {l1 : Option Value} {h : AH} : R_X7_part d 137 [some (.ref a0), l1] [] h = (hgf h [18] a0 9).bind fun v => R_X7_part d 142 [some (.ref a0), l1] [v, .ref a0] h := by
  refine (p_aload rfl rfl).trans ?_
  refine (p_aload rfl rfl).trans ?_
  exact s_getf rfl
theorem r_X7_part_43 {d : Nat} {a0 : Nat} {l1 : Option Value} {h : AH} : R_X7_part d 43 [some (.ref a0), l1] [] h = ((hci h a0).bind (lkN [(18, 168)])).bind fun y => aK (exec tTab d y [.ref a0, .int ((nI 0)), .int ((nI 999))] h) (fun v h1 => R_X7_part d 51 [some (.ref a0), l1] (v.toList ++ []) h1) (fun E h1 => some (.inr E, h1)) := by
  refine (p_aload rfl rfl).trans ?_
  refine (p_const rfl).trans ?_
  refine (p_const rfl).trans ?_
  exact s_callV (L := [(18, 168)]) (n := 2) (b := a0) (rest := []) rfl rfl rfl
theorem r_X7_part_71 {d : Nat} {s0 : Int32} {l0 l1 : Option Value} {h : AH} : R_X7_part d 71 [l0, l1] [.int (s0)] h = if s0 = 0 then R_X7_part d 78 [l0, l1] [] h else R_X7_part d 74 [l0, l1] [] h := (s_if (g := (fun x => decide (x = 0))) (t := 78) (nx := 74) rfl).trans bif_dec
theorem r_X7_part_151 {d : Nat} {b0 : Nat} {x1 : Int32} {l0 : Option Value} {h : AH} : R_X7_part d 151 [l0, some (.int (x1))] [.ref b0] h = (hai h 0 b0 x1).bind fun v => R_X7_part d 153 [l0, some (.int (x1))] [.int v] h := by
  refine (p_iload rfl rfl).trans ?_
  exact s_iald rfl
theorem r_X7_part_142 {d : Nat} {b0 : Nat} {s1 : Int32} {l0 l1 : Option Value} {h : AH} : R_X7_part d 142 [l0, l1] [.int (s1), .ref b0] h = ((hci h b0).bind (lkN [(18, 158)])).bind fun y => aK (exec tTab d y [.ref b0, .int (s1)] h) (fun v h1 => R_X7_part d 145 [l0, l1] (v.toList ++ []) h1) (fun E h1 => some (.inr E, h1)) := s_callV (L := [(18, 158)]) (n := 1) (b := b0) (rest := []) rfl rfl rfl
theorem r_X7_part_51 {d : Nat} {s0 : Int32} {l0 l1 : Option Value} {h : AH} : R_X7_part d 51 [l0, l1] [.int (s0)] h = some (.inl (some (.int (s0))), h) := s_iretT rfl rfl
theorem r_X7_part_78 {d : Nat} {a0 : Nat} {l1 : Option Value} {h : AH} : R_X7_part d 78 [some (.ref a0), l1] [] h = R_X7_part d 81 [some (.ref a0), l1] [h.2.2.2 50, .ref a0] h := by
  refine (p_aload rfl rfl).trans ?_
  exact p_stat rfl
theorem r_X7_part_74 {d : Nat} {l0 l1 : Option Value} {h : AH} : R_X7_part d 74 [l0, l1] [] h = if ¬ (nI 1) = (-1) then R_X7_part d 147 [l0, some (.int ((nI 1)))] [] h else R_X7_part d 137 [l0, some (.int ((nI 1)))] [] h := by
  refine (p_const rfl).trans ?_
  refine (p_goto rfl).trans ?_
  refine (p_istore rfl rfl rfl).trans ?_
  refine (p_iload rfl rfl).trans ?_
  refine (p_const rfl).trans ?_
  exact (s_icmp (g := (fun x y => decide (¬ x = y))) (t := 147) (nx := 137) rfl).trans bif_dec
theorem r_X7_part_153 {d : Nat} {s0 : Int32} {l0 l1 : Option Value} {h : AH} : R_X7_part d 153 [l0, l1] [.int (s0)] h = some (.inl (some (.int (s0))), h) := s_iretT rfl rfl
theorem r_X7_part_145 {d : Nat} {l0 l1 : Option Value} {h : AH} : R_X7_part d 145 [l0, l1] [] h = some (.inl (some (.int ((nI 0)))), h) := by
  refine (p_const rfl).trans ?_
  exact s_iretT rfl rfl
theorem r_X7_part_81 {d : Nat} {b0 b1 : Nat} {l0 l1 : Option Value} {h : AH} : R_X7_part d 81 [l0, l1] [.ref b1, .ref b0] h = ((hci h b0).bind (lkN [(18, 160)])).bind fun y => aK (exec tTab d y [.ref b0, .ref b1] h) (fun v h1 => R_X7_part d 84 [l0, l1] (v.toList ++ []) h1) (fun E h1 => some (.inr E, h1)) := s_callV (L := [(18, 160)]) (n := 1) (b := b0) (rest := []) rfl rfl rfl
theorem r_X7_part_81N {d : Nat} {b0 : Nat} {l0 l1 : Option Value} {h : AH} : R_X7_part d 81 [l0, l1] [.null, .ref b0] h = ((hci h b0).bind (lkN [(18, 160)])).bind fun y => aK (exec tTab d y [.ref b0, .null] h) (fun v h1 => R_X7_part d 84 [l0, l1] (v.toList ++ []) h1) (fun E h1 => some (.inr E, h1)) := s_callV (L := [(18, 160)]) (n := 1) (b := b0) (rest := []) rfl rfl rfl
theorem r_X7_part_84 {d : Nat} {s0 : Int32} {l0 l1 : Option Value} {h : AH} : R_X7_part d 84 [l0, l1] [.int (s0)] h = if s0 = 0 then R_X7_part d 91 [l0, l1] [] h else R_X7_part d 87 [l0, l1] [] h := (s_if (g := (fun x => decide (x = 0))) (t := 91) (nx := 87) rfl).trans bif_dec
theorem r_X7_part_91 {d : Nat} {a0 : Nat} {l1 : Option Value} {h : AH} : R_X7_part d 91 [some (.ref a0), l1] [] h = R_X7_part d 94 [some (.ref a0), l1] [h.2.2.2 51, .ref a0] h := by
  refine (p_aload rfl rfl).trans ?_
  exact p_stat rfl
theorem r_X7_part_87 {d : Nat} {l0 l1 : Option Value} {h : AH} : R_X7_part d 87 [l0, l1] [] h = if ¬ (nI 2) = (-1) then R_X7_part d 147 [l0, some (.int ((nI 2)))] [] h else R_X7_part d 137 [l0, some (.int ((nI 2)))] [] h := by
  refine (p_const rfl).trans ?_
  refine (p_goto rfl).trans ?_
  refine (p_istore rfl rfl rfl).trans ?_
  refine (p_iload rfl rfl).trans ?_
  refine (p_const rfl).trans ?_
  exact (s_icmp (g := (fun x y => decide (¬ x = y))) (t := 147) (nx := 137) rfl).trans bif_dec
theorem r_X7_part_94 {d : Nat} {b0 b1 : Nat} {l0 l1 : Option Value} {h : AH} : R_X7_part d 94 [l0, l1] [.ref b1, .ref b0] h = ((hci h b0).bind (lkN [(18, 160)])).bind fun y => aK (exec tTab d y [.ref b0, .ref b1] h) (fun v h1 => R_X7_part d 97 [l0, l1] (v.toList ++ []) h1) (fun E h1 => some (.inr E, h1)) := s_callV (L := [(18, 160)]) (n := 1) (b := b0) (rest := []) rfl rfl rfl
theorem r_X7_part_94N {d : Nat} {b0 : Nat} {l0 l1 : Option Value} {h : AH} : R_X7_part d 94 [l0, l1] [.null, .ref b0] h = ((hci h b0).bind (lkN [(18, 160)])).bind fun y => aK (exec tTab d y [.ref b0, .null] h) (fun v h1 => R_X7_part d 97 [l0, l1] (v.toList ++ []) h1) (fun E h1 => some (.inr E, h1)) := s_callV (L := [(18, 160)]) (n := 1) (b := b0) (rest := []) rfl rfl rfl
theorem r_X7_part_97 {d : Nat} {s0 : Int32} {l0 l1 : Option Value} {h : AH} : R_X7_part d 97 [l0, l1] [.int (s0)] h = if s0 = 0 then R_X7_part d 104 [l0, l1] [] h else R_X7_part d 100 [l0, l1] [] h := (s_if (g := (fun x => decide (x = 0))) (t := 104) (nx := 100) rfl).trans bif_dec
theorem r_X7_part_104 {d : Nat} {a0 : Nat} {l1 : Option Value} {h : AH} : R_X7_part d 104 [some (.ref a0), l1] [] h = R_X7_part d 107 [some (.ref a0), l1] [h.2.2.2 52, .ref a0] h := by
  refine (p_aload rfl rfl).trans ?_
  exact p_stat rfl
theorem r_X7_part_100 {d : Nat} {l0 l1 : Option Value} {h : AH} : R_X7_part d 100 [l0, l1] [] h = if ¬ (nI 3) = (-1) then R_X7_part d 147 [l0, some (.int ((nI 3)))] [] h else R_X7_part d 137 [l0, some (.int ((nI 3)))] [] h := by
  refine (p_const rfl).trans ?_
  refine (p_goto rfl).trans ?_
  refine (p_istore rfl rfl rfl).trans ?_
  refine (p_iload rfl rfl).trans ?_
  refine (p_const rfl).trans ?_
  exact (s_icmp (g := (fun x y => decide (¬ x = y))) (t := 147) (nx := 137) rfl).trans bif_dec
theorem r_X7_part_107 {d : Nat} {b0 b1 : Nat} {l0 l1 : Option Value} {h : AH} : R_X7_part d 107 [l0, l1] [.ref b1, .ref b0] h = ((hci h b0).bind (lkN [(18, 160)])).bind fun y => aK (exec tTab d y [.ref b0, .ref b1] h) (fun v h1 => R_X7_part d 110 [l0, l1] (v.toList ++ []) h1) (fun E h1 => some (.inr E, h1)) := s_callV (L := [(18, 160)]) (n := 1) (b := b0) (rest := []) rfl rfl rfl
theorem r_X7_part_107N {d : Nat} {b0 : Nat} {l0 l1 : Option Value} {h : AH} : R_X7_part d 107 [l0, l1] [.null, .ref b0] h = ((hci h b0).bind (lkN [(18, 160)])).bind fun y => aK (exec tTab d y [.ref b0, .null] h) (fun v h1 => R_X7_part d 110 [l0, l1] (v.toList ++ []) h1) (fun E h1 => some (.inr E, h1)) := s_callV (L := [(18, 160)]) (n := 1) (b := b0) (rest := []) rfl rfl rfl
theorem r_X7_part_110 {d : Nat} {s0 : Int32} {l0 l1 : Option Value} {h : AH} : R_X7_part d 110 [l0, l1] [.int (s0)] h = if s0 = 0 then R_X7_part d 117 [l0, l1] [] h else R_X7_part d 113 [l0, l1] [] h := (s_if (g := (fun x => decide (x = 0))) (t := 117) (nx := 113) rfl).trans bif_dec
theorem r_X7_part_117 {d : Nat} {a0 : Nat} {l1 : Option Value} {h : AH} : R_X7_part d 117 [some (.ref a0), l1] [] h = R_X7_part d 120 [some (.ref a0), l1] [h.2.2.2 53, .ref a0] h := by
  refine (p_aload rfl rfl).trans ?_
  exact p_stat rfl
theorem r_X7_part_113 {d : Nat} {l0 l1 : Option Value} {h : AH} : R_X7_part d 113 [l0, l1] [] h = if ¬ (nI 4) = (-1) then R_X7_part d 147 [l0, some (.int ((nI 4)))] [] h else R_X7_part d 137 [l0, some (.int ((nI 4)))] [] h := by
  refine (p_const rfl).trans ?_
  refine (p_goto rfl).trans ?_
  refine (p_istore rfl rfl rfl).trans ?_
  refine (p_iload rfl rfl).trans ?_
  refine (p_const rfl).trans ?_
  exact (s_icmp (g := (fun x y => decide (¬ x = y))) (t := 147) (nx := 137) rfl).trans bif_dec
theorem r_X7_part_120 {d : Nat} {b0 b1 : Nat} {l0 l1 : Option Value} {h : AH} : R_X7_part d 120 [l0, l1] [.ref b1, .ref b0] h = ((hci h b0).bind (lkN [(18, 160)])).bind fun y => aK (exec tTab d y [.ref b0, .ref b1] h) (fun v h1 => R_X7_part d 123 [l0, l1] (v.toList ++ []) h1) (fun E h1 => some (.inr E, h1)) := s_callV (L := [(18, 160)]) (n := 1) (b := b0) (rest := []) rfl rfl rfl
theorem r_X7_part_120N {d : Nat} {b0 : Nat} {l0 l1 : Option Value} {h : AH} : R_X7_part d 120 [l0, l1] [.null, .ref b0] h = ((hci h b0).bind (lkN [(18, 160)])).bind fun y => aK (exec tTab d y [.ref b0, .null] h) (fun v h1 => R_X7_part d 123 [l0, l1] (v.toList ++ []) h1) (fun E h1 => some (.inr E, h1)) := s_callV (L := [(18, 160)]) (n := 1) (b := b0) (rest := []) rfl rfl rfl
theorem r_X7_part_123 {d : Nat} {s0 : Int32} {l0 l1 : Option Value} {h : AH} : R_X7_part d 123 [l0, l1] [.int (s0)] h = if s0 = 0 then R_X7_part d 130 [l0, l1] [] h else R_X7_part d 126 [l0, l1] [] h := (s_if (g := (fun x => decide (x = 0))) (t := 130) (nx := 126) rfl).trans bif_dec
theorem r_X7_part_130 {d : Nat} {l0 l1 : Option Value} {h : AH} : R_X7_part d 130 [l0, l1] [] h = if ¬ (-1) = (-1) then R_X7_part d 147 [l0, some (.int ((-1)))] [] h else R_X7_part d 137 [l0, some (.int ((-1)))] [] h := by
  refine (p_const rfl).trans ?_
  refine (p_istore rfl rfl rfl).trans ?_
  refine (p_iload rfl rfl).trans ?_
  refine (p_const rfl).trans ?_
  exact (s_icmp (g := (fun x y => decide (¬ x = y))) (t := 147) (nx := 137) rfl).trans bif_dec
theorem r_X7_part_126 {d : Nat} {l0 l1 : Option Value} {h : AH} : R_X7_part d 126 [l0, l1] [] h = if ¬ (nI 5) = (-1) then R_X7_part d 147 [l0, some (.int ((nI 5)))] [] h else R_X7_part d 137 [l0, some (.int ((nI 5)))] [] h := by
  refine (p_const rfl).trans ?_
  refine (p_goto rfl).trans ?_
  refine (p_istore rfl rfl rfl).trans ?_
  refine (p_iload rfl rfl).trans ?_
  refine (p_const rfl).trans ?_
  exact (s_icmp (g := (fun x y => decide (¬ x = y))) (t := 147) (nx := 137) rfl).trans bif_dec
theorem e_X7_part {d : Nat} {a0 : Nat} {h : AH} : exec tTab (d + 1) K_X7_part [.ref a0] h = R_X7_part d 0 [some (.ref a0), none] [] h := exec_eq (cd := k_X7_part) (hd := (fun _ _ => some none)) (L := 2) rfl rfl rfl
/-- FavourTownModel.figures(II)I -/
abbrev K_X7_figures : Nat := 168
noncomputable def R_X7_figures (d pc : Nat) (ls : ALs) (st : List Value) (h : AH) : Option (AOut × AH) := aR (exec tTab d) k_X7_figures (fun _ _ => some none) (pc, ls, st, h)
theorem r_X7_figures_0 {d : Nat} {a0 : Nat} {l1 l2 l3 l4 : Option Value} {h : AH} : R_X7_figures d 0 [some (.ref a0), l1, l2, l3, l4] [] h = (hgf h [18] a0 10).bind fun v => R_X7_figures d 4 [some (.ref a0), l1, l2, l3, l4] [v] h := by
  refine (p_aload rfl rfl).trans ?_
  exact s_getf rfl
theorem r_X7_figures_4 {d : Nat} {s0 : Int32} {l0 l1 l2 l3 l4 : Option Value} {h : AH} : R_X7_figures d 4 [l0, l1, l2, l3, l4] [.int (s0)] h = if s0 = (-1) then R_X7_figures d 10 [l0, l1, l2, l3, l4] [] h else R_X7_figures d 8 [l0, l1, l2, l3, l4] [] h := by
  refine (p_const rfl).trans ?_
  exact (s_icmp (g := (fun x y => decide (x = y))) (t := 10) (nx := 8) rfl).trans bif_dec
theorem r_X7_figures_10 {d : Nat} {a0 : Nat} {l1 l2 l3 l4 : Option Value} {h : AH} : R_X7_figures d 10 [some (.ref a0), l1, l2, l3, l4] [] h = ((hci h a0).bind (lkN [(18, 156)])).bind fun y => aK (exec tTab d y [.ref a0] h) (fun v h1 => R_X7_figures d 14 [some (.ref a0), l1, l2, l3, l4] (v.toList ++ []) h1) (fun E h1 => some (.inr E, h1)) := by
  refine (p_aload rfl rfl).trans ?_
  exact s_callV (L := [(18, 156)]) (n := 0) (b := a0) (rest := []) rfl rfl rfl
theorem r_X7_figures_8 {d : Nat} {l0 l1 l2 l3 l4 : Option Value} {h : AH} : R_X7_figures d 8 [l0, l1, l2, l3, l4] [] h = some (.inl (some (.int ((nI 0)))), h) := by
  refine (p_const rfl).trans ?_
  exact s_iretT rfl rfl
theorem r_X7_figures_14 {d : Nat} {a0 : Nat} {l1 l2 l3 l4 : Option Value} {h : AH} : R_X7_figures d 14 [some (.ref a0), l1, l2, l3, l4] [] h = (hgf h [18] a0 9).bind fun v => R_X7_figures d 18 [some (.ref a0), l1, l2, l3, l4] [v] h := by
  refine (p_aload rfl rfl).trans ?_
  exact s_getf rfl
theorem r_X7_figures_18 {d : Nat} {s0 : Int32} {l0 l1 l2 l3 l4 : Option Value} {h : AH} : R_X7_figures d 18 [l0, l1, l2, l3, l4] [.int (s0)] h = R_X7_figures d 22 [l0, l1, l2, some (.int (s0)), some (.int ((nI 0)))] [] h := by
  refine (p_istore rfl rfl rfl).trans ?_
  refine (p_const rfl).trans ?_
  refine (p_istore rfl rfl rfl).trans ?_
  exact rfl
theorem q_X7_figures_22 {d : Nat} {a0 : Nat} {l1 l2 l3 l4 : Option Value} {h : AH} : R_X7_figures d 22 [some (.ref a0), l1, l2, l3, l4] [] h = (hgf h [18] a0 9).bind fun v => R_X7_figures d 26 [some (.ref a0), l1, l2, l3, l4] [v] h := by
  refine (p_aload rfl rfl).trans ?_
  exact s_getf rfl
theorem r_X7_figures_26 {d : Nat} {s0 : Int32} {a0 : Nat} {l1 l2 l3 l4 : Option Value} {h : AH} : R_X7_figures d 26 [some (.ref a0), l1, l2, l3, l4] [.int (s0)] h = (hgf h [18] a0 8).bind fun v => R_X7_figures d 30 [some (.ref a0), l1, l2, l3, l4] [v, .int (s0)] h := by
  refine (p_aload rfl rfl).trans ?_
  exact s_getf rfl
theorem r_X7_figures_30 {d : Nat} {s0 s1 : Int32} {l0 l1 l2 l3 l4 : Option Value} {h : AH} : R_X7_figures d 30 [l0, l1, l2, l3, l4] [.int (s1), .int (s0)] h = if s1 ≤ s0 then R_X7_figures d 93 [l0, l1, l2, l3, l4] [] h else R_X7_figures d 33 [l0, l1, l2, l3, l4] [] h := (s_icmp (g := (fun x y => decide (y ≤ x))) (t := 93) (nx := 33) rfl).trans bif_dec
theorem r_X7_figures_93 {d : Nat} {a0 : Nat} {l1 l2 l3 l4 : Option Value} {h : AH} : R_X7_figures d 93 [some (.ref a0), l1, l2, l3, l4] [] h = (hgf h [18] a0 9).bind fun v => R_X7_figures d 97 [some (.ref a0), l1, l2, l3, l4] [v] h := by
  refine (p_aload rfl rfl).trans ?_
  exact s_getf rfl
theorem r_X7_figures_33 {d : Nat} {a0 : Nat} {l1 l2 l3 l4 : Option Value} {h : AH} : R_X7_figures d 33 [some (.ref a0), l1, l2, l3, l4] [] h = (hgf h [18] a0 9).bind fun v => R_X7_figures d 38 [some (.ref a0), l1, l2, l3, l4] [v, .ref a0] h := by
  refine (p_aload rfl rfl).trans ?_
  refine (p_aload rfl rfl).trans ?_
  exact s_getf rfl
theorem r_X7_figures_97 {d : Nat} {s0 x3 : Int32} {l0 l1 l2 l4 : Option Value} {h : AH} : R_X7_figures d 97 [l0, l1, l2, some (.int (x3)), l4] [.int (s0)] h = if s0 = x3 then R_X7_figures d 123 [l0, l1, l2, some (.int (x3)), l4] [] h else R_X7_figures d 101 [l0, l1, l2, some (.int (x3)), l4] [] h := by
  refine (p_iload rfl rfl).trans ?_
  exact (s_icmp (g := (fun x y => decide (x = y))) (t := 123) (nx := 101) rfl).trans bif_dec
theorem r_X7_figures_38 {d : Nat} {b0 : Nat} {s1 : Int32} {l0 l1 l2 l3 l4 : Option Value} {h : AH} : R_X7_figures d 38 [l0, l1, l2, l3, l4] [.int (s1), .ref b0] h = ((hci h b0).bind (lkN [(18, 157)])).bind fun y => aK (exec tTab d y [.ref b0, .int (s1)] h) (fun v h1 => R_X7_figures d 41 [l0, l1, l2, l3, l4] (v.toList ++ []) h1) (fun E h1 => some (.inr E, h1)) := s_callV (L := [(18, 157)]) (n := 1) (b := b0) (rest := []) rfl rfl rfl
theorem r_X7_figures_123 {d : Nat} {a0 : Nat} {x3 : Int32} {l1 l2 l4 : Option Value} {h : AH} : R_X7_figures d 123 [some (.ref a0), l1, l2, some (.int (x3)), l4] [] h = ((hci h a0).bind (lkN [(18, 158)])).bind fun y => aK (exec tTab d y [.ref a0, .int (x3)] h) (fun v h1 => R_X7_figures d 128 [some (.ref a0), l1, l2, some (.int (x3)), l4] (v.toList ++ []) h1) (fun E h1 => some (.inr E, h1)) := by
  refine (p_aload rfl rfl).trans ?_
  refine (p_iload rfl rfl).trans ?_
  exact s_callV (L := [(18, 158)]) (n := 1) (b := a0) (rest := []) rfl rfl rfl
theorem r_X7_figures_101 {d : Nat} {a0 : Nat} {l1 l2 l3 l4 : Option Value} {h : AH} : R_X7_figures d 101 [some (.ref a0), l1, l2, l3, l4] [] h = (hgf h [18] a0 9).bind fun v => R_X7_figures d 105 [some (.ref a0), l1, l2, l3, l4] [v] h := by
  refine (p_aload rfl rfl).trans ?_
  exact s_getf rfl
theorem r_X7_figures_41 {d : Nat} {s0 : Int32} {l0 l1 l2 l3 l4 : Option Value} {h : AH} : R_X7_figures d 41 [l0, l1, l2, l3, l4] [.int (s0)] h = aK (exec tTab d 153 [.int (s0), .int ((nI 48)), .int ((nI 57))] h) (fun v h1 => R_X7_figures d 48 [l0, l1, l2, l3, l4] (v.toList ++ []) h1) (fun E h1 => some (.inr E, h1)) := by
  refine (p_const rfl).trans ?_
  refine (p_const rfl).trans ?_
  exact s_callS (y := 153) (n := 3) rfl rfl
theorem r_X7_figures_128 {d : Nat} {x4 : Int32} {l0 l1 l2 l3 : Option Value} {h : AH} : R_X7_figures d 128 [l0, l1, l2, l3, some (.int (x4))] [] h = some (.inl (some (.int (x4))), h) := by
  refine (p_iload rfl rfl).trans ?_
  exact s_iretT rfl rfl
theorem r_X7_figures_105 {d : Nat} {s0 x3 : Int32} {l0 l1 l2 l4 : Option Value} {h : AH} : R_X7_figures d 105 [l0, l1, l2, some (.int (x3)), l4] [.int (s0)] h = if (nI 3) < (s0 - x3) then R_X7_figures d 123 [l0, l1, l2, some (.int (x3)), l4] [] h else R_X7_figures d 111 [l0, l1, l2, some (.int (x3)), l4] [] h := by
  refine (p_iload rfl rfl).trans ?_
  refine (p_bin rfl).trans ?_
  refine (p_const rfl).trans ?_
  exact (s_icmp (g := (fun x y => decide (y < x))) (t := 123) (nx := 111) rfl).trans bif_dec
theorem r_X7_figures_48 {d : Nat} {s0 : Int32} {l0 l1 l2 l3 l4 : Option Value} {h : AH} : R_X7_figures d 48 [l0, l1, l2, l3, l4] [.int (s0)] h = if s0 = 0 then R_X7_figures d 93 [l0, l1, l2, l3, l4] [] h else R_X7_figures d 51 [l0, l1, l2, l3, l4] [] h := (s_if (g := (fun x => decide (x = 0))) (t := 93) (nx := 51) rfl).trans bif_dec
theorem r_X7_figures_111 {d : Nat} {x4 x1 : Int32} {l0 l2 l3 : Option Value} {h : AH} : R_X7_figures d 111 [l0, some (.int (x1)), l2, l3, some (.int (x4))] [] h = if x4 < x1 then R_X7_figures d 123 [l0, some (.int (x1)), l2, l3, some (.int (x4))] [] h else R_X7_figures d 117 [l0, some (.int (x1)), l2, l3, some (.int (x4))] [] h := by
  refine (p_iload rfl rfl).trans ?_
  refine (p_iload rfl rfl).trans ?_
  exact (s_icmp (g := (fun x y => decide (x < y))) (t := 123) (nx := 117) rfl).trans bif_dec
theorem r_X7_figures_51 {d : Nat} {a0 : Nat} {l1 l2 l3 l4 : Option Value} {h : AH} : R_X7_figures d 51 [some (.ref a0), l1, l2, l3, l4] [] h = (hgf h [18] a0 9).bind fun v => R_X7_figures d 55 [some (.ref a0), l1, l2, l3, l4] [v] h := by
  refine (p_aload rfl rfl).trans ?_
  exact s_getf rfl
theorem r_X7_figures_117 {d : Nat} {x4 x2 : Int32} {l0 l1 l3 : Option Value} {h : AH} : R_X7_figures d 117 [l0, l1, some (.int (x2)), l3, some (.int (x4))] [] h = if x4 ≤ x2 then R_X7_figures d 128 [l0, l1, some (.int (x2)), l3, some (.int (x4))] [] h else R_X7_figures d 123 [l0, l1, some (.int (x2)), l3, some (.int (x4))] [] h := by
  refine (p_iload rfl rfl).trans ?_
  refine (p_iload rfl rfl).trans ?_
  exact (s_icmp (g := (fun x y => decide (x ≤ y))) (t := 128) (nx := 123) rfl).trans bif_dec
theorem r_X7_figures_55 {d : Nat} {s0 x3 : Int32} {l0 l1 l2 l4 : Option Value} {h : AH} : R_X7_figures d 55 [l0, l1, l2, some (.int (x3)), l4] [.int (s0)] h = if (nI 4) ≤ (s0 - x3) then R_X7_figures d 93 [l0, l1, l2, some (.int (x3)), l4] [] h else R_X7_figures d 61 [l0, l1, l2, some (.int (x3)), l4] [] h := by
  refine (p_iload rfl rfl).trans ?_
  refine (p_bin rfl).trans ?_
  refine (p_const rfl).trans ?_
  exact (s_icmp (g := (fun x y => decide (y ≤ x))) (t := 93) (nx := 61) rfl).trans bif_dec
theorem r_X7_figures_61 {d : Nat} {x4 : Int32} {a0 : Nat} {l1 l2 l3 : Option Value} {h : AH} : R_X7_figures d 61 [some (.ref a0), l1, l2, l3, some (.int (x4))] [] h = (hgf h [18] a0 9).bind fun v => R_X7_figures d 71 [some (.ref a0), l1, l2, l3, some (.int (x4))] [v, .ref a0, .int ((nI 10) * x4)] h := by
  refine (p_const rfl).trans ?_
  refine (p_iload rfl rfl).trans ?_
  refine (p_bin rfl).trans ?_
  refine (p_aload rfl rfl).trans ?_
  refine (p_aload rfl rfl).trans ?_
  exact s_getf rfl
theorem r_X7_figures_71 {d : Nat} {s0 s2 : Int32} {b1 : Nat} {l0 l1 l2 l3 l4 : Option Value} {h : AH} : R_X7_figures d 71 [l0, l1, l2, l3, l4] [.int (s2), .ref b1, .int (s0)] h = ((hci h b1).bind (lkN [(18, 157)])).bind fun y => aK (exec tTab d y [.ref b1, .int (s2)] h) (fun v h1 => R_X7_figures d 74 [l0, l1, l2, l3, l4] (v.toList ++ [.int (s0)]) h1) (fun E h1 => some (.inr E, h1)) := s_callV (L := [(18, 157)]) (n := 1) (b := b1) (rest := [.int (s0)]) rfl rfl rfl
theorem r_X7_figures_74 {d : Nat} {s0 s1 : Int32} {a0 : Nat} {l1 l2 l3 l4 : Option Value} {h : AH} : R_X7_figures d 74 [some (.ref a0), l1, l2, l3, l4] [.int (s1), .int (s0)] h = (hgf h [18] a0 9).bind fun v => R_X7_figures d 85 [some (.ref a0), l1, l2, l3, some (.int ((s0 + s1) - (nI 48)))] [v, .ref a0] h := by
  refine (p_bin rfl).trans ?_
  refine (p_const rfl).trans ?_
  refine (p_bin rfl).trans ?_
  refine (p_istore rfl rfl rfl).trans ?_
  refine (p_aload rfl rfl).trans ?_
  refine (p_dup rfl rfl).trans ?_
  exact s_getf rfl
theorem r_X7_figures_85 {d : Nat} {b0 : Nat} {s1 : Int32} {l0 l1 l2 l3 l4 : Option Value} {h : AH} : R_X7_figures d 85 [l0, l1, l2, l3, l4] [.int (s1), .ref b0] h = (hpf h [18] b0 9 (.int (s1 + (nI 1)))).bind fun h1 => R_X7_figures d 90 [l0, l1, l2, l3, l4] [] h1 := by
  refine (p_const rfl).trans ?_
  refine (p_bin rfl).trans ?_
  exact s_putT rfl rfl
theorem r_X7_figures_90 {d : Nat} {l0 l1 l2 l3 l4 : Option Value} {h : AH} : R_X7_figures d 90 [l0, l1, l2, l3, l4] [] h = R_X7_figures d 22 [l0, l1, l2, l3, l4] [] h := by
  refine (p_goto rfl).trans ?_
  exact rfl
theorem e_X7_figures {d : Nat} {a0 : Nat} {x1 x2 : Int32} {h : AH} : exec tTab (d + 1) K_X7_figures [.ref a0, .int x1, .int x2] h = R_X7_figures d 0 [some (.ref a0), some (.int x1), some (.int x2), none, none] [] h := exec_eq (cd := k_X7_figures) (hd := (fun _ _ => some none)) (L := 5) rfl rfl rfl
/-- FavourTownModel.townLine()V -/
abbrev K_X7_townLine : Nat := 169
noncomputable def R_X7_townLine (d pc : Nat) (ls : ALs) (st : List Value) (h : AH) : Option (AOut × AH) := aR (exec tTab d) k_X7_townLine (fun _ _ => some none) (pc, ls, st, h)
theorem r_X7_townLine_0 {d : Nat} {a0 : Nat} {l1 l2 l3 l4 l5 l6 : Option Value} {h : AH} : R_X7_townLine d 0 [some (.ref a0), l1, l2, l3, l4, l5, l6] [] h = ((hci h a0).bind (lkN [(18, 156)])).bind fun y => aK (exec tTab d y [.ref a0] h) (fun v h1 => R_X7_townLine d 4 [some (.ref a0), l1, l2, l3, l4, l5, l6] (v.toList ++ []) h1) (fun E h1 => some (.inr E, h1)) := by
  refine (p_aload rfl rfl).trans ?_
  exact s_callV (L := [(18, 156)]) (n := 0) (b := a0) (rest := []) rfl rfl rfl
theorem r_X7_townLine_4 {d : Nat} {a0 : Nat} {l1 l2 l3 l4 l5 l6 : Option Value} {h : AH} : R_X7_townLine d 4 [some (.ref a0), l1, l2, l3, l4, l5, l6] [] h = (hgf h [18] a0 9).bind fun v => R_X7_townLine d 8 [some (.ref a0), l1, l2, l3, l4, l5, l6] [v] h := by
  refine (p_aload rfl rfl).trans ?_
  exact s_getf rfl
theorem r_X7_townLine_8 {d : Nat} {s0 : Int32} {a0 : Nat} {l1 l2 l3 l4 l5 l6 : Option Value} {h : AH} : R_X7_townLine d 8 [some (.ref a0), l1, l2, l3, l4, l5, l6] [.int (s0)] h = R_X7_townLine d 12 [some (.ref a0), some (.int (s0)), l2, l3, l4, l5, l6] [h.2.2.2 36, .ref a0] h := by
  refine (p_istore rfl rfl rfl).trans ?_
  refine (p_aload rfl rfl).trans ?_
  exact p_stat rfl
theorem r_X7_townLine_12 {d : Nat} {b0 b1 : Nat} {l0 l1 l2 l3 l4 l5 l6 : Option Value} {h : AH} : R_X7_townLine d 12 [l0, l1, l2, l3, l4, l5, l6] [.ref b1, .ref b0] h = ((hci h b0).bind (lkN [(18, 160)])).bind fun y => aK (exec tTab d y [.ref b0, .ref b1] h) (fun v h1 => R_X7_townLine d 15 [l0, l1, l2, l3, l4, l5, l6] (v.toList ++ []) h1) (fun E h1 => some (.inr E, h1)) := s_callV (L := [(18, 160)]) (n := 1) (b := b0) (rest := []) rfl rfl rfl
theorem r_X7_townLine_12N {d : Nat} {b0 : Nat} {l0 l1 l2 l3 l4 l5 l6 : Option Value} {h : AH} : R_X7_townLine d 12 [l0, l1, l2, l3, l4, l5, l6] [.null, .ref b0] h = ((hci h b0).bind (lkN [(18, 160)])).bind fun y => aK (exec tTab d y [.ref b0, .null] h) (fun v h1 => R_X7_townLine d 15 [l0, l1, l2, l3, l4, l5, l6] (v.toList ++ []) h1) (fun E h1 => some (.inr E, h1)) := s_callV (L := [(18, 160)]) (n := 1) (b := b0) (rest := []) rfl rfl rfl
theorem r_X7_townLine_15 {d : Nat} {s0 : Int32} {l0 l1 l2 l3 l4 l5 l6 : Option Value} {h : AH} : R_X7_townLine d 15 [l0, l1, l2, l3, l4, l5, l6] [.int (s0)] h = if s0 = 0 then R_X7_townLine d 102 [l0, l1, l2, l3, l4, l5, l6] [] h else R_X7_townLine d 18 [l0, l1, l2, l3, l4, l5, l6] [] h := (s_if (g := (fun x => decide (x = 0))) (t := 102) (nx := 18) rfl).trans bif_dec
theorem r_X7_townLine_102 {d : Nat} {a0 : Nat} {l1 l2 l3 l4 l5 l6 : Option Value} {h : AH} : R_X7_townLine d 102 [some (.ref a0), l1, l2, l3, l4, l5, l6] [] h = R_X7_townLine d 105 [some (.ref a0), l1, l2, l3, l4, l5, l6] [h.2.2.2 37, .ref a0] h := by
  refine (p_aload rfl rfl).trans ?_
  exact p_stat rfl
theorem r_X7_townLine_18 {d : Nat} {a0 : Nat} {l1 l2 l3 l4 l5 l6 : Option Value} {h : AH} : R_X7_townLine d 18 [some (.ref a0), l1, l2, l3, l4, l5, l6] [] h = (hgf h [18] a0 1).bind fun v => R_X7_townLine d 22 [some (.ref a0), l1, l2, l3, l4, l5, l6] [v] h := by
  refine (p_aload rfl rfl).trans ?_
  exact s_getf rfl
theorem r_X7_townLine_105 {d : Nat} {b0 b1 : Nat} {l0 l1 l2 l3 l4 l5 l6 : Option Value} {h : AH} : R_X7_townLine d 105 [l0, l1, l2, l3, l4, l5, l6] [.ref b1, .ref b0] h = ((hci h b0).bind (lkN [(18, 160)])).bind fun y => aK (exec tTab d y [.ref b0, .ref b1] h) (fun v h1 => R_X7_townLine d 108 [l0, l1, l2, l3, l4, l5, l6] (v.toList ++ []) h1) (fun E h1 => some (.inr E, h1)) := s_callV (L := [(18, 160)]) (n := 1) (b := b0) (rest := []) rfl rfl rfl
theorem r_X7_townLine_105N {d : Nat} {b0 : Nat} {l0 l1 l2 l3 l4 l5 l6 : Option Value} {h : AH} : R_X7_townLine d 105 [l0, l1, l2, l3, l4, l5, l6] [.null, .ref b0] h = ((hci h b0).bind (lkN [(18, 160)])).bind fun y => aK (exec tTab d y [.ref b0, .null] h) (fun v h1 => R_X7_townLine d 108 [l0, l1, l2, l3, l4, l5, l6] (v.toList ++ []) h1) (fun E h1 => some (.inr E, h1)) := s_callV (L := [(18, 160)]) (n := 1) (b := b0) (rest := []) rfl rfl rfl
theorem r_X7_townLine_22 {d : Nat} {b0 : Nat} {l0 l1 l2 l3 l4 l5 l6 : Option Value} {h : AH} : R_X7_townLine d 22 [l0, l1, l2, l3, l4, l5, l6] [.ref b0] h = (hai h 0 b0 (nI 1)).bind fun v => R_X7_townLine d 24 [l0, l1, l2, l3, l4, l5, l6] [.int v] h := by
  refine (p_const rfl).trans ?_
  exact s_iald rfl
theorem r_X7_townLine_108 {d : Nat} {s0 : Int32} {l0 l1 l2 l3 l4 l5 l6 : Option Value} {h : AH} : R_X7_townLine d 108 [l0, l1, l2, l3, l4, l5, l6] [.int (s0)] h = if s0 = 0 then R_X7_townLine d 195 [l0, l1, l2, l3, l4, l5, l6] [] h else R_X7_townLine d 111 [l0, l1, l2, l3, l4, l5, l6] [] h := (s_if (g := (fun x => decide (x = 0))) (t := 195) (nx := 111) rfl).trans bif_dec
theorem r_X7_townLine_24 {d : Nat} {s0 : Int32} {l0 l1 l2 l3 l4 l5 l6 : Option Value} {h : AH} : R_X7_townLine d 24 [l0, l1, l2, l3, l4, l5, l6] [.int (s0)] h = if ¬ s0 = (nI 12) then R_X7_townLine d 34 [l0, l1, l2, l3, l4, l5, l6] [] h else R_X7_townLine d 29 [l0, l1, l2, l3, l4, l5, l6] [] h := by
  refine (p_const rfl).trans ?_
  exact (s_icmp (g := (fun x y => decide (¬ x = y))) (t := 34) (nx := 29) rfl).trans bif_dec
theorem r_X7_townLine_195 {d : Nat} {a0 : Nat} {l1 l2 l3 l4 l5 l6 : Option Value} {h : AH} : R_X7_townLine d 195 [some (.ref a0), l1, l2, l3, l4, l5, l6] [] h = R_X7_townLine d 198 [some (.ref a0), l1, l2, l3, l4, l5, l6] [h.2.2.2 38, .ref a0] h := by
  refine (p_aload rfl rfl).trans ?_
  exact p_stat rfl
theorem r_X7_townLine_111 {d : Nat} {a0 : Nat} {l1 l2 l3 l4 l5 l6 : Option Value} {h : AH} : R_X7_townLine d 111 [some (.ref a0), l1, l2, l3, l4, l5, l6] [] h = ((hci h a0).bind (lkN [(18, 170)])).bind fun y => aK (exec tTab d y [.ref a0, .int ((-1))] h) (fun v h1 => R_X7_townLine d 116 [some (.ref a0), l1, l2, l3, l4, l5, l6] (v.toList ++ []) h1) (fun E h1 => some (.inr E, h1)) := by
  refine (p_aload rfl rfl).trans ?_
  refine (p_const rfl).trans ?_
  exact s_callV (L := [(18, 170)]) (n := 1) (b := a0) (rest := []) rfl rfl rfl
theorem r_X7_townLine_34 {d : Nat} {a0 : Nat} {l1 l2 l3 l4 l5 l6 : Option Value} {h : AH} : R_X7_townLine d 34 [some (.ref a0), l1, l2, l3, l4, l5, l6] [] h = ((hci h a0).bind (lkN [(18, 168)])).bind fun y => aK (exec tTab d y [.ref a0, .int ((nI 0)), .int ((nI 999))] h) (fun v h1 => R_X7_townLine d 42 [some (.ref a0), l1, l2, l3, l4, l5, l6] (v.toList ++ []) h1) (fun E h1 => some (.inr E, h1)) := by
  refine (p_aload rfl rfl).trans ?_
  refine (p_const rfl).trans ?_
  refine (p_const rfl).trans ?_
  exact s_callV (L := [(18, 168)]) (n := 2) (b := a0) (rest := []) rfl rfl rfl
theorem r_X7_townLine_29 {d : Nat} {a0 : Nat} {x1 : Int32} {l2 l3 l4 l5 l6 : Option Value} {h : AH} : R_X7_townLine d 29 [some (.ref a0), some (.int (x1)), l2, l3, l4, l5, l6] [] h = ((hci h a0).bind (lkN [(18, 158)])).bind fun y => aK (exec tTab d y [.ref a0, .int (x1)] h) (fun v h1 => R_X7_townLine d 34 [some (.ref a0), some (.int (x1)), l2, l3, l4, l5, l6] (v.toList ++ []) h1) (fun E h1 => some (.inr E, h1)) := by
  refine (p_aload rfl rfl).trans ?_
  refine (p_iload rfl rfl).trans ?_
  exact s_callV (L := [(18, 158)]) (n := 1) (b := a0) (rest := []) rfl rfl rfl
theorem r_X7_townLine_198 {d : Nat} {b0 b1 : Nat} {l0 l1 l2 l3 l4 l5 l6 : Option Value} {h : AH} : R_X7_townLine d 198 [l0, l1, l2, l3, l4, l5, l6] [.ref b1, .ref b0] h = ((hci h b0).bind (lkN [(18, 160)])).bind fun y => aK (exec tTab d y [.ref b0, .ref b1] h) (fun v h1 => R_X7_townLine d 201 [l0, l1, l2, l3, l4, l5, l6] (v.toList ++ []) h1) (fun E h1 => some (.inr E, h1)) := s_callV (L := [(18, 160)]) (n := 1) (b := b0) (rest := []) rfl rfl rfl
theorem r_X7_townLine_198N {d : Nat} {b0 : Nat} {l0 l1 l2 l3 l4 l5 l6 : Option Value} {h : AH} : R_X7_townLine d 198 [l0, l1, l2, l3, l4, l5, l6] [.null, .ref b0] h = ((hci h b0).bind (lkN [(18, 160)])).bind fun y => aK (exec tTab d y [.ref b0, .null] h) (fun v h1 => R_X7_townLine d 201 [l0, l1, l2, l3, l4, l5, l6] (v.toList ++ []) h1) (fun E h1 => some (.inr E, h1)) := s_callV (L := [(18, 160)]) (n := 1) (b := b0) (rest := []) rfl rfl rfl
theorem r_X7_townLine_116 {d : Nat} {s0 : Int32} {a0 : Nat} {l1 l2 l3 l4 l5 l6 : Option Value} {h : AH} : R_X7_townLine d 116 [some (.ref a0), l1, l2, l3, l4, l5, l6] [.int (s0)] h = ((hci h a0).bind (lkN [(18, 170)])).bind fun y => aK (exec tTab d y [.ref a0, .int (s0)] h) (fun v h1 => R_X7_townLine d 122 [some (.ref a0), l1, some (.int (s0)), l3, l4, l5, l6] (v.toList ++ []) h1) (fun E h1 => some (.inr E, h1)) := by
  refine (p_istore rfl rfl rfl).trans ?_
  refine (p_aload rfl rfl).trans ?_
  refine (p_iload rfl rfl).trans ?_
  exact s_callV (L := [(18, 170)]) (n := 1) (b := a0) (rest := []) rfl rfl rfl
theorem r_X7_townLine_42 {d : Nat} {s0 : Int32} {a0 : Nat} {l1 l2 l3 l4 l5 l6 : Option Value} {h : AH} : R_X7_townLine d 42 [some (.ref a0), l1, l2, l3, l4, l5, l6] [.int (s0)] h = (hgf h [18] a0 10).bind fun v => R_X7_townLine d 47 [some (.ref a0), l1, some (.int (s0)), l3, l4, l5, l6] [v] h := by
  refine (p_istore rfl rfl rfl).trans ?_
  refine (p_aload rfl rfl).trans ?_
  exact s_getf rfl
theorem r_X7_townLine_201 {d : Nat} {s0 : Int32} {l0 l1 l2 l3 l4 l5 l6 : Option Value} {h : AH} : R_X7_townLine d 201 [l0, l1, l2, l3, l4, l5, l6] [.int (s0)] h = if s0 = 0 then R_X7_townLine d 221 [l0, l1, l2, l3, l4, l5, l6] [] h else R_X7_townLine d 204 [l0, l1, l2, l3, l4, l5, l6] [] h := (s_if (g := (fun x => decide (x = 0))) (t := 221) (nx := 204) rfl).trans bif_dec
theorem r_X7_townLine_122 {d : Nat} {s0 : Int32} {a0 : Nat} {l1 l2 l3 l4 l5 l6 : Option Value} {h : AH} : R_X7_townLine d 122 [some (.ref a0), l1, l2, l3, l4, l5, l6] [.int (s0)] h = (hgf h [18] a0 10).bind fun v => R_X7_townLine d 127 [some (.ref a0), l1, l2, some (.int (s0)), l4, l5, l6] [v] h := by
  refine (p_istore rfl rfl rfl).trans ?_
  refine (p_aload rfl rfl).trans ?_
  exact s_getf rfl
theorem r_X7_townLine_47 {d : Nat} {s0 : Int32} {l0 l1 l2 l3 l4 l5 l6 : Option Value} {h : AH} : R_X7_townLine d 47 [l0, l1, l2, l3, l4, l5, l6] [.int (s0)] h = if s0 = (-1) then R_X7_townLine d 52 [l0, l1, l2, l3, l4, l5, l6] [] h else R_X7_townLine d 51 [l0, l1, l2, l3, l4, l5, l6] [] h := by
  refine (p_const rfl).trans ?_
  exact (s_icmp (g := (fun x y => decide (x = y))) (t := 52) (nx := 51) rfl).trans bif_dec
theorem r_X7_townLine_221 {d : Nat} {a0 : Nat} {l1 l2 l3 l4 l5 l6 : Option Value} {h : AH} : R_X7_townLine d 221 [some (.ref a0), l1, l2, l3, l4, l5, l6] [] h = R_X7_townLine d 224 [some (.ref a0), l1, l2, l3, l4, l5, l6] [h.2.2.2 39, .ref a0] h := by
  refine (p_aload rfl rfl).trans ?_
  exact p_stat rfl
theorem r_X7_townLine_204 {d : Nat} {a0 : Nat} {l1 l2 l3 l4 l5 l6 : Option Value} {h : AH} : R_X7_townLine d 204 [some (.ref a0), l1, l2, l3, l4, l5, l6] [] h = (hgf h [18] a0 1).bind fun v => R_X7_townLine d 208 [some (.ref a0), l1, l2, l3, l4, l5, l6] [v] h := by
  refine (p_aload rfl rfl).trans ?_
  exact s_getf rfl
theorem r_X7_townLine_127 {d : Nat} {s0 : Int32} {l0 l1 l2 l3 l4 l5 l6 : Option Value} {h : AH} : R_X7_townLine d 127 [l0, l1, l2, l3, l4, l5, l6] [.int (s0)] h = if s0 = (-1) then R_X7_townLine d 132 [l0, l1, l2, l3, l4, l5, l6] [] h else R_X7_townLine d 131 [l0, l1, l2, l3, l4, l5, l6] [] h := by
  refine (p_const rfl).trans ?_
  exact (s_icmp (g := (fun x y => decide (x = y))) (t := 132) (nx := 131) rfl).trans bif_dec
theorem r_X7_townLine_52 {d : Nat} {a0 : Nat} {l1 l2 l3 l4 l5 l6 : Option Value} {h : AH} : R_X7_townLine d 52 [some (.ref a0), l1, l2, l3, l4, l5, l6] [] h = (hgf h [18] a0 1).bind fun v => R_X7_townLine d 59 [some (.ref a0), l1, l2, l3, l4, l5, l6] [v, .int ((nI 3)), .int ((nI 10))] h := by
  refine (p_const rfl).trans ?_
  refine (p_const rfl).trans ?_
  refine (p_aload rfl rfl).trans ?_
  exact s_getf rfl
theorem r_X7_townLine_51 {d : Nat} {l0 l1 l2 l3 l4 l5 l6 : Option Value} {h : AH} : R_X7_townLine d 51 [l0, l1, l2, l3, l4, l5, l6] [] h = some (.inl none, h) := s_vret rfl
theorem r_X7_townLine_224 {d : Nat} {b0 b1 : Nat} {l0 l1 l2 l3 l4 l5 l6 : Option Value} {h : AH} : R_X7_townLine d 224 [l0, l1, l2, l3, l4, l5, l6] [.ref b1, .ref b0] h = ((hci h b0).bind (lkN [(18, 160)])).bind fun y => aK (exec tTab d y [.ref b0, .ref b1] h) (fun v h1 => R_X7_townLine d 227 [l0, l1, l2, l3, l4, l5, l6] (v.toList ++ []) h1) (fun E h1 => some (.inr E, h1)) := s_callV (L := [(18, 160)]) (n := 1) (b := b0) (rest := []) rfl rfl rfl
theorem r_X7_townLine_224N {d : Nat} {b0 : Nat} {l0 l1 l2 l3 l4 l5 l6 : Option Value} {h : AH} : R_X7_townLine d 224 [l0, l1, l2, l3, l4, l5, l6] [.null, .ref b0] h = ((hci h b0).bind (lkN [(18, 160)])).bind fun y => aK (exec tTab d y [.ref b0, .null] h) (fun v h1 => R_X7_townLine d 227 [l0, l1, l2, l3, l4, l5, l6] (v.toList ++ []) h1) (fun E h1 => some (.inr E, h1)) := s_callV (L := [(18, 160)]) (n := 1) (b := b0) (rest := []) rfl rfl rfl
theorem r_X7_townLine_208 {d : Nat} {b0 a0 : Nat} {l1 l2 l3 l4 l5 l6 : Option Value} {h : AH} : R_X7_townLine d 208 [some (.ref a0), l1, l2, l3, l4, l5, l6] [.ref b0] h = ((hci h a0).bind (lkN [(18, 168)])).bind fun y => aK (exec tTab d y [.ref a0, .int ((nI 0)), .int ((nI 10))] h) (fun v h1 => R_X7_townLine d 217 [some (.ref a0), l1, l2, l3, l4, l5, l6] (v.toList ++ [.int ((nI 7)), .ref b0]) h1) (fun E h1 => some (.inr E, h1)) := by
  refine (p_const rfl).trans ?_
  refine (p_aload rfl rfl).trans ?_
  refine (p_const rfl).trans ?_
  refine (p_const rfl).trans ?_
  exact s_callV (L := [(18, 168)]) (n := 2) (b := a0) (rest := [.int ((nI 7)), .ref b0]) rfl rfl rfl
theorem r_X7_townLine_208N {d : Nat} {a0 : Nat} {l1 l2 l3 l4 l5 l6 : Option Value} {h : AH} : R_X7_townLine d 208 [some (.ref a0), l1, l2, l3, l4, l5, l6] [.null] h = ((hci h a0).bind (lkN [(18, 168)])).bind fun y => aK (exec tTab d y [.ref a0, .int ((nI 0)), .int ((nI 10))] h) (fun v h1 => R_X7_townLine d 217 [some (.ref a0), l1, l2, l3, l4, l5, l6] (v.toList ++ [.int ((nI 7)), .null]) h1) (fun E h1 => some (.inr E, h1)) := by
  refine (p_const rfl).trans ?_
  refine (p_aload rfl rfl).trans ?_
  refine (p_const rfl).trans ?_
  refine (p_const rfl).trans ?_
  exact s_callV (L := [(18, 168)]) (n := 2) (b := a0) (rest := [.int ((nI 7)), .null]) rfl rfl rfl
theorem r_X7_townLine_132 {d : Nat} {a0 : Nat} {l1 l2 l3 l4 l5 l6 : Option Value} {h : AH} : R_X7_townLine d 132 [some (.ref a0), l1, l2, l3, l4, l5, l6] [] h = (hgf h [18] a0 1).bind fun v => R_X7_townLine d 136 [some (.ref a0), l1, l2, l3, l4, l5, l6] [v] h := by
  refine (p_aload rfl rfl).trans ?_
  exact s_getf rfl
theorem r_X7_townLine_131 {d : Nat} {l0 l1 l2 l3 l4 l5 l6 : Option Value} {h : AH} : R_X7_townLine d 131 [l0, l1, l2, l3, l4, l5, l6] [] h = some (.inl none, h) := s_vret rfl
theorem r_X7_townLine_59 {d : Nat} {s0 s1 : Int32} {b2 : Nat} {l0 l1 l2 l3 l4 l5 l6 : Option Value} {h : AH} : R_X7_townLine d 59 [l0, l1, l2, l3, l4, l5, l6] [.ref b2, .int (s1), .int (s0)] h = (hai h 0 b2 (nI 1)).bind fun v => R_X7_townLine d 61 [l0, l1, l2, l3, l4, l5, l6] [.int v, .int (s1), .int (s0)] h := by
  refine (p_const rfl).trans ?_
  exact s_iald rfl
theorem r_X7_townLine_227 {d : Nat} {s0 : Int32} {l0 l1 l2 l3 l4 l5 l6 : Option Value} {h : AH} : R_X7_townLine d 227 [l0, l1, l2, l3, l4, l5, l6] [.int (s0)] h = if s0 = 0 then R_X7_townLine d 334 [l0, l1, l2, l3, l4, l5, l6] [] h else R_X7_townLine d 230 [l0, l1, l2, l3, l4, l5, l6] [] h := (s_if (g := (fun x => decide (x = 0))) (t := 334) (nx := 230) rfl).trans bif_dec
theorem r_X7_townLine_217 {d : Nat} {b0 : Nat} {s1 s2 : Int32} {l0 l1 l2 l3 l4 l5 l6 : Option Value} {h : AH} : R_X7_townLine d 217 [l0, l1, l2, l3, l4, l5, l6] [.int (s2), .int (s1), .ref b0] h = (hsi h 0 b0 s1 s2).bind fun h1 => R_X7_townLine d 218 [l0, l1, l2, l3, l4, l5, l6] [] h1 := s_iast (t := 0) (nar := (fun y => y)) rfl
theorem r_X7_townLine_136 {d : Nat} {b0 a0 : Nat} {x2 : Int32} {l1 l3 l4 l5 l6 : Option Value} {h : AH} : R_X7_townLine d 136 [some (.ref a0), l1, some (.int (x2)), l3, l4, l5, l6] [.ref b0] h = (hgf h [18] a0 1).bind fun v => R_X7_townLine d 148 [some (.ref a0), l1, some (.int (x2)), l3, l4, l5, l6] [v, .int (((nI 10) + ((nI 3) * x2)) + (nI 2)), .ref b0] h := by
  refine (p_const rfl).trans ?_
  refine (p_const rfl).trans ?_
  refine (p_iload rfl rfl).trans ?_
  refine (p_bin rfl).trans ?_
  refine (p_bin rfl).trans ?_
  refine (p_const rfl).trans ?_
  refine (p_bin rfl).trans ?_
  refine (p_aload rfl rfl).trans ?_
  exact s_getf rfl
theorem r_X7_townLine_136N {d : Nat} {x2 : Int32} {a0 : Nat} {l1 l3 l4 l5 l6 : Option Value} {h : AH} : R_X7_townLine d 136 [some (.ref a0), l1, some (.int (x2)), l3, l4, l5, l6] [.null] h = (hgf h [18] a0 1).bind fun v => R_X7_townLine d 148 [some (.ref a0), l1, some (.int (x2)), l3, l4, l5, l6] [v, .int (((nI 10) + ((nI 3) * x2)) + (nI 2)), .null] h := by
  refine (p_const rfl).trans ?_
  refine (p_const rfl).trans ?_
  refine (p_iload rfl rfl).trans ?_
  refine (p_bin rfl).trans ?_
  refine (p_bin rfl).trans ?_
  refine (p_const rfl).trans ?_
  refine (p_bin rfl).trans ?_
  refine (p_aload rfl rfl).trans ?_
  exact s_getf rfl
theorem r_X7_townLine_61 {d : Nat} {s0 s1 s2 : Int32} {a0 : Nat} {l1 l2 l3 l4 l5 l6 : Option Value} {h : AH} : R_X7_townLine d 61 [some (.ref a0), l1, l2, l3, l4, l5, l6] [.int (s2), .int (s1), .int (s0)] h = (hgf h [18] a0 1).bind fun v => R_X7_townLine d 68 [some (.ref a0), l1, l2, some (.int (s0 + (s1 * s2))), l4, l5, l6] [v] h := by
  refine (p_bin rfl).trans ?_
  refine (p_bin rfl).trans ?_
  refine (p_istore rfl rfl rfl).trans ?_
  refine (p_aload rfl rfl).trans ?_
  exact s_getf rfl
theorem r_X7_townLine_334 {d : Nat} {a0 : Nat} {l1 l2 l3 l4 l5 l6 : Option Value} {h : AH} : R_X7_townLine d 334 [some (.ref a0), l1, l2, l3, l4, l5, l6] [] h = R_X7_townLine d 337 [some (.ref a0), l1, l2, l3, l4, l5, l6] [h.2.2.2 43, .ref a0] h := by
  refine (p_aload rfl rfl).trans ?_
  exact p_stat rfl
theorem r_X7_townLine_230 {d : Nat} {a0 : Nat} {l1 l2 l3 l4 l5 l6 : Option Value} {h : AH} : R_X7_townLine d 230 [some (.ref a0), l1, l2, l3, l4, l5, l6] [] h = ((hci h a0).bind (lkN [(18, 170)])).bind fun y => aK (exec tTab d y [.ref a0, .int ((-1))] h) (fun v h1 => R_X7_townLine d 235 [some (.ref a0), l1, l2, l3, l4, l5, l6] (v.toList ++ []) h1) (fun E h1 => some (.inr E, h1)) := by
  refine (p_aload rfl rfl).trans ?_
  refine (p_const rfl).trans ?_
  exact s_callV (L := [(18, 170)]) (n := 1) (b := a0) (rest := []) rfl rfl rfl
theorem r_X7_townLine_218 {d : Nat} {l0 l1 l2 l3 l4 l5 l6 : Option Value} {h : AH} : R_X7_townLine d 218 [l0, l1, l2, l3, l4, l5, l6] [] h = some (.inl none, h) := by
  refine (p_goto rfl).trans ?_
  exact s_vret rfl
theorem r_X7_townLine_148 {d : Nat} {b0 b2 : Nat} {s1 x2 : Int32} {l0 l1 l3 l4 l5 l6 : Option Value} {h : AH} : R_X7_townLine d 148 [l0, l1, some (.int (x2)), l3, l4, l5, l6] [.ref b2, .int (s1), .ref b0] h = (hai h 0 b2 (((nI 10) + ((nI 3) * x2)) + (nI 2))).bind fun v => R_X7_townLine d 157 [l0, l1, some (.int (x2)), l3, l4, l5, l6] [.int v, .int (s1), .ref b0] h := by
  refine (p_const rfl).trans ?_
  refine (p_const rfl).trans ?_
  refine (p_iload rfl rfl).trans ?_
  refine (p_bin rfl).trans ?_
  refine (p_bin rfl).trans ?_
  refine (p_const rfl).trans ?_
  refine (p_bin rfl).trans ?_
  exact s_iald rfl
theorem r_X7_townLine_68 {d : Nat} {b0 : Nat} {x3 x2 : Int32} {l0 l1 l4 l5 l6 : Option Value} {h : AH} : R_X7_townLine d 68 [l0, l1, some (.int (x2)), some (.int (x3)), l4, l5, l6] [.ref b0] h = (hsi h 0 b0 x3 x2).bind fun h1 => R_X7_townLine d 71 [l0, l1, some (.int (x2)), some (.int (x3)), l4, l5, l6] [] h1 := by
  refine (p_iload rfl rfl).trans ?_
  refine (p_iload rfl rfl).trans ?_
  exact s_iast (t := 0) (nar := (fun y => y)) rfl
theorem r_X7_townLine_337 {d : Nat} {b0 b1 : Nat} {l0 l1 l2 l3 l4 l5 l6 : Option Value} {h : AH} : R_X7_townLine d 337 [l0, l1, l2, l3, l4, l5, l6] [.ref b1, .ref b0] h = ((hci h b0).bind (lkN [(18, 160)])).bind fun y => aK (exec tTab d y [.ref b0, .ref b1] h) (fun v h1 => R_X7_townLine d 340 [l0, l1, l2, l3, l4, l5, l6] (v.toList ++ []) h1) (fun E h1 => some (.inr E, h1)) := s_callV (L := [(18, 160)]) (n := 1) (b := b0) (rest := []) rfl rfl rfl
theorem r_X7_townLine_337N {d : Nat} {b0 : Nat} {l0 l1 l2 l3 l4 l5 l6 : Option Value} {h : AH} : R_X7_townLine d 337 [l0, l1, l2, l3, l4, l5, l6] [.null, .ref b0] h = ((hci h b0).bind (lkN [(18, 160)])).bind fun y => aK (exec tTab d y [.ref b0, .null] h) (fun v h1 => R_X7_townLine d 340 [l0, l1, l2, l3, l4, l5, l6] (v.toList ++ []) h1) (fun E h1 => some (.inr E, h1)) := s_callV (L := [(18, 160)]) (n := 1) (b := b0) (rest := []) rfl rfl rfl
theorem r_X7_townLine_235 {d : Nat} {s0 : Int32} {a0 : Nat} {l1 l2 l3 l4 l5 l6 : Option Value} {h : AH} : R_X7_townLine d 235 [some (.ref a0), l1, l2, l3, l4, l5, l6] [.int (s0)] h = R_X7_townLine d 239 [some (.ref a0), l1, some (.int (s0)), l3, l4, l5, l6] [h.2.2.2 40, .ref a0] h := by
  refine (p_istore rfl rfl rfl).trans ?_
  refine (p_aload rfl rfl).trans ?_
  exact p_stat rfl
theorem r_X7_townLine_157 {d : Nat} {b0 : Nat} {s1 s2 x3 : Int32} {l0 l1 l2 l4 l5 l6 : Option Value} {h : AH} : R_X7_townLine d 157 [l0, l1, l2, some (.int (x3)), l4, l5, l6] [.int (s2), .int (s1), .ref b0] h = (hsi h 0 b0 s1 (s2 ||| ((nI 1) <<< (x3 &&& 31)))).bind fun h1 => R_X7_townLine d 162 [l0, l1, l2, some (.int (x3)), l4, l5, l6] [] h1 := by
  refine (p_const rfl).trans ?_
  refine (p_iload rfl rfl).trans ?_
  refine (p_bin rfl).trans ?_
  refine (p_bin rfl).trans ?_
  exact s_iast (t := 0) (nar := (fun y => y)) rfl
theorem r_X7_townLine_71 {d : Nat} {a0 : Nat} {l1 l2 l3 l4 l5 l6 : Option Value} {h : AH} : R_X7_townLine d 71 [some (.ref a0), l1, l2, l3, l4, l5, l6] [] h = (hgf h [18] a0 1).bind fun v => R_X7_townLine d 75 [some (.ref a0), l1, l2, l3, l4, l5, l6] [v] h := by
  refine (p_aload rfl rfl).trans ?_
  exact s_getf rfl
theorem r_X7_townLine_340 {d : Nat} {s0 : Int32} {l0 l1 l2 l3 l4 l5 l6 : Option Value} {h : AH} : R_X7_townLine d 340 [l0, l1, l2, l3, l4, l5, l6] [.int (s0)] h = if s0 = 0 then R_X7_townLine d 397 [l0, l1, l2, l3, l4, l5, l6] [] h else R_X7_townLine d 343 [l0, l1, l2, l3, l4, l5, l6] [] h := (s_if (g := (fun x => decide (x = 0))) (t := 397) (nx := 343) rfl).trans bif_dec
theorem r_X7_townLine_239 {d : Nat} {b0 b1 : Nat} {l0 l1 l2 l3 l4 l5 l6 : Option Value} {h : AH} : R_X7_townLine d 239 [l0, l1, l2, l3, l4, l5, l6] [.ref b1, .ref b0] h = ((hci h b0).bind (lkN [(18, 171)])).bind fun y => aK (exec tTab d y [.ref b0, .ref b1] h) (fun v h1 => R_X7_townLine d 242 [l0, l1, l2, l3, l4, l5, l6] (v.toList ++ []) h1) (fun E h1 => some (.inr E, h1)) := s_callV (L := [(18, 171)]) (n := 1) (b := b0) (rest := []) rfl rfl rfl
theorem r_X7_townLine_239N {d : Nat} {b0 : Nat} {l0 l1 l2 l3 l4 l5 l6 : Option Value} {h : AH} : R_X7_townLine d 239 [l0, l1, l2, l3, l4, l5, l6] [.null, .ref b0] h = ((hci h b0).bind (lkN [(18, 171)])).bind fun y => aK (exec tTab d y [.ref b0, .null] h) (fun v h1 => R_X7_townLine d 242 [l0, l1, l2, l3, l4, l5, l6] (v.toList ++ []) h1) (fun E h1 => some (.inr E, h1)) := s_callV (L := [(18, 171)]) (n := 1) (b := b0) (rest := []) rfl rfl rfl
theorem r_X7_townLine_162 {d : Nat} {a0 : Nat} {l1 l2 l3 l4 l5 l6 : Option Value} {h : AH} : R_X7_townLine d 162 [some (.ref a0), l1, l2, l3, l4, l5, l6] [] h = (hgf h [18] a0 1).bind fun v => R_X7_townLine d 166 [some (.ref a0), l1, l2, l3, l4, l5, l6] [v] h := by
  refine (p_aload rfl rfl).trans ?_
  exact s_getf rfl
theorem r_X7_townLine_75 {d : Nat} {b0 : Nat} {x3 : Int32} {l0 l1 l2 l4 l5 l6 : Option Value} {h : AH} : R_X7_townLine d 75 [l0, l1, l2, some (.int (x3)), l4, l5, l6] [.ref b0] h = (hsi h 0 b0 (x3 + (nI 1)) (-1)).bind fun h1 => R_X7_townLine d 80 [l0, l1, l2, some (.int (x3)), l4, l5, l6] [] h1 := by
  refine (p_iload rfl rfl).trans ?_
  refine (p_const rfl).trans ?_
  refine (p_bin rfl).trans ?_
  refine (p_const rfl).trans ?_
  exact s_iast (t := 0) (nar := (fun y => y)) rfl
theorem r_X7_townLine_397 {d : Nat} {a0 : Nat} {l1 l2 l3 l4 l5 l6 : Option Value} {h : AH} : R_X7_townLine d 397 [some (.ref a0), l1, l2, l3, l4, l5, l6] [] h = R_X7_townLine d 400 [some (.ref a0), l1, l2, l3, l4, l5, l6] [h.2.2.2 44, .ref a0] h := by
  refine (p_aload rfl rfl).trans ?_
  exact p_stat rfl
theorem r_X7_townLine_343 {d : Nat} {a0 : Nat} {l1 l2 l3 l4 l5 l6 : Option Value} {h : AH} : R_X7_townLine d 343 [some (.ref a0), l1, l2, l3, l4, l5, l6] [] h = (hgf h [18] a0 1).bind fun v => R_X7_townLine d 349 [some (.ref a0), l1, l2, l3, l4, l5, l6] [v, .int ((nI 0)), .ref a0] h := by
  refine (p_aload rfl rfl).trans ?_
  refine (p_const rfl).trans ?_
  refine (p_aload rfl rfl).trans ?_
  exact s_getf rfl
theorem r_X7_townLine_242 {d : Nat} {a0 : Nat} {x2 : Int32} {l1 l3 l4 l5 l6 : Option Value} {h : AH} : R_X7_townLine d 242 [some (.ref a0), l1, some (.int (x2)), l3, l4, l5, l6] [] h = ((hci h a0).bind (lkN [(18, 170)])).bind fun y => aK (exec tTab d y [.ref a0, .int (x2)] h) (fun v h1 => R_X7_townLine d 247 [some (.ref a0), l1, some (.int (x2)), l3, l4, l5, l6] (v.toList ++ []) h1) (fun E h1 => some (.inr E, h1)) := by
  refine (p_aload rfl rfl).trans ?_
  refine (p_iload rfl rfl).trans ?_
  exact s_callV (L := [(18, 170)]) (n := 1) (b := a0) (rest := []) rfl rfl rfl
theorem r_X7_townLine_166 {d : Nat} {b0 a0 : Nat} {x3 : Int32} {l1 l2 l4 l5 l6 : Option Value} {h : AH} : R_X7_townLine d 166 [some (.ref a0), l1, l2, some (.int (x3)), l4, l5, l6] [.ref b0] h = (hgf h [18] a0 1).bind fun v => R_X7_townLine d 178 [some (.ref a0), l1, l2, some (.int (x3)), l4, l5, l6] [v, .int (((nI 10) + ((nI 3) * x3)) + (nI 2)), .ref b0] h := by
  refine (p_const rfl).trans ?_
  refine (p_const rfl).trans ?_
  refine (p_iload rfl rfl).trans ?_
  refine (p_bin rfl).trans ?_
  refine (p_bin rfl).trans ?_
  refine (p_const rfl).trans ?_
  refine (p_bin rfl).trans ?_
  refine (p_aload rfl rfl).trans ?_
  exact s_getf rfl
theorem r_X7_townLine_166N {d : Nat} {x3 : Int32} {a0 : Nat} {l1 l2 l4 l5 l6 : Option Value} {h : AH} : R_X7_townLine d 166 [some (.ref a0), l1, l2, some (.int (x3)), l4, l5, l6] [.null] h = (hgf h [18] a0 1).bind fun v => R_X7_townLine d 178 [some (.ref a0), l1, l2, some (.int (x3)), l4, l5, l6] [v, .int (((nI 10) + ((nI 3) * x3)) + (nI 2)), .null] h := by
  refine (p_const rfl).trans ?_
  refine (p_const rfl).trans ?_
  refine (p_iload rfl rfl).trans ?_
  refine (p_bin rfl).trans ?_
  refine (p_bin rfl).trans ?_
  refine (p_const rfl).trans ?_
  refine (p_bin rfl).trans ?_
  refine (p_aload rfl rfl).trans ?_
  exact s_getf rfl
theorem r_X7_townLine_80 {d : Nat} {a0 : Nat} {l1 l2 l3 l4 l5 l6 : Option Value} {h : AH} : R_X7_townLine d 80 [some (.ref a0), l1, l2, l3, l4, l5, l6] [] h = (hgf h [18] a0 1).bind fun v => R_X7_townLine d 84 [some (.ref a0), l1, l2, l3, l4, l5, l6] [v] h := by
  refine (p_aload rfl rfl).trans ?_
  exact s_getf rfl
theorem r_X7_townLine_400 {d : Nat} {b0 b1 : Nat} {l0 l1 l2 l3 l4 l5 l6 : Option Value} {h : AH} : R_X7_townLine d 400 [l0, l1, l2, l3, l4, l5, l6] [.ref b1, .ref b0] h = ((hci h b0).bind (lkN [(18, 160)])).bind fun y => aK (exec tTab d y [.ref b0, .ref b1] h) (fun v h1 => R_X7_townLine d 403 [l0, l1, l2, l3, l4, l5, l6] (v.toList ++ []) h1) (fun E h1 => some (.inr E, h1)) := s_callV (L := [(18, 160)]) (n := 1) (b := b0) (rest := []) rfl rfl rfl
theorem r_X7_townLine_400N {d : Nat} {b0 : Nat} {l0 l1 l2 l3 l4 l5 l6 : Option Value} {h : AH} : R_X7_townLine d 400 [l0, l1, l2, l3, l4, l5, l6] [.null, .ref b0] h = ((hci h b0).bind (lkN [(18, 160)])).bind fun y => aK (exec tTab d y [.ref b0, .null] h) (fun v h1 => R_X7_townLine d 403 [l0, l1, l2, l3, l4, l5, l6] (v.toList ++ []) h1) (fun E h1 => some (.inr E, h1)) := s_callV (L := [(18, 160)]) (n := 1) (b := b0) (rest := []) rfl rfl rfl
theorem r_X7_townLine_349 {d : Nat} {b0 b2 : Nat} {s1 : Int32} {l0 l1 l2 l3 l4 l5 l6 : Option Value} {h : AH} : R_X7_townLine d 349 [l0, l1, l2, l3, l4, l5, l6] [.ref b2, .int (s1), .ref b0] h = (hai h 0 b2 (nI 3)).bind fun v => R_X7_townLine d 351 [l0, l1, l2, l3, l4, l5, l6] [.int v, .int (s1), .ref b0] h := by
  refine (p_const rfl).trans ?_
  exact s_iald rfl
theorem r_X7_townLine_247 {d : Nat} {s0 : Int32} {a0 : Nat} {l1 l2 l3 l4 l5 l6 : Option Value} {h : AH} : R_X7_townLine d 247 [some (.ref a0), l1, l2, l3, l4, l5, l6] [.int (s0)] h = ((hci h a0).bind (lkN [(18, 168)])).bind fun y => aK (exec tTab d y [.ref a0, .int ((nI 1)), .int ((nI 99))] h) (fun v h1 => R_X7_townLine d 255 [some (.ref a0), l1, l2, some (.int (s0)), l4, l5, l6] (v.toList ++ []) h1) (fun E h1 => some (.inr E, h1)) := by
  refine (p_istore rfl rfl rfl).trans ?_
  refine (p_aload rfl rfl).trans ?_
  refine (p_const rfl).trans ?_
  refine (p_const rfl).trans ?_
  exact s_callV (L := [(18, 168)]) (n := 2) (b := a0) (rest := []) rfl rfl rfl
theorem r_X7_townLine_178 {d : Nat} {b0 b2 : Nat} {s1 x3 : Int32} {l0 l1 l2 l4 l5 l6 : Option Value} {h : AH} : R_X7_townLine d 178 [l0, l1, l2, some (.int (x3)), l4, l5, l6] [.ref b2, .int (s1), .ref b0] h = (hai h 0 b2 (((nI 10) + ((nI 3) * x3)) + (nI 2))).bind fun v => R_X7_townLine d 187 [l0, l1, l2, some (.int (x3)), l4, l5, l6] [.int v, .int (s1), .ref b0] h := by
  refine (p_const rfl).trans ?_
  refine (p_const rfl).trans ?_
  refine (p_iload rfl rfl).trans ?_
  refine (p_bin rfl).trans ?_
  refine (p_bin rfl).trans ?_
  refine (p_const rfl).trans ?_
  refine (p_bin rfl).trans ?_
  exact s_iald rfl
theorem r_X7_townLine_84 {d : Nat} {b0 : Nat} {x3 : Int32} {l0 l1 l2 l4 l5 l6 : Option Value} {h : AH} : R_X7_townLine d 84 [l0, l1, l2, some (.int (x3)), l4, l5, l6] [.ref b0] h = (hsi h 0 b0 (x3 + (nI 2)) (nI 0)).bind fun h1 => R_X7_townLine d 89 [l0, l1, l2, some (.int (x3)), l4, l5, l6] [] h1 := by
  refine (p_iload rfl rfl).trans ?_
  refine (p_const rfl).trans ?_
  refine (p_bin rfl).trans ?_
  refine (p_const rfl).trans ?_
  exact s_iast (t := 0) (nar := (fun y => y)) rfl
theorem r_X7_townLine_403 {d : Nat} {s0 : Int32} {l0 l1 l2 l3 l4 l5 l6 : Option Value} {h : AH} : R_X7_townLine d 403 [l0, l1, l2, l3, l4, l5, l6] [.int (s0)] h = if s0 = 0 then R_X7_townLine d 438 [l0, l1, l2, l3, l4, l5, l6] [] h else R_X7_townLine d 406 [l0, l1, l2, l3, l4, l5, l6] [] h := (s_if (g := (fun x => decide (x = 0))) (t := 438) (nx := 406) rfl).trans bif_dec
theorem r_X7_townLine_351 {d : Nat} {b0 : Nat} {s1 s2 : Int32} {l0 l1 l2 l3 l4 l5 l6 : Option Value} {h : AH} : R_X7_townLine d 351 [l0, l1, l2, l3, l4, l5, l6] [.int (s2), .int (s1), .ref b0] h = ((hci h b0).bind (lkN [(18, 168)])).bind fun y => aK (exec tTab d y [.ref b0, .int (s1), .int (s2 - (nI 1))] h) (fun v h1 => R_X7_townLine d 356 [l0, l1, l2, l3, l4, l5, l6] (v.toList ++ []) h1) (fun E h1 => some (.inr E, h1)) := by
  refine (p_const rfl).trans ?_
  refine (p_bin rfl).trans ?_
  exact s_callV (L := [(18, 168)]) (n := 2) (b := b0) (rest := []) rfl rfl rfl
theorem r_X7_townLine_255 {d : Nat} {s0 : Int32} {a0 : Nat} {l1 l2 l3 l4 l5 l6 : Option Value} {h : AH} : R_X7_townLine d 255 [some (.ref a0), l1, l2, l3, l4, l5, l6] [.int (s0)] h = (hgf h [18] a0 10).bind fun v => R_X7_townLine d 264 [some (.ref a0), l1, l2, l3, some (.int (s0)), some (.int ((nI 0))), l6] [v] h := by
  refine (p_istore rfl rfl rfl).trans ?_
  refine (p_const rfl).trans ?_
  refine (p_istore rfl rfl rfl).trans ?_
  refine (p_aload rfl rfl).trans ?_
  exact s_getf rfl
theorem r_X7_townLine_187 {d : Nat} {b0 : Nat} {s1 s2 x2 : Int32} {l0 l1 l3 l4 l5 l6 : Option Value} {h : AH} : R_X7_townLine d 187 [l0, l1, some (.int (x2)), l3, l4, l5, l6] [.int (s2), .int (s1), .ref b0] h = (hsi h 0 b0 s1 (s2 ||| ((nI 1) <<< (x2 &&& 31)))).bind fun h1 => R_X7_townLine d 192 [l0, l1, some (.int (x2)), l3, l4, l5, l6] [] h1 := by
  refine (p_const rfl).trans ?_
  refine (p_iload rfl rfl).trans ?_
  refine (p_bin rfl).trans ?_
  refine (p_bin rfl).trans ?_
  exact s_iast (t := 0) (nar := (fun y => y)) rfl
theorem r_X7_townLine_89 {d : Nat} {a0 : Nat} {l1 l2 l3 l4 l5 l6 : Option Value} {h : AH} : R_X7_townLine d 89 [some (.ref a0), l1, l2, l3, l4, l5, l6] [] h = (hgf h [18] a0 1).bind fun v => R_X7_townLine d 93 [some (.ref a0), l1, l2, l3, l4, l5, l6] [v] h := by
  refine (p_aload rfl rfl).trans ?_
  exact s_getf rfl
theorem r_X7_townLine_438 {d : Nat} {a0 : Nat} {l1 l2 l3 l4 l5 l6 : Option Value} {h : AH} : R_X7_townLine d 438 [some (.ref a0), l1, l2, l3, l4, l5, l6] [] h = R_X7_townLine d 441 [some (.ref a0), l1, l2, l3, l4, l5, l6] [h.2.2.2 45, .ref a0] h := by
  refine (p_aload rfl rfl).trans ?_
  exact p_stat rfl
theorem r_X7_townLine_406 {d : Nat} {a0 : Nat} {l1 l2 l3 l4 l5 l6 : Option Value} {h : AH} : R_X7_townLine d 406 [some (.ref a0), l1, l2, l3, l4, l5, l6] [] h = (hgf h [18] a0 1).bind fun v => R_X7_townLine d 412 [some (.ref a0), l1, l2, l3, l4, l5, l6] [v, .int ((nI 0)), .ref a0] h := by
  refine (p_aload rfl rfl).trans ?_
  refine (p_const rfl).trans ?_
  refine (p_aload rfl rfl).trans ?_
  exact s_getf rfl
theorem r_X7_townLine_356 {d : Nat} {s0 : Int32} {a0 : Nat} {l1 l2 l3 l4 l5 l6 : Option Value} {h : AH} : R_X7_townLine d 356 [some (.ref a0), l1, l2, l3, l4, l5, l6] [.int (s0)] h = R_X7_townLine d 360 [some (.ref a0), l1, some (.int (s0)), l3, l4, l5, l6] [h.2.2.2 40, .ref a0] h := by
  refine (p_istore rfl rfl rfl).trans ?_
  refine (p_aload rfl rfl).trans ?_
  exact p_stat rfl
theorem r_X7_townLine_264 {d : Nat} {s0 : Int32} {l0 l1 l2 l3 l4 l5 l6 : Option Value} {h : AH} : R_X7_townLine d 264 [l0, l1, l2, l3, l4, l5, l6] [.int (s0)] h = if ¬ s0 = (-1) then R_X7_townLine d 286 [l0, l1, l2, l3, l4, l5, l6] [] h else R_X7_townLine d 268 [l0, l1, l2, l3, l4, l5, l6] [] h := by
  refine (p_const rfl).trans ?_
  exact (s_icmp (g := (fun x y => decide (¬ x = y))) (t := 286) (nx := 268) rfl).trans bif_dec
theorem r_X7_townLine_192 {d : Nat} {l0 l1 l2 l3 l4 l5 l6 : Option Value} {h : AH} : R_X7_townLine d 192 [l0, l1, l2, l3, l4, l5, l6] [] h = some (.inl none, h) := by
  refine (p_goto rfl).trans ?_
  exact s_vret rfl
theorem r_X7_townLine_93 {d : Nat} {b0 : Nat} {l0 l1 l2 l3 l4 l5 l6 : Option Value} {h : AH} : R_X7_townLine d 93 [l0, l1, l2, l3, l4, l5, l6] [.ref b0] h = (hai h 0 b0 (nI 1)).bind fun v => R_X7_townLine d 96 [l0, l1, l2, l3, l4, l5, l6] [.int v, .int ((nI 1)), .ref b0] h := by
  refine (p_const rfl).trans ?_
  refine (p_dup2 rfl rfl).trans ?_
  exact s_iald rfl
theorem r_X7_townLine_441 {d : Nat} {b0 b1 : Nat} {l0 l1 l2 l3 l4 l5 l6 : Option Value} {h : AH} : R_X7_townLine d 441 [l0, l1, l2, l3, l4, l5, l6] [.ref b1, .ref b0] h = ((hci h b0).bind (lkN [(18, 160)])).bind fun y => aK (exec tTab d y [.ref b0, .ref b1] h) (fun v h1 => R_X7_townLine d 444 [l0, l1, l2, l3, l4, l5, l6] (v.toList ++ []) h1) (fun E h1 => some (.inr E, h1)) := s_callV (L := [(18, 160)]) (n := 1) (b := b0) (rest := []) rfl rfl rfl
theorem r_X7_townLine_441N {d : Nat} {b0 : Nat} {l0 l1 l2 l3 l4 l5 l6 : Option Value} {h : AH} : R_X7_townLine d 441 [l0, l1, l2, l3, l4, l5, l6] [.null, .ref b0] h = ((hci h b0).bind (lkN [(18, 160)])).bind fun y => aK (exec tTab d y [.ref b0, .null] h) (fun v h1 => R_X7_townLine d 444 [l0, l1, l2, l3, l4, l5, l6] (v.toList ++ []) h1) (fun E h1 => some (.inr E, h1)) := s_callV (L := [(18, 160)]) (n := 1) (b := b0) (rest := []) rfl rfl rfl
theorem r_X7_townLine_412 {d : Nat} {b0 b2 : Nat} {s1 : Int32} {l0 l1 l2 l3 l4 l5 l6 : Option Value} {h : AH} : R_X7_townLine d 412 [l0, l1, l2, l3, l4, l5, l6] [.ref b2, .int (s1), .ref b0] h = (hai h 0 b2 (nI 3)).bind fun v => R_X7_townLine d 414 [l0, l1, l2, l3, l4, l5, l6] [.int v, .int (s1), .ref b0] h := by
  refine (p_const rfl).trans ?_
  exact s_iald rfl
theorem r_X7_townLine_360 {d : Nat} {b0 b1 : Nat} {l0 l1 l2 l3 l4 l5 l6 : Option Value} {h : AH} : R_X7_townLine d 360 [l0, l1, l2, l3, l4, l5, l6] [.ref b1, .ref b0] h = ((hci h b0).bind (lkN [(18, 171)])).bind fun y => aK (exec tTab d y [.ref b0, .ref b1] h) (fun v h1 => R_X7_townLine d 363 [l0, l1, l2, l3, l4, l5, l6] (v.toList ++ []) h1) (fun E h1 => some (.inr E, h1)) := s_callV (L := [(18, 171)]) (n := 1) (b := b0) (rest := []) rfl rfl rfl
theorem r_X7_townLine_360N {d : Nat} {b0 : Nat} {l0 l1 l2 l3 l4 l5 l6 : Option Value} {h : AH} : R_X7_townLine d 360 [l0, l1, l2, l3, l4, l5, l6] [.null, .ref b0] h = ((hci h b0).bind (lkN [(18, 171)])).bind fun y => aK (exec tTab d y [.ref b0, .null] h) (fun v h1 => R_X7_townLine d 363 [l0, l1, l2, l3, l4, l5, l6] (v.toList ++ []) h1) (fun E h1 => some (.inr E, h1)) := s_callV (L := [(18, 171)]) (n := 1) (b := b0) (rest := []) rfl rfl rfl
theorem r_X7_townLine_286 {d : Nat} {a0 : Nat} {l1 l2 l3 l4 l5 l6 : Option Value} {h : AH} : R_X7_townLine d 286 [some (.ref a0), l1, l2, l3, l4, l5, l6] [] h = (hgf h [18] a0 10).bind fun v => R_X7_townLine d 290 [some (.ref a0), l1, l2, l3, l4, l5, l6] [v] h := by
  refine (p_aload rfl rfl).trans ?_
  exact s_getf rfl
theorem r_X7_townLine_268 {d : Nat} {a0 : Nat} {l1 l2 l3 l4 l5 l6 : Option Value} {h : AH} : R_X7_townLine d 268 [some (.ref a0), l1, l2, l3, l4, l5, l6] [] h = R_X7_townLine d 271 [some (.ref a0), l1, l2, l3, l4, l5, l6] [h.2.2.2 41, .ref a0] h := by
  refine (p_aload rfl rfl).trans ?_
  exact p_stat rfl
theorem r_X7_townLine_96 {d : Nat} {b0 : Nat} {s1 s2 : Int32} {l0 l1 l2 l3 l4 l5 l6 : Option Value} {h : AH} : R_X7_townLine d 96 [l0, l1, l2, l3, l4, l5, l6] [.int (s2), .int (s1), .ref b0] h = (hsi h 0 b0 s1 (s2 + (nI 1))).bind fun h1 => R_X7_townLine d 99 [l0, l1, l2, l3, l4, l5, l6] [] h1 := by
  refine (p_const rfl).trans ?_
  refine (p_bin rfl).trans ?_
  exact s_iast (t := 0) (nar := (fun y => y)) rfl
theorem r_X7_townLine_444 {d : Nat} {s0 : Int32} {l0 l1 l2 l3 l4 l5 l6 : Option Value} {h : AH} : R_X7_townLine d 444 [l0, l1, l2, l3, l4, l5, l6] [.int (s0)] h = if s0 = 0 then R_X7_townLine d 472 [l0, l1, l2, l3, l4, l5, l6] [] h else R_X7_townLine d 447 [l0, l1, l2, l3, l4, l5, l6] [] h := (s_if (g := (fun x => decide (x = 0))) (t := 472) (nx := 447) rfl).trans bif_dec
theorem r_X7_townLine_414 {d : Nat} {b0 : Nat} {s1 s2 : Int32} {l0 l1 l2 l3 l4 l5 l6 : Option Value} {h : AH} : R_X7_townLine d 414 [l0, l1, l2, l3, l4, l5, l6] [.int (s2), .int (s1), .ref b0] h = ((hci h b0).bind (lkN [(18, 168)])).bind fun y => aK (exec tTab d y [.ref b0, .int (s1), .int (s2 - (nI 1))] h) (fun v h1 => R_X7_townLine d 419 [l0, l1, l2, l3, l4, l5, l6] (v.toList ++ []) h1) (fun E h1 => some (.inr E, h1)) := by
  refine (p_const rfl).trans ?_
  refine (p_bin rfl).trans ?_
  exact s_callV (L := [(18, 168)]) (n := 2) (b := b0) (rest := []) rfl rfl rfl
theorem r_X7_townLine_363 {d : Nat} {a0 : Nat} {l1 l2 l3 l4 l5 l6 : Option Value} {h : AH} : R_X7_townLine d 363 [some (.ref a0), l1, l2, l3, l4, l5, l6] [] h = ((hci h a0).bind (lkN [(18, 170)])).bind fun y => aK (exec tTab d y [.ref a0, .int ((-1))] h) (fun v h1 => R_X7_townLine d 368 [some (.ref a0), l1, l2, l3, l4, l5, l6] (v.toList ++ []) h1) (fun E h1 => some (.inr E, h1)) := by
  refine (p_aload rfl rfl).trans ?_
  refine (p_const rfl).trans ?_
  exact s_callV (L := [(18, 170)]) (n := 1) (b := a0) (rest := []) rfl rfl rfl
theorem r_X7_townLine_290 {d : Nat} {s0 : Int32} {l0 l1 l2 l3 l4 l5 l6 : Option Value} {h : AH} : R_X7_townLine d 290 [l0, l1, l2, l3, l4, l5, l6] [.int (s0)] h = if ¬ s0 = (-1) then R_X7_townLine d 307 [l0, l1, l2, l3, l4, l5, l6] [] h else R_X7_townLine d 294 [l0, l1, l2, l3, l4, l5, l6] [] h := by
  refine (p_const rfl).trans ?_
  exact (s_icmp (g := (fun x y => decide (¬ x = y))) (t := 307) (nx := 294) rfl).trans bif_dec
theorem r_X7_townLine_271 {d : Nat} {b0 b1 : Nat} {l0 l1 l2 l3 l4 l5 l6 : Option Value} {h : AH} : R_X7_townLine d 271 [l0, l1, l2, l3, l4, l5, l6] [.ref b1, .ref b0] h = ((hci h b0).bind (lkN [(18, 160)])).bind fun y => aK (exec tTab d y [.ref b0, .ref b1] h) (fun v h1 => R_X7_townLine d 274 [l0, l1, l2, l3, l4, l5, l6] (v.toList ++ []) h1) (fun E h1 => some (.inr E, h1)) := s_callV (L := [(18, 160)]) (n := 1) (b := b0) (rest := []) rfl rfl rfl
theorem r_X7_townLine_271N {d : Nat} {b0 : Nat} {l0 l1 l2 l3 l4 l5 l6 : Option Value} {h : AH} : R_X7_townLine d 271 [l0, l1, l2, l3, l4, l5, l6] [.null, .ref b0] h = ((hci h b0).bind (lkN [(18, 160)])).bind fun y => aK (exec tTab d y [.ref b0, .null] h) (fun v h1 => R_X7_townLine d 274 [l0, l1, l2, l3, l4, l5, l6] (v.toList ++ []) h1) (fun E h1 => some (.inr E, h1)) := s_callV (L := [(18, 160)]) (n := 1) (b := b0) (rest := []) rfl rfl rfl
theorem r_X7_townLine_99 {d : Nat} {l0 l1 l2 l3 l4 l5 l6 : Option Value} {h : AH} : R_X7_townLine d 99 [l0, l1, l2, l3, l4, l5, l6] [] h = some (.inl none, h) := by
  refine (p_goto rfl).trans ?_
  exact s_vret rfl
theorem r_X7_townLine_472 {d : Nat} {a0 : Nat} {l1 l2 l3 l4 l5 l6 : Option Value} {h : AH} : R_X7_townLine d 472 [some (.ref a0), l1, l2, l3, l4, l5, l6] [] h = R_X7_townLine d 475 [some (.ref a0), l1, l2, l3, l4, l5, l6] [h.2.2.2 46, .ref a0] h := by
  refine (p_aload rfl rfl).trans ?_
  exact p_stat rfl
theorem r_X7_townLine_447 {d : Nat} {a0 : Nat} {l1 l2 l3 l4 l5 l6 : Option Value} {h : AH} : R_X7_townLine d 447 [some (.ref a0), l1, l2, l3, l4, l5, l6] [] h = ((hci h a0).bind (lkN [(18, 168)])).bind fun y => aK (exec tTab d y [.ref a0, .int ((nI 1)), .int ((nI 99))] h) (fun v h1 => R_X7_townLine d 454 [some (.ref a0), l1, l2, l3, l4, l5, l6] (v.toList ++ []) h1) (fun E h1 => some (.inr E, h1)) := by
  refine (p_aload rfl rfl).trans ?_
  refine (p_const rfl).trans ?_
  refine (p_const rfl).trans ?_
  exact s_callV (L := [(18, 168)]) (n := 2) (b := a0) (rest := []) rfl rfl rfl
theorem r_X7_townLine_419 {d : Nat} {s0 : Int32} {a0 : Nat} {l1 l2 l3 l4 l5 l6 : Option Value} {h : AH} : R_X7_townLine d 419 [some (.ref a0), l1, l2, l3, l4, l5, l6] [.int (s0)] h = (hgf h [18] a0 10).bind fun v => R_X7_townLine d 424 [some (.ref a0), l1, some (.int (s0)), l3, l4, l5, l6] [v] h := by
  refine (p_istore rfl rfl rfl).trans ?_
  refine (p_aload rfl rfl).trans ?_
  exact s_getf rfl
theorem r_X7_townLine_368 {d : Nat} {s0 : Int32} {a0 : Nat} {l1 l2 l3 l4 l5 l6 : Option Value} {h : AH} : R_X7_townLine d 368 [some (.ref a0), l1, l2, l3, l4, l5, l6] [.int (s0)] h = (hgf h [18] a0 10).bind fun v => R_X7_townLine d 373 [some (.ref a0), l1, l2, some (.int (s0)), l4, l5, l6] [v] h := by
  refine (p_istore rfl rfl rfl).trans ?_
  refine (p_aload rfl rfl).trans ?_
  exact s_getf rfl
theorem r_X7_townLine_307 {d : Nat} {a0 : Nat} {l1 l2 l3 l4 l5 l6 : Option Value} {h : AH} : R_X7_townLine d 307 [some (.ref a0), l1, l2, l3, l4, l5, l6] [] h = (hgf h [18] a0 10).bind fun v => R_X7_townLine d 314 [some (.ref a0), l1, l2, l3, l4, l5, some (.int ((nI 0)))] [v] h := by
  refine (p_const rfl).trans ?_
  refine (p_istore rfl rfl rfl).trans ?_
  refine (p_aload rfl rfl).trans ?_
  exact s_getf rfl
theorem r_X7_townLine_294 {d : Nat} {a0 : Nat} {l1 l2 l3 l4 l5 l6 : Option Value} {h : AH} : R_X7_townLine d 294 [some (.ref a0), l1, l2, l3, l4, l5, l6] [] h = R_X7_townLine d 297 [some (.ref a0), l1, l2, l3, l4, l5, l6] [h.2.2.2 42, .ref a0] h := by
  refine (p_aload rfl rfl).trans ?_
  exact p_stat rfl
theorem r_X7_townLine_274 {d : Nat} {s0 : Int32} {l0 l1 l2 l3 l4 l5 l6 : Option Value} {h : AH} : R_X7_townLine d 274 [l0, l1, l2, l3, l4, l5, l6] [.int (s0)] h = if s0 = 0 then R_X7_townLine d 286 [l0, l1, l2, l3, l4, l5, l6] [] h else R_X7_townLine d 277 [l0, l1, l2, l3, l4, l5, l6] [] h := (s_if (g := (fun x => decide (x = 0))) (t := 286) (nx := 277) rfl).trans bif_dec
theorem r_X7_townLine_475 {d : Nat} {b0 b1 : Nat} {l0 l1 l2 l3 l4 l5 l6 : Option Value} {h : AH} : R_X7_townLine d 475 [l0, l1, l2, l3, l4, l5, l6] [.ref b1, .ref b0] h = ((hci h b0).bind (lkN [(18, 160)])).bind fun y => aK (exec tTab d y [.ref b0, .ref b1] h) (fun v h1 => R_X7_townLine d 478 [l0, l1, l2, l3, l4, l5, l6] (v.toList ++ []) h1) (fun E h1 => some (.inr E, h1)) := s_callV (L := [(18, 160)]) (n := 1) (b := b0) (rest := []) rfl rfl rfl
theorem r_X7_townLine_475N {d : Nat} {b0 : Nat} {l0 l1 l2 l3 l4 l5 l6 : Option Value} {h : AH} : R_X7_townLine d 475 [l0, l1, l2, l3, l4, l5, l6] [.null, .ref b0] h = ((hci h b0).bind (lkN [(18, 160)])).bind fun y => aK (exec tTab d y [.ref b0, .null] h) (fun v h1 => R_X7_townLine d 478 [l0, l1, l2, l3, l4, l5, l6] (v.toList ++ []) h1) (fun E h1 => some (.inr E, h1)) := s_callV (L := [(18, 160)]) (n := 1) (b := b0) (rest := []) rfl rfl rfl
theorem r_X7_townLine_454 {d : Nat} {s0 : Int32} {a0 : Nat} {l1 l2 l3 l4 l5 l6 : Option Value} {h : AH} : R_X7_townLine d 454 [some (.ref a0), l1, l2, l3, l4, l5, l6] [.int (s0)] h = (hgf h [18] a0 10).bind fun v => R_X7_townLine d 459 [some (.ref a0), l1, some (.int (s0)), l3, l4, l5, l6] [v] h := by
  refine (p_istore rfl rfl rfl).trans ?_
  refine (p_aload rfl rfl).trans ?_
  exact s_getf rfl
theorem r_X7_townLine_424 {d : Nat} {s0 : Int32} {l0 l1 l2 l3 l4 l5 l6 : Option Value} {h : AH} : R_X7_townLine d 424 [l0, l1, l2, l3, l4, l5, l6] [.int (s0)] h = if ¬ s0 = (-1) then R_X7_townLine d 435 [l0, l1, l2, l3, l4, l5, l6] [] h else R_X7_townLine d 428 [l0, l1, l2, l3, l4, l5, l6] [] h := by
  refine (p_const rfl).trans ?_
  exact (s_icmp (g := (fun x y => decide (¬ x = y))) (t := 435) (nx := 428) rfl).trans bif_dec
theorem r_X7_townLine_373 {d : Nat} {s0 : Int32} {l0 l1 l2 l3 l4 l5 l6 : Option Value} {h : AH} : R_X7_townLine d 373 [l0, l1, l2, l3, l4, l5, l6] [.int (s0)] h = if ¬ s0 = (-1) then R_X7_townLine d 394 [l0, l1, l2, l3, l4, l5, l6] [] h else R_X7_townLine d 377 [l0, l1, l2, l3, l4, l5, l6] [] h := by
  refine (p_const rfl).trans ?_
  exact (s_icmp (g := (fun x y => decide (¬ x = y))) (t := 394) (nx := 377) rfl).trans bif_dec
theorem r_X7_townLine_314 {d : Nat} {s0 : Int32} {l0 l1 l2 l3 l4 l5 l6 : Option Value} {h : AH} : R_X7_townLine d 314 [l0, l1, l2, l3, l4, l5, l6] [.int (s0)] h = if ¬ s0 = (-1) then R_X7_townLine d 331 [l0, l1, l2, l3, l4, l5, l6] [] h else R_X7_townLine d 318 [l0, l1, l2, l3, l4, l5, l6] [] h := by
  refine (p_const rfl).trans ?_
  exact (s_icmp (g := (fun x y => decide (¬ x = y))) (t := 331) (nx := 318) rfl).trans bif_dec
theorem r_X7_townLine_297 {d : Nat} {b0 b1 : Nat} {l0 l1 l2 l3 l4 l5 l6 : Option Value} {h : AH} : R_X7_townLine d 297 [l0, l1, l2, l3, l4, l5, l6] [.ref b1, .ref b0] h = ((hci h b0).bind (lkN [(18, 160)])).bind fun y => aK (exec tTab d y [.ref b0, .ref b1] h) (fun v h1 => R_X7_townLine d 300 [l0, l1, l2, l3, l4, l5, l6] (v.toList ++ []) h1) (fun E h1 => some (.inr E, h1)) := s_callV (L := [(18, 160)]) (n := 1) (b := b0) (rest := []) rfl rfl rfl
theorem r_X7_townLine_297N {d : Nat} {b0 : Nat} {l0 l1 l2 l3 l4 l5 l6 : Option Value} {h : AH} : R_X7_townLine d 297 [l0, l1, l2, l3, l4, l5, l6] [.null, .ref b0] h = ((hci h b0).bind (lkN [(18, 160)])).bind fun y => aK (exec tTab d y [.ref b0, .null] h) (fun v h1 => R_X7_townLine d 300 [l0, l1, l2, l3, l4, l5, l6] (v.toList ++ []) h1) (fun E h1 => some (.inr E, h1)) := s_callV (L := [(18, 160)]) (n := 1) (b := b0) (rest := []) rfl rfl rfl
theorem r_X7_townLine_277 {d : Nat} {a0 : Nat} {l1 l2 l3 l4 l5 l6 : Option Value} {h : AH} : R_X7_townLine d 277 [some (.ref a0), l1, l2, l3, l4, l5, l6] [] h = ((hci h a0).bind (lkN [(18, 168)])).bind fun y => aK (exec tTab d y [.ref a0, .int ((nI 1)), .int ((nI 99))] h) (fun v h1 => R_X7_townLine d 284 [some (.ref a0), l1, l2, l3, l4, l5, l6] (v.toList ++ []) h1) (fun E h1 => some (.inr E, h1)) := by
  refine (p_aload rfl rfl).trans ?_
  refine (p_const rfl).trans ?_
  refine (p_const rfl).trans ?_
  exact s_callV (L := [(18, 168)]) (n := 2) (b := a0) (rest := []) rfl rfl rfl
theorem r_X7_townLine_478 {d : Nat} {s0 : Int32} {l0 l1 l2 l3 l4 l5 l6 : Option Value} {h : AH} : R_X7_townLine d 478 [l0, l1, l2, l3, l4, l5, l6] [.int (s0)] h = if s0 = 0 then R_X7_townLine d 588 [l0, l1, l2, l3, l4, l5, l6] [] h else R_X7_townLine d 481 [l0, l1, l2, l3, l4, l5, l6] [] h := (s_if (g := (fun x => decide (x = 0))) (t := 588) (nx := 481) rfl).trans bif_dec
theorem r_X7_townLine_459 {d : Nat} {s0 : Int32} {l0 l1 l2 l3 l4 l5 l6 : Option Value} {h : AH} : R_X7_townLine d 459 [l0, l1, l2, l3, l4, l5, l6] [.int (s0)] h = if ¬ s0 = (-1) then R_X7_townLine d 469 [l0, l1, l2, l3, l4, l5, l6] [] h else R_X7_townLine d 463 [l0, l1, l2, l3, l4, l5, l6] [] h := by
  refine (p_const rfl).trans ?_
  exact (s_icmp (g := (fun x y => decide (¬ x = y))) (t := 469) (nx := 463) rfl).trans bif_dec
theorem r_X7_townLine_435 {d : Nat} {l0 l1 l2 l3 l4 l5 l6 : Option Value} {h : AH} : R_X7_townLine d 435 [l0, l1, l2, l3, l4, l5, l6] [] h = some (.inl none, h) := by
  refine (p_goto rfl).trans ?_
  exact s_vret rfl
theorem r_X7_townLine_428 {d : Nat} {a0 : Nat} {x2 : Int32} {l1 l3 l4 l5 l6 : Option Value} {h : AH} : R_X7_townLine d 428 [some (.ref a0), l1, some (.int (x2)), l3, l4, l5, l6] [] h = ((hci h a0).bind (lkN [(18, 180)])).bind fun y => aK (exec tTab d y [.ref a0, .int (x2), .int ((nI 2)), .int ((-1))] h) (fun v h1 => R_X7_townLine d 435 [some (.ref a0), l1, some (.int (x2)), l3, l4, l5, l6] (v.toList ++ []) h1) (fun E h1 => some (.inr E, h1)) := by
  refine (p_aload rfl rfl).trans ?_
  refine (p_iload rfl rfl).trans ?_
  refine (p_const rfl).trans ?_
  refine (p_const rfl).trans ?_
  exact s_callV (L := [(18, 180)]) (n := 3) (b := a0) (rest := []) rfl rfl rfl
theorem r_X7_townLine_394 {d : Nat} {l0 l1 l2 l3 l4 l5 l6 : Option Value} {h : AH} : R_X7_townLine d 394 [l0, l1, l2, l3, l4, l5, l6] [] h = some (.inl none, h) := by
  refine (p_goto rfl).trans ?_
  exact s_vret rfl
theorem r_X7_townLine_377 {d : Nat} {a0 : Nat} {x2 : Int32} {l1 l3 l4 l5 l6 : Option Value} {h : AH} : R_X7_townLine d 377 [some (.ref a0), l1, some (.int (x2)), l3, l4, l5, l6] [] h = ((hci h a0).bind (lkN [(18, 175)])).bind fun y => aK (exec tTab d y [.ref a0, .int (x2), .int ((nI 2))] h) (fun v h1 => R_X7_townLine d 383 [some (.ref a0), l1, some (.int (x2)), l3, l4, l5, l6] (v.toList ++ []) h1) (fun E h1 => some (.inr E, h1)) := by
  refine (p_aload rfl rfl).trans ?_
  refine (p_iload rfl rfl).trans ?_
  refine (p_const rfl).trans ?_
  exact s_callV (L := [(18, 175)]) (n := 2) (b := a0) (rest := []) rfl rfl rfl
theorem r_X7_townLine_331 {d : Nat} {l0 l1 l2 l3 l4 l5 l6 : Option Value} {h : AH} : R_X7_townLine d 331 [l0, l1, l2, l3, l4, l5, l6] [] h = some (.inl none, h) := by
  refine (p_goto rfl).trans ?_
  exact s_vret rfl
theorem r_X7_townLine_318 {d : Nat} {a0 : Nat} {x2 x3 x4 x5 x6 : Int32} {l1 : Option Value} {h : AH} : R_X7_townLine d 318 [some (.ref a0), l1, some (.int (x2)), some (.int (x3)), some (.int (x4)), some (.int (x5)), some (.int (x6))] [] h = ((hci h a0).bind (lkN [(18, 172)])).bind fun y => aK (exec tTab d y [.ref a0, .int (x2), .int (x3), .int (x4), .int (x5), .int (x6)] h) (fun v h1 => R_X7_townLine d 330 [some (.ref a0), l1, some (.int (x2)), some (.int (x3)), some (.int (x4)), some (.int (x5)), some (.int (x6))] (v.toList ++ []) h1) (fun E h1 => some (.inr E, h1)) := by
  refine (p_aload rfl rfl).trans ?_
  refine (p_iload rfl rfl).trans ?_
  refine (p_iload rfl rfl).trans ?_
  refine (p_iload rfl rfl).trans ?_
  refine (p_iload rfl rfl).trans ?_
  refine (p_iload rfl rfl).trans ?_
  exact s_callV (L := [(18, 172)]) (n := 5) (b := a0) (rest := []) rfl rfl rfl
theorem r_X7_townLine_300 {d : Nat} {s0 : Int32} {l0 l1 l2 l3 l4 l5 l6 : Option Value} {h : AH} : R_X7_townLine d 300 [l0, l1, l2, l3, l4, l5, l6] [.int (s0)] h = if s0 = 0 then R_X7_townLine d 307 [l0, l1, l2, l3, l4, l5, l6] [] h else R_X7_townLine d 303 [l0, l1, l2, l3, l4, l5, l6] [] h := (s_if (g := (fun x => decide (x = 0))) (t := 307) (nx := 303) rfl).trans bif_dec
theorem r_X7_townLine_284 {d : Nat} {s0 : Int32} {a0 : Nat} {l1 l2 l3 l4 l5 l6 : Option Value} {h : AH} : R_X7_townLine d 284 [some (.ref a0), l1, l2, l3, l4, l5, l6] [.int (s0)] h = (hgf h [18] a0 10).bind fun v => R_X7_townLine d 290 [some (.ref a0), l1, l2, l3, l4, some (.int (s0)), l6] [v] h := by
  refine (p_istore rfl rfl rfl).trans ?_
  refine (p_aload rfl rfl).trans ?_
  exact s_getf rfl
theorem r_X7_townLine_588 {d : Nat} {a0 : Nat} {l1 l2 l3 l4 l5 l6 : Option Value} {h : AH} : R_X7_townLine d 588 [some (.ref a0), l1, l2, l3, l4, l5, l6] [] h = (hgf h [18] a0 9).bind fun v => R_X7_townLine d 593 [some (.ref a0), l1, l2, l3, l4, l5, l6] [v, .ref a0] h := by
  refine (p_aload rfl rfl).trans ?_
  refine (p_aload rfl rfl).trans ?_
  exact s_getf rfl
theorem r_X7_townLine_481 {d : Nat} {a0 : Nat} {l1 l2 l3 l4 l5 l6 : Option Value} {h : AH} : R_X7_townLine d 481 [some (.ref a0), l1, l2, l3, l4, l5, l6] [] h = (hgf h [18] a0 1).bind fun v => R_X7_townLine d 485 [some (.ref a0), l1, l2, l3, l4, l5, l6] [v] h := by
  refine (p_aload rfl rfl).trans ?_
  exact s_getf rfl
theorem r_X7_townLine_469 {d : Nat} {l0 l1 l2 l3 l4 l5 l6 : Option Value} {h : AH} : R_X7_townLine d 469 [l0, l1, l2, l3, l4, l5, l6] [] h = some (.inl none, h) := by
  refine (p_goto rfl).trans ?_
  exact s_vret rfl
theorem r_X7_townLine_463 {d : Nat} {a0 : Nat} {x2 : Int32} {l1 l3 l4 l5 l6 : Option Value} {h : AH} : R_X7_townLine d 463 [some (.ref a0), l1, some (.int (x2)), l3, l4, l5, l6] [] h = ((hci h a0).bind (lkN [(18, 184)])).bind fun y => aK (exec tTab d y [.ref a0, .int (x2)] h) (fun v h1 => R_X7_townLine d 468 [some (.ref a0), l1, some (.int (x2)), l3, l4, l5, l6] (v.toList ++ []) h1) (fun E h1 => some (.inr E, h1)) := by
  refine (p_aload rfl rfl).trans ?_
  refine (p_iload rfl rfl).trans ?_
  exact s_callV (L := [(18, 184)]) (n := 1) (b := a0) (rest := []) rfl rfl rfl
theorem r_X7_townLine_383 {d : Nat} {s0 x3 : Int32} {l0 l1 l2 l4 l5 l6 : Option Value} {h : AH} : R_X7_townLine d 383 [l0, l1, l2, some (.int (x3)), l4, l5, l6] [.int (s0)] h = if s0 = x3 then R_X7_townLine d 394 [l0, l1, l2, some (.int (x3)), l4, l5, l6] [] h else R_X7_townLine d 387 [l0, l1, l2, some (.int (x3)), l4, l5, l6] [] h := by
  refine (p_iload rfl rfl).trans ?_
  exact (s_icmp (g := (fun x y => decide (x = y))) (t := 394) (nx := 387) rfl).trans bif_dec
theorem r_X7_townLine_330 {d : Nat} {s0 : Int32} {l0 l1 l2 l3 l4 l5 l6 : Option Value} {h : AH} : R_X7_townLine d 330 [l0, l1, l2, l3, l4, l5, l6] [.int (s0)] h = some (.inl none, h) := by
  refine (p_pop rfl rfl).trans ?_
  refine (p_goto rfl).trans ?_
  exact s_vret rfl
theorem r_X7_townLine_303 {d : Nat} {a0 : Nat} {l1 l2 l3 l4 l5 l6 : Option Value} {h : AH} : R_X7_townLine d 303 [some (.ref a0), l1, l2, l3, l4, l5, l6] [] h = (hgf h [18] a0 10).bind fun v => R_X7_townLine d 314 [some (.ref a0), l1, l2, l3, l4, l5, some (.int ((nI 1)))] [v] h := by
  refine (p_const rfl).trans ?_
  refine (p_goto rfl).trans ?_
  refine (p_istore rfl rfl rfl).trans ?_
  refine (p_aload rfl rfl).trans ?_
  exact s_getf rfl
theorem r_X7_townLine_593 {d : Nat} {b0 : Nat} {s1 : Int32} {l0 l1 l2 l3 l4 l5 l6 : Option Value} {h : AH} : R_X7_townLine d 593 [l0, l1, l2, l3, l4, l5, l6] [.int (s1), .ref b0] h = ((hci h b0).bind (lkN [(18, 158)])).bind fun y => aK (exec tTab d y [.ref b0, .int (s1)] h) (fun v h1 => R_X7_townLine d 596 [l0, l1, l2, l3, l4, l5, l6] (v.toList ++ []) h1) (fun E h1 => some (.inr E, h1)) := s_callV (L := [(18, 158)]) (n := 1) (b := b0) (rest := []) rfl rfl rfl
theorem r_X7_townLine_485 {d : Nat} {b0 : Nat} {l0 l1 l2 l3 l4 l5 l6 : Option Value} {h : AH} : R_X7_townLine d 485 [l0, l1, l2, l3, l4, l5, l6] [.ref b0] h = (hai h 0 b0 (nI 4)).bind fun v => R_X7_townLine d 487 [l0, l1, l2, l3, l4, l5, l6] [.int v] h := by
  refine (p_const rfl).trans ?_
  exact s_iald rfl
theorem r_X7_townLine_468 {d : Nat} {s0 : Int32} {l0 l1 l2 l3 l4 l5 l6 : Option Value} {h : AH} : R_X7_townLine d 468 [l0, l1, l2, l3, l4, l5, l6] [.int (s0)] h = some (.inl none, h) := by
  refine (p_pop rfl rfl).trans ?_
  refine (p_goto rfl).trans ?_
  exact s_vret rfl
theorem r_X7_townLine_387 {d : Nat} {a0 : Nat} {x2 x3 : Int32} {l1 l4 l5 l6 : Option Value} {h : AH} : R_X7_townLine d 387 [some (.ref a0), l1, some (.int (x2)), some (.int (x3)), l4, l5, l6] [] h = ((hci h a0).bind (lkN [(18, 181)])).bind fun y => aK (exec tTab d y [.ref a0, .int (x2), .int (x3)] h) (fun v h1 => R_X7_townLine d 393 [some (.ref a0), l1, some (.int (x2)), some (.int (x3)), l4, l5, l6] (v.toList ++ []) h1) (fun E h1 => some (.inr E, h1)) := by
  refine (p_aload rfl rfl).trans ?_
  refine (p_iload rfl rfl).trans ?_
  refine (p_iload rfl rfl).trans ?_
  exact s_callV (L := [(18, 181)]) (n := 2) (b := a0) (rest := []) rfl rfl rfl
theorem r_X7_townLine_596 {d : Nat} {l0 l1 l2 l3 l4 l5 l6 : Option Value} {h : AH} : R_X7_townLine d 596 [l0, l1, l2, l3, l4, l5, l6] [] h = some (.inl none, h) := s_vret rfl
theorem r_X7_townLine_487 {d : Nat} {s0 : Int32} {l0 l1 l2 l3 l4 l5 l6 : Option Value} {h : AH} : R_X7_townLine d 487 [l0, l1, l2, l3, l4, l5, l6] [.int (s0)] h = if ¬ s0 = (nI 12) then R_X7_townLine d 497 [l0, l1, l2, l3, l4, l5, l6] [] h else R_X7_townLine d 492 [l0, l1, l2, l3, l4, l5, l6] [] h := by
  refine (p_const rfl).trans ?_
  exact (s_icmp (g := (fun x y => decide (¬ x = y))) (t := 497) (nx := 492) rfl).trans bif_dec
theorem r_X7_townLine_393 {d : Nat} {s0 : Int32} {l0 l1 l2 l3 l4 l5 l6 : Option Value} {h : AH} : R_X7_townLine d 393 [l0, l1, l2, l3, l4, l5, l6] [.int (s0)] h = some (.inl none, h) := by
  refine (p_pop rfl rfl).trans ?_
  refine (p_goto rfl).trans ?_
  exact s_vret rfl
theorem r_X7_townLine_497 {d : Nat} {a0 : Nat} {l1 l2 l3 l4 l5 l6 : Option Value} {h : AH} : R_X7_townLine d 497 [some (.ref a0), l1, l2, l3, l4, l5, l6] [] h = ((hci h a0).bind (lkN [(18, 170)])).bind fun y => aK (exec tTab d y [.ref a0, .int ((-1))] h) (fun v h1 => R_X7_townLine d 502 [some (.ref a0), l1, l2, l3, l4, l5, l6] (v.toList ++ []) h1) (fun E h1 => some (.inr E, h1)) := by
  refine (p_aload rfl rfl).trans ?_
  refine (p_const rfl).trans ?_
  exact s_callV (L := [(18, 170)]) (n := 1) (b := a0) (rest := []) rfl rfl rfl
theorem r_X7_townLine_492 {d : Nat} {a0 : Nat} {x1 : Int32} {l2 l3 l4 l5 l6 : Option Value} {h : AH} : R_X7_townLine d 492 [some (.ref a0), some (.int (x1)), l2, l3, l4, l5, l6] [] h = ((hci h a0).bind (lkN [(18, 158)])).bind fun y => aK (exec tTab d y [.ref a0, .int (x1)] h) (fun v h1 => R_X7_townLine d 497 [some (.ref a0), some (.int (x1)), l2, l3, l4, l5, l6] (v.toList ++ []) h1) (fun E h1 => some (.inr E, h1)) := by
  refine (p_aload rfl rfl).trans ?_
  refine (p_iload rfl rfl).trans ?_
  exact s_callV (L := [(18, 158)]) (n := 1) (b := a0) (rest := []) rfl rfl rfl
theorem r_X7_townLine_502 {d : Nat} {s0 : Int32} {a0 : Nat} {l1 l2 l3 l4 l5 l6 : Option Value} {h : AH} : R_X7_townLine d 502 [some (.ref a0), l1, l2, l3, l4, l5, l6] [.int (s0)] h = R_X7_townLine d 506 [some (.ref a0), l1, some (.int (s0)), l3, l4, l5, l6] [h.2.2.2 47, .ref a0] h := by
  refine (p_istore rfl rfl rfl).trans ?_
  refine (p_aload rfl rfl).trans ?_
  exact p_stat rfl
theorem r_X7_townLine_506 {d : Nat} {b0 b1 : Nat} {l0 l1 l2 l3 l4 l5 l6 : Option Value} {h : AH} : R_X7_townLine d 506 [l0, l1, l2, l3, l4, l5, l6] [.ref b1, .ref b0] h = ((hci h b0).bind (lkN [(18, 171)])).bind fun y => aK (exec tTab d y [.ref b0, .ref b1] h) (fun v h1 => R_X7_townLine d 509 [l0, l1, l2, l3, l4, l5, l6] (v.toList ++ []) h1) (fun E h1 => some (.inr E, h1)) := s_callV (L := [(18, 171)]) (n := 1) (b := b0) (rest := []) rfl rfl rfl
theorem r_X7_townLine_506N {d : Nat} {b0 : Nat} {l0 l1 l2 l3 l4 l5 l6 : Option Value} {h : AH} : R_X7_townLine d 506 [l0, l1, l2, l3, l4, l5, l6] [.null, .ref b0] h = ((hci h b0).bind (lkN [(18, 171)])).bind fun y => aK (exec tTab d y [.ref b0, .null] h) (fun v h1 => R_X7_townLine d 509 [l0, l1, l2, l3, l4, l5, l6] (v.toList ++ []) h1) (fun E h1 => some (.inr E, h1)) := s_callV (L := [(18, 171)]) (n := 1) (b := b0) (rest := []) rfl rfl rfl
theorem r_X7_townLine_509 {d : Nat} {a0 : Nat} {x2 : Int32} {l1 l3 l4 l5 l6 : Option Value} {h : AH} : R_X7_townLine d 509 [some (.ref a0), l1, some (.int (x2)), l3, l4, l5, l6] [] h = ((hci h a0).bind (lkN [(18, 170)])).bind fun y => aK (exec tTab d y [.ref a0, .int (x2)] h) (fun v h1 => R_X7_townLine d 514 [some (.ref a0), l1, some (.int (x2)), l3, l4, l5, l6] (v.toList ++ []) h1) (fun E h1 => some (.inr E, h1)) := by
  refine (p_aload rfl rfl).trans ?_
  refine (p_iload rfl rfl).trans ?_
  exact s_callV (L := [(18, 170)]) (n := 1) (b := a0) (rest := []) rfl rfl rfl
theorem r_X7_townLine_514 {d : Nat} {s0 : Int32} {a0 : Nat} {l1 l2 l3 l4 l5 l6 : Option Value} {h : AH} : R_X7_townLine d 514 [some (.ref a0), l1, l2, l3, l4, l5, l6] [.int (s0)] h = ((hci h a0).bind (lkN [(18, 168)])).bind fun y => aK (exec tTab d y [.ref a0, .int ((nI 1)), .int ((nI 99))] h) (fun v h1 => R_X7_townLine d 522 [some (.ref a0), l1, l2, some (.int (s0)), l4, l5, l6] (v.toList ++ []) h1) (fun E h1 => some (.inr E, h1)) := by
  refine (p_istore rfl rfl rfl).trans ?_
  refine (p_aload rfl rfl).trans ?_
  refine (p_const rfl).trans ?_
  refine (p_const rfl).trans ?_
  exact s_callV (L := [(18, 168)]) (n := 2) (b := a0) (rest := []) rfl rfl rfl
theorem r_X7_townLine_522 {d : Nat} {s0 : Int32} {a0 : Nat} {l1 l2 l3 l4 l5 l6 : Option Value} {h : AH} : R_X7_townLine d 522 [some (.ref a0), l1, l2, l3, l4, l5, l6] [.int (s0)] h = (hgf h [18] a0 10).bind fun v => R_X7_townLine d 528 [some (.ref a0), l1, l2, l3, some (.int (s0)), l5, l6] [v] h := by
  refine (p_istore rfl rfl rfl).trans ?_
  refine (p_aload rfl rfl).trans ?_
  exact s_getf rfl
theorem r_X7_townLine_528 {d : Nat} {s0 : Int32} {l0 l1 l2 l3 l4 l5 l6 : Option Value} {h : AH} : R_X7_townLine d 528 [l0, l1, l2, l3, l4, l5, l6] [.int (s0)] h = if s0 = (-1) then R_X7_townLine d 533 [l0, l1, l2, l3, l4, l5, l6] [] h else R_X7_townLine d 532 [l0, l1, l2, l3, l4, l5, l6] [] h := by
  refine (p_const rfl).trans ?_
  exact (s_icmp (g := (fun x y => decide (x = y))) (t := 533) (nx := 532) rfl).trans bif_dec
theorem r_X7_townLine_533 {d : Nat} {a0 : Nat} {l1 l2 l3 l4 l5 l6 : Option Value} {h : AH} : R_X7_townLine d 533 [some (.ref a0), l1, l2, l3, l4, l5, l6] [] h = (hgf h [18] a0 1).bind fun v => R_X7_townLine d 540 [some (.ref a0), l1, l2, l3, l4, l5, l6] [v, .int ((nI 3)), .int ((nI 46))] h := by
  refine (p_const rfl).trans ?_
  refine (p_const rfl).trans ?_
  refine (p_aload rfl rfl).trans ?_
  exact s_getf rfl
theorem r_X7_townLine_532 {d : Nat} {l0 l1 l2 l3 l4 l5 l6 : Option Value} {h : AH} : R_X7_townLine d 532 [l0, l1, l2, l3, l4, l5, l6] [] h = some (.inl none, h) := s_vret rfl
theorem r_X7_townLine_540 {d : Nat} {s0 s1 : Int32} {b2 : Nat} {l0 l1 l2 l3 l4 l5 l6 : Option Value} {h : AH} : R_X7_townLine d 540 [l0, l1, l2, l3, l4, l5, l6] [.ref b2, .int (s1), .int (s0)] h = (hai h 0 b2 (nI 4)).bind fun v => R_X7_townLine d 542 [l0, l1, l2, l3, l4, l5, l6] [.int v, .int (s1), .int (s0)] h := by
  refine (p_const rfl).trans ?_
  exact s_iald rfl
theorem r_X7_townLine_542 {d : Nat} {s0 s1 s2 : Int32} {a0 : Nat} {l1 l2 l3 l4 l5 l6 : Option Value} {h : AH} : R_X7_townLine d 542 [some (.ref a0), l1, l2, l3, l4, l5, l6] [.int (s2), .int (s1), .int (s0)] h = (hgf h [18] a0 1).bind fun v => R_X7_townLine d 550 [some (.ref a0), l1, l2, l3, l4, some (.int (s0 + (s1 * s2))), l6] [v] h := by
  refine (p_bin rfl).trans ?_
  refine (p_bin rfl).trans ?_
  refine (p_istore rfl rfl rfl).trans ?_
  refine (p_aload rfl rfl).trans ?_
  exact s_getf rfl
theorem r_X7_townLine_550 {d : Nat} {b0 : Nat} {x5 x2 : Int32} {l0 l1 l3 l4 l6 : Option Value} {h : AH} : R_X7_townLine d 550 [l0, l1, some (.int (x2)), l3, l4, some (.int (x5)), l6] [.ref b0] h = (hsi h 0 b0 x5 x2).bind fun h1 => R_X7_townLine d 554 [l0, l1, some (.int (x2)), l3, l4, some (.int (x5)), l6] [] h1 := by
  refine (p_iload rfl rfl).trans ?_
  refine (p_iload rfl rfl).trans ?_
  exact s_iast (t := 0) (nar := (fun y => y)) rfl
theorem r_X7_townLine_554 {d : Nat} {a0 : Nat} {l1 l2 l3 l4 l5 l6 : Option Value} {h : AH} : R_X7_townLine d 554 [some (.ref a0), l1, l2, l3, l4, l5, l6] [] h = (hgf h [18] a0 1).bind fun v => R_X7_townLine d 558 [some (.ref a0), l1, l2, l3, l4, l5, l6] [v] h := by
  refine (p_aload rfl rfl).trans ?_
  exact s_getf rfl
theorem r_X7_townLine_558 {d : Nat} {b0 : Nat} {x5 x3 : Int32} {l0 l1 l2 l4 l6 : Option Value} {h : AH} : R_X7_townLine d 558 [l0, l1, l2, some (.int (x3)), l4, some (.int (x5)), l6] [.ref b0] h = (hsi h 0 b0 (x5 + (nI 1)) x3).bind fun h1 => R_X7_townLine d 564 [l0, l1, l2, some (.int (x3)), l4, some (.int (x5)), l6] [] h1 := by
  refine (p_iload rfl rfl).trans ?_
  refine (p_const rfl).trans ?_
  refine (p_bin rfl).trans ?_
  refine (p_iload rfl rfl).trans ?_
  exact s_iast (t := 0) (nar := (fun y => y)) rfl
theorem r_X7_townLine_564 {d : Nat} {a0 : Nat} {l1 l2 l3 l4 l5 l6 : Option Value} {h : AH} : R_X7_townLine d 564 [some (.ref a0), l1, l2, l3, l4, l5, l6] [] h = (hgf h [18] a0 1).bind fun v => R_X7_townLine d 568 [some (.ref a0), l1, l2, l3, l4, l5, l6] [v] h := by
  refine (p_aload rfl rfl).trans ?_
  exact s_getf rfl
theorem r_X7_townLine_568 {d : Nat} {b0 : Nat} {x5 x4 : Int32} {l0 l1 l2 l3 l6 : Option Value} {h : AH} : R_X7_townLine d 568 [l0, l1, l2, l3, some (.int (x4)), some (.int (x5)), l6] [.ref b0] h = (hsi h 0 b0 (x5 + (nI 2)) x4).bind fun h1 => R_X7_townLine d 575 [l0, l1, l2, l3, some (.int (x4)), some (.int (x5)), l6] [] h1 := by
  refine (p_iload rfl rfl).trans ?_
  refine (p_const rfl).trans ?_
  refine (p_bin rfl).trans ?_
  refine (p_iload rfl rfl).trans ?_
  exact s_iast (t := 0) (nar := (fun y => y)) rfl
theorem r_X7_townLine_575 {d : Nat} {a0 : Nat} {l1 l2 l3 l4 l5 l6 : Option Value} {h : AH} : R_X7_townLine d 575 [some (.ref a0), l1, l2, l3, l4, l5, l6] [] h = (hgf h [18] a0 1).bind fun v => R_X7_townLine d 579 [some (.ref a0), l1, l2, l3, l4, l5, l6] [v] h := by
  refine (p_aload rfl rfl).trans ?_
  exact s_getf rfl
theorem r_X7_townLine_579 {d : Nat} {b0 : Nat} {l0 l1 l2 l3 l4 l5 l6 : Option Value} {h : AH} : R_X7_townLine d 579 [l0, l1, l2, l3, l4, l5, l6] [.ref b0] h = (hai h 0 b0 (nI 4)).bind fun v => R_X7_townLine d 582 [l0, l1, l2, l3, l4, l5, l6] [.int v, .int ((nI 4)), .ref b0] h := by
  refine (p_const rfl).trans ?_
  refine (p_dup2 rfl rfl).trans ?_
  exact s_iald rfl
theorem r_X7_townLine_582 {d : Nat} {b0 : Nat} {s1 s2 : Int32} {l0 l1 l2 l3 l4 l5 l6 : Option Value} {h : AH} : R_X7_townLine d 582 [l0, l1, l2, l3, l4, l5, l6] [.int (s2), .int (s1), .ref b0] h = (hsi h 0 b0 s1 (s2 + (nI 1))).bind fun h1 => R_X7_townLine d 585 [l0, l1, l2, l3, l4, l5, l6] [] h1 := by
  refine (p_const rfl).trans ?_
  refine (p_bin rfl).trans ?_
  exact s_iast (t := 0) (nar := (fun y => y)) rfl
theorem r_X7_townLine_585 {d : Nat} {l0 l1 l2 l3 l4 l5 l6 : Option Value} {h : AH} : R_X7_townLine d 585 [l0, l1, l2, l3, l4, l5, l6] [] h = some (.inl none, h) := by
  refine (p_goto rfl).trans ?_
  exact s_vret rfl
theorem e_X7_townLine {d : Nat} {a0 : Nat} {h : AH} : exec tTab (d + 1) K_X7_townLine [.ref a0] h = R_X7_townLine d 0 [some (.ref a0), none, none, none, none, none, none] [] h := exec_eq (cd := k_X7_townLine) (hd := (fun _ _ => some none)) (L := 7) rfl rfl rfl
/-- FavourTownModel.person(I)I -/
abbrev K_X7_person : Nat := 170
noncomputable def R_X7_person (d pc : Nat) (ls : ALs) (st : List Value) (h : AH) : Option (AOut × AH) := aR (exec tTab d) k_X7_person (fun _ _ => some none) (pc, ls, st, h)
theorem r_X7_person_0 {d : Nat} {a0 : Nat} {l1 l2 l3 : Option Value} {h : AH} : R_X7_person d 0 [some (.ref a0), l1, l2, l3] [] h = ((hci h a0).bind (lkN [(18, 156)])).bind fun y => aK (exec tTab d y [.ref a0] h) (fun v h1 => R_X7_person d 4 [some (.ref a0), l1, l2, l3] (v.toList ++ []) h1) (fun E h1 => some (.inr E, h1)) := by
  refine (p_aload rfl rfl).trans ?_
  exact s_callV (L := [(18, 156)]) (n := 0) (b := a0) (rest := []) rfl rfl rfl
theorem r_X7_person_4 {d : Nat} {a0 : Nat} {l1 l2 l3 : Option Value} {h : AH} : R_X7_person d 4 [some (.ref a0), l1, l2, l3] [] h = (hgf h [18] a0 9).bind fun v => R_X7_person d 8 [some (.ref a0), l1, l2, l3] [v] h := by
  refine (p_aload rfl rfl).trans ?_
  exact s_getf rfl
theorem r_X7_person_8 {d : Nat} {s0 : Int32} {a0 : Nat} {l1 l2 l3 : Option Value} {h : AH} : R_X7_person d 8 [some (.ref a0), l1, l2, l3] [.int (s0)] h = (hgf h [18] a0 1).bind fun v => R_X7_person d 15 [some (.ref a0), l1, some (.int (s0)), l3] [v, .int ((nI 0)), .ref a0] h := by
  refine (p_istore rfl rfl rfl).trans ?_
  refine (p_aload rfl rfl).trans ?_
  refine (p_const rfl).trans ?_
  refine (p_aload rfl rfl).trans ?_
  exact s_getf rfl
theorem r_X7_person_15 {d : Nat} {b0 b2 : Nat} {s1 : Int32} {l0 l1 l2 l3 : Option Value} {h : AH} : R_X7_person d 15 [l0, l1, l2, l3] [.ref b2, .int (s1), .ref b0] h = (hai h 0 b2 (nI 1)).bind fun v => R_X7_person d 17 [l0, l1, l2, l3] [.int v, .int (s1), .ref b0] h := by
  refine (p_const rfl).trans ?_
  exact s_iald rfl
theorem r_X7_person_17 {d : Nat} {b0 : Nat} {s1 s2 : Int32} {l0 l1 l2 l3 : Option Value} {h : AH} : R_X7_person d 17 [l0, l1, l2, l3] [.int (s2), .int (s1), .ref b0] h = ((hci h b0).bind (lkN [(18, 168)])).bind fun y => aK (exec tTab d y [.ref b0, .int (s1), .int (s2 - (nI 1))] h) (fun v h1 => R_X7_person d 22 [l0, l1, l2, l3] (v.toList ++ []) h1) (fun E h1 => some (.inr E, h1)) := by
  refine (p_const rfl).trans ?_
  refine (p_bin rfl).trans ?_
  exact s_callV (L := [(18, 168)]) (n := 2) (b := b0) (rest := []) rfl rfl rfl
theorem r_X7_person_22 {d : Nat} {s0 : Int32} {a0 : Nat} {l1 l2 l3 : Option Value} {h : AH} : R_X7_person d 22 [some (.ref a0), l1, l2, l3] [.int (s0)] h = (hgf h [18] a0 10).bind fun v => R_X7_person d 27 [some (.ref a0), l1, l2, some (.int (s0))] [v] h := by
  refine (p_istore rfl rfl rfl).trans ?_
  refine (p_aload rfl rfl).trans ?_
  exact s_getf rfl
theorem r_X7_person_27 {d : Nat} {s0 : Int32} {l0 l1 l2 l3 : Option Value} {h : AH} : R_X7_person d 27 [l0, l1, l2, l3] [.int (s0)] h = if ¬ s0 = (-1) then R_X7_person d 41 [l0, l1, l2, l3] [] h else R_X7_person d 31 [l0, l1, l2, l3] [] h := by
  refine (p_const rfl).trans ?_
  exact (s_icmp (g := (fun x y => decide (¬ x = y))) (t := 41) (nx := 31) rfl).trans bif_dec
theorem r_X7_person_41 {d : Nat} {x3 : Int32} {l0 l1 l2 : Option Value} {h : AH} : R_X7_person d 41 [l0, l1, l2, some (.int (x3))] [] h = some (.inl (some (.int (x3))), h) := by
  refine (p_iload rfl rfl).trans ?_
  exact s_iretT rfl rfl
theorem r_X7_person_31 {d : Nat} {x3 x1 : Int32} {l0 l2 : Option Value} {h : AH} : R_X7_person d 31 [l0, some (.int (x1)), l2, some (.int (x3))] [] h = if ¬ x3 = x1 then R_X7_person d 41 [l0, some (.int (x1)), l2, some (.int (x3))] [] h else R_X7_person d 36 [l0, some (.int (x1)), l2, some (.int (x3))] [] h := by
  refine (p_iload rfl rfl).trans ?_
  refine (p_iload rfl rfl).trans ?_
  exact (s_icmp (g := (fun x y => decide (¬ x = y))) (t := 41) (nx := 36) rfl).trans bif_dec
theorem r_X7_person_36 {d : Nat} {a0 : Nat} {x2 : Int32} {l1 l3 : Option Value} {h : AH} : R_X7_person d 36 [some (.ref a0), l1, some (.int (x2)), l3] [] h = ((hci h a0).bind (lkN [(18, 158)])).bind fun y => aK (exec tTab d y [.ref a0, .int (x2)] h) (fun v h1 => R_X7_person d 41 [some (.ref a0), l1, some (.int (x2)), l3] (v.toList ++ []) h1) (fun E h1 => some (.inr E, h1)) := by
  refine (p_aload rfl rfl).trans ?_
  refine (p_iload rfl rfl).trans ?_
  exact s_callV (L := [(18, 158)]) (n := 1) (b := a0) (rest := []) rfl rfl rfl
theorem e_X7_person {d : Nat} {a0 : Nat} {x1 : Int32} {h : AH} : exec tTab (d + 1) K_X7_person [.ref a0, .int x1] h = R_X7_person d 0 [some (.ref a0), some (.int x1), none, none] [] h := exec_eq (cd := k_X7_person) (hd := (fun _ _ => some none)) (L := 4) rfl rfl rfl
/-- FavourTownModel.must(Ljava/lang/String;)V -/
abbrev K_X7_must : Nat := 171
noncomputable def R_X7_must (d pc : Nat) (ls : ALs) (st : List Value) (h : AH) : Option (AOut × AH) := aR (exec tTab d) k_X7_must (fun _ _ => some none) (pc, ls, st, h)
theorem r_X7_must_0 {d : Nat} {a0 : Nat} {l1 : Option Value} {h : AH} : R_X7_must d 0 [some (.ref a0), l1] [] h = (hgf h [18] a0 10).bind fun v => R_X7_must d 4 [some (.ref a0), l1] [v] h := by
  refine (p_aload rfl rfl).trans ?_
  exact s_getf rfl
theorem r_X7_must_4 {d : Nat} {s0 : Int32} {l0 l1 : Option Value} {h : AH} : R_X7_must d 4 [l0, l1] [.int (s0)] h = if ¬ s0 = (-1) then R_X7_must d 24 [l0, l1] [] h else R_X7_must d 8 [l0, l1] [] h := by
  refine (p_const rfl).trans ?_
  exact (s_icmp (g := (fun x y => decide (¬ x = y))) (t := 24) (nx := 8) rfl).trans bif_dec
theorem r_X7_must_24 {d : Nat} {l0 l1 : Option Value} {h : AH} : R_X7_must d 24 [l0, l1] [] h = some (.inl none, h) := s_vret rfl
theorem r_X7_must_8 {d : Nat} {a0 a1 : Nat} {h : AH} : R_X7_must d 8 [some (.ref a0), some (.ref a1)] [] h = ((hci h a0).bind (lkN [(18, 160)])).bind fun y => aK (exec tTab d y [.ref a0, .ref a1] h) (fun v h1 => R_X7_must d 13 [some (.ref a0), some (.ref a1)] (v.toList ++ []) h1) (fun E h1 => some (.inr E, h1)) := by
  refine (p_aload rfl rfl).trans ?_
  refine (p_aload rfl rfl).trans ?_
  exact s_callV (L := [(18, 160)]) (n := 1) (b := a0) (rest := []) rfl rfl rfl
theorem r_X7_must_13 {d : Nat} {s0 : Int32} {l0 l1 : Option Value} {h : AH} : R_X7_must d 13 [l0, l1] [.int (s0)] h = if ¬ s0 = 0 then R_X7_must d 24 [l0, l1] [] h else R_X7_must d 16 [l0, l1] [] h := (s_if (g := (fun x => decide (¬ x = 0))) (t := 24) (nx := 16) rfl).trans bif_dec
theorem r_X7_must_16 {d : Nat} {a0 : Nat} {l1 : Option Value} {h : AH} : R_X7_must d 16 [some (.ref a0), l1] [] h = (hgf h [18] a0 9).bind fun v => R_X7_must d 21 [some (.ref a0), l1] [v, .ref a0] h := by
  refine (p_aload rfl rfl).trans ?_
  refine (p_aload rfl rfl).trans ?_
  exact s_getf rfl
theorem r_X7_must_21 {d : Nat} {b0 : Nat} {s1 : Int32} {l0 l1 : Option Value} {h : AH} : R_X7_must d 21 [l0, l1] [.int (s1), .ref b0] h = ((hci h b0).bind (lkN [(18, 158)])).bind fun y => aK (exec tTab d y [.ref b0, .int (s1)] h) (fun v h1 => R_X7_must d 24 [l0, l1] (v.toList ++ []) h1) (fun E h1 => some (.inr E, h1)) := s_callV (L := [(18, 158)]) (n := 1) (b := b0) (rest := []) rfl rfl rfl
theorem e_X7_must {d : Nat} {a0 a1 : Nat} {h : AH} : exec tTab (d + 1) K_X7_must [.ref a0, .ref a1] h = R_X7_must d 0 [some (.ref a0), some (.ref a1)] [] h := exec_eq (cd := k_X7_must) (hd := (fun _ _ => some none)) (L := 2) rfl rfl rfl
/-- FavourTownModel.gives(IIIIZ)I -/
abbrev K_X7_gives : Nat := 172
noncomputable def R_X7_gives (d pc : Nat) (ls : ALs) (st : List Value) (h : AH) : Option (AOut × AH) := aR (exec tTab d) k_X7_gives (fun _ _ => some none) (pc, ls, st, h)
theorem r_X7_gives_0 {d : Nat} {x4 : Int32} {l0 l1 l2 l3 l5 l6 l7 l8 : Option Value} {h : AH} : R_X7_gives d 0 [l0, l1, l2, l3, some (.int (x4)), l5, l6, l7, l8] [] h = if ¬ x4 = 0 then R_X7_gives d 9 [l0, l1, l2, l3, some (.int (x4)), l5, l6, l7, l8] [] h else R_X7_gives d 5 [l0, l1, l2, l3, some (.int (x4)), l5, l6, l7, l8] [] h := by
  refine (p_iload rfl rfl).trans ?_
  exact (s_if (g := (fun x => decide (¬ x = 0))) (t := 9) (nx := 5) rfl).trans bif_dec
theorem r_X7_gives_9 {d : Nat} {a0 : Nat} {l1 l2 l3 l4 l5 l6 l7 l8 : Option Value} {h : AH} : R_X7_gives d 9 [some (.ref a0), l1, l2, l3, l4, l5, l6, l7, l8] [] h = (hgf h [18] a0 1).bind fun v => R_X7_gives d 13 [some (.ref a0), l1, l2, l3, l4, l5, l6, l7, l8] [v] h := by
  refine (p_aload rfl rfl).trans ?_
  exact s_getf rfl
theorem r_X7_gives_5 {d : Nat} {a0 : Nat} {x1 x2 x3 x5 : Int32} {l4 l6 l7 l8 : Option Value} {h : AH} : R_X7_gives d 5 [some (.ref a0), some (.int (x1)), some (.int (x2)), some (.int (x3)), l4, some (.int (x5)), l6, l7, l8] [] h = ((hci h a0).bind (lkN [(18, 173)])).bind fun y => aK (exec tTab d y [.ref a0, .int (x1), .int (x2), .int (x3), .int ((-1)), .int (x5)] h) (fun v h1 => R_X7_gives d 32 [some (.ref a0), some (.int (x1)), some (.int (x2)), some (.int (x3)), l4, some (.int (x5)), some (.int ((-1))), l7, l8] (v.toList ++ []) h1) (fun E h1 => some (.inr E, h1)) := by
  refine (p_const rfl).trans ?_
  refine (p_goto rfl).trans ?_
  refine (p_istore rfl rfl rfl).trans ?_
  refine (p_aload rfl rfl).trans ?_
  refine (p_iload rfl rfl).trans ?_
  refine (p_iload rfl rfl).trans ?_
  refine (p_iload rfl rfl).trans ?_
  refine (p_iload rfl rfl).trans ?_
  refine (p_iload rfl rfl).trans ?_
  exact s_callV (L := [(18, 173)]) (n := 5) (b := a0) (rest := []) rfl rfl rfl
theorem r_X7_gives_13 {d : Nat} {b0 : Nat} {l0 l1 l2 l3 l4 l5 l6 l7 l8 : Option Value} {h : AH} : R_X7_gives d 13 [l0, l1, l2, l3, l4, l5, l6, l7, l8] [.ref b0] h = (hai h 0 b0 (nI 6)).bind fun v => R_X7_gives d 16 [l0, l1, l2, l3, l4, l5, l6, l7, l8] [.int v] h := by
  refine (p_const rfl).trans ?_
  exact s_iald rfl
theorem r_X7_gives_32 {d : Nat} {s0 : Int32} {l0 l1 l2 l3 l4 l5 l6 l7 l8 : Option Value} {h : AH} : R_X7_gives d 32 [l0, l1, l2, l3, l4, l5, l6, l7, l8] [.int (s0)] h = if ¬ s0 = 0 then R_X7_gives d 37 [l0, l1, l2, l3, l4, l5, l6, l7, l8] [] h else R_X7_gives d 35 [l0, l1, l2, l3, l4, l5, l6, l7, l8] [] h := (s_if (g := (fun x => decide (¬ x = 0))) (t := 37) (nx := 35) rfl).trans bif_dec
theorem r_X7_gives_16 {d : Nat} {s0 x4 x1 x2 x3 x5 : Int32} {a0 : Nat} {l6 l7 l8 : Option Value} {h : AH} : R_X7_gives d 16 [some (.ref a0), some (.int (x1)), some (.int (x2)), some (.int (x3)), some (.int (x4)), some (.int (x5)), l6, l7, l8] [.int (s0)] h = ((hci h a0).bind (lkN [(18, 173)])).bind fun y => aK (exec tTab d y [.ref a0, .int (x1), .int (x2), .int (x3), .int (s0 + x4), .int (x5)] h) (fun v h1 => R_X7_gives d 32 [some (.ref a0), some (.int (x1)), some (.int (x2)), some (.int (x3)), some (.int (x4)), some (.int (x5)), some (.int (s0 + x4)), l7, l8] (v.toList ++ []) h1) (fun E h1 => some (.inr E, h1)) := by
  refine (p_iload rfl rfl).trans ?_
  refine (p_bin rfl).trans ?_
  refine (p_istore rfl rfl rfl).trans ?_
  refine (p_aload rfl rfl).trans ?_
  refine (p_iload rfl rfl).trans ?_
  refine (p_iload rfl rfl).trans ?_
  refine (p_iload rfl rfl).trans ?_
  refine (p_iload rfl rfl).trans ?_
  refine (p_iload rfl rfl).trans ?_
  exact s_callV (L := [(18, 173)]) (n := 5) (b := a0) (rest := []) rfl rfl rfl
theorem r_X7_gives_37 {d : Nat} {a0 : Nat} {l1 l2 l3 l4 l5 l6 l7 l8 : Option Value} {h : AH} : R_X7_gives d 37 [some (.ref a0), l1, l2, l3, l4, l5, l6, l7, l8] [] h = (hgf h [18] a0 1).bind fun v => R_X7_gives d 41 [some (.ref a0), l1, l2, l3, l4, l5, l6, l7, l8] [v] h := by
  refine (p_aload rfl rfl).trans ?_
  exact s_getf rfl
theorem r_X7_gives_35 {d : Nat} {l0 l1 l2 l3 l4 l5 l6 l7 l8 : Option Value} {h : AH} : R_X7_gives d 35 [l0, l1, l2, l3, l4, l5, l6, l7, l8] [] h = some (.inl (some (.int ((-1)))), h) := by
  refine (p_const rfl).trans ?_
  exact s_iretT rfl rfl
theorem r_X7_gives_41 {d : Nat} {b0 : Nat} {l0 l1 l2 l3 l4 l5 l6 l7 l8 : Option Value} {h : AH} : R_X7_gives d 41 [l0, l1, l2, l3, l4, l5, l6, l7, l8] [.ref b0] h = (hai h 0 b0 (nI 3)).bind fun v => R_X7_gives d 43 [l0, l1, l2, l3, l4, l5, l6, l7, l8] [.int v] h := by
  refine (p_const rfl).trans ?_
  exact s_iald rfl
theorem r_X7_gives_43 {d : Nat} {s0 : Int32} {a0 : Nat} {l1 l2 l3 l4 l5 l6 l7 l8 : Option Value} {h : AH} : R_X7_gives d 43 [some (.ref a0), l1, l2, l3, l4, l5, l6, l7, l8] [.int (s0)] h = (hgf h [18] a0 1).bind fun v => R_X7_gives d 49 [some (.ref a0), l1, l2, l3, l4, l5, l6, some (.int (s0)), l8] [v] h := by
  refine (p_istore rfl rfl rfl).trans ?_
  refine (p_aload rfl rfl).trans ?_
  exact s_getf rfl
theorem r_X7_gives_49 {d : Nat} {b0 : Nat} {l0 l1 l2 l3 l4 l5 l6 l7 l8 : Option Value} {h : AH} : R_X7_gives d 49 [l0, l1, l2, l3, l4, l5, l6, l7, l8] [.ref b0] h = (hai h 0 b0 (nI 3)).bind fun v => R_X7_gives d 52 [l0, l1, l2, l3, l4, l5, l6, l7, l8] [.int v, .int ((nI 3)), .ref b0] h := by
  refine (p_const rfl).trans ?_
  refine (p_dup2 rfl rfl).trans ?_
  exact s_iald rfl
theorem r_X7_gives_52 {d : Nat} {b0 : Nat} {s1 s2 : Int32} {l0 l1 l2 l3 l4 l5 l6 l7 l8 : Option Value} {h : AH} : R_X7_gives d 52 [l0, l1, l2, l3, l4, l5, l6, l7, l8] [.int (s2), .int (s1), .ref b0] h = (hsi h 0 b0 s1 (s2 + (nI 1))).bind fun h1 => R_X7_gives d 55 [l0, l1, l2, l3, l4, l5, l6, l7, l8] [] h1 := by
  refine (p_const rfl).trans ?_
  refine (p_bin rfl).trans ?_
  exact s_iast (t := 0) (nar := (fun y => y)) rfl
theorem r_X7_gives_55 {d : Nat} {l0 l1 l2 l3 l4 l5 l6 l7 l8 : Option Value} {h : AH} : R_X7_gives d 55 [l0, l1, l2, l3, l4, l5, l6, l7, l8] [] h = R_X7_gives d 58 [l0, l1, l2, l3, l4, l5, l6, l7, some (.int ((nI 0)))] [] h := by
  refine (p_const rfl).trans ?_
  refine (p_istore rfl rfl rfl).trans ?_
  exact rfl
theorem q_X7_gives_58 {d : Nat} {x8 : Int32} {l0 l1 l2 l3 l4 l5 l6 l7 : Option Value} {h : AH} : R_X7_gives d 58 [l0, l1, l2, l3, l4, l5, l6, l7, some (.int (x8))] [] h = if (nI 20) ≤ x8 then R_X7_gives d 80 [l0, l1, l2, l3, l4, l5, l6, l7, some (.int (x8))] [] h else R_X7_gives d 65 [l0, l1, l2, l3, l4, l5, l6, l7, some (.int (x8))] [] h := by
  refine (p_iload rfl rfl).trans ?_
  refine (p_const rfl).trans ?_
  exact (s_icmp (g := (fun x y => decide (y ≤ x))) (t := 80) (nx := 65) rfl).trans bif_dec
theorem r_X7_gives_80 {d : Nat} {a0 : Nat} {x7 x1 : Int32} {l2 l3 l4 l5 l6 l8 : Option Value} {h : AH} : R_X7_gives d 80 [some (.ref a0), some (.int (x1)), l2, l3, l4, l5, l6, some (.int (x7)), l8] [] h = ((hci h a0).bind (lkN [(18, 180)])).bind fun y => aK (exec tTab d y [.ref a0, .int (x7), .int ((nI 0)), .int (x1)] h) (fun v h1 => R_X7_gives d 88 [some (.ref a0), some (.int (x1)), l2, l3, l4, l5, l6, some (.int (x7)), l8] (v.toList ++ []) h1) (fun E h1 => some (.inr E, h1)) := by
  refine (p_aload rfl rfl).trans ?_
  refine (p_iload rfl rfl).trans ?_
  refine (p_const rfl).trans ?_
  refine (p_iload rfl rfl).trans ?_
  exact s_callV (L := [(18, 180)]) (n := 3) (b := a0) (rest := []) rfl rfl rfl
theorem r_X7_gives_65 {d : Nat} {a0 : Nat} {x7 x8 : Int32} {l1 l2 l3 l4 l5 l6 : Option Value} {h : AH} : R_X7_gives d 65 [some (.ref a0), l1, l2, l3, l4, l5, l6, some (.int (x7)), some (.int (x8))] [] h = ((hci h a0).bind (lkN [(18, 180)])).bind fun y => aK (exec tTab d y [.ref a0, .int (x7), .int (x8), .int ((nI 0))] h) (fun v h1 => R_X7_gives d 74 [some (.ref a0), l1, l2, l3, l4, l5, l6, some (.int (x7)), some (.int (x8))] (v.toList ++ []) h1) (fun E h1 => some (.inr E, h1)) := by
  refine (p_aload rfl rfl).trans ?_
  refine (p_iload rfl rfl).trans ?_
  refine (p_iload rfl rfl).trans ?_
  refine (p_const rfl).trans ?_
  exact s_callV (L := [(18, 180)]) (n := 3) (b := a0) (rest := []) rfl rfl rfl
theorem r_X7_gives_88 {d : Nat} {a0 : Nat} {x7 x3 : Int32} {l1 l2 l4 l5 l6 l8 : Option Value} {h : AH} : R_X7_gives d 88 [some (.ref a0), l1, l2, some (.int (x3)), l4, l5, l6, some (.int (x7)), l8] [] h = ((hci h a0).bind (lkN [(18, 180)])).bind fun y => aK (exec tTab d y [.ref a0, .int (x7), .int ((nI 1)), .int (x3)] h) (fun v h1 => R_X7_gives d 96 [some (.ref a0), l1, l2, some (.int (x3)), l4, l5, l6, some (.int (x7)), l8] (v.toList ++ []) h1) (fun E h1 => some (.inr E, h1)) := by
  refine (p_aload rfl rfl).trans ?_
  refine (p_iload rfl rfl).trans ?_
  refine (p_const rfl).trans ?_
  refine (p_iload rfl rfl).trans ?_
  exact s_callV (L := [(18, 180)]) (n := 3) (b := a0) (rest := []) rfl rfl rfl
theorem r_X7_gives_74 {d : Nat} {x8 : Int32} {l0 l1 l2 l3 l4 l5 l6 l7 : Option Value} {h : AH} : R_X7_gives d 74 [l0, l1, l2, l3, l4, l5, l6, l7, some (.int (x8))] [] h = R_X7_gives d 58 [l0, l1, l2, l3, l4, l5, l6, l7, some (.int (x8 + (nI 1)))] [] h := by
  refine (p_iinc rfl rfl rfl).trans ?_
  refine (p_goto rfl).trans ?_
  exact rfl
theorem r_X7_gives_96 {d : Nat} {a0 : Nat} {x7 x2 : Int32} {l1 l3 l4 l5 l6 l8 : Option Value} {h : AH} : R_X7_gives d 96 [some (.ref a0), l1, some (.int (x2)), l3, l4, l5, l6, some (.int (x7)), l8] [] h = ((hci h a0).bind (lkN [(18, 180)])).bind fun y => aK (exec tTab d y [.ref a0, .int (x7), .int ((nI 2)), .int (x2)] h) (fun v h1 => R_X7_gives d 104 [some (.ref a0), l1, some (.int (x2)), l3, l4, l5, l6, some (.int (x7)), l8] (v.toList ++ []) h1) (fun E h1 => some (.inr E, h1)) := by
  refine (p_aload rfl rfl).trans ?_
  refine (p_iload rfl rfl).trans ?_
  refine (p_const rfl).trans ?_
  refine (p_iload rfl rfl).trans ?_
  exact s_callV (L := [(18, 180)]) (n := 3) (b := a0) (rest := []) rfl rfl rfl
theorem r_X7_gives_104 {d : Nat} {a0 : Nat} {x7 x6 : Int32} {l1 l2 l3 l4 l5 l8 : Option Value} {h : AH} : R_X7_gives d 104 [some (.ref a0), l1, l2, l3, l4, l5, some (.int (x6)), some (.int (x7)), l8] [] h = ((hci h a0).bind (lkN [(18, 180)])).bind fun y => aK (exec tTab d y [.ref a0, .int (x7), .int ((nI 4)), .int (x6)] h) (fun v h1 => R_X7_gives d 113 [some (.ref a0), l1, l2, l3, l4, l5, some (.int (x6)), some (.int (x7)), l8] (v.toList ++ []) h1) (fun E h1 => some (.inr E, h1)) := by
  refine (p_aload rfl rfl).trans ?_
  refine (p_iload rfl rfl).trans ?_
  refine (p_const rfl).trans ?_
  refine (p_iload rfl rfl).trans ?_
  exact s_callV (L := [(18, 180)]) (n := 3) (b := a0) (rest := []) rfl rfl rfl
theorem r_X7_gives_113 {d : Nat} {a0 : Nat} {x7 x5 : Int32} {l1 l2 l3 l4 l6 l8 : Option Value} {h : AH} : R_X7_gives d 113 [some (.ref a0), l1, l2, l3, l4, some (.int (x5)), l6, some (.int (x7)), l8] [] h = if x5 = 0 then R_X7_gives d 126 [some (.ref a0), l1, l2, l3, l4, some (.int (x5)), l6, some (.int (x7)), l8] [.int ((nI 5)), .int (x7), .ref a0] h else R_X7_gives d 122 [some (.ref a0), l1, l2, l3, l4, some (.int (x5)), l6, some (.int (x7)), l8] [.int ((nI 5)), .int (x7), .ref a0] h := by
  refine (p_aload rfl rfl).trans ?_
  refine (p_iload rfl rfl).trans ?_
  refine (p_const rfl).trans ?_
  refine (p_iload rfl rfl).trans ?_
  exact (s_if (g := (fun x => decide (x = 0))) (t := 126) (nx := 122) rfl).trans bif_dec
theorem r_X7_gives_126 {d : Nat} {b0 : Nat} {s1 s2 : Int32} {l0 l1 l2 l3 l4 l5 l6 l7 l8 : Option Value} {h : AH} : R_X7_gives d 126 [l0, l1, l2, l3, l4, l5, l6, l7, l8] [.int (s2), .int (s1), .ref b0] h = ((hci h b0).bind (lkN [(18, 180)])).bind fun y => aK (exec tTab d y [.ref b0, .int (s1), .int (s2), .int ((nI 0))] h) (fun v h1 => R_X7_gives d 130 [l0, l1, l2, l3, l4, l5, l6, l7, l8] (v.toList ++ []) h1) (fun E h1 => some (.inr E, h1)) := by
  refine (p_const rfl).trans ?_
  exact s_callV (L := [(18, 180)]) (n := 3) (b := b0) (rest := []) rfl rfl rfl
theorem r_X7_gives_122 {d : Nat} {b0 : Nat} {s1 s2 : Int32} {l0 l1 l2 l3 l4 l5 l6 l7 l8 : Option Value} {h : AH} : R_X7_gives d 122 [l0, l1, l2, l3, l4, l5, l6, l7, l8] [.int (s2), .int (s1), .ref b0] h = ((hci h b0).bind (lkN [(18, 180)])).bind fun y => aK (exec tTab d y [.ref b0, .int (s1), .int (s2), .int ((nI 1))] h) (fun v h1 => R_X7_gives d 130 [l0, l1, l2, l3, l4, l5, l6, l7, l8] (v.toList ++ []) h1) (fun E h1 => some (.inr E, h1)) := by
  refine (p_const rfl).trans ?_
  refine (p_goto rfl).trans ?_
  exact s_callV (L := [(18, 180)]) (n := 3) (b := b0) (rest := []) rfl rfl rfl
theorem r_X7_gives_130 {d : Nat} {a0 : Nat} {x7 : Int32} {l1 l2 l3 l4 l5 l6 l8 : Option Value} {h : AH} : R_X7_gives d 130 [some (.ref a0), l1, l2, l3, l4, l5, l6, some (.int (x7)), l8] [] h = ((hci h a0).bind (lkN [(18, 180)])).bind fun y => aK (exec tTab d y [.ref a0, .int (x7), .int ((nI 6)), .int ((nI 2))] h) (fun v h1 => R_X7_gives d 139 [some (.ref a0), l1, l2, l3, l4, l5, l6, some (.int (x7)), l8] (v.toList ++ []) h1) (fun E h1 => some (.inr E, h1)) := by
  refine (p_aload rfl rfl).trans ?_
  refine (p_iload rfl rfl).trans ?_
  refine (p_const rfl).trans ?_
  refine (p_const rfl).trans ?_
  exact s_callV (L := [(18, 180)]) (n := 3) (b := a0) (rest := []) rfl rfl rfl
theorem r_X7_gives_139 {d : Nat} {a0 : Nat} {x7 x1 : Int32} {l2 l3 l4 l5 l6 l8 : Option Value} {h : AH} : R_X7_gives d 139 [some (.ref a0), some (.int (x1)), l2, l3, l4, l5, l6, some (.int (x7)), l8] [] h = ((hci h a0).bind (lkN [(18, 180)])).bind fun y => aK (exec tTab d y [.ref a0, .int (x7), .int ((nI 7)), .int (x1)] h) (fun v h1 => R_X7_gives d 148 [some (.ref a0), some (.int (x1)), l2, l3, l4, l5, l6, some (.int (x7)), l8] (v.toList ++ []) h1) (fun E h1 => some (.inr E, h1)) := by
  refine (p_aload rfl rfl).trans ?_
  refine (p_iload rfl rfl).trans ?_
  refine (p_const rfl).trans ?_
  refine (p_iload rfl rfl).trans ?_
  exact s_callV (L := [(18, 180)]) (n := 3) (b := a0) (rest := []) rfl rfl rfl
theorem r_X7_gives_148 {d : Nat} {a0 : Nat} {x7 x2 : Int32} {l1 l3 l4 l5 l6 l8 : Option Value} {h : AH} : R_X7_gives d 148 [some (.ref a0), l1, some (.int (x2)), l3, l4, l5, l6, some (.int (x7)), l8] [] h = ((hci h a0).bind (lkN [(18, 180)])).bind fun y => aK (exec tTab d y [.ref a0, .int (x7), .int ((nI 8)), .int (x2)] h) (fun v h1 => R_X7_gives d 157 [some (.ref a0), l1, some (.int (x2)), l3, l4, l5, l6, some (.int (x7)), l8] (v.toList ++ []) h1) (fun E h1 => some (.inr E, h1)) := by
  refine (p_aload rfl rfl).trans ?_
  refine (p_iload rfl rfl).trans ?_
  refine (p_const rfl).trans ?_
  refine (p_iload rfl rfl).trans ?_
  exact s_callV (L := [(18, 180)]) (n := 3) (b := a0) (rest := []) rfl rfl rfl
theorem r_X7_gives_157 {d : Nat} {x7 : Int32} {l0 l1 l2 l3 l4 l5 l6 l8 : Option Value} {h : AH} : R_X7_gives d 157 [l0, l1, l2, l3, l4, l5, l6, some (.int (x7)), l8] [] h = some (.inl (some (.int (x7))), h) := by
  refine (p_iload rfl rfl).trans ?_
  exact s_iretT rfl rfl
theorem e_X7_gives {d : Nat} {a0 : Nat} {x1 x2 x3 x4 x5 : Int32} {h : AH} : exec tTab (d + 1) K_X7_gives [.ref a0, .int x1, .int x2, .int x3, .int x4, .int x5] h = R_X7_gives d 0 [some (.ref a0), some (.int x1), some (.int x2), some (.int x3), some (.int x4), some (.int x5), none, none, none] [] h := exec_eq (cd := k_X7_gives) (hd := (fun _ _ => some none)) (L := 9) rfl rfl rfl
/-- FavourTownModel.canGive(IIIIZ)Z -/
abbrev K_X7_canGive : Nat := 173
noncomputable def R_X7_canGive (d pc : Nat) (ls : ALs) (st : List Value) (h : AH) : Option (AOut × AH) := aR (exec tTab d) k_X7_canGive (fun _ _ => some none) (pc, ls, st, h)
theorem r_X7_canGive_0 {d : Nat} {a0 : Nat} {x1 : Int32} {l2 l3 l4 l5 : Option Value} {h : AH} : R_X7_canGive d 0 [some (.ref a0), some (.int (x1)), l2, l3, l4, l5] [] h = ((hci h a0).bind (lkN [(18, 174)])).bind fun y => aK (exec tTab d y [.ref a0, .int (x1)] h) (fun v h1 => R_X7_canGive d 5 [some (.ref a0), some (.int (x1)), l2, l3, l4, l5] (v.toList ++ []) h1) (fun E h1 => some (.inr E, h1)) := by
  refine (p_aload rfl rfl).trans ?_
  refine (p_iload rfl rfl).trans ?_
  exact s_callV (L := [(18, 174)]) (n := 1) (b := a0) (rest := []) rfl rfl rfl
theorem r_X7_canGive_5 {d : Nat} {s0 x3 : Int32} {a0 : Nat} {l1 l2 l4 l5 : Option Value} {h : AH} : R_X7_canGive d 5 [some (.ref a0), l1, l2, some (.int (x3)), l4, l5] [.int (s0)] h = (hgf h [18] a0 1).bind fun v => R_X7_canGive d 11 [some (.ref a0), l1, l2, some (.int (x3)), l4, l5] [v, .int (s0 + x3)] h := by
  refine (p_iload rfl rfl).trans ?_
  refine (p_bin rfl).trans ?_
  refine (p_aload rfl rfl).trans ?_
  exact s_getf rfl
theorem r_X7_canGive_11 {d : Nat} {s0 x1 : Int32} {b1 : Nat} {l0 l2 l3 l4 l5 : Option Value} {h : AH} : R_X7_canGive d 11 [l0, some (.int (x1)), l2, l3, l4, l5] [.ref b1, .int (s0)] h = (hai h 0 b1 ((nI 10) + ((nI 3) * x1))).bind fun v => R_X7_canGive d 18 [l0, some (.int (x1)), l2, l3, l4, l5] [.int v, .int (s0)] h := by
  refine (p_const rfl).trans ?_
  refine (p_const rfl).trans ?_
  refine (p_iload rfl rfl).trans ?_
  refine (p_bin rfl).trans ?_
  refine (p_bin rfl).trans ?_
  exact s_iald rfl
theorem r_X7_canGive_18 {d : Nat} {s0 s1 : Int32} {l0 l1 l2 l3 l4 l5 : Option Value} {h : AH} : R_X7_canGive d 18 [l0, l1, l2, l3, l4, l5] [.int (s1), .int (s0)] h = if s1 < s0 then R_X7_canGive d 52 [l0, l1, l2, l3, l4, l5] [] h else R_X7_canGive d 21 [l0, l1, l2, l3, l4, l5] [] h := (s_icmp (g := (fun x y => decide (y < x))) (t := 52) (nx := 21) rfl).trans bif_dec
theorem r_X7_canGive_52 {d : Nat} {l0 l1 l2 l3 l4 l5 : Option Value} {h : AH} : R_X7_canGive d 52 [l0, l1, l2, l3, l4, l5] [] h = some (.inl (some (.int ((nI 0)))), h) := by
  refine (p_const rfl).trans ?_
  exact s_iretT rfl rfl
theorem r_X7_canGive_21 {d : Nat} {a0 : Nat} {x2 x1 x3 x4 x5 : Int32} {h : AH} : R_X7_canGive d 21 [some (.ref a0), some (.int (x1)), some (.int (x2)), some (.int (x3)), some (.int (x4)), some (.int (x5))] [] h = ((hci h a0).bind (lkN [(18, 176)])).bind fun y => aK (exec tTab d y [.ref a0, .int (x2), .int (x1), .int (x3), .int ((nI 0)), .int (x4), .int (x5), .int ((nI 0))] h) (fun v h1 => R_X7_canGive d 34 [some (.ref a0), some (.int (x1)), some (.int (x2)), some (.int (x3)), some (.int (x4)), some (.int (x5))] (v.toList ++ []) h1) (fun E h1 => some (.inr E, h1)) := by
  refine (p_aload rfl rfl).trans ?_
  refine (p_iload rfl rfl).trans ?_
  refine (p_iload rfl rfl).trans ?_
  refine (p_iload rfl rfl).trans ?_
  refine (p_const rfl).trans ?_
  refine (p_iload rfl rfl).trans ?_
  refine (p_iload rfl rfl).trans ?_
  refine (p_const rfl).trans ?_
  exact s_callV (L := [(18, 176)]) (n := 7) (b := a0) (rest := []) rfl rfl rfl
theorem r_X7_canGive_34 {d : Nat} {s0 : Int32} {l0 l1 l2 l3 l4 l5 : Option Value} {h : AH} : R_X7_canGive d 34 [l0, l1, l2, l3, l4, l5] [.int (s0)] h = if s0 = 0 then R_X7_canGive d 52 [l0, l1, l2, l3, l4, l5] [] h else R_X7_canGive d 37 [l0, l1, l2, l3, l4, l5] [] h := (s_if (g := (fun x => decide (x = 0))) (t := 52) (nx := 37) rfl).trans bif_dec
theorem r_X7_canGive_37 {d : Nat} {a0 : Nat} {l1 l2 l3 l4 l5 : Option Value} {h : AH} : R_X7_canGive d 37 [some (.ref a0), l1, l2, l3, l4, l5] [] h = (hgf h [18] a0 1).bind fun v => R_X7_canGive d 41 [some (.ref a0), l1, l2, l3, l4, l5] [v] h := by
  refine (p_aload rfl rfl).trans ?_
  exact s_getf rfl
theorem r_X7_canGive_41 {d : Nat} {b0 : Nat} {l0 l1 l2 l3 l4 l5 : Option Value} {h : AH} : R_X7_canGive d 41 [l0, l1, l2, l3, l4, l5] [.ref b0] h = (hai h 0 b0 (nI 3)).bind fun v => R_X7_canGive d 43 [l0, l1, l2, l3, l4, l5] [.int v] h := by
  refine (p_const rfl).trans ?_
  exact s_iald rfl
theorem r_X7_canGive_43 {d : Nat} {s0 : Int32} {l0 l1 l2 l3 l4 l5 : Option Value} {h : AH} : R_X7_canGive d 43 [l0, l1, l2, l3, l4, l5] [.int (s0)] h = if (nI 40) ≤ s0 then R_X7_canGive d 52 [l0, l1, l2, l3, l4, l5] [] h else R_X7_canGive d 48 [l0, l1, l2, l3, l4, l5] [] h := by
  refine (p_const rfl).trans ?_
  exact (s_icmp (g := (fun x y => decide (y ≤ x))) (t := 52) (nx := 48) rfl).trans bif_dec
theorem r_X7_canGive_48 {d : Nat} {l0 l1 l2 l3 l4 l5 : Option Value} {h : AH} : R_X7_canGive d 48 [l0, l1, l2, l3, l4, l5] [] h = some (.inl (some (.int ((nI 1)))), h) := by
  refine (p_const rfl).trans ?_
  refine (p_goto rfl).trans ?_
  exact s_iretT rfl rfl
theorem e_X7_canGive {d : Nat} {a0 : Nat} {x1 x2 x3 x4 x5 : Int32} {h : AH} : exec tTab (d + 1) K_X7_canGive [.ref a0, .int x1, .int x2, .int x3, .int x4, .int x5] h = R_X7_canGive d 0 [some (.ref a0), some (.int x1), some (.int x2), some (.int x3), some (.int x4), some (.int x5)] [] h := exec_eq (cd := k_X7_canGive) (hd := (fun _ _ => some none)) (L := 6) rfl rfl rfl
/-- FavourTownModel.debtOf(I)I -/
abbrev K_X7_debtOf : Nat := 174
noncomputable def R_X7_debtOf (d pc : Nat) (ls : ALs) (st : List Value) (h : AH) : Option (AOut × AH) := aR (exec tTab d) k_X7_debtOf (fun _ _ => some none) (pc, ls, st, h)
theorem r_X7_debtOf_0 {d : Nat} {l0 l1 l2 l3 : Option Value} {h : AH} : R_X7_debtOf d 0 [l0, l1, l2, l3] [] h = R_X7_debtOf d 4 [l0, l1, some (.int ((nI 0))), some (.int ((nI 0)))] [] h := by
  refine (p_const rfl).trans ?_
  refine (p_istore rfl rfl rfl).trans ?_
  refine (p_const rfl).trans ?_
  refine (p_istore rfl rfl rfl).trans ?_
  exact rfl
theorem q_X7_debtOf_4 {d : Nat} {x3 : Int32} {a0 : Nat} {l1 l2 : Option Value} {h : AH} : R_X7_debtOf d 4 [some (.ref a0), l1, l2, some (.int (x3))] [] h = (hgf h [18] a0 1).bind fun v => R_X7_debtOf d 9 [some (.ref a0), l1, l2, some (.int (x3))] [v, .int (x3)] h := by
  refine (p_iload rfl rfl).trans ?_
  refine (p_aload rfl rfl).trans ?_
  exact s_getf rfl
theorem r_X7_debtOf_9 {d : Nat} {s0 : Int32} {b1 : Nat} {l0 l1 l2 l3 : Option Value} {h : AH} : R_X7_debtOf d 9 [l0, l1, l2, l3] [.ref b1, .int (s0)] h = (hai h 0 b1 (nI 3)).bind fun v => R_X7_debtOf d 11 [l0, l1, l2, l3] [.int v, .int (s0)] h := by
  refine (p_const rfl).trans ?_
  exact s_iald rfl
theorem r_X7_debtOf_11 {d : Nat} {s0 s1 : Int32} {l0 l1 l2 l3 : Option Value} {h : AH} : R_X7_debtOf d 11 [l0, l1, l2, l3] [.int (s1), .int (s0)] h = if s1 ≤ s0 then R_X7_debtOf d 53 [l0, l1, l2, l3] [] h else R_X7_debtOf d 14 [l0, l1, l2, l3] [] h := (s_icmp (g := (fun x y => decide (y ≤ x))) (t := 53) (nx := 14) rfl).trans bif_dec
theorem r_X7_debtOf_53 {d : Nat} {x2 : Int32} {l0 l1 l3 : Option Value} {h : AH} : R_X7_debtOf d 53 [l0, l1, some (.int (x2)), l3] [] h = some (.inl (some (.int (x2))), h) := by
  refine (p_iload rfl rfl).trans ?_
  exact s_iretT rfl rfl
theorem r_X7_debtOf_14 {d : Nat} {x2 x3 : Int32} {a0 : Nat} {l1 : Option Value} {h : AH} : R_X7_debtOf d 14 [some (.ref a0), l1, some (.int (x2)), some (.int (x3))] [] h = ((hci h a0).bind (lkN [(18, 175)])).bind fun y => aK (exec tTab d y [.ref a0, .int (x3), .int ((nI 0))] h) (fun v h1 => R_X7_debtOf d 21 [some (.ref a0), l1, some (.int (x2)), some (.int (x3))] (v.toList ++ [.int (x2)]) h1) (fun E h1 => some (.inr E, h1)) := by
  refine (p_iload rfl rfl).trans ?_
  refine (p_aload rfl rfl).trans ?_
  refine (p_iload rfl rfl).trans ?_
  refine (p_const rfl).trans ?_
  exact s_callV (L := [(18, 175)]) (n := 2) (b := a0) (rest := [.int (x2)]) rfl rfl rfl
theorem r_X7_debtOf_21 {d : Nat} {s0 s1 x1 : Int32} {l0 l2 l3 : Option Value} {h : AH} : R_X7_debtOf d 21 [l0, some (.int (x1)), l2, l3] [.int (s1), .int (s0)] h = if ¬ s1 = x1 then R_X7_debtOf d 44 [l0, some (.int (x1)), l2, l3] [.int (s0)] h else R_X7_debtOf d 25 [l0, some (.int (x1)), l2, l3] [.int (s0)] h := by
  refine (p_iload rfl rfl).trans ?_
  exact (s_icmp (g := (fun x y => decide (¬ x = y))) (t := 44) (nx := 25) rfl).trans bif_dec
theorem r_X7_debtOf_44 {d : Nat} {s0 x3 : Int32} {l0 l1 l2 : Option Value} {h : AH} : R_X7_debtOf d 44 [l0, l1, l2, some (.int (x3))] [.int (s0)] h = R_X7_debtOf d 4 [l0, l1, some (.int (s0 + (nI 0))), some (.int (x3 + (nI 1)))] [] h := by
  refine (p_const rfl).trans ?_
  refine (p_bin rfl).trans ?_
  refine (p_istore rfl rfl rfl).trans ?_
  refine (p_iinc rfl rfl rfl).trans ?_
  refine (p_goto rfl).trans ?_
  exact rfl
theorem r_X7_debtOf_25 {d : Nat} {s0 x3 : Int32} {a0 : Nat} {l1 l2 : Option Value} {h : AH} : R_X7_debtOf d 25 [some (.ref a0), l1, l2, some (.int (x3))] [.int (s0)] h = ((hci h a0).bind (lkN [(18, 175)])).bind fun y => aK (exec tTab d y [.ref a0, .int (x3), .int ((nI 2))] h) (fun v h1 => R_X7_debtOf d 31 [some (.ref a0), l1, l2, some (.int (x3))] (v.toList ++ [.int (s0)]) h1) (fun E h1 => some (.inr E, h1)) := by
  refine (p_aload rfl rfl).trans ?_
  refine (p_iload rfl rfl).trans ?_
  refine (p_const rfl).trans ?_
  exact s_callV (L := [(18, 175)]) (n := 2) (b := a0) (rest := [.int (s0)]) rfl rfl rfl
theorem r_X7_debtOf_31 {d : Nat} {s0 s1 : Int32} {l0 l1 l2 l3 : Option Value} {h : AH} : R_X7_debtOf d 31 [l0, l1, l2, l3] [.int (s1), .int (s0)] h = if s1 = (-1) then R_X7_debtOf d 44 [l0, l1, l2, l3] [.int (s0)] h else R_X7_debtOf d 35 [l0, l1, l2, l3] [.int (s0)] h := by
  refine (p_const rfl).trans ?_
  exact (s_icmp (g := (fun x y => decide (x = y))) (t := 44) (nx := 35) rfl).trans bif_dec
theorem r_X7_debtOf_35 {d : Nat} {s0 x3 : Int32} {a0 : Nat} {l1 l2 : Option Value} {h : AH} : R_X7_debtOf d 35 [some (.ref a0), l1, l2, some (.int (x3))] [.int (s0)] h = ((hci h a0).bind (lkN [(18, 175)])).bind fun y => aK (exec tTab d y [.ref a0, .int (x3), .int ((nI 1))] h) (fun v h1 => R_X7_debtOf d 41 [some (.ref a0), l1, l2, some (.int (x3))] (v.toList ++ [.int (s0)]) h1) (fun E h1 => some (.inr E, h1)) := by
  refine (p_aload rfl rfl).trans ?_
  refine (p_iload rfl rfl).trans ?_
  refine (p_const rfl).trans ?_
  exact s_callV (L := [(18, 175)]) (n := 2) (b := a0) (rest := [.int (s0)]) rfl rfl rfl
theorem r_X7_debtOf_41 {d : Nat} {s0 s1 x3 : Int32} {l0 l1 l2 : Option Value} {h : AH} : R_X7_debtOf d 41 [l0, l1, l2, some (.int (x3))] [.int (s1), .int (s0)] h = R_X7_debtOf d 4 [l0, l1, some (.int (s0 + s1)), some (.int (x3 + (nI 1)))] [] h := by
  refine (p_goto rfl).trans ?_
  refine (p_bin rfl).trans ?_
  refine (p_istore rfl rfl rfl).trans ?_
  refine (p_iinc rfl rfl rfl).trans ?_
  refine (p_goto rfl).trans ?_
  exact rfl
theorem e_X7_debtOf {d : Nat} {a0 : Nat} {x1 : Int32} {h : AH} : exec tTab (d + 1) K_X7_debtOf [.ref a0, .int x1] h = R_X7_debtOf d 0 [some (.ref a0), some (.int x1), none, none] [] h := exec_eq (cd := k_X7_debtOf) (hd := (fun _ _ => some none)) (L := 4) rfl rfl rfl
/-- FavourTownModel.of(II)I -/
abbrev K_X7_of : Nat := 175
noncomputable def R_X7_of (d pc : Nat) (ls : ALs) (st : List Value) (h : AH) : Option (AOut × AH) := aR (exec tTab d) k_X7_of (fun _ _ => some none) (pc, ls, st, h)
theorem r_X7_of_0 {d : Nat} {a0 : Nat} {l1 l2 : Option Value} {h : AH} : R_X7_of d 0 [some (.ref a0), l1, l2] [] h = (hgf h [18] a0 1).bind fun v => R_X7_of d 4 [some (.ref a0), l1, l2] [v] h := by
  refine (p_aload rfl rfl).trans ?_
  exact s_getf rfl
theorem r_X7_of_4 {d : Nat} {b0 : Nat} {x1 x2 : Int32} {l0 : Option Value} {h : AH} : R_X7_of d 4 [l0, some (.int (x1)), some (.int (x2))] [.ref b0] h = (hai h 0 b0 (((nI 140) + ((nI 20) * x1)) + x2)).bind fun v => R_X7_of d 15 [l0, some (.int (x1)), some (.int (x2))] [.int v] h := by
  refine (p_const rfl).trans ?_
  refine (p_const rfl).trans ?_
  refine (p_iload rfl rfl).trans ?_
  refine (p_bin rfl).trans ?_
  refine (p_bin rfl).trans ?_
  refine (p_iload rfl rfl).trans ?_
  refine (p_bin rfl).trans ?_
  exact s_iald rfl
theorem r_X7_of_15 {d : Nat} {s0 : Int32} {l0 l1 l2 : Option Value} {h : AH} : R_X7_of d 15 [l0, l1, l2] [.int (s0)] h = some (.inl (some (.int (s0))), h) := s_iretT rfl rfl
theorem e_X7_of {d : Nat} {a0 : Nat} {x1 x2 : Int32} {h : AH} : exec tTab (d + 1) K_X7_of [.ref a0, .int x1, .int x2] h = R_X7_of d 0 [some (.ref a0), some (.int x1), some (.int x2)] [] h := exec_eq (cd := k_X7_of) (hd := (fun _ _ => some none)) (L := 3) rfl rfl rfl
/-- FavourTownModel.wouldTake(IIIIIZZ)Z -/
abbrev K_X7_wouldTake : Nat := 176
noncomputable def R_X7_wouldTake (d pc : Nat) (ls : ALs) (st : List Value) (h : AH) : Option (AOut × AH) := aR (exec tTab d) k_X7_wouldTake (fun _ _ => some none) (pc, ls, st, h)
theorem r_X7_wouldTake_0 {d : Nat} {a0 : Nat} {l1 l2 l3 l4 l5 l6 l7 l8 l9 l10 l11 l12 l13 : Option Value} {h : AH} : R_X7_wouldTake d 0 [some (.ref a0), l1, l2, l3, l4, l5, l6, l7, l8, l9, l10, l11, l12, l13] [] h = (hgf h [18] a0 1).bind fun v => R_X7_wouldTake d 4 [some (.ref a0), l1, l2, l3, l4, l5, l6, l7, l8, l9, l10, l11, l12, l13] [v] h := by
  refine (p_aload rfl rfl).trans ?_
  exact s_getf rfl
theorem r_X7_wouldTake_4 {d : Nat} {b0 : Nat} {x1 : Int32} {l0 l2 l3 l4 l5 l6 l7 l8 l9 l10 l11 l12 l13 : Option Value} {h : AH} : R_X7_wouldTake d 4 [l0, some (.int (x1)), l2, l3, l4, l5, l6, l7, l8, l9, l10, l11, l12, l13] [.ref b0] h = (hai h 0 b0 (((nI 10) + ((nI 3) * x1)) + (nI 1))).bind fun v => R_X7_wouldTake d 13 [l0, some (.int (x1)), l2, l3, l4, l5, l6, l7, l8, l9, l10, l11, l12, l13] [.int v] h := by
  refine (p_const rfl).trans ?_
  refine (p_const rfl).trans ?_
  refine (p_iload rfl rfl).trans ?_
  refine (p_bin rfl).trans ?_
  refine (p_bin rfl).trans ?_
  refine (p_const rfl).trans ?_
  refine (p_bin rfl).trans ?_
  exact s_iald rfl
theorem r_X7_wouldTake_13 {d : Nat} {s0 x6 : Int32} {l0 l1 l2 l3 l4 l5 l7 l8 l9 l10 l11 l12 l13 : Option Value} {h : AH} : R_X7_wouldTake d 13 [l0, l1, l2, l3, l4, l5, some (.int (x6)), l7, l8, l9, l10, l11, l12, l13] [.int (s0)] h = if ¬ x6 = 0 then R_X7_wouldTake d 26 [l0, l1, l2, l3, l4, l5, some (.int (x6)), l7, some (.int (s0)), l9, l10, l11, l12, l13] [] h else R_X7_wouldTake d 20 [l0, l1, l2, l3, l4, l5, some (.int (x6)), l7, some (.int (s0)), l9, l10, l11, l12, l13] [] h := by
  refine (p_istore rfl rfl rfl).trans ?_
  refine (p_iload rfl rfl).trans ?_
  exact (s_if (g := (fun x => decide (¬ x = 0))) (t := 26) (nx := 20) rfl).trans bif_dec
theorem r_X7_wouldTake_26 {d : Nat} {l0 l1 l2 l3 l4 l5 l6 l7 l8 l9 l10 l11 l12 l13 : Option Value} {h : AH} : R_X7_wouldTake d 26 [l0, l1, l2, l3, l4, l5, l6, l7, l8, l9, l10, l11, l12, l13] [] h = some (.inl (some (.int ((nI 1)))), h) := by
  refine (p_const rfl).trans ?_
  exact s_iretT rfl rfl
theorem r_X7_wouldTake_20 {d : Nat} {x8 : Int32} {l0 l1 l2 l3 l4 l5 l6 l7 l9 l10 l11 l12 l13 : Option Value} {h : AH} : R_X7_wouldTake d 20 [l0, l1, l2, l3, l4, l5, l6, l7, some (.int (x8)), l9, l10, l11, l12, l13] [] h = if ¬ x8 = (-1) then R_X7_wouldTake d 28 [l0, l1, l2, l3, l4, l5, l6, l7, some (.int (x8)), l9, l10, l11, l12, l13] [] h else R_X7_wouldTake d 26 [l0, l1, l2, l3, l4, l5, l6, l7, some (.int (x8)), l9, l10, l11, l12, l13] [] h := by
  refine (p_iload rfl rfl).trans ?_
  refine (p_const rfl).trans ?_
  exact (s_icmp (g := (fun x y => decide (¬ x = y))) (t := 28) (nx := 26) rfl).trans bif_dec
theorem r_X7_wouldTake_28 {d : Nat} {a0 : Nat} {l1 l2 l3 l4 l5 l6 l7 l8 l9 l10 l11 l12 l13 : Option Value} {h : AH} : R_X7_wouldTake d 28 [some (.ref a0), l1, l2, l3, l4, l5, l6, l7, l8, l9, l10, l11, l12, l13] [] h = (hgf h [18] a0 13).bind fun v => R_X7_wouldTake d 32 [some (.ref a0), l1, l2, l3, l4, l5, l6, l7, l8, l9, l10, l11, l12, l13] [v] h := by
  refine (p_aload rfl rfl).trans ?_
  exact s_getf rfl
theorem r_X7_wouldTake_32 {d : Nat} {b0 : Nat} {x3 x4 : Int32} {l0 l1 l2 l5 l6 l7 l8 l9 l10 l11 l12 l13 : Option Value} {h : AH} : R_X7_wouldTake d 32 [l0, l1, l2, some (.int (x3)), some (.int (x4)), l5, l6, l7, l8, l9, l10, l11, l12, l13] [.ref b0] h = aK (exec tTab d 177 [.int (x3), .int (x4)] h) (fun v h1 => R_X7_wouldTake d 39 [l0, l1, l2, some (.int (x3)), some (.int (x4)), l5, l6, l7, l8, l9, l10, l11, l12, l13] (v.toList ++ [.int ((nI 0)), .ref b0]) h1) (fun E h1 => some (.inr E, h1)) := by
  refine (p_const rfl).trans ?_
  refine (p_iload rfl rfl).trans ?_
  refine (p_iload rfl rfl).trans ?_
  exact s_callS (y := 177) (n := 2) rfl rfl
theorem r_X7_wouldTake_32N {d : Nat} {x3 x4 : Int32} {l0 l1 l2 l5 l6 l7 l8 l9 l10 l11 l12 l13 : Option Value} {h : AH} : R_X7_wouldTake d 32 [l0, l1, l2, some (.int (x3)), some (.int (x4)), l5, l6, l7, l8, l9, l10, l11, l12, l13] [.null] h = aK (exec tTab d 177 [.int (x3), .int (x4)] h) (fun v h1 => R_X7_wouldTake d 39 [l0, l1, l2, some (.int (x3)), some (.int (x4)), l5, l6, l7, l8, l9, l10, l11, l12, l13] (v.toList ++ [.int ((nI 0)), .null]) h1) (fun E h1 => some (.inr E, h1)) := by
  refine (p_const rfl).trans ?_
  refine (p_iload rfl rfl).trans ?_
  refine (p_iload rfl rfl).trans ?_
  exact s_callS (y := 177) (n := 2) rfl rfl
theorem r_X7_wouldTake_39 {d : Nat} {b0 : Nat} {s1 s2 : Int32} {l0 l1 l2 l3 l4 l5 l6 l7 l8 l9 l10 l11 l12 l13 : Option Value} {h : AH} : R_X7_wouldTake d 39 [l0, l1, l2, l3, l4, l5, l6, l7, l8, l9, l10, l11, l12, l13] [.int (s2), .int (s1), .ref b0] h = (hsi h 0 b0 s1 (s2 / (nI 1024))).bind fun h1 => R_X7_wouldTake d 44 [l0, l1, l2, l3, l4, l5, l6, l7, l8, l9, l10, l11, l12, l13] [] h1 := by
  refine (p_const rfl).trans ?_
  refine (p_divC rfl (by decide)).trans ?_
  exact s_iast (t := 0) (nar := (fun y => y)) rfl
theorem r_X7_wouldTake_44 {d : Nat} {a0 : Nat} {l1 l2 l3 l4 l5 l6 l7 l8 l9 l10 l11 l12 l13 : Option Value} {h : AH} : R_X7_wouldTake d 44 [some (.ref a0), l1, l2, l3, l4, l5, l6, l7, l8, l9, l10, l11, l12, l13] [] h = (hgf h [18] a0 13).bind fun v => R_X7_wouldTake d 48 [some (.ref a0), l1, l2, l3, l4, l5, l6, l7, l8, l9, l10, l11, l12, l13] [v] h := by
  refine (p_aload rfl rfl).trans ?_
  exact s_getf rfl
theorem r_X7_wouldTake_48 {d : Nat} {b0 : Nat} {x3 : Int32} {l0 l1 l2 l4 l5 l6 l7 l8 l9 l10 l11 l12 l13 : Option Value} {h : AH} : R_X7_wouldTake d 48 [l0, l1, l2, some (.int (x3)), l4, l5, l6, l7, l8, l9, l10, l11, l12, l13] [.ref b0] h = (hsi h 0 b0 (nI 1) x3).bind fun h1 => R_X7_wouldTake d 51 [l0, l1, l2, some (.int (x3)), l4, l5, l6, l7, l8, l9, l10, l11, l12, l13] [] h1 := by
  refine (p_const rfl).trans ?_
  refine (p_iload rfl rfl).trans ?_
  exact s_iast (t := 0) (nar := (fun y => y)) rfl
theorem r_X7_wouldTake_51 {d : Nat} {a0 : Nat} {l1 l2 l3 l4 l5 l6 l7 l8 l9 l10 l11 l12 l13 : Option Value} {h : AH} : R_X7_wouldTake d 51 [some (.ref a0), l1, l2, l3, l4, l5, l6, l7, l8, l9, l10, l11, l12, l13] [] h = (hgf h [18] a0 13).bind fun v => R_X7_wouldTake d 55 [some (.ref a0), l1, l2, l3, l4, l5, l6, l7, l8, l9, l10, l11, l12, l13] [v] h := by
  refine (p_aload rfl rfl).trans ?_
  exact s_getf rfl
theorem r_X7_wouldTake_55 {d : Nat} {b0 : Nat} {x4 : Int32} {l0 l1 l2 l3 l5 l6 l7 l8 l9 l10 l11 l12 l13 : Option Value} {h : AH} : R_X7_wouldTake d 55 [l0, l1, l2, l3, some (.int (x4)), l5, l6, l7, l8, l9, l10, l11, l12, l13] [.ref b0] h = (hsi h 0 b0 (nI 2) x4).bind fun h1 => R_X7_wouldTake d 59 [l0, l1, l2, l3, some (.int (x4)), l5, l6, l7, l8, l9, l10, l11, l12, l13] [] h1 := by
  refine (p_const rfl).trans ?_
  refine (p_iload rfl rfl).trans ?_
  exact s_iast (t := 0) (nar := (fun y => y)) rfl
theorem r_X7_wouldTake_59 {d : Nat} {a0 : Nat} {l1 l2 l3 l4 l5 l6 l7 l8 l9 l10 l11 l12 l13 : Option Value} {h : AH} : R_X7_wouldTake d 59 [some (.ref a0), l1, l2, l3, l4, l5, l6, l7, l8, l9, l10, l11, l12, l13] [] h = (hgf h [18] a0 13).bind fun v => R_X7_wouldTake d 63 [some (.ref a0), l1, l2, l3, l4, l5, l6, l7, l8, l9, l10, l11, l12, l13] [v] h := by
  refine (p_aload rfl rfl).trans ?_
  exact s_getf rfl
theorem r_X7_wouldTake_63 {d : Nat} {b0 : Nat} {x5 : Int32} {l0 l1 l2 l3 l4 l6 l7 l8 l9 l10 l11 l12 l13 : Option Value} {h : AH} : R_X7_wouldTake d 63 [l0, l1, l2, l3, l4, some (.int (x5)), l6, l7, l8, l9, l10, l11, l12, l13] [.ref b0] h = if ¬ x5 = (-1) then R_X7_wouldTake d 76 [l0, l1, l2, l3, l4, some (.int (x5)), l6, l7, l8, l9, l10, l11, l12, l13] [.int ((nI 3)), .ref b0] h else R_X7_wouldTake d 70 [l0, l1, l2, l3, l4, some (.int (x5)), l6, l7, l8, l9, l10, l11, l12, l13] [.int ((nI 3)), .ref b0] h := by
  refine (p_const rfl).trans ?_
  refine (p_iload rfl rfl).trans ?_
  refine (p_const rfl).trans ?_
  exact (s_icmp (g := (fun x y => decide (¬ x = y))) (t := 76) (nx := 70) rfl).trans bif_dec
theorem r_X7_wouldTake_63N {d : Nat} {x5 : Int32} {l0 l1 l2 l3 l4 l6 l7 l8 l9 l10 l11 l12 l13 : Option Value} {h : AH} : R_X7_wouldTake d 63 [l0, l1, l2, l3, l4, some (.int (x5)), l6, l7, l8, l9, l10, l11, l12, l13] [.null] h = if ¬ x5 = (-1) then R_X7_wouldTake d 76 [l0, l1, l2, l3, l4, some (.int (x5)), l6, l7, l8, l9, l10, l11, l12, l13] [.int ((nI 3)), .null] h else R_X7_wouldTake d 70 [l0, l1, l2, l3, l4, some (.int (x5)), l6, l7, l8, l9, l10, l11, l12, l13] [.int ((nI 3)), .null] h := by
  refine (p_const rfl).trans ?_
  refine (p_iload rfl rfl).trans ?_
  refine (p_const rfl).trans ?_
  exact (s_icmp (g := (fun x y => decide (¬ x = y))) (t := 76) (nx := 70) rfl).trans bif_dec
theorem r_X7_wouldTake_76 {d : Nat} {b0 a0 : Nat} {s1 x5 : Int32} {l1 l2 l3 l4 l6 l7 l8 l9 l10 l11 l12 l13 : Option Value} {h : AH} : R_X7_wouldTake d 76 [some (.ref a0), l1, l2, l3, l4, some (.int (x5)), l6, l7, l8, l9, l10, l11, l12, l13] [.int (s1), .ref b0] h = (hgf h [18] a0 1).bind fun v => R_X7_wouldTake d 82 [some (.ref a0), l1, l2, l3, l4, some (.int (x5)), l6, l7, l8, l9, l10, l11, l12, l13] [v, .int (x5), .int (s1), .ref b0] h := by
  refine (p_iload rfl rfl).trans ?_
  refine (p_aload rfl rfl).trans ?_
  exact s_getf rfl
theorem r_X7_wouldTake_70 {d : Nat} {b0 : Nat} {s1 : Int32} {l0 l1 l2 l3 l4 l5 l6 l7 l8 l9 l10 l11 l12 l13 : Option Value} {h : AH} : R_X7_wouldTake d 70 [l0, l1, l2, l3, l4, l5, l6, l7, l8, l9, l10, l11, l12, l13] [.int (s1), .ref b0] h = (hsi h 0 b0 s1 (nI 999)).bind fun h1 => R_X7_wouldTake d 87 [l0, l1, l2, l3, l4, l5, l6, l7, l8, l9, l10, l11, l12, l13] [] h1 := by
  refine (p_const rfl).trans ?_
  refine (p_goto rfl).trans ?_
  exact s_iast (t := 0) (nar := (fun y => y)) rfl
theorem r_X7_wouldTake_82 {d : Nat} {b0 b3 : Nat} {s1 s2 : Int32} {l0 l1 l2 l3 l4 l5 l6 l7 l8 l9 l10 l11 l12 l13 : Option Value} {h : AH} : R_X7_wouldTake d 82 [l0, l1, l2, l3, l4, l5, l6, l7, l8, l9, l10, l11, l12, l13] [.ref b3, .int (s2), .int (s1), .ref b0] h = (hai h 0 b3 (nI 6)).bind fun v => R_X7_wouldTake d 85 [l0, l1, l2, l3, l4, l5, l6, l7, l8, l9, l10, l11, l12, l13] [.int v, .int (s2), .int (s1), .ref b0] h := by
  refine (p_const rfl).trans ?_
  exact s_iald rfl
theorem r_X7_wouldTake_87 {d : Nat} {a0 : Nat} {l1 l2 l3 l4 l5 l6 l7 l8 l9 l10 l11 l12 l13 : Option Value} {h : AH} : R_X7_wouldTake d 87 [some (.ref a0), l1, l2, l3, l4, l5, l6, l7, l8, l9, l10, l11, l12, l13] [] h = (hgf h [18] a0 13).bind fun v => R_X7_wouldTake d 91 [some (.ref a0), l1, l2, l3, l4, l5, l6, l7, l8, l9, l10, l11, l12, l13] [v] h := by
  refine (p_aload rfl rfl).trans ?_
  exact s_getf rfl
theorem r_X7_wouldTake_85 {d : Nat} {b0 : Nat} {s1 s2 s3 : Int32} {l0 l1 l2 l3 l4 l5 l6 l7 l8 l9 l10 l11 l12 l13 : Option Value} {h : AH} : R_X7_wouldTake d 85 [l0, l1, l2, l3, l4, l5, l6, l7, l8, l9, l10, l11, l12, l13] [.int (s3), .int (s2), .int (s1), .ref b0] h = (hsi h 0 b0 s1 (s2 - s3)).bind fun h1 => R_X7_wouldTake d 87 [l0, l1, l2, l3, l4, l5, l6, l7, l8, l9, l10, l11, l12, l13] [] h1 := by
  refine (p_bin rfl).trans ?_
  exact s_iast (t := 0) (nar := (fun y => y)) rfl
theorem r_X7_wouldTake_91 {d : Nat} {b0 a0 : Nat} {x1 : Int32} {l2 l3 l4 l5 l6 l7 l8 l9 l10 l11 l12 l13 : Option Value} {h : AH} : R_X7_wouldTake d 91 [some (.ref a0), some (.int (x1)), l2, l3, l4, l5, l6, l7, l8, l9, l10, l11, l12, l13] [.ref b0] h = ((hci h a0).bind (lkN [(18, 178)])).bind fun y => aK (exec tTab d y [.ref a0, .int (x1)] h) (fun v h1 => R_X7_wouldTake d 97 [some (.ref a0), some (.int (x1)), l2, l3, l4, l5, l6, l7, l8, l9, l10, l11, l12, l13] (v.toList ++ [.int ((nI 4)), .ref b0]) h1) (fun E h1 => some (.inr E, h1)) := by
  refine (p_const rfl).trans ?_
  refine (p_aload rfl rfl).trans ?_
  refine (p_iload rfl rfl).trans ?_
  exact s_callV (L := [(18, 178)]) (n := 1) (b := a0) (rest := [.int ((nI 4)), .ref b0]) rfl rfl rfl
theorem r_X7_wouldTake_91N {d : Nat} {a0 : Nat} {x1 : Int32} {l2 l3 l4 l5 l6 l7 l8 l9 l10 l11 l12 l13 : Option Value} {h : AH} : R_X7_wouldTake d 91 [some (.ref a0), some (.int (x1)), l2, l3, l4, l5, l6, l7, l8, l9, l10, l11, l12, l13] [.null] h = ((hci h a0).bind (lkN [(18, 178)])).bind fun y => aK (exec tTab d y [.ref a0, .int (x1)] h) (fun v h1 => R_X7_wouldTake d 97 [some (.ref a0), some (.int (x1)), l2, l3, l4, l5, l6, l7, l8, l9, l10, l11, l12, l13] (v.toList ++ [.int ((nI 4)), .null]) h1) (fun E h1 => some (.inr E, h1)) := by
  refine (p_const rfl).trans ?_
  refine (p_aload rfl rfl).trans ?_
  refine (p_iload rfl rfl).trans ?_
  exact s_callV (L := [(18, 178)]) (n := 1) (b := a0) (rest := [.int ((nI 4)), .null]) rfl rfl rfl
theorem r_X7_wouldTake_97 {d : Nat} {b0 : Nat} {s1 s2 : Int32} {l0 l1 l2 l3 l4 l5 l6 l7 l8 l9 l10 l11 l12 l13 : Option Value} {h : AH} : R_X7_wouldTake d 97 [l0, l1, l2, l3, l4, l5, l6, l7, l8, l9, l10, l11, l12, l13] [.int (s2), .int (s1), .ref b0] h = (hsi h 0 b0 s1 (s2 / (nI 1024))).bind fun h1 => R_X7_wouldTake d 102 [l0, l1, l2, l3, l4, l5, l6, l7, l8, l9, l10, l11, l12, l13] [] h1 := by
  refine (p_const rfl).trans ?_
  refine (p_divC rfl (by decide)).trans ?_
  exact s_iast (t := 0) (nar := (fun y => y)) rfl
theorem r_X7_wouldTake_102 {d : Nat} {a0 : Nat} {l1 l2 l3 l4 l5 l6 l7 l8 l9 l10 l11 l12 l13 : Option Value} {h : AH} : R_X7_wouldTake d 102 [some (.ref a0), l1, l2, l3, l4, l5, l6, l7, l8, l9, l10, l11, l12, l13] [] h = (hgf h [18] a0 13).bind fun v => R_X7_wouldTake d 106 [some (.ref a0), l1, l2, l3, l4, l5, l6, l7, l8, l9, l10, l11, l12, l13] [v] h := by
  refine (p_aload rfl rfl).trans ?_
  exact s_getf rfl
theorem r_X7_wouldTake_106 {d : Nat} {b0 a0 : Nat} {x2 : Int32} {l1 l3 l4 l5 l6 l7 l8 l9 l10 l11 l12 l13 : Option Value} {h : AH} : R_X7_wouldTake d 106 [some (.ref a0), l1, some (.int (x2)), l3, l4, l5, l6, l7, l8, l9, l10, l11, l12, l13] [.ref b0] h = ((hci h a0).bind (lkN [(18, 174)])).bind fun y => aK (exec tTab d y [.ref a0, .int (x2)] h) (fun v h1 => R_X7_wouldTake d 112 [some (.ref a0), l1, some (.int (x2)), l3, l4, l5, l6, l7, l8, l9, l10, l11, l12, l13] (v.toList ++ [.int ((nI 5)), .ref b0]) h1) (fun E h1 => some (.inr E, h1)) := by
  refine (p_const rfl).trans ?_
  refine (p_aload rfl rfl).trans ?_
  refine (p_iload rfl rfl).trans ?_
  exact s_callV (L := [(18, 174)]) (n := 1) (b := a0) (rest := [.int ((nI 5)), .ref b0]) rfl rfl rfl
theorem r_X7_wouldTake_106N {d : Nat} {a0 : Nat} {x2 : Int32} {l1 l3 l4 l5 l6 l7 l8 l9 l10 l11 l12 l13 : Option Value} {h : AH} : R_X7_wouldTake d 106 [some (.ref a0), l1, some (.int (x2)), l3, l4, l5, l6, l7, l8, l9, l10, l11, l12, l13] [.null] h = ((hci h a0).bind (lkN [(18, 174)])).bind fun y => aK (exec tTab d y [.ref a0, .int (x2)] h) (fun v h1 => R_X7_wouldTake d 112 [some (.ref a0), l1, some (.int (x2)), l3, l4, l5, l6, l7, l8, l9, l10, l11, l12, l13] (v.toList ++ [.int ((nI 5)), .null]) h1) (fun E h1 => some (.inr E, h1)) := by
  refine (p_const rfl).trans ?_
  refine (p_aload rfl rfl).trans ?_
  refine (p_iload rfl rfl).trans ?_
  exact s_callV (L := [(18, 174)]) (n := 1) (b := a0) (rest := [.int ((nI 5)), .null]) rfl rfl rfl
theorem r_X7_wouldTake_112 {d : Nat} {b0 : Nat} {s1 s2 : Int32} {l0 l1 l2 l3 l4 l5 l6 l7 l8 l9 l10 l11 l12 l13 : Option Value} {h : AH} : R_X7_wouldTake d 112 [l0, l1, l2, l3, l4, l5, l6, l7, l8, l9, l10, l11, l12, l13] [.int (s2), .int (s1), .ref b0] h = (hsi h 0 b0 s1 s2).bind fun h1 => R_X7_wouldTake d 113 [l0, l1, l2, l3, l4, l5, l6, l7, l8, l9, l10, l11, l12, l13] [] h1 := s_iast (t := 0) (nar := (fun y => y)) rfl
theorem r_X7_wouldTake_113 {d : Nat} {a0 : Nat} {x2 x1 : Int32} {l3 l4 l5 l6 l7 l8 l9 l10 l11 l12 l13 : Option Value} {h : AH} : R_X7_wouldTake d 113 [some (.ref a0), some (.int (x1)), some (.int (x2)), l3, l4, l5, l6, l7, l8, l9, l10, l11, l12, l13] [] h = ((hci h a0).bind (lkN [(18, 179)])).bind fun y => aK (exec tTab d y [.ref a0, .int (x2), .int (x1)] h) (fun v h1 => R_X7_wouldTake d 120 [some (.ref a0), some (.int (x1)), some (.int (x2)), l3, l4, l5, l6, l7, l8, l9, l10, l11, l12, l13] (v.toList ++ [.ref a0]) h1) (fun E h1 => some (.inr E, h1)) := by
  refine (p_aload rfl rfl).trans ?_
  refine (p_aload rfl rfl).trans ?_
  refine (p_iload rfl rfl).trans ?_
  refine (p_iload rfl rfl).trans ?_
  exact s_callV (L := [(18, 179)]) (n := 2) (b := a0) (rest := [.ref a0]) rfl rfl rfl
theorem r_X7_wouldTake_120 {d : Nat} {b0 : Nat} {s1 : Int32} {l0 l1 l2 l3 l4 l5 l6 l7 l8 l9 l10 l11 l12 l13 : Option Value} {h : AH} : R_X7_wouldTake d 120 [l0, l1, l2, l3, l4, l5, l6, l7, l8, l9, l10, l11, l12, l13] [.int (s1), .ref b0] h = bif vZ (.int (s1)) then (hpf h [18] b0 14 (.int (s1))).bind fun h1 => R_X7_wouldTake d 123 [l0, l1, l2, l3, l4, l5, l6, l7, l8, l9, l10, l11, l12, l13] [] h1 else none := s_putf rfl
theorem r_X7_wouldTake_123 {d : Nat} {a0 : Nat} {x5 : Int32} {l1 l2 l3 l4 l6 l7 l8 l9 l10 l11 l12 l13 : Option Value} {h : AH} : R_X7_wouldTake d 123 [some (.ref a0), l1, l2, l3, l4, some (.int (x5)), l6, l7, l8, l9, l10, l11, l12, l13] [] h = if x5 = (-1) then R_X7_wouldTake d 134 [some (.ref a0), l1, l2, l3, l4, some (.int (x5)), l6, l7, l8, l9, l10, l11, l12, l13] [.ref a0] h else R_X7_wouldTake d 130 [some (.ref a0), l1, l2, l3, l4, some (.int (x5)), l6, l7, l8, l9, l10, l11, l12, l13] [.ref a0] h := by
  refine (p_aload rfl rfl).trans ?_
  refine (p_iload rfl rfl).trans ?_
  refine (p_const rfl).trans ?_
  exact (s_icmp (g := (fun x y => decide (x = y))) (t := 134) (nx := 130) rfl).trans bif_dec
theorem r_X7_wouldTake_134 {d : Nat} {b0 : Nat} {l0 l1 l2 l3 l4 l5 l6 l7 l8 l9 l10 l11 l12 l13 : Option Value} {h : AH} : R_X7_wouldTake d 134 [l0, l1, l2, l3, l4, l5, l6, l7, l8, l9, l10, l11, l12, l13] [.ref b0] h = bif vZ (.int ((nI 0))) then (hpf h [18] b0 15 (.int ((nI 0)))).bind fun h1 => R_X7_wouldTake d 138 [l0, l1, l2, l3, l4, l5, l6, l7, l8, l9, l10, l11, l12, l13] [] h1 else none := by
  refine (p_const rfl).trans ?_
  exact s_putf rfl
theorem r_X7_wouldTake_130 {d : Nat} {b0 : Nat} {l0 l1 l2 l3 l4 l5 l6 l7 l8 l9 l10 l11 l12 l13 : Option Value} {h : AH} : R_X7_wouldTake d 130 [l0, l1, l2, l3, l4, l5, l6, l7, l8, l9, l10, l11, l12, l13] [.ref b0] h = bif vZ (.int ((nI 1))) then (hpf h [18] b0 15 (.int ((nI 1)))).bind fun h1 => R_X7_wouldTake d 138 [l0, l1, l2, l3, l4, l5, l6, l7, l8, l9, l10, l11, l12, l13] [] h1 else none := by
  refine (p_const rfl).trans ?_
  refine (p_goto rfl).trans ?_
  exact s_putf rfl
theorem r_X7_wouldTake_138 {d : Nat} {a0 : Nat} {x7 : Int32} {l1 l2 l3 l4 l5 l6 l8 l9 l10 l11 l12 l13 : Option Value} {h : AH} : R_X7_wouldTake d 138 [some (.ref a0), l1, l2, l3, l4, l5, l6, some (.int (x7)), l8, l9, l10, l11, l12, l13] [] h = bif vZ (.int (x7)) then (hpf h [18] a0 16 (.int (x7))).bind fun h1 => R_X7_wouldTake d 144 [some (.ref a0), l1, l2, l3, l4, l5, l6, some (.int (x7)), l8, l9, l10, l11, l12, l13] [] h1 else none := by
  refine (p_aload rfl rfl).trans ?_
  refine (p_iload rfl rfl).trans ?_
  exact s_putf rfl
theorem r_X7_wouldTake_144 {d : Nat} {a0 : Nat} {l1 l2 l3 l4 l5 l6 l7 l8 l9 l10 l11 l12 l13 : Option Value} {h : AH} : R_X7_wouldTake d 144 [some (.ref a0), l1, l2, l3, l4, l5, l6, l7, l8, l9, l10, l11, l12, l13] [] h = (hgf h [18] a0 10).bind fun v => R_X7_wouldTake d 148 [some (.ref a0), l1, l2, l3, l4, l5, l6, l7, l8, l9, l10, l11, l12, l13] [v] h := by
  refine (p_aload rfl rfl).trans ?_
  exact s_getf rfl
theorem r_X7_wouldTake_148 {d : Nat} {s0 : Int32} {a0 : Nat} {l1 l2 l3 l4 l5 l6 l7 l8 l9 l10 l11 l12 l13 : Option Value} {h : AH} : R_X7_wouldTake d 148 [some (.ref a0), l1, l2, l3, l4, l5, l6, l7, l8, l9, l10, l11, l12, l13] [.int (s0)] h = (hgf h [18] a0 7).bind fun v => R_X7_wouldTake d 154 [some (.ref a0), l1, l2, l3, l4, l5, l6, l7, l8, some (.int (s0)), l10, l11, l12, l13] [v] h := by
  refine (p_istore rfl rfl rfl).trans ?_
  refine (p_aload rfl rfl).trans ?_
  exact s_getf rfl
theorem r_X7_wouldTake_154 {d : Nat} {s0 : Int32} {a0 : Nat} {l1 l2 l3 l4 l5 l6 l7 l8 l9 l10 l11 l12 l13 : Option Value} {h : AH} : R_X7_wouldTake d 154 [some (.ref a0), l1, l2, l3, l4, l5, l6, l7, l8, l9, l10, l11, l12, l13] [.int (s0)] h = (hgf h [18] a0 8).bind fun v => R_X7_wouldTake d 160 [some (.ref a0), l1, l2, l3, l4, l5, l6, l7, l8, l9, some (.int (s0)), l11, l12, l13] [v] h := by
  refine (p_istore rfl rfl rfl).trans ?_
  refine (p_aload rfl rfl).trans ?_
  exact s_getf rfl
theorem r_X7_wouldTake_160 {d : Nat} {s0 : Int32} {a0 : Nat} {l1 l2 l3 l4 l5 l6 l7 l8 l9 l10 l11 l12 l13 : Option Value} {h : AH} : R_X7_wouldTake d 160 [some (.ref a0), l1, l2, l3, l4, l5, l6, l7, l8, l9, l10, l11, l12, l13] [.int (s0)] h = (hgf h [18] a0 9).bind fun v => R_X7_wouldTake d 166 [some (.ref a0), l1, l2, l3, l4, l5, l6, l7, l8, l9, l10, some (.int (s0)), l12, l13] [v] h := by
  refine (p_istore rfl rfl rfl).trans ?_
  refine (p_aload rfl rfl).trans ?_
  exact s_getf rfl
theorem r_X7_wouldTake_166 {d : Nat} {s0 : Int32} {a0 : Nat} {l1 l2 l3 l4 l5 l6 l7 l8 l9 l10 l11 l12 l13 : Option Value} {h : AH} : R_X7_wouldTake d 166 [some (.ref a0), l1, l2, l3, l4, l5, l6, l7, l8, l9, l10, l11, l12, l13] [.int (s0)] h = (hgf h [18] a0 12).bind fun v => R_X7_wouldTake d 172 [some (.ref a0), l1, l2, l3, l4, l5, l6, l7, l8, l9, l10, l11, some (.int (s0)), l13] [v] h := by
  refine (p_istore rfl rfl rfl).trans ?_
  refine (p_aload rfl rfl).trans ?_
  exact s_getf rfl
theorem r_X7_wouldTake_172 {d : Nat} {s0 : Int32} {a0 : Nat} {l1 l2 l3 l4 l5 l6 l7 l8 l9 l10 l11 l12 l13 : Option Value} {h : AH} : R_X7_wouldTake d 172 [some (.ref a0), l1, l2, l3, l4, l5, l6, l7, l8, l9, l10, l11, l12, l13] [.int (s0)] h = (hpf h [18] a0 10 (.int ((-1)))).bind fun h1 => R_X7_wouldTake d 179 [some (.ref a0), l1, l2, l3, l4, l5, l6, l7, l8, l9, l10, l11, l12, some (.int (s0))] [] h1 := by
  refine (p_istore rfl rfl rfl).trans ?_
  refine (p_aload rfl rfl).trans ?_
  refine (p_const rfl).trans ?_
  exact s_putT rfl rfl
theorem r_X7_wouldTake_179 {d : Nat} {a0 : Nat} {x8 : Int32} {l1 l2 l3 l4 l5 l6 l7 l9 l10 l11 l12 l13 : Option Value} {h : AH} : R_X7_wouldTake d 179 [some (.ref a0), l1, l2, l3, l4, l5, l6, l7, some (.int (x8)), l9, l10, l11, l12, l13] [] h = (hpf h [18] a0 7 (.int (((nI 940) + ((nI 401) * x8)) + (nI 1)))).bind fun h1 => R_X7_wouldTake d 195 [some (.ref a0), l1, l2, l3, l4, l5, l6, l7, some (.int (x8)), l9, l10, l11, l12, l13] [] h1 := by
  refine (p_aload rfl rfl).trans ?_
  refine (p_const rfl).trans ?_
  refine (p_const rfl).trans ?_
  refine (p_iload rfl rfl).trans ?_
  refine (p_bin rfl).trans ?_
  refine (p_bin rfl).trans ?_
  refine (p_const rfl).trans ?_
  refine (p_bin rfl).trans ?_
  exact s_putT rfl rfl
theorem r_X7_wouldTake_195 {d : Nat} {a0 : Nat} {l1 l2 l3 l4 l5 l6 l7 l8 l9 l10 l11 l12 l13 : Option Value} {h : AH} : R_X7_wouldTake d 195 [some (.ref a0), l1, l2, l3, l4, l5, l6, l7, l8, l9, l10, l11, l12, l13] [] h = (hgf h [18] a0 1).bind fun v => R_X7_wouldTake d 200 [some (.ref a0), l1, l2, l3, l4, l5, l6, l7, l8, l9, l10, l11, l12, l13] [v, .ref a0] h := by
  refine (p_aload rfl rfl).trans ?_
  refine (p_aload rfl rfl).trans ?_
  exact s_getf rfl
theorem r_X7_wouldTake_200 {d : Nat} {b0 b1 a0 : Nat} {l1 l2 l3 l4 l5 l6 l7 l8 l9 l10 l11 l12 l13 : Option Value} {h : AH} : R_X7_wouldTake d 200 [some (.ref a0), l1, l2, l3, l4, l5, l6, l7, l8, l9, l10, l11, l12, l13] [.ref b1, .ref b0] h = (hgf h [18] a0 7).bind fun v => R_X7_wouldTake d 204 [some (.ref a0), l1, l2, l3, l4, l5, l6, l7, l8, l9, l10, l11, l12, l13] [v, .ref b1, .ref b0] h := by
  refine (p_aload rfl rfl).trans ?_
  exact s_getf rfl
theorem r_X7_wouldTake_200N {d : Nat} {b0 a0 : Nat} {l1 l2 l3 l4 l5 l6 l7 l8 l9 l10 l11 l12 l13 : Option Value} {h : AH} : R_X7_wouldTake d 200 [some (.ref a0), l1, l2, l3, l4, l5, l6, l7, l8, l9, l10, l11, l12, l13] [.null, .ref b0] h = (hgf h [18] a0 7).bind fun v => R_X7_wouldTake d 204 [some (.ref a0), l1, l2, l3, l4, l5, l6, l7, l8, l9, l10, l11, l12, l13] [v, .null, .ref b0] h := by
  refine (p_aload rfl rfl).trans ?_
  exact s_getf rfl
theorem r_X7_wouldTake_204 {d : Nat} {b0 b1 : Nat} {s2 : Int32} {l0 l1 l2 l3 l4 l5 l6 l7 l8 l9 l10 l11 l12 l13 : Option Value} {h : AH} : R_X7_wouldTake d 204 [l0, l1, l2, l3, l4, l5, l6, l7, l8, l9, l10, l11, l12, l13] [.int (s2), .ref b1, .ref b0] h = (hai h 0 b1 (s2 - (nI 1))).bind fun v => R_X7_wouldTake d 207 [l0, l1, l2, l3, l4, l5, l6, l7, l8, l9, l10, l11, l12, l13] [.int v, .ref b0] h := by
  refine (p_const rfl).trans ?_
  refine (p_bin rfl).trans ?_
  exact s_iald rfl
theorem r_X7_wouldTake_207 {d : Nat} {b0 : Nat} {s1 : Int32} {l0 l1 l2 l3 l4 l5 l6 l7 l8 l9 l10 l11 l12 l13 : Option Value} {h : AH} : R_X7_wouldTake d 207 [l0, l1, l2, l3, l4, l5, l6, l7, l8, l9, l10, l11, l12, l13] [.int (s1), .ref b0] h = (hpf h [18] b0 8 (.int (s1))).bind fun h1 => R_X7_wouldTake d 210 [l0, l1, l2, l3, l4, l5, l6, l7, l8, l9, l10, l11, l12, l13] [] h1 := s_putT rfl rfl
theorem r_X7_wouldTake_210 {d : Nat} {a0 : Nat} {l1 l2 l3 l4 l5 l6 l7 l8 l9 l10 l11 l12 l13 : Option Value} {h : AH} : R_X7_wouldTake d 210 [some (.ref a0), l1, l2, l3, l4, l5, l6, l7, l8, l9, l10, l11, l12, l13] [] h = (hpf h [18] a0 17 (.int ((-1)))).bind fun h1 => R_X7_wouldTake d 215 [some (.ref a0), l1, l2, l3, l4, l5, l6, l7, l8, l9, l10, l11, l12, l13] [] h1 := by
  refine (p_aload rfl rfl).trans ?_
  refine (p_const rfl).trans ?_
  exact s_putT rfl rfl
theorem r_X7_wouldTake_215 {d : Nat} {a0 : Nat} {l1 l2 l3 l4 l5 l6 l7 l8 l9 l10 l11 l12 l13 : Option Value} {h : AH} : R_X7_wouldTake d 215 [some (.ref a0), l1, l2, l3, l4, l5, l6, l7, l8, l9, l10, l11, l12, l13] [] h = ((hci h a0).bind (lkN [(18, 155)])).bind fun y => aK (exec tTab d y [.ref a0, .int ((nI 1))] h) (fun v h1 => R_X7_wouldTake d 220 [some (.ref a0), l1, l2, l3, l4, l5, l6, l7, l8, l9, l10, l11, l12, l13] (v.toList ++ []) h1) (fun E h1 => some (.inr E, h1)) := by
  refine (p_aload rfl rfl).trans ?_
  refine (p_const rfl).trans ?_
  exact s_callV (L := [(18, 155)]) (n := 1) (b := a0) (rest := []) rfl rfl rfl
theorem r_X7_wouldTake_220 {d : Nat} {a0 : Nat} {x9 : Int32} {l1 l2 l3 l4 l5 l6 l7 l8 l10 l11 l12 l13 : Option Value} {h : AH} : R_X7_wouldTake d 220 [some (.ref a0), l1, l2, l3, l4, l5, l6, l7, l8, some (.int (x9)), l10, l11, l12, l13] [] h = (hpf h [18] a0 10 (.int (x9))).bind fun h1 => R_X7_wouldTake d 226 [some (.ref a0), l1, l2, l3, l4, l5, l6, l7, l8, some (.int (x9)), l10, l11, l12, l13] [] h1 := by
  refine (p_aload rfl rfl).trans ?_
  refine (p_iload rfl rfl).trans ?_
  exact s_putT rfl rfl
theorem r_X7_wouldTake_226 {d : Nat} {a0 : Nat} {x10 : Int32} {l1 l2 l3 l4 l5 l6 l7 l8 l9 l11 l12 l13 : Option Value} {h : AH} : R_X7_wouldTake d 226 [some (.ref a0), l1, l2, l3, l4, l5, l6, l7, l8, l9, some (.int (x10)), l11, l12, l13] [] h = (hpf h [18] a0 7 (.int (x10))).bind fun h1 => R_X7_wouldTake d 232 [some (.ref a0), l1, l2, l3, l4, l5, l6, l7, l8, l9, some (.int (x10)), l11, l12, l13] [] h1 := by
  refine (p_aload rfl rfl).trans ?_
  refine (p_iload rfl rfl).trans ?_
  exact s_putT rfl rfl
theorem r_X7_wouldTake_232 {d : Nat} {a0 : Nat} {x11 : Int32} {l1 l2 l3 l4 l5 l6 l7 l8 l9 l10 l12 l13 : Option Value} {h : AH} : R_X7_wouldTake d 232 [some (.ref a0), l1, l2, l3, l4, l5, l6, l7, l8, l9, l10, some (.int (x11)), l12, l13] [] h = (hpf h [18] a0 8 (.int (x11))).bind fun h1 => R_X7_wouldTake d 238 [some (.ref a0), l1, l2, l3, l4, l5, l6, l7, l8, l9, l10, some (.int (x11)), l12, l13] [] h1 := by
  refine (p_aload rfl rfl).trans ?_
  refine (p_iload rfl rfl).trans ?_
  exact s_putT rfl rfl
theorem r_X7_wouldTake_238 {d : Nat} {a0 : Nat} {x12 : Int32} {l1 l2 l3 l4 l5 l6 l7 l8 l9 l10 l11 l13 : Option Value} {h : AH} : R_X7_wouldTake d 238 [some (.ref a0), l1, l2, l3, l4, l5, l6, l7, l8, l9, l10, l11, some (.int (x12)), l13] [] h = (hpf h [18] a0 9 (.int (x12))).bind fun h1 => R_X7_wouldTake d 244 [some (.ref a0), l1, l2, l3, l4, l5, l6, l7, l8, l9, l10, l11, some (.int (x12)), l13] [] h1 := by
  refine (p_aload rfl rfl).trans ?_
  refine (p_iload rfl rfl).trans ?_
  exact s_putT rfl rfl
theorem r_X7_wouldTake_244 {d : Nat} {a0 : Nat} {x13 : Int32} {l1 l2 l3 l4 l5 l6 l7 l8 l9 l10 l11 l12 : Option Value} {h : AH} : R_X7_wouldTake d 244 [some (.ref a0), l1, l2, l3, l4, l5, l6, l7, l8, l9, l10, l11, l12, some (.int (x13))] [] h = (hpf h [18] a0 12 (.int (x13))).bind fun h1 => R_X7_wouldTake d 250 [some (.ref a0), l1, l2, l3, l4, l5, l6, l7, l8, l9, l10, l11, l12, some (.int (x13))] [] h1 := by
  refine (p_aload rfl rfl).trans ?_
  refine (p_iload rfl rfl).trans ?_
  exact s_putT rfl rfl
theorem r_X7_wouldTake_250 {d : Nat} {a0 : Nat} {l1 l2 l3 l4 l5 l6 l7 l8 l9 l10 l11 l12 l13 : Option Value} {h : AH} : R_X7_wouldTake d 250 [some (.ref a0), l1, l2, l3, l4, l5, l6, l7, l8, l9, l10, l11, l12, l13] [] h = (hgf h [18] a0 17).bind fun v => R_X7_wouldTake d 254 [some (.ref a0), l1, l2, l3, l4, l5, l6, l7, l8, l9, l10, l11, l12, l13] [v] h := by
  refine (p_aload rfl rfl).trans ?_
  exact s_getf rfl
theorem r_X7_wouldTake_254 {d : Nat} {s0 : Int32} {l0 l1 l2 l3 l4 l5 l6 l7 l8 l9 l10 l11 l12 l13 : Option Value} {h : AH} : R_X7_wouldTake d 254 [l0, l1, l2, l3, l4, l5, l6, l7, l8, l9, l10, l11, l12, l13] [.int (s0)] h = if ¬ s0 = (nI 1) then R_X7_wouldTake d 262 [l0, l1, l2, l3, l4, l5, l6, l7, l8, l9, l10, l11, l12, l13] [] h else R_X7_wouldTake d 258 [l0, l1, l2, l3, l4, l5, l6, l7, l8, l9, l10, l11, l12, l13] [] h := by
  refine (p_const rfl).trans ?_
  exact (s_icmp (g := (fun x y => decide (¬ x = y))) (t := 262) (nx := 258) rfl).trans bif_dec
theorem r_X7_wouldTake_262 {d : Nat} {l0 l1 l2 l3 l4 l5 l6 l7 l8 l9 l10 l11 l12 l13 : Option Value} {h : AH} : R_X7_wouldTake d 262 [l0, l1, l2, l3, l4, l5, l6, l7, l8, l9, l10, l11, l12, l13] [] h = some (.inl (some (.int ((nI 0)))), h) := by
  refine (p_const rfl).trans ?_
  exact s_iretT rfl rfl
theorem r_X7_wouldTake_258 {d : Nat} {l0 l1 l2 l3 l4 l5 l6 l7 l8 l9 l10 l11 l12 l13 : Option Value} {h : AH} : R_X7_wouldTake d 258 [l0, l1, l2, l3, l4, l5, l6, l7, l8, l9, l10, l11, l12, l13] [] h = some (.inl (some (.int ((nI 1)))), h) := by
  refine (p_const rfl).trans ?_
  refine (p_goto rfl).trans ?_
  exact s_iretT rfl rfl
theorem e_X7_wouldTake {d : Nat} {a0 : Nat} {x1 x2 x3 x4 x5 x6 x7 : Int32} {h : AH} : exec tTab (d + 1) K_X7_wouldTake [.ref a0, .int x1, .int x2, .int x3, .int x4, .int x5, .int x6, .int x7] h = R_X7_wouldTake d 0 [some (.ref a0), some (.int x1), some (.int x2), some (.int x3), some (.int x4), some (.int x5), some (.int x6), some (.int x7), none, none, none, none, none, none] [] h := exec_eq (cd := k_X7_wouldTake) (hd := (fun _ _ => some none)) (L := 14) rfl rfl rfl
/-- FavourTownModel.worthOf(II)I -/
abbrev K_X7_worthOf : Nat := 177
noncomputable def R_X7_worthOf (d pc : Nat) (ls : ALs) (st : List Value) (h : AH) : Option (AOut × AH) := aR (exec tTab d) k_X7_worthOf (fun _ _ => some none) (pc, ls, st, h)
theorem r_X7_worthOf_0 {d : Nat} {x0 x1 : Int32} {h : AH} : R_X7_worthOf d 0 [some (.int (x0)), some (.int (x1))] [] h = some (.inl (some (.int ((x0 * (nI 1024)) >>> (x1 &&& 31)))), h) := by
  refine (p_iload rfl rfl).trans ?_
  refine (p_const rfl).trans ?_
  refine (p_bin rfl).trans ?_
  refine (p_iload rfl rfl).trans ?_
  refine (p_bin rfl).trans ?_
  exact s_iretT rfl rfl
theorem e_X7_worthOf {d : Nat} {x0 x1 : Int32} {h : AH} : exec tTab (d + 1) K_X7_worthOf [.int x0, .int x1] h = R_X7_worthOf d 0 [some (.int x0), some (.int x1)] [] h := exec_eq (cd := k_X7_worthOf) (hd := (fun _ _ => some none)) (L := 2) rfl rfl rfl
/-- FavourTownModel.richOf(I)I -/
abbrev K_X7_richOf : Nat := 178
noncomputable def R_X7_richOf (d pc : Nat) (ls : ALs) (st : List Value) (h : AH) : Option (AOut × AH) := aR (exec tTab d) k_X7_richOf (fun _ _ => some none) (pc, ls, st, h)
theorem r_X7_richOf_0 {d : Nat} {l0 l1 l2 l3 : Option Value} {h : AH} : R_X7_richOf d 0 [l0, l1, l2, l3] [] h = R_X7_richOf d 4 [l0, l1, some (.int ((nI 0))), some (.int ((nI 0)))] [] h := by
  refine (p_const rfl).trans ?_
  refine (p_istore rfl rfl rfl).trans ?_
  refine (p_const rfl).trans ?_
  refine (p_istore rfl rfl rfl).trans ?_
  exact rfl
theorem q_X7_richOf_4 {d : Nat} {x3 : Int32} {a0 : Nat} {l1 l2 : Option Value} {h : AH} : R_X7_richOf d 4 [some (.ref a0), l1, l2, some (.int (x3))] [] h = (hgf h [18] a0 1).bind fun v => R_X7_richOf d 9 [some (.ref a0), l1, l2, some (.int (x3))] [v, .int (x3)] h := by
  refine (p_iload rfl rfl).trans ?_
  refine (p_aload rfl rfl).trans ?_
  exact s_getf rfl
theorem r_X7_richOf_9 {d : Nat} {s0 : Int32} {b1 : Nat} {l0 l1 l2 l3 : Option Value} {h : AH} : R_X7_richOf d 9 [l0, l1, l2, l3] [.ref b1, .int (s0)] h = (hai h 0 b1 (nI 3)).bind fun v => R_X7_richOf d 11 [l0, l1, l2, l3] [.int v, .int (s0)] h := by
  refine (p_const rfl).trans ?_
  exact s_iald rfl
theorem r_X7_richOf_11 {d : Nat} {s0 s1 : Int32} {l0 l1 l2 l3 : Option Value} {h : AH} : R_X7_richOf d 11 [l0, l1, l2, l3] [.int (s1), .int (s0)] h = if s1 ≤ s0 then R_X7_richOf d 52 [l0, l1, l2, l3] [] h else R_X7_richOf d 14 [l0, l1, l2, l3] [] h := (s_icmp (g := (fun x y => decide (y ≤ x))) (t := 52) (nx := 14) rfl).trans bif_dec
theorem r_X7_richOf_52 {d : Nat} {x2 : Int32} {l0 l1 l3 : Option Value} {h : AH} : R_X7_richOf d 52 [l0, l1, some (.int (x2)), l3] [] h = some (.inl (some (.int (x2))), h) := by
  refine (p_iload rfl rfl).trans ?_
  exact s_iretT rfl rfl
theorem r_X7_richOf_14 {d : Nat} {x2 x3 : Int32} {a0 : Nat} {l1 : Option Value} {h : AH} : R_X7_richOf d 14 [some (.ref a0), l1, some (.int (x2)), some (.int (x3))] [] h = ((hci h a0).bind (lkN [(18, 175)])).bind fun y => aK (exec tTab d y [.ref a0, .int (x3), .int ((nI 2))] h) (fun v h1 => R_X7_richOf d 21 [some (.ref a0), l1, some (.int (x2)), some (.int (x3))] (v.toList ++ [.int (x2)]) h1) (fun E h1 => some (.inr E, h1)) := by
  refine (p_iload rfl rfl).trans ?_
  refine (p_aload rfl rfl).trans ?_
  refine (p_iload rfl rfl).trans ?_
  refine (p_const rfl).trans ?_
  exact s_callV (L := [(18, 175)]) (n := 2) (b := a0) (rest := [.int (x2)]) rfl rfl rfl
theorem r_X7_richOf_21 {d : Nat} {s0 s1 x1 : Int32} {l0 l2 l3 : Option Value} {h : AH} : R_X7_richOf d 21 [l0, some (.int (x1)), l2, l3] [.int (s1), .int (s0)] h = if ¬ s1 = x1 then R_X7_richOf d 43 [l0, some (.int (x1)), l2, l3] [.int (s0)] h else R_X7_richOf d 25 [l0, some (.int (x1)), l2, l3] [.int (s0)] h := by
  refine (p_iload rfl rfl).trans ?_
  exact (s_icmp (g := (fun x y => decide (¬ x = y))) (t := 43) (nx := 25) rfl).trans bif_dec
theorem r_X7_richOf_43 {d : Nat} {s0 x3 : Int32} {l0 l1 l2 : Option Value} {h : AH} : R_X7_richOf d 43 [l0, l1, l2, some (.int (x3))] [.int (s0)] h = R_X7_richOf d 4 [l0, l1, some (.int (s0 + (nI 0))), some (.int (x3 + (nI 1)))] [] h := by
  refine (p_const rfl).trans ?_
  refine (p_bin rfl).trans ?_
  refine (p_istore rfl rfl rfl).trans ?_
  refine (p_iinc rfl rfl rfl).trans ?_
  refine (p_goto rfl).trans ?_
  exact rfl
theorem r_X7_richOf_25 {d : Nat} {s0 x3 : Int32} {a0 : Nat} {l1 l2 : Option Value} {h : AH} : R_X7_richOf d 25 [some (.ref a0), l1, l2, some (.int (x3))] [.int (s0)] h = ((hci h a0).bind (lkN [(18, 175)])).bind fun y => aK (exec tTab d y [.ref a0, .int (x3), .int ((nI 1))] h) (fun v h1 => R_X7_richOf d 31 [some (.ref a0), l1, l2, some (.int (x3))] (v.toList ++ [.int (s0)]) h1) (fun E h1 => some (.inr E, h1)) := by
  refine (p_aload rfl rfl).trans ?_
  refine (p_iload rfl rfl).trans ?_
  refine (p_const rfl).trans ?_
  exact s_callV (L := [(18, 175)]) (n := 2) (b := a0) (rest := [.int (s0)]) rfl rfl rfl
theorem r_X7_richOf_31 {d : Nat} {s0 s1 x3 : Int32} {a0 : Nat} {l1 l2 : Option Value} {h : AH} : R_X7_richOf d 31 [some (.ref a0), l1, l2, some (.int (x3))] [.int (s1), .int (s0)] h = ((hci h a0).bind (lkN [(18, 175)])).bind fun y => aK (exec tTab d y [.ref a0, .int (x3), .int ((nI 3))] h) (fun v h1 => R_X7_richOf d 37 [some (.ref a0), l1, l2, some (.int (x3))] (v.toList ++ [.int (s1), .int (s0)]) h1) (fun E h1 => some (.inr E, h1)) := by
  refine (p_aload rfl rfl).trans ?_
  refine (p_iload rfl rfl).trans ?_
  refine (p_const rfl).trans ?_
  exact s_callV (L := [(18, 175)]) (n := 2) (b := a0) (rest := [.int (s1), .int (s0)]) rfl rfl rfl
theorem r_X7_richOf_37 {d : Nat} {s0 s1 s2 : Int32} {l0 l1 l2 l3 : Option Value} {h : AH} : R_X7_richOf d 37 [l0, l1, l2, l3] [.int (s2), .int (s1), .int (s0)] h = aK (exec tTab d 177 [.int (s1), .int (s2)] h) (fun v h1 => R_X7_richOf d 40 [l0, l1, l2, l3] (v.toList ++ [.int (s0)]) h1) (fun E h1 => some (.inr E, h1)) := s_callS (y := 177) (n := 2) rfl rfl
theorem r_X7_richOf_40 {d : Nat} {s0 s1 x3 : Int32} {l0 l1 l2 : Option Value} {h : AH} : R_X7_richOf d 40 [l0, l1, l2, some (.int (x3))] [.int (s1), .int (s0)] h = R_X7_richOf d 4 [l0, l1, some (.int (s0 + s1)), some (.int (x3 + (nI 1)))] [] h := by
  refine (p_goto rfl).trans ?_
  refine (p_bin rfl).trans ?_
  refine (p_istore rfl rfl rfl).trans ?_
  refine (p_iinc rfl rfl rfl).trans ?_
  refine (p_goto rfl).trans ?_
  exact rfl
theorem e_X7_richOf {d : Nat} {a0 : Nat} {x1 : Int32} {h : AH} : exec tTab (d + 1) K_X7_richOf [.ref a0, .int x1] h = R_X7_richOf d 0 [some (.ref a0), some (.int x1), none, none] [] h := exec_eq (cd := k_X7_richOf) (hd := (fun _ _ => some none)) (L := 4) rfl rfl rfl
/-- FavourTownModel.isNearTo(II)Z -/
abbrev K_X7_isNearTo : Nat := 179
noncomputable def R_X7_isNearTo (d pc : Nat) (ls : ALs) (st : List Value) (h : AH) : Option (AOut × AH) := aR (exec tTab d) k_X7_isNearTo (fun _ _ => some none) (pc, ls, st, h)
theorem r_X7_isNearTo_0 {d : Nat} {a0 : Nat} {l1 l2 : Option Value} {h : AH} : R_X7_isNearTo d 0 [some (.ref a0), l1, l2] [] h = (hgf h [18] a0 1).bind fun v => R_X7_isNearTo d 4 [some (.ref a0), l1, l2] [v] h := by
  refine (p_aload rfl rfl).trans ?_
  exact s_getf rfl
theorem r_X7_isNearTo_4 {d : Nat} {b0 : Nat} {x1 : Int32} {l0 l2 : Option Value} {h : AH} : R_X7_isNearTo d 4 [l0, some (.int (x1)), l2] [.ref b0] h = (hai h 0 b0 (((nI 10) + ((nI 3) * x1)) + (nI 2))).bind fun v => R_X7_isNearTo d 13 [l0, some (.int (x1)), l2] [.int v] h := by
  refine (p_const rfl).trans ?_
  refine (p_const rfl).trans ?_
  refine (p_iload rfl rfl).trans ?_
  refine (p_bin rfl).trans ?_
  refine (p_bin rfl).trans ?_
  refine (p_const rfl).trans ?_
  refine (p_bin rfl).trans ?_
  exact s_iald rfl
theorem r_X7_isNearTo_13 {d : Nat} {s0 x2 : Int32} {l0 l1 : Option Value} {h : AH} : R_X7_isNearTo d 13 [l0, l1, some (.int (x2))] [.int (s0)] h = if ¬ ((s0 >>> (x2 &&& 31)) &&& (nI 1)) = (nI 1) then R_X7_isNearTo d 25 [l0, l1, some (.int (x2))] [] h else R_X7_isNearTo d 21 [l0, l1, some (.int (x2))] [] h := by
  refine (p_iload rfl rfl).trans ?_
  refine (p_bin rfl).trans ?_
  refine (p_const rfl).trans ?_
  refine (p_bin rfl).trans ?_
  refine (p_const rfl).trans ?_
  exact (s_icmp (g := (fun x y => decide (¬ x = y))) (t := 25) (nx := 21) rfl).trans bif_dec
theorem r_X7_isNearTo_25 {d : Nat} {l0 l1 l2 : Option Value} {h : AH} : R_X7_isNearTo d 25 [l0, l1, l2] [] h = some (.inl (some (.int ((nI 0)))), h) := by
  refine (p_const rfl).trans ?_
  exact s_iretT rfl rfl
theorem r_X7_isNearTo_21 {d : Nat} {l0 l1 l2 : Option Value} {h : AH} : R_X7_isNearTo d 21 [l0, l1, l2] [] h = some (.inl (some (.int ((nI 1)))), h) := by
  refine (p_const rfl).trans ?_
  refine (p_goto rfl).trans ?_
  exact s_iretT rfl rfl
theorem e_X7_isNearTo {d : Nat} {a0 : Nat} {x1 x2 : Int32} {h : AH} : exec tTab (d + 1) K_X7_isNearTo [.ref a0, .int x1, .int x2] h = R_X7_isNearTo d 0 [some (.ref a0), some (.int x1), some (.int x2)] [] h := exec_eq (cd := k_X7_isNearTo) (hd := (fun _ _ => some none)) (L := 3) rfl rfl rfl
/-- FavourTownModel.sets(III)V -/
abbrev K_X7_sets : Nat := 180
noncomputable def R_X7_sets (d pc : Nat) (ls : ALs) (st : List Value) (h : AH) : Option (AOut × AH) := aR (exec tTab d) k_X7_sets (fun _ _ => some none) (pc, ls, st, h)
theorem r_X7_sets_0 {d : Nat} {a0 : Nat} {l1 l2 l3 : Option Value} {h : AH} : R_X7_sets d 0 [some (.ref a0), l1, l2, l3] [] h = (hgf h [18] a0 1).bind fun v => R_X7_sets d 4 [some (.ref a0), l1, l2, l3] [v] h := by
  refine (p_aload rfl rfl).trans ?_
  exact s_getf rfl
theorem r_X7_sets_4 {d : Nat} {b0 : Nat} {x1 x2 x3 : Int32} {l0 : Option Value} {h : AH} : R_X7_sets d 4 [l0, some (.int (x1)), some (.int (x2)), some (.int (x3))] [.ref b0] h = (hsi h 0 b0 (((nI 140) + ((nI 20) * x1)) + x2) x3).bind fun h1 => R_X7_sets d 16 [l0, some (.int (x1)), some (.int (x2)), some (.int (x3))] [] h1 := by
  refine (p_const rfl).trans ?_
  refine (p_const rfl).trans ?_
  refine (p_iload rfl rfl).trans ?_
  refine (p_bin rfl).trans ?_
  refine (p_bin rfl).trans ?_
  refine (p_iload rfl rfl).trans ?_
  refine (p_bin rfl).trans ?_
  refine (p_iload rfl rfl).trans ?_
  exact s_iast (t := 0) (nar := (fun y => y)) rfl
theorem r_X7_sets_16 {d : Nat} {l0 l1 l2 l3 : Option Value} {h : AH} : R_X7_sets d 16 [l0, l1, l2, l3] [] h = some (.inl none, h) := s_vret rfl
theorem e_X7_sets {d : Nat} {a0 : Nat} {x1 x2 x3 : Int32} {h : AH} : exec tTab (d + 1) K_X7_sets [.ref a0, .int x1, .int x2, .int x3] h = R_X7_sets d 0 [some (.ref a0), some (.int x1), some (.int x2), some (.int x3)] [] h := exec_eq (cd := k_X7_sets) (hd := (fun _ _ => some none)) (L := 4) rfl rfl rfl
/-- FavourTownModel.passes(II)I -/
abbrev K_X7_passes : Nat := 181
noncomputable def R_X7_passes (d pc : Nat) (ls : ALs) (st : List Value) (h : AH) : Option (AOut × AH) := aR (exec tTab d) k_X7_passes (fun _ _ => some none) (pc, ls, st, h)
theorem r_X7_passes_0 {d : Nat} {a0 : Nat} {x1 x2 : Int32} {l3 : Option Value} {h : AH} : R_X7_passes d 0 [some (.ref a0), some (.int (x1)), some (.int (x2)), l3] [] h = ((hci h a0).bind (lkN [(18, 182)])).bind fun y => aK (exec tTab d y [.ref a0, .int (x1), .int (x2)] h) (fun v h1 => R_X7_passes d 6 [some (.ref a0), some (.int (x1)), some (.int (x2)), l3] (v.toList ++ []) h1) (fun E h1 => some (.inr E, h1)) := by
  refine (p_aload rfl rfl).trans ?_
  refine (p_iload rfl rfl).trans ?_
  refine (p_iload rfl rfl).trans ?_
  exact s_callV (L := [(18, 182)]) (n := 2) (b := a0) (rest := []) rfl rfl rfl
theorem r_X7_passes_6 {d : Nat} {s0 : Int32} {l0 l1 l2 l3 : Option Value} {h : AH} : R_X7_passes d 6 [l0, l1, l2, l3] [.int (s0)] h = if ¬ s0 = 0 then R_X7_passes d 11 [l0, l1, l2, l3] [] h else R_X7_passes d 9 [l0, l1, l2, l3] [] h := (s_if (g := (fun x => decide (¬ x = 0))) (t := 11) (nx := 9) rfl).trans bif_dec
theorem r_X7_passes_11 {d : Nat} {a0 : Nat} {x1 : Int32} {l2 l3 : Option Value} {h : AH} : R_X7_passes d 11 [some (.ref a0), some (.int (x1)), l2, l3] [] h = ((hci h a0).bind (lkN [(18, 175)])).bind fun y => aK (exec tTab d y [.ref a0, .int (x1), .int ((nI 3))] h) (fun v h1 => R_X7_passes d 20 [some (.ref a0), some (.int (x1)), l2, l3] (v.toList ++ [.int ((nI 3)), .int (x1), .ref a0]) h1) (fun E h1 => some (.inr E, h1)) := by
  refine (p_aload rfl rfl).trans ?_
  refine (p_iload rfl rfl).trans ?_
  refine (p_const rfl).trans ?_
  refine (p_aload rfl rfl).trans ?_
  refine (p_iload rfl rfl).trans ?_
  refine (p_const rfl).trans ?_
  exact s_callV (L := [(18, 175)]) (n := 2) (b := a0) (rest := [.int ((nI 3)), .int (x1), .ref a0]) rfl rfl rfl
theorem r_X7_passes_9 {d : Nat} {l0 l1 l2 l3 : Option Value} {h : AH} : R_X7_passes d 9 [l0, l1, l2, l3] [] h = some (.inl (some (.int ((-1)))), h) := by
  refine (p_const rfl).trans ?_
  exact s_iretT rfl rfl
theorem r_X7_passes_20 {d : Nat} {b0 : Nat} {s1 s2 s3 : Int32} {l0 l1 l2 l3 : Option Value} {h : AH} : R_X7_passes d 20 [l0, l1, l2, l3] [.int (s3), .int (s2), .int (s1), .ref b0] h = ((hci h b0).bind (lkN [(18, 180)])).bind fun y => aK (exec tTab d y [.ref b0, .int (s1), .int (s2), .int (s3 + (nI 1))] h) (fun v h1 => R_X7_passes d 25 [l0, l1, l2, l3] (v.toList ++ []) h1) (fun E h1 => some (.inr E, h1)) := by
  refine (p_const rfl).trans ?_
  refine (p_bin rfl).trans ?_
  exact s_callV (L := [(18, 180)]) (n := 3) (b := b0) (rest := []) rfl rfl rfl
theorem r_X7_passes_25 {d : Nat} {a0 : Nat} {x1 : Int32} {l2 l3 : Option Value} {h : AH} : R_X7_passes d 25 [some (.ref a0), some (.int (x1)), l2, l3] [] h = ((hci h a0).bind (lkN [(18, 175)])).bind fun y => aK (exec tTab d y [.ref a0, .int (x1), .int ((nI 6))] h) (fun v h1 => R_X7_passes d 36 [some (.ref a0), some (.int (x1)), l2, l3] (v.toList ++ [.int ((nI 7)), .int (x1), .ref a0]) h1) (fun E h1 => some (.inr E, h1)) := by
  refine (p_aload rfl rfl).trans ?_
  refine (p_iload rfl rfl).trans ?_
  refine (p_const rfl).trans ?_
  refine (p_aload rfl rfl).trans ?_
  refine (p_iload rfl rfl).trans ?_
  refine (p_const rfl).trans ?_
  exact s_callV (L := [(18, 175)]) (n := 2) (b := a0) (rest := [.int ((nI 7)), .int (x1), .ref a0]) rfl rfl rfl
theorem r_X7_passes_36 {d : Nat} {b0 : Nat} {s1 s2 s3 x2 : Int32} {l0 l1 l3 : Option Value} {h : AH} : R_X7_passes d 36 [l0, l1, some (.int (x2)), l3] [.int (s3), .int (s2), .int (s1), .ref b0] h = ((hci h b0).bind (lkN [(18, 180)])).bind fun y => aK (exec tTab d y [.ref b0, .int (s1), .int (s2 + s3), .int (x2)] h) (fun v h1 => R_X7_passes d 41 [l0, l1, some (.int (x2)), l3] (v.toList ++ []) h1) (fun E h1 => some (.inr E, h1)) := by
  refine (p_bin rfl).trans ?_
  refine (p_iload rfl rfl).trans ?_
  exact s_callV (L := [(18, 180)]) (n := 3) (b := b0) (rest := []) rfl rfl rfl
theorem r_X7_passes_41 {d : Nat} {a0 : Nat} {x1 : Int32} {l2 l3 : Option Value} {h : AH} : R_X7_passes d 41 [some (.ref a0), some (.int (x1)), l2, l3] [] h = ((hci h a0).bind (lkN [(18, 175)])).bind fun y => aK (exec tTab d y [.ref a0, .int (x1), .int ((nI 6))] h) (fun v h1 => R_X7_passes d 52 [some (.ref a0), some (.int (x1)), l2, l3] (v.toList ++ [.int ((nI 6)), .int (x1), .ref a0]) h1) (fun E h1 => some (.inr E, h1)) := by
  refine (p_aload rfl rfl).trans ?_
  refine (p_iload rfl rfl).trans ?_
  refine (p_const rfl).trans ?_
  refine (p_aload rfl rfl).trans ?_
  refine (p_iload rfl rfl).trans ?_
  refine (p_const rfl).trans ?_
  exact s_callV (L := [(18, 175)]) (n := 2) (b := a0) (rest := [.int ((nI 6)), .int (x1), .ref a0]) rfl rfl rfl
theorem r_X7_passes_52 {d : Nat} {b0 : Nat} {s1 s2 s3 : Int32} {l0 l1 l2 l3 : Option Value} {h : AH} : R_X7_passes d 52 [l0, l1, l2, l3] [.int (s3), .int (s2), .int (s1), .ref b0] h = ((hci h b0).bind (lkN [(18, 180)])).bind fun y => aK (exec tTab d y [.ref b0, .int (s1), .int (s2), .int (s3 + (nI 1))] h) (fun v h1 => R_X7_passes d 57 [l0, l1, l2, l3] (v.toList ++ []) h1) (fun E h1 => some (.inr E, h1)) := by
  refine (p_const rfl).trans ?_
  refine (p_bin rfl).trans ?_
  exact s_callV (L := [(18, 180)]) (n := 3) (b := b0) (rest := []) rfl rfl rfl
theorem r_X7_passes_57 {d : Nat} {a0 : Nat} {x1 : Int32} {l2 l3 : Option Value} {h : AH} : R_X7_passes d 57 [some (.ref a0), some (.int (x1)), l2, l3] [] h = ((hci h a0).bind (lkN [(18, 175)])).bind fun y => aK (exec tTab d y [.ref a0, .int (x1), .int ((nI 0))] h) (fun v h1 => R_X7_passes d 63 [some (.ref a0), some (.int (x1)), l2, l3] (v.toList ++ []) h1) (fun E h1 => some (.inr E, h1)) := by
  refine (p_aload rfl rfl).trans ?_
  refine (p_iload rfl rfl).trans ?_
  refine (p_const rfl).trans ?_
  exact s_callV (L := [(18, 175)]) (n := 2) (b := a0) (rest := []) rfl rfl rfl
theorem r_X7_passes_63 {d : Nat} {s0 x2 : Int32} {l0 l1 l3 : Option Value} {h : AH} : R_X7_passes d 63 [l0, l1, some (.int (x2)), l3] [.int (s0)] h = if ¬ s0 = x2 then R_X7_passes d 71 [l0, l1, some (.int (x2)), l3] [] h else R_X7_passes d 67 [l0, l1, some (.int (x2)), l3] [] h := by
  refine (p_iload rfl rfl).trans ?_
  exact (s_icmp (g := (fun x y => decide (¬ x = y))) (t := 71) (nx := 67) rfl).trans bif_dec
theorem r_X7_passes_71 {d : Nat} {a0 : Nat} {x1 : Int32} {l2 l3 : Option Value} {h : AH} : R_X7_passes d 71 [some (.ref a0), some (.int (x1)), l2, l3] [] h = if (nI 0) = 0 then R_X7_passes d 84 [some (.ref a0), some (.int (x1)), l2, some (.int ((nI 0)))] [.int ((nI 2)), .int (x1), .ref a0] h else R_X7_passes d 80 [some (.ref a0), some (.int (x1)), l2, some (.int ((nI 0)))] [.int ((nI 2)), .int (x1), .ref a0] h := by
  refine (p_const rfl).trans ?_
  refine (p_istore rfl rfl rfl).trans ?_
  refine (p_aload rfl rfl).trans ?_
  refine (p_iload rfl rfl).trans ?_
  refine (p_const rfl).trans ?_
  refine (p_iload rfl rfl).trans ?_
  exact (s_if (g := (fun x => decide (x = 0))) (t := 84) (nx := 80) rfl).trans bif_dec
theorem r_X7_passes_67 {d : Nat} {a0 : Nat} {x1 : Int32} {l2 l3 : Option Value} {h : AH} : R_X7_passes d 67 [some (.ref a0), some (.int (x1)), l2, l3] [] h = if (nI 1) = 0 then R_X7_passes d 84 [some (.ref a0), some (.int (x1)), l2, some (.int ((nI 1)))] [.int ((nI 2)), .int (x1), .ref a0] h else R_X7_passes d 80 [some (.ref a0), some (.int (x1)), l2, some (.int ((nI 1)))] [.int ((nI 2)), .int (x1), .ref a0] h := by
  refine (p_const rfl).trans ?_
  refine (p_goto rfl).trans ?_
  refine (p_istore rfl rfl rfl).trans ?_
  refine (p_aload rfl rfl).trans ?_
  refine (p_iload rfl rfl).trans ?_
  refine (p_const rfl).trans ?_
  refine (p_iload rfl rfl).trans ?_
  exact (s_if (g := (fun x => decide (x = 0))) (t := 84) (nx := 80) rfl).trans bif_dec
theorem r_X7_passes_84 {d : Nat} {b0 : Nat} {s1 s2 x2 : Int32} {l0 l1 l3 : Option Value} {h : AH} : R_X7_passes d 84 [l0, l1, some (.int (x2)), l3] [.int (s2), .int (s1), .ref b0] h = ((hci h b0).bind (lkN [(18, 180)])).bind fun y => aK (exec tTab d y [.ref b0, .int (s1), .int (s2), .int (x2)] h) (fun v h1 => R_X7_passes d 88 [l0, l1, some (.int (x2)), l3] (v.toList ++ []) h1) (fun E h1 => some (.inr E, h1)) := by
  refine (p_iload rfl rfl).trans ?_
  exact s_callV (L := [(18, 180)]) (n := 3) (b := b0) (rest := []) rfl rfl rfl
theorem r_X7_passes_80 {d : Nat} {b0 : Nat} {s1 s2 : Int32} {l0 l1 l2 l3 : Option Value} {h : AH} : R_X7_passes d 80 [l0, l1, l2, l3] [.int (s2), .int (s1), .ref b0] h = ((hci h b0).bind (lkN [(18, 180)])).bind fun y => aK (exec tTab d y [.ref b0, .int (s1), .int (s2), .int ((-1))] h) (fun v h1 => R_X7_passes d 88 [l0, l1, l2, l3] (v.toList ++ []) h1) (fun E h1 => some (.inr E, h1)) := by
  refine (p_const rfl).trans ?_
  refine (p_goto rfl).trans ?_
  exact s_callV (L := [(18, 180)]) (n := 3) (b := b0) (rest := []) rfl rfl rfl
theorem r_X7_passes_88 {d : Nat} {x3 : Int32} {l0 l1 l2 : Option Value} {h : AH} : R_X7_passes d 88 [l0, l1, l2, some (.int (x3))] [] h = if x3 = 0 then R_X7_passes d 96 [l0, l1, l2, some (.int (x3))] [] h else R_X7_passes d 92 [l0, l1, l2, some (.int (x3))] [] h := by
  refine (p_iload rfl rfl).trans ?_
  exact (s_if (g := (fun x => decide (x = 0))) (t := 96) (nx := 92) rfl).trans bif_dec
theorem r_X7_passes_96 {d : Nat} {a0 : Nat} {x1 : Int32} {l2 l3 : Option Value} {h : AH} : R_X7_passes d 96 [some (.ref a0), some (.int (x1)), l2, l3] [] h = ((hci h a0).bind (lkN [(18, 175)])).bind fun y => aK (exec tTab d y [.ref a0, .int (x1), .int ((nI 1))] h) (fun v h1 => R_X7_passes d 102 [some (.ref a0), some (.int (x1)), l2, l3] (v.toList ++ []) h1) (fun E h1 => some (.inr E, h1)) := by
  refine (p_aload rfl rfl).trans ?_
  refine (p_iload rfl rfl).trans ?_
  refine (p_const rfl).trans ?_
  exact s_callV (L := [(18, 175)]) (n := 2) (b := a0) (rest := []) rfl rfl rfl
theorem r_X7_passes_92 {d : Nat} {l0 l1 l2 l3 : Option Value} {h : AH} : R_X7_passes d 92 [l0, l1, l2, l3] [] h = some (.inl (some (.int ((nI 0)))), h) := by
  refine (p_const rfl).trans ?_
  refine (p_goto rfl).trans ?_
  exact s_iretT rfl rfl
theorem r_X7_passes_102 {d : Nat} {s0 x1 : Int32} {a0 : Nat} {l2 l3 : Option Value} {h : AH} : R_X7_passes d 102 [some (.ref a0), some (.int (x1)), l2, l3] [.int (s0)] h = ((hci h a0).bind (lkN [(18, 175)])).bind fun y => aK (exec tTab d y [.ref a0, .int (x1), .int ((nI 3))] h) (fun v h1 => R_X7_passes d 108 [some (.ref a0), some (.int (x1)), l2, l3] (v.toList ++ [.int (s0)]) h1) (fun E h1 => some (.inr E, h1)) := by
  refine (p_aload rfl rfl).trans ?_
  refine (p_iload rfl rfl).trans ?_
  refine (p_const rfl).trans ?_
  exact s_callV (L := [(18, 175)]) (n := 2) (b := a0) (rest := [.int (s0)]) rfl rfl rfl
theorem r_X7_passes_108 {d : Nat} {s0 s1 : Int32} {l0 l1 l2 l3 : Option Value} {h : AH} : R_X7_passes d 108 [l0, l1, l2, l3] [.int (s1), .int (s0)] h = aK (exec tTab d 177 [.int (s0), .int (s1)] h) (fun v h1 => R_X7_passes d 111 [l0, l1, l2, l3] (v.toList ++ []) h1) (fun E h1 => some (.inr E, h1)) := s_callS (y := 177) (n := 2) rfl rfl
theorem r_X7_passes_111 {d : Nat} {s0 : Int32} {l0 l1 l2 l3 : Option Value} {h : AH} : R_X7_passes d 111 [l0, l1, l2, l3] [.int (s0)] h = some (.inl (some (.int (s0))), h) := s_iretT rfl rfl
theorem e_X7_passes {d : Nat} {a0 : Nat} {x1 x2 : Int32} {h : AH} : exec tTab (d + 1) K_X7_passes [.ref a0, .int x1, .int x2] h = R_X7_passes d 0 [some (.ref a0), some (.int x1), some (.int x2), none] [] h := exec_eq (cd := k_X7_passes) (hd := (fun _ _ => some none)) (L := 4) rfl rfl rfl
/-- FavourTownModel.canPass(II)Z -/
abbrev K_X7_canPass : Nat := 182
noncomputable def R_X7_canPass (d pc : Nat) (ls : ALs) (st : List Value) (h : AH) : Option (AOut × AH) := aR (exec tTab d) k_X7_canPass (fun _ _ => some none) (pc, ls, st, h)
theorem r_X7_canPass_0 {d : Nat} {a0 : Nat} {x1 : Int32} {l2 : Option Value} {h : AH} : R_X7_canPass d 0 [some (.ref a0), some (.int (x1)), l2] [] h = ((hci h a0).bind (lkN [(18, 175)])).bind fun y => aK (exec tTab d y [.ref a0, .int (x1), .int ((nI 2))] h) (fun v h1 => R_X7_canPass d 6 [some (.ref a0), some (.int (x1)), l2] (v.toList ++ []) h1) (fun E h1 => some (.inr E, h1)) := by
  refine (p_aload rfl rfl).trans ?_
  refine (p_iload rfl rfl).trans ?_
  refine (p_const rfl).trans ?_
  exact s_callV (L := [(18, 175)]) (n := 2) (b := a0) (rest := []) rfl rfl rfl
theorem r_X7_canPass_6 {d : Nat} {s0 : Int32} {l0 l1 l2 : Option Value} {h : AH} : R_X7_canPass d 6 [l0, l1, l2] [.int (s0)] h = if s0 = (-1) then R_X7_canPass d 26 [l0, l1, l2] [] h else R_X7_canPass d 10 [l0, l1, l2] [] h := by
  refine (p_const rfl).trans ?_
  exact (s_icmp (g := (fun x y => decide (x = y))) (t := 26) (nx := 10) rfl).trans bif_dec
theorem r_X7_canPass_26 {d : Nat} {l0 l1 l2 : Option Value} {h : AH} : R_X7_canPass d 26 [l0, l1, l2] [] h = some (.inl (some (.int ((nI 0)))), h) := by
  refine (p_const rfl).trans ?_
  exact s_iretT rfl rfl
theorem r_X7_canPass_10 {d : Nat} {a0 : Nat} {x1 : Int32} {l2 : Option Value} {h : AH} : R_X7_canPass d 10 [some (.ref a0), some (.int (x1)), l2] [] h = ((hci h a0).bind (lkN [(18, 175)])).bind fun y => aK (exec tTab d y [.ref a0, .int (x1), .int ((nI 3))] h) (fun v h1 => R_X7_canPass d 16 [some (.ref a0), some (.int (x1)), l2] (v.toList ++ []) h1) (fun E h1 => some (.inr E, h1)) := by
  refine (p_aload rfl rfl).trans ?_
  refine (p_iload rfl rfl).trans ?_
  refine (p_const rfl).trans ?_
  exact s_callV (L := [(18, 175)]) (n := 2) (b := a0) (rest := []) rfl rfl rfl
theorem r_X7_canPass_16 {d : Nat} {s0 : Int32} {a0 : Nat} {l1 l2 : Option Value} {h : AH} : R_X7_canPass d 16 [some (.ref a0), l1, l2] [.int (s0)] h = (hgf h [18] a0 1).bind fun v => R_X7_canPass d 20 [some (.ref a0), l1, l2] [v, .int (s0)] h := by
  refine (p_aload rfl rfl).trans ?_
  exact s_getf rfl
theorem r_X7_canPass_20 {d : Nat} {s0 : Int32} {b1 : Nat} {l0 l1 l2 : Option Value} {h : AH} : R_X7_canPass d 20 [l0, l1, l2] [.ref b1, .int (s0)] h = (hai h 0 b1 (nI 7)).bind fun v => R_X7_canPass d 23 [l0, l1, l2] [.int v, .int (s0)] h := by
  refine (p_const rfl).trans ?_
  exact s_iald rfl
theorem r_X7_canPass_23 {d : Nat} {s0 s1 : Int32} {l0 l1 l2 : Option Value} {h : AH} : R_X7_canPass d 23 [l0, l1, l2] [.int (s1), .int (s0)] h = if s0 < s1 then R_X7_canPass d 28 [l0, l1, l2] [] h else R_X7_canPass d 26 [l0, l1, l2] [] h := (s_icmp (g := (fun x y => decide (x < y))) (t := 28) (nx := 26) rfl).trans bif_dec
theorem r_X7_canPass_28 {d : Nat} {a0 : Nat} {x1 : Int32} {l2 : Option Value} {h : AH} : R_X7_canPass d 28 [some (.ref a0), some (.int (x1)), l2] [] h = ((hci h a0).bind (lkN [(18, 175)])).bind fun y => aK (exec tTab d y [.ref a0, .int (x1), .int ((nI 0))] h) (fun v h1 => R_X7_canPass d 34 [some (.ref a0), some (.int (x1)), l2] (v.toList ++ []) h1) (fun E h1 => some (.inr E, h1)) := by
  refine (p_aload rfl rfl).trans ?_
  refine (p_iload rfl rfl).trans ?_
  refine (p_const rfl).trans ?_
  exact s_callV (L := [(18, 175)]) (n := 2) (b := a0) (rest := []) rfl rfl rfl
theorem r_X7_canPass_34 {d : Nat} {s0 x2 : Int32} {l0 l1 : Option Value} {h : AH} : R_X7_canPass d 34 [l0, l1, some (.int (x2))] [.int (s0)] h = if s0 = x2 then R_X7_canPass d 47 [l0, l1, some (.int (x2))] [] h else R_X7_canPass d 38 [l0, l1, some (.int (x2))] [] h := by
  refine (p_iload rfl rfl).trans ?_
  exact (s_icmp (g := (fun x y => decide (x = y))) (t := 47) (nx := 38) rfl).trans bif_dec
theorem r_X7_canPass_47 {d : Nat} {l0 l1 l2 : Option Value} {h : AH} : R_X7_canPass d 47 [l0, l1, l2] [] h = some (.inl (some (.int ((nI 1)))), h) := by
  refine (p_const rfl).trans ?_
  refine (p_goto rfl).trans ?_
  exact s_iretT rfl rfl
theorem r_X7_canPass_38 {d : Nat} {a0 : Nat} {x2 x1 : Int32} {h : AH} : R_X7_canPass d 38 [some (.ref a0), some (.int (x1)), some (.int (x2))] [] h = ((hci h a0).bind (lkN [(18, 183)])).bind fun y => aK (exec tTab d y [.ref a0, .int (x2), .int (x1)] h) (fun v h1 => R_X7_canPass d 44 [some (.ref a0), some (.int (x1)), some (.int (x2))] (v.toList ++ []) h1) (fun E h1 => some (.inr E, h1)) := by
  refine (p_aload rfl rfl).trans ?_
  refine (p_iload rfl rfl).trans ?_
  refine (p_iload rfl rfl).trans ?_
  exact s_callV (L := [(18, 183)]) (n := 2) (b := a0) (rest := []) rfl rfl rfl
theorem r_X7_canPass_44 {d : Nat} {s0 : Int32} {l0 l1 l2 : Option Value} {h : AH} : R_X7_canPass d 44 [l0, l1, l2] [.int (s0)] h = if s0 = 0 then R_X7_canPass d 51 [l0, l1, l2] [] h else R_X7_canPass d 47 [l0, l1, l2] [] h := (s_if (g := (fun x => decide (x = 0))) (t := 51) (nx := 47) rfl).trans bif_dec
theorem r_X7_canPass_51 {d : Nat} {l0 l1 l2 : Option Value} {h : AH} : R_X7_canPass d 51 [l0, l1, l2] [] h = some (.inl (some (.int ((nI 0)))), h) := by
  refine (p_const rfl).trans ?_
  exact s_iretT rfl rfl
theorem e_X7_canPass {d : Nat} {a0 : Nat} {x1 x2 : Int32} {h : AH} : exec tTab (d + 1) K_X7_canPass [.ref a0, .int x1, .int x2] h = R_X7_canPass d 0 [some (.ref a0), some (.int x1), some (.int x2)] [] h := exec_eq (cd := k_X7_canPass) (hd := (fun _ _ => some none)) (L := 3) rfl rfl rfl
/-- FavourTownModel.wouldPass(II)Z -/
abbrev K_X7_wouldPass : Nat := 183
noncomputable def R_X7_wouldPass (d pc : Nat) (ls : ALs) (st : List Value) (h : AH) : Option (AOut × AH) := aR (exec tTab d) k_X7_wouldPass (fun _ _ => some none) (pc, ls, st, h)
theorem r_X7_wouldPass_0 {d : Nat} {l0 l1 l2 l3 l4 : Option Value} {h : AH} : R_X7_wouldPass d 0 [l0, l1, l2, l3, l4] [] h = R_X7_wouldPass d 5 [l0, l1, l2, some (.int ((nI 0))), some (.int ((nI 1)))] [] h := by
  refine (p_const rfl).trans ?_
  refine (p_istore rfl rfl rfl).trans ?_
  refine (p_const rfl).trans ?_
  refine (p_istore rfl rfl rfl).trans ?_
  exact rfl
theorem q_X7_wouldPass_5 {d : Nat} {x4 x2 : Int32} {a0 : Nat} {l1 l3 : Option Value} {h : AH} : R_X7_wouldPass d 5 [some (.ref a0), l1, some (.int (x2)), l3, some (.int (x4))] [] h = ((hci h a0).bind (lkN [(18, 175)])).bind fun y => aK (exec tTab d y [.ref a0, .int (x2), .int ((nI 6))] h) (fun v h1 => R_X7_wouldPass d 14 [some (.ref a0), l1, some (.int (x2)), l3, some (.int (x4))] (v.toList ++ [.int (x4)]) h1) (fun E h1 => some (.inr E, h1)) := by
  refine (p_iload rfl rfl).trans ?_
  refine (p_aload rfl rfl).trans ?_
  refine (p_iload rfl rfl).trans ?_
  refine (p_const rfl).trans ?_
  exact s_callV (L := [(18, 175)]) (n := 2) (b := a0) (rest := [.int (x4)]) rfl rfl rfl
theorem r_X7_wouldPass_14 {d : Nat} {s0 s1 : Int32} {l0 l1 l2 l3 l4 : Option Value} {h : AH} : R_X7_wouldPass d 14 [l0, l1, l2, l3, l4] [.int (s1), .int (s0)] h = if s1 ≤ s0 then R_X7_wouldPass d 47 [l0, l1, l2, l3, l4] [] h else R_X7_wouldPass d 17 [l0, l1, l2, l3, l4] [] h := (s_icmp (g := (fun x y => decide (y ≤ x))) (t := 47) (nx := 17) rfl).trans bif_dec
theorem r_X7_wouldPass_47 {d : Nat} {a0 : Nat} {x1 x2 : Int32} {l3 l4 : Option Value} {h : AH} : R_X7_wouldPass d 47 [some (.ref a0), some (.int (x1)), some (.int (x2)), l3, l4] [] h = ((hci h a0).bind (lkN [(18, 175)])).bind fun y => aK (exec tTab d y [.ref a0, .int (x2), .int ((nI 0))] h) (fun v h1 => R_X7_wouldPass d 55 [some (.ref a0), some (.int (x1)), some (.int (x2)), l3, l4] (v.toList ++ [.int (x1), .ref a0]) h1) (fun E h1 => some (.inr E, h1)) := by
  refine (p_aload rfl rfl).trans ?_
  refine (p_iload rfl rfl).trans ?_
  refine (p_aload rfl rfl).trans ?_
  refine (p_iload rfl rfl).trans ?_
  refine (p_const rfl).trans ?_
  exact s_callV (L := [(18, 175)]) (n := 2) (b := a0) (rest := [.int (x1), .ref a0]) rfl rfl rfl
theorem r_X7_wouldPass_17 {d : Nat} {x3 : Int32} {l0 l1 l2 l4 : Option Value} {h : AH} : R_X7_wouldPass d 17 [l0, l1, l2, some (.int (x3)), l4] [] h = if ¬ x3 = 0 then R_X7_wouldPass d 35 [l0, l1, l2, some (.int (x3)), l4] [] h else R_X7_wouldPass d 21 [l0, l1, l2, some (.int (x3)), l4] [] h := by
  refine (p_iload rfl rfl).trans ?_
  exact (s_if (g := (fun x => decide (¬ x = 0))) (t := 35) (nx := 21) rfl).trans bif_dec
theorem r_X7_wouldPass_55 {d : Nat} {b0 a0 : Nat} {s1 s2 x2 : Int32} {l1 l3 l4 : Option Value} {h : AH} : R_X7_wouldPass d 55 [some (.ref a0), l1, some (.int (x2)), l3, l4] [.int (s2), .int (s1), .ref b0] h = ((hci h a0).bind (lkN [(18, 175)])).bind fun y => aK (exec tTab d y [.ref a0, .int (x2), .int ((nI 1))] h) (fun v h1 => R_X7_wouldPass d 61 [some (.ref a0), l1, some (.int (x2)), l3, l4] (v.toList ++ [.int (s2), .int (s1), .ref b0]) h1) (fun E h1 => some (.inr E, h1)) := by
  refine (p_aload rfl rfl).trans ?_
  refine (p_iload rfl rfl).trans ?_
  refine (p_const rfl).trans ?_
  exact s_callV (L := [(18, 175)]) (n := 2) (b := a0) (rest := [.int (s2), .int (s1), .ref b0]) rfl rfl rfl
theorem r_X7_wouldPass_35 {d : Nat} {x4 : Int32} {l0 l1 l2 l3 : Option Value} {h : AH} : R_X7_wouldPass d 35 [l0, l1, l2, l3, some (.int (x4))] [] h = R_X7_wouldPass d 5 [l0, l1, l2, some (.int ((nI 1))), some (.int (x4 + (nI 1)))] [] h := by
  refine (p_const rfl).trans ?_
  refine (p_goto rfl).trans ?_
  refine (p_istore rfl rfl rfl).trans ?_
  refine (p_iinc rfl rfl rfl).trans ?_
  refine (p_goto rfl).trans ?_
  exact rfl
theorem r_X7_wouldPass_21 {d : Nat} {a0 : Nat} {x2 x4 : Int32} {l1 l3 : Option Value} {h : AH} : R_X7_wouldPass d 21 [some (.ref a0), l1, some (.int (x2)), l3, some (.int (x4))] [] h = ((hci h a0).bind (lkN [(18, 175)])).bind fun y => aK (exec tTab d y [.ref a0, .int (x2), .int ((nI 7) + x4)] h) (fun v h1 => R_X7_wouldPass d 31 [some (.ref a0), l1, some (.int (x2)), l3, some (.int (x4))] (v.toList ++ []) h1) (fun E h1 => some (.inr E, h1)) := by
  refine (p_aload rfl rfl).trans ?_
  refine (p_iload rfl rfl).trans ?_
  refine (p_const rfl).trans ?_
  refine (p_iload rfl rfl).trans ?_
  refine (p_bin rfl).trans ?_
  exact s_callV (L := [(18, 175)]) (n := 2) (b := a0) (rest := []) rfl rfl rfl
theorem r_X7_wouldPass_61 {d : Nat} {b0 a0 : Nat} {s1 s2 s3 x2 : Int32} {l1 l3 l4 : Option Value} {h : AH} : R_X7_wouldPass d 61 [some (.ref a0), l1, some (.int (x2)), l3, l4] [.int (s3), .int (s2), .int (s1), .ref b0] h = ((hci h a0).bind (lkN [(18, 175)])).bind fun y => aK (exec tTab d y [.ref a0, .int (x2), .int ((nI 3))] h) (fun v h1 => R_X7_wouldPass d 67 [some (.ref a0), l1, some (.int (x2)), l3, l4] (v.toList ++ [.int (s3), .int (s2), .int (s1), .ref b0]) h1) (fun E h1 => some (.inr E, h1)) := by
  refine (p_aload rfl rfl).trans ?_
  refine (p_iload rfl rfl).trans ?_
  refine (p_const rfl).trans ?_
  exact s_callV (L := [(18, 175)]) (n := 2) (b := a0) (rest := [.int (s3), .int (s2), .int (s1), .ref b0]) rfl rfl rfl
theorem r_X7_wouldPass_31 {d : Nat} {s0 x1 : Int32} {l0 l2 l3 l4 : Option Value} {h : AH} : R_X7_wouldPass d 31 [l0, some (.int (x1)), l2, l3, l4] [.int (s0)] h = if ¬ s0 = x1 then R_X7_wouldPass d 39 [l0, some (.int (x1)), l2, l3, l4] [] h else R_X7_wouldPass d 35 [l0, some (.int (x1)), l2, l3, l4] [] h := by
  refine (p_iload rfl rfl).trans ?_
  exact (s_icmp (g := (fun x y => decide (¬ x = y))) (t := 39) (nx := 35) rfl).trans bif_dec
theorem r_X7_wouldPass_67 {d : Nat} {b0 a0 : Nat} {s1 s2 s3 s4 x2 : Int32} {l1 l3 l4 : Option Value} {h : AH} : R_X7_wouldPass d 67 [some (.ref a0), l1, some (.int (x2)), l3, l4] [.int (s4), .int (s3), .int (s2), .int (s1), .ref b0] h = ((hci h a0).bind (lkN [(18, 175)])).bind fun y => aK (exec tTab d y [.ref a0, .int (x2), .int ((nI 4))] h) (fun v h1 => R_X7_wouldPass d 75 [some (.ref a0), l1, some (.int (x2)), l3, l4] (v.toList ++ [.int (s4 + (nI 1)), .int (s3), .int (s2), .int (s1), .ref b0]) h1) (fun E h1 => some (.inr E, h1)) := by
  refine (p_const rfl).trans ?_
  refine (p_bin rfl).trans ?_
  refine (p_aload rfl rfl).trans ?_
  refine (p_iload rfl rfl).trans ?_
  refine (p_const rfl).trans ?_
  exact s_callV (L := [(18, 175)]) (n := 2) (b := a0) (rest := [.int (s4 + (nI 1)), .int (s3), .int (s2), .int (s1), .ref b0]) rfl rfl rfl
theorem r_X7_wouldPass_39 {d : Nat} {x4 : Int32} {l0 l1 l2 l3 : Option Value} {h : AH} : R_X7_wouldPass d 39 [l0, l1, l2, l3, some (.int (x4))] [] h = R_X7_wouldPass d 5 [l0, l1, l2, some (.int ((nI 0))), some (.int (x4 + (nI 1)))] [] h := by
  refine (p_const rfl).trans ?_
  refine (p_istore rfl rfl rfl).trans ?_
  refine (p_iinc rfl rfl rfl).trans ?_
  refine (p_goto rfl).trans ?_
  exact rfl
theorem r_X7_wouldPass_75 {d : Nat} {b0 a0 : Nat} {s1 s2 s3 s4 s5 x2 : Int32} {l1 l3 l4 : Option Value} {h : AH} : R_X7_wouldPass d 75 [some (.ref a0), l1, some (.int (x2)), l3, l4] [.int (s5), .int (s4), .int (s3), .int (s2), .int (s1), .ref b0] h = ((hci h a0).bind (lkN [(18, 175)])).bind fun y => aK (exec tTab d y [.ref a0, .int (x2), .int ((nI 5))] h) (fun v h1 => R_X7_wouldPass d 81 [some (.ref a0), l1, some (.int (x2)), l3, l4] (v.toList ++ [.int (s5), .int (s4), .int (s3), .int (s2), .int (s1), .ref b0]) h1) (fun E h1 => some (.inr E, h1)) := by
  refine (p_aload rfl rfl).trans ?_
  refine (p_iload rfl rfl).trans ?_
  refine (p_const rfl).trans ?_
  exact s_callV (L := [(18, 175)]) (n := 2) (b := a0) (rest := [.int (s5), .int (s4), .int (s3), .int (s2), .int (s1), .ref b0]) rfl rfl rfl
theorem r_X7_wouldPass_81 {d : Nat} {b0 : Nat} {s1 s2 s3 s4 s5 s6 : Int32} {l0 l1 l2 l3 l4 : Option Value} {h : AH} : R_X7_wouldPass d 81 [l0, l1, l2, l3, l4] [.int (s6), .int (s5), .int (s4), .int (s3), .int (s2), .int (s1), .ref b0] h = if ¬ s6 = (nI 1) then R_X7_wouldPass d 89 [l0, l1, l2, l3, l4] [.int (s5), .int (s4), .int (s3), .int (s2), .int (s1), .ref b0] h else R_X7_wouldPass d 85 [l0, l1, l2, l3, l4] [.int (s5), .int (s4), .int (s3), .int (s2), .int (s1), .ref b0] h := by
  refine (p_const rfl).trans ?_
  exact (s_icmp (g := (fun x y => decide (¬ x = y))) (t := 89) (nx := 85) rfl).trans bif_dec
theorem r_X7_wouldPass_89 {d : Nat} {b0 : Nat} {s1 s2 s3 s4 s5 x3 : Int32} {l0 l1 l2 l4 : Option Value} {h : AH} : R_X7_wouldPass d 89 [l0, l1, l2, some (.int (x3)), l4] [.int (s5), .int (s4), .int (s3), .int (s2), .int (s1), .ref b0] h = ((hci h b0).bind (lkN [(18, 176)])).bind fun y => aK (exec tTab d y [.ref b0, .int (s1), .int (s2), .int (s3), .int (s4), .int (s5), .int ((nI 0)), .int (x3)] h) (fun v h1 => R_X7_wouldPass d 94 [l0, l1, l2, some (.int (x3)), l4] (v.toList ++ []) h1) (fun E h1 => some (.inr E, h1)) := by
  refine (p_const rfl).trans ?_
  refine (p_iload rfl rfl).trans ?_
  exact s_callV (L := [(18, 176)]) (n := 7) (b := b0) (rest := []) rfl rfl rfl
theorem r_X7_wouldPass_85 {d : Nat} {b0 : Nat} {s1 s2 s3 s4 s5 x3 : Int32} {l0 l1 l2 l4 : Option Value} {h : AH} : R_X7_wouldPass d 85 [l0, l1, l2, some (.int (x3)), l4] [.int (s5), .int (s4), .int (s3), .int (s2), .int (s1), .ref b0] h = ((hci h b0).bind (lkN [(18, 176)])).bind fun y => aK (exec tTab d y [.ref b0, .int (s1), .int (s2), .int (s3), .int (s4), .int (s5), .int ((nI 1)), .int (x3)] h) (fun v h1 => R_X7_wouldPass d 94 [l0, l1, l2, some (.int (x3)), l4] (v.toList ++ []) h1) (fun E h1 => some (.inr E, h1)) := by
  refine (p_const rfl).trans ?_
  refine (p_goto rfl).trans ?_
  refine (p_iload rfl rfl).trans ?_
  exact s_callV (L := [(18, 176)]) (n := 7) (b := b0) (rest := []) rfl rfl rfl
theorem r_X7_wouldPass_94 {d : Nat} {s0 : Int32} {l0 l1 l2 l3 l4 : Option Value} {h : AH} : R_X7_wouldPass d 94 [l0, l1, l2, l3, l4] [.int (s0)] h = bif s0 == 0 || s0 == 1 then some (.inl (some (.int (s0))), h) else none := s_iret (ok := (fun x => x == 0 || x == 1)) rfl
theorem e_X7_wouldPass {d : Nat} {a0 : Nat} {x1 x2 : Int32} {h : AH} : exec tTab (d + 1) K_X7_wouldPass [.ref a0, .int x1, .int x2] h = R_X7_wouldPass d 0 [some (.ref a0), some (.int x1), some (.int x2), none, none] [] h := exec_eq (cd := k_X7_wouldPass) (hd := (fun _ _ => some none)) (L := 5) rfl rfl rfl
/-- FavourTownModel.goOn(I)I -/
abbrev K_X7_goOn : Nat := 184
noncomputable def R_X7_goOn (d pc : Nat) (ls : ALs) (st : List Value) (h : AH) : Option (AOut × AH) := aR (exec tTab d) k_X7_goOn (fun _ _ => some none) (pc, ls, st, h)
theorem r_X7_goOn_0 {d : Nat} {a0 : Nat} {l1 l2 l3 : Option Value} {h : AH} : R_X7_goOn d 0 [some (.ref a0), l1, l2, l3] [] h = (hgf h [18] a0 1).bind fun v => R_X7_goOn d 4 [some (.ref a0), l1, l2, l3] [v] h := by
  refine (p_aload rfl rfl).trans ?_
  exact s_getf rfl
theorem r_X7_goOn_4 {d : Nat} {b0 : Nat} {l0 l1 l2 l3 : Option Value} {h : AH} : R_X7_goOn d 4 [l0, l1, l2, l3] [.ref b0] h = (hai h 0 b0 (nI 6)).bind fun v => R_X7_goOn d 8 [l0, l1, l2, l3] [.int v, .int ((nI 6)), .ref b0] h := by
  refine (p_const rfl).trans ?_
  refine (p_dup2 rfl rfl).trans ?_
  exact s_iald rfl
theorem r_X7_goOn_8 {d : Nat} {b0 : Nat} {s1 s2 x1 : Int32} {l0 l2 l3 : Option Value} {h : AH} : R_X7_goOn d 8 [l0, some (.int (x1)), l2, l3] [.int (s2), .int (s1), .ref b0] h = (hsi h 0 b0 s1 (s2 + x1)).bind fun h1 => R_X7_goOn d 11 [l0, some (.int (x1)), l2, l3] [] h1 := by
  refine (p_iload rfl rfl).trans ?_
  refine (p_bin rfl).trans ?_
  exact s_iast (t := 0) (nar := (fun y => y)) rfl
theorem r_X7_goOn_11 {d : Nat} {l0 l1 l2 l3 : Option Value} {h : AH} : R_X7_goOn d 11 [l0, l1, l2, l3] [] h = R_X7_goOn d 15 [l0, l1, some (.int ((nI 0))), some (.int ((nI 0)))] [] h := by
  refine (p_const rfl).trans ?_
  refine (p_istore rfl rfl rfl).trans ?_
  refine (p_const rfl).trans ?_
  refine (p_istore rfl rfl rfl).trans ?_
  exact rfl
theorem q_X7_goOn_15 {d : Nat} {x3 : Int32} {a0 : Nat} {l1 l2 : Option Value} {h : AH} : R_X7_goOn d 15 [some (.ref a0), l1, l2, some (.int (x3))] [] h = (hgf h [18] a0 1).bind fun v => R_X7_goOn d 20 [some (.ref a0), l1, l2, some (.int (x3))] [v, .int (x3)] h := by
  refine (p_iload rfl rfl).trans ?_
  refine (p_aload rfl rfl).trans ?_
  exact s_getf rfl
theorem r_X7_goOn_20 {d : Nat} {s0 : Int32} {b1 : Nat} {l0 l1 l2 l3 : Option Value} {h : AH} : R_X7_goOn d 20 [l0, l1, l2, l3] [.ref b1, .int (s0)] h = (hai h 0 b1 (nI 3)).bind fun v => R_X7_goOn d 22 [l0, l1, l2, l3] [.int v, .int (s0)] h := by
  refine (p_const rfl).trans ?_
  exact s_iald rfl
theorem r_X7_goOn_22 {d : Nat} {s0 s1 : Int32} {l0 l1 l2 l3 : Option Value} {h : AH} : R_X7_goOn d 22 [l0, l1, l2, l3] [.int (s1), .int (s0)] h = if s1 ≤ s0 then R_X7_goOn d 80 [l0, l1, l2, l3] [] h else R_X7_goOn d 25 [l0, l1, l2, l3] [] h := (s_icmp (g := (fun x y => decide (y ≤ x))) (t := 80) (nx := 25) rfl).trans bif_dec
theorem r_X7_goOn_80 {d : Nat} {x2 : Int32} {l0 l1 l3 : Option Value} {h : AH} : R_X7_goOn d 80 [l0, l1, some (.int (x2)), l3] [] h = some (.inl (some (.int (x2))), h) := by
  refine (p_iload rfl rfl).trans ?_
  exact s_iretT rfl rfl
theorem r_X7_goOn_25 {d : Nat} {a0 : Nat} {x3 : Int32} {l1 l2 : Option Value} {h : AH} : R_X7_goOn d 25 [some (.ref a0), l1, l2, some (.int (x3))] [] h = ((hci h a0).bind (lkN [(18, 175)])).bind fun y => aK (exec tTab d y [.ref a0, .int (x3), .int ((nI 2))] h) (fun v h1 => R_X7_goOn d 31 [some (.ref a0), l1, l2, some (.int (x3))] (v.toList ++ []) h1) (fun E h1 => some (.inr E, h1)) := by
  refine (p_aload rfl rfl).trans ?_
  refine (p_iload rfl rfl).trans ?_
  refine (p_const rfl).trans ?_
  exact s_callV (L := [(18, 175)]) (n := 2) (b := a0) (rest := []) rfl rfl rfl
theorem r_X7_goOn_31 {d : Nat} {s0 : Int32} {l0 l1 l2 l3 : Option Value} {h : AH} : R_X7_goOn d 31 [l0, l1, l2, l3] [.int (s0)] h = if s0 = (-1) then R_X7_goOn d 74 [l0, l1, l2, l3] [] h else R_X7_goOn d 35 [l0, l1, l2, l3] [] h := by
  refine (p_const rfl).trans ?_
  exact (s_icmp (g := (fun x y => decide (x = y))) (t := 74) (nx := 35) rfl).trans bif_dec
theorem r_X7_goOn_74 {d : Nat} {x3 : Int32} {l0 l1 l2 : Option Value} {h : AH} : R_X7_goOn d 74 [l0, l1, l2, some (.int (x3))] [] h = R_X7_goOn d 15 [l0, l1, l2, some (.int (x3 + (nI 1)))] [] h := by
  refine (p_iinc rfl rfl rfl).trans ?_
  refine (p_goto rfl).trans ?_
  exact rfl
theorem r_X7_goOn_35 {d : Nat} {a0 : Nat} {x3 : Int32} {l1 l2 : Option Value} {h : AH} : R_X7_goOn d 35 [some (.ref a0), l1, l2, some (.int (x3))] [] h = ((hci h a0).bind (lkN [(18, 175)])).bind fun y => aK (exec tTab d y [.ref a0, .int (x3), .int ((nI 4))] h) (fun v h1 => R_X7_goOn d 41 [some (.ref a0), l1, l2, some (.int (x3))] (v.toList ++ []) h1) (fun E h1 => some (.inr E, h1)) := by
  refine (p_aload rfl rfl).trans ?_
  refine (p_iload rfl rfl).trans ?_
  refine (p_const rfl).trans ?_
  exact s_callV (L := [(18, 175)]) (n := 2) (b := a0) (rest := []) rfl rfl rfl
theorem r_X7_goOn_41 {d : Nat} {s0 : Int32} {l0 l1 l2 l3 : Option Value} {h : AH} : R_X7_goOn d 41 [l0, l1, l2, l3] [.int (s0)] h = if s0 = (-1) then R_X7_goOn d 74 [l0, l1, l2, l3] [] h else R_X7_goOn d 45 [l0, l1, l2, l3] [] h := by
  refine (p_const rfl).trans ?_
  exact (s_icmp (g := (fun x y => decide (x = y))) (t := 74) (nx := 45) rfl).trans bif_dec
theorem r_X7_goOn_45 {d : Nat} {a0 : Nat} {x3 : Int32} {l1 l2 : Option Value} {h : AH} : R_X7_goOn d 45 [some (.ref a0), l1, l2, some (.int (x3))] [] h = ((hci h a0).bind (lkN [(18, 175)])).bind fun y => aK (exec tTab d y [.ref a0, .int (x3), .int ((nI 4))] h) (fun v h1 => R_X7_goOn d 51 [some (.ref a0), l1, l2, some (.int (x3))] (v.toList ++ []) h1) (fun E h1 => some (.inr E, h1)) := by
  refine (p_aload rfl rfl).trans ?_
  refine (p_iload rfl rfl).trans ?_
  refine (p_const rfl).trans ?_
  exact s_callV (L := [(18, 175)]) (n := 2) (b := a0) (rest := []) rfl rfl rfl
theorem r_X7_goOn_51 {d : Nat} {s0 : Int32} {a0 : Nat} {l1 l2 l3 : Option Value} {h : AH} : R_X7_goOn d 51 [some (.ref a0), l1, l2, l3] [.int (s0)] h = (hgf h [18] a0 1).bind fun v => R_X7_goOn d 55 [some (.ref a0), l1, l2, l3] [v, .int (s0)] h := by
  refine (p_aload rfl rfl).trans ?_
  exact s_getf rfl
theorem r_X7_goOn_55 {d : Nat} {s0 : Int32} {b1 : Nat} {l0 l1 l2 l3 : Option Value} {h : AH} : R_X7_goOn d 55 [l0, l1, l2, l3] [.ref b1, .int (s0)] h = (hai h 0 b1 (nI 6)).bind fun v => R_X7_goOn d 58 [l0, l1, l2, l3] [.int v, .int (s0)] h := by
  refine (p_const rfl).trans ?_
  exact s_iald rfl
theorem r_X7_goOn_58 {d : Nat} {s0 s1 : Int32} {l0 l1 l2 l3 : Option Value} {h : AH} : R_X7_goOn d 58 [l0, l1, l2, l3] [.int (s1), .int (s0)] h = if s0 ≤ s1 then R_X7_goOn d 64 [l0, l1, l2, l3] [] h else R_X7_goOn d 61 [l0, l1, l2, l3] [] h := (s_icmp (g := (fun x y => decide (x ≤ y))) (t := 64) (nx := 61) rfl).trans bif_dec
theorem r_X7_goOn_64 {d : Nat} {a0 : Nat} {x3 : Int32} {l1 l2 : Option Value} {h : AH} : R_X7_goOn d 64 [some (.ref a0), l1, l2, some (.int (x3))] [] h = ((hci h a0).bind (lkN [(18, 180)])).bind fun y => aK (exec tTab d y [.ref a0, .int (x3), .int ((nI 2)), .int ((-1))] h) (fun v h1 => R_X7_goOn d 71 [some (.ref a0), l1, l2, some (.int (x3))] (v.toList ++ []) h1) (fun E h1 => some (.inr E, h1)) := by
  refine (p_aload rfl rfl).trans ?_
  refine (p_iload rfl rfl).trans ?_
  refine (p_const rfl).trans ?_
  refine (p_const rfl).trans ?_
  exact s_callV (L := [(18, 180)]) (n := 3) (b := a0) (rest := []) rfl rfl rfl
theorem r_X7_goOn_61 {d : Nat} {x3 : Int32} {l0 l1 l2 : Option Value} {h : AH} : R_X7_goOn d 61 [l0, l1, l2, some (.int (x3))] [] h = R_X7_goOn d 15 [l0, l1, l2, some (.int (x3 + (nI 1)))] [] h := by
  refine (p_goto rfl).trans ?_
  refine (p_iinc rfl rfl rfl).trans ?_
  refine (p_goto rfl).trans ?_
  exact rfl
theorem r_X7_goOn_71 {d : Nat} {x2 x3 : Int32} {l0 l1 : Option Value} {h : AH} : R_X7_goOn d 71 [l0, l1, some (.int (x2)), some (.int (x3))] [] h = R_X7_goOn d 15 [l0, l1, some (.int (x2 + (nI 1))), some (.int (x3 + (nI 1)))] [] h := by
  refine (p_iinc rfl rfl rfl).trans ?_
  refine (p_iinc rfl rfl rfl).trans ?_
  refine (p_goto rfl).trans ?_
  exact rfl
theorem e_X7_goOn {d : Nat} {a0 : Nat} {x1 : Int32} {h : AH} : exec tTab (d + 1) K_X7_goOn [.ref a0, .int x1] h = R_X7_goOn d 0 [some (.ref a0), some (.int x1), none, none] [] h := exec_eq (cd := k_X7_goOn) (hd := (fun _ _ => some none)) (L := 4) rfl rfl rfl
/-- FavourTownModel.temper()I -/
abbrev K_X7_temper : Nat := 185
noncomputable def R_X7_temper (d pc : Nat) (ls : ALs) (st : List Value) (h : AH) : Option (AOut × AH) := aR (exec tTab d) k_X7_temper (fun _ _ => some none) (pc, ls, st, h)
theorem r_X7_temper_0 {d : Nat} {a0 : Nat} {l1 l2 l3 : Option Value} {h : AH} : R_X7_temper d 0 [some (.ref a0), l1, l2, l3] [] h = (hpf h [18] a0 10 (.int ((-1)))).bind fun h1 => R_X7_temper d 5 [some (.ref a0), l1, l2, l3] [] h1 := by
  refine (p_aload rfl rfl).trans ?_
  refine (p_const rfl).trans ?_
  exact s_putT rfl rfl
theorem r_X7_temper_5 {d : Nat} {a0 : Nat} {l1 l2 l3 : Option Value} {h : AH} : R_X7_temper d 5 [some (.ref a0), l1, l2, l3] [] h = (hpf h [18] a0 7 (.int ((-1)))).bind fun h1 => R_X7_temper d 10 [some (.ref a0), l1, l2, l3] [] h1 := by
  refine (p_aload rfl rfl).trans ?_
  refine (p_const rfl).trans ?_
  exact s_putT rfl rfl
theorem r_X7_temper_10 {d : Nat} {a0 : Nat} {l1 l2 l3 : Option Value} {h : AH} : R_X7_temper d 10 [some (.ref a0), l1, l2, l3] [] h = (hgf h [18] a0 6).bind fun v => R_X7_temper d 15 [some (.ref a0), l1, l2, l3] [v, .ref a0] h := by
  refine (p_aload rfl rfl).trans ?_
  refine (p_aload rfl rfl).trans ?_
  exact s_getf rfl
theorem r_X7_temper_15 {d : Nat} {b0 : Nat} {s1 : Int32} {l0 l1 l2 l3 : Option Value} {h : AH} : R_X7_temper d 15 [l0, l1, l2, l3] [.int (s1), .ref b0] h = (hpf h [18] b0 8 (.int (s1))).bind fun h1 => R_X7_temper d 18 [l0, l1, l2, l3] [] h1 := s_putT rfl rfl
theorem r_X7_temper_18 {d : Nat} {a0 : Nat} {l1 l2 l3 : Option Value} {h : AH} : R_X7_temper d 18 [some (.ref a0), l1, l2, l3] [] h = (hpf h [18] a0 17 (.int ((-1)))).bind fun h1 => R_X7_temper d 23 [some (.ref a0), l1, l2, l3] [] h1 := by
  refine (p_aload rfl rfl).trans ?_
  refine (p_const rfl).trans ?_
  exact s_putT rfl rfl
theorem r_X7_temper_23 {d : Nat} {a0 : Nat} {l1 l2 l3 : Option Value} {h : AH} : R_X7_temper d 23 [some (.ref a0), l1, l2, l3] [] h = ((hci h a0).bind (lkN [(18, 155)])).bind fun y => aK (exec tTab d y [.ref a0, .int ((nI 1))] h) (fun v h1 => R_X7_temper d 28 [some (.ref a0), l1, l2, l3] (v.toList ++ []) h1) (fun E h1 => some (.inr E, h1)) := by
  refine (p_aload rfl rfl).trans ?_
  refine (p_const rfl).trans ?_
  exact s_callV (L := [(18, 155)]) (n := 1) (b := a0) (rest := []) rfl rfl rfl
theorem r_X7_temper_28 {d : Nat} {a0 : Nat} {l1 l2 l3 : Option Value} {h : AH} : R_X7_temper d 28 [some (.ref a0), l1, l2, l3] [] h = (hgf h [18] a0 6).bind fun v => R_X7_temper d 32 [some (.ref a0), l1, l2, l3] [v] h := by
  refine (p_aload rfl rfl).trans ?_
  exact s_getf rfl
theorem r_X7_temper_32 {d : Nat} {s0 : Int32} {a0 : Nat} {l1 l2 l3 : Option Value} {h : AH} : R_X7_temper d 32 [some (.ref a0), l1, l2, l3] [.int (s0)] h = (hpf h [18] a0 6 (.int ((nI 0)))).bind fun h1 => R_X7_temper d 38 [some (.ref a0), some (.int (s0)), l2, l3] [] h1 := by
  refine (p_istore rfl rfl rfl).trans ?_
  refine (p_aload rfl rfl).trans ?_
  refine (p_const rfl).trans ?_
  exact s_putT rfl rfl
theorem r_X7_temper_38 {d : Nat} {a0 : Nat} {l1 l2 l3 : Option Value} {h : AH} : R_X7_temper d 38 [some (.ref a0), l1, l2, l3] [] h = (hgf h [18] a0 10).bind fun v => R_X7_temper d 43 [some (.ref a0), l1, l2, l3] [v, .ref a0] h := by
  refine (p_aload rfl rfl).trans ?_
  refine (p_aload rfl rfl).trans ?_
  exact s_getf rfl
theorem r_X7_temper_43 {d : Nat} {b0 : Nat} {s1 : Int32} {l0 l1 l2 l3 : Option Value} {h : AH} : R_X7_temper d 43 [l0, l1, l2, l3] [.int (s1), .ref b0] h = if s1 = (-1) then R_X7_temper d 51 [l0, l1, l2, l3] [.ref b0] h else R_X7_temper d 47 [l0, l1, l2, l3] [.ref b0] h := by
  refine (p_const rfl).trans ?_
  exact (s_icmp (g := (fun x y => decide (x = y))) (t := 51) (nx := 47) rfl).trans bif_dec
theorem r_X7_temper_51 {d : Nat} {b0 a0 : Nat} {l1 l2 l3 : Option Value} {h : AH} : R_X7_temper d 51 [some (.ref a0), l1, l2, l3] [.ref b0] h = (hgf h [18] a0 1).bind fun v => R_X7_temper d 55 [some (.ref a0), l1, l2, l3] [v, .ref b0] h := by
  refine (p_aload rfl rfl).trans ?_
  exact s_getf rfl
theorem r_X7_temper_51N {d : Nat} {a0 : Nat} {l1 l2 l3 : Option Value} {h : AH} : R_X7_temper d 51 [some (.ref a0), l1, l2, l3] [.null] h = (hgf h [18] a0 1).bind fun v => R_X7_temper d 55 [some (.ref a0), l1, l2, l3] [v, .null] h := by
  refine (p_aload rfl rfl).trans ?_
  exact s_getf rfl
theorem r_X7_temper_47 {d : Nat} {b0 : Nat} {l0 l1 l2 l3 : Option Value} {h : AH} : R_X7_temper d 47 [l0, l1, l2, l3] [.ref b0] h = (hpf h [18] b0 0 (.int ((nI 1)))).bind fun h1 => R_X7_temper d 70 [l0, l1, l2, l3] [] h1 := by
  refine (p_const rfl).trans ?_
  refine (p_goto rfl).trans ?_
  exact s_putT rfl rfl
theorem r_X7_temper_55 {d : Nat} {b0 b1 : Nat} {l0 l1 l2 l3 : Option Value} {h : AH} : R_X7_temper d 55 [l0, l1, l2, l3] [.ref b1, .ref b0] h = (hai h 0 b1 (nI 2)).bind fun v => R_X7_temper d 57 [l0, l1, l2, l3] [.int v, .ref b0] h := by
  refine (p_const rfl).trans ?_
  exact s_iald rfl
theorem r_X7_temper_70 {d : Nat} {a0 : Nat} {l1 l2 l3 : Option Value} {h : AH} : R_X7_temper d 70 [some (.ref a0), l1, l2, l3] [] h = (hgf h [18] a0 0).bind fun v => R_X7_temper d 74 [some (.ref a0), l1, l2, l3] [v] h := by
  refine (p_aload rfl rfl).trans ?_
  exact s_getf rfl
theorem r_X7_temper_57 {d : Nat} {b0 : Nat} {s1 : Int32} {l0 l1 l2 l3 : Option Value} {h : AH} : R_X7_temper d 57 [l0, l1, l2, l3] [.int (s1), .ref b0] h = if ¬ s1 = (nI 6) then R_X7_temper d 66 [l0, l1, l2, l3] [.ref b0] h else R_X7_temper d 62 [l0, l1, l2, l3] [.ref b0] h := by
  refine (p_const rfl).trans ?_
  exact (s_icmp (g := (fun x y => decide (¬ x = y))) (t := 66) (nx := 62) rfl).trans bif_dec
theorem r_X7_temper_74 {d : Nat} {s0 : Int32} {l0 l1 l2 l3 : Option Value} {h : AH} : R_X7_temper d 74 [l0, l1, l2, l3] [.int (s0)] h = if s0 ≤ 0 then R_X7_temper d 79 [l0, l1, l2, l3] [] h else R_X7_temper d 77 [l0, l1, l2, l3] [] h := (s_if (g := (fun x => decide (x ≤ 0))) (t := 79) (nx := 77) rfl).trans bif_dec
theorem r_X7_temper_66 {d : Nat} {b0 : Nat} {l0 l1 l2 l3 : Option Value} {h : AH} : R_X7_temper d 66 [l0, l1, l2, l3] [.ref b0] h = (hpf h [18] b0 0 (.int ((nI 0)))).bind fun h1 => R_X7_temper d 70 [l0, l1, l2, l3] [] h1 := by
  refine (p_const rfl).trans ?_
  exact s_putT rfl rfl
theorem r_X7_temper_62 {d : Nat} {b0 : Nat} {l0 l1 l2 l3 : Option Value} {h : AH} : R_X7_temper d 62 [l0, l1, l2, l3] [.ref b0] h = (hpf h [18] b0 0 (.int ((nI 2)))).bind fun h1 => R_X7_temper d 70 [l0, l1, l2, l3] [] h1 := by
  refine (p_const rfl).trans ?_
  refine (p_goto rfl).trans ?_
  exact s_putT rfl rfl
theorem r_X7_temper_79 {d : Nat} {a0 : Nat} {l1 l2 l3 : Option Value} {h : AH} : R_X7_temper d 79 [some (.ref a0), l1, l2, l3] [] h = (hgf h [18] a0 1).bind fun v => R_X7_temper d 89 [some (.ref a0), l1, l2, l3] [v, .int ((nI 401)), .int ((nI 940))] h := by
  refine (p_const rfl).trans ?_
  refine (p_const rfl).trans ?_
  refine (p_aload rfl rfl).trans ?_
  exact s_getf rfl
theorem r_X7_temper_77 {d : Nat} {l0 l1 l2 l3 : Option Value} {h : AH} : R_X7_temper d 77 [l0, l1, l2, l3] [] h = some (.inl (some (.int ((nI 0)))), h) := by
  refine (p_const rfl).trans ?_
  exact s_iretT rfl rfl
theorem r_X7_temper_89 {d : Nat} {s0 s1 : Int32} {b2 : Nat} {l0 l1 l2 l3 : Option Value} {h : AH} : R_X7_temper d 89 [l0, l1, l2, l3] [.ref b2, .int (s1), .int (s0)] h = (hai h 0 b2 (nI 2)).bind fun v => R_X7_temper d 91 [l0, l1, l2, l3] [.int v, .int (s1), .int (s0)] h := by
  refine (p_const rfl).trans ?_
  exact s_iald rfl
theorem r_X7_temper_91 {d : Nat} {s0 s1 s2 : Int32} {a0 : Nat} {l1 l2 l3 : Option Value} {h : AH} : R_X7_temper d 91 [some (.ref a0), l1, l2, l3] [.int (s2), .int (s1), .int (s0)] h = (hgf h [18] a0 1).bind fun v => R_X7_temper d 98 [some (.ref a0), l1, some (.int (s0 + (s1 * s2))), l3] [v] h := by
  refine (p_bin rfl).trans ?_
  refine (p_bin rfl).trans ?_
  refine (p_istore rfl rfl rfl).trans ?_
  refine (p_aload rfl rfl).trans ?_
  exact s_getf rfl
theorem r_X7_temper_98 {d : Nat} {b0 : Nat} {x2 x1 : Int32} {l0 l3 : Option Value} {h : AH} : R_X7_temper d 98 [l0, some (.int (x1)), some (.int (x2)), l3] [.ref b0] h = (hsi h 0 b0 x2 x1).bind fun h1 => R_X7_temper d 101 [l0, some (.int (x1)), some (.int (x2)), l3] [] h1 := by
  refine (p_iload rfl rfl).trans ?_
  refine (p_iload rfl rfl).trans ?_
  exact s_iast (t := 0) (nar := (fun y => y)) rfl
theorem r_X7_temper_101 {d : Nat} {l0 l1 l2 l3 : Option Value} {h : AH} : R_X7_temper d 101 [l0, l1, l2, l3] [] h = R_X7_temper d 103 [l0, l1, l2, some (.int ((nI 0)))] [] h := by
  refine (p_const rfl).trans ?_
  refine (p_istore rfl rfl rfl).trans ?_
  exact rfl
theorem q_X7_temper_103 {d : Nat} {x3 x1 : Int32} {l0 l2 : Option Value} {h : AH} : R_X7_temper d 103 [l0, some (.int (x1)), l2, some (.int (x3))] [] h = if x1 ≤ x3 then R_X7_temper d 130 [l0, some (.int (x1)), l2, some (.int (x3))] [] h else R_X7_temper d 108 [l0, some (.int (x1)), l2, some (.int (x3))] [] h := by
  refine (p_iload rfl rfl).trans ?_
  refine (p_iload rfl rfl).trans ?_
  exact (s_icmp (g := (fun x y => decide (y ≤ x))) (t := 130) (nx := 108) rfl).trans bif_dec
theorem r_X7_temper_130 {d : Nat} {a0 : Nat} {l1 l2 l3 : Option Value} {h : AH} : R_X7_temper d 130 [some (.ref a0), l1, l2, l3] [] h = (hgf h [18] a0 1).bind fun v => R_X7_temper d 134 [some (.ref a0), l1, l2, l3] [v] h := by
  refine (p_aload rfl rfl).trans ?_
  exact s_getf rfl
theorem r_X7_temper_108 {d : Nat} {a0 : Nat} {l1 l2 l3 : Option Value} {h : AH} : R_X7_temper d 108 [some (.ref a0), l1, l2, l3] [] h = (hgf h [18] a0 1).bind fun v => R_X7_temper d 112 [some (.ref a0), l1, l2, l3] [v] h := by
  refine (p_aload rfl rfl).trans ?_
  exact s_getf rfl
theorem r_X7_temper_134 {d : Nat} {b0 : Nat} {l0 l1 l2 l3 : Option Value} {h : AH} : R_X7_temper d 134 [l0, l1, l2, l3] [.ref b0] h = (hai h 0 b0 (nI 2)).bind fun v => R_X7_temper d 137 [l0, l1, l2, l3] [.int v, .int ((nI 2)), .ref b0] h := by
  refine (p_const rfl).trans ?_
  refine (p_dup2 rfl rfl).trans ?_
  exact s_iald rfl
theorem r_X7_temper_112 {d : Nat} {b0 a0 : Nat} {x2 x3 : Int32} {l1 : Option Value} {h : AH} : R_X7_temper d 112 [some (.ref a0), l1, some (.int (x2)), some (.int (x3))] [.ref b0] h = (hgf h [18] a0 5).bind fun v => R_X7_temper d 121 [some (.ref a0), l1, some (.int (x2)), some (.int (x3))] [v, .int ((x2 + (nI 1)) + x3), .ref b0] h := by
  refine (p_iload rfl rfl).trans ?_
  refine (p_const rfl).trans ?_
  refine (p_bin rfl).trans ?_
  refine (p_iload rfl rfl).trans ?_
  refine (p_bin rfl).trans ?_
  refine (p_aload rfl rfl).trans ?_
  exact s_getf rfl
theorem r_X7_temper_112N {d : Nat} {x2 x3 : Int32} {a0 : Nat} {l1 : Option Value} {h : AH} : R_X7_temper d 112 [some (.ref a0), l1, some (.int (x2)), some (.int (x3))] [.null] h = (hgf h [18] a0 5).bind fun v => R_X7_temper d 121 [some (.ref a0), l1, some (.int (x2)), some (.int (x3))] [v, .int ((x2 + (nI 1)) + x3), .null] h := by
  refine (p_iload rfl rfl).trans ?_
  refine (p_const rfl).trans ?_
  refine (p_bin rfl).trans ?_
  refine (p_iload rfl rfl).trans ?_
  refine (p_bin rfl).trans ?_
  refine (p_aload rfl rfl).trans ?_
  exact s_getf rfl
theorem r_X7_temper_137 {d : Nat} {b0 : Nat} {s1 s2 : Int32} {l0 l1 l2 l3 : Option Value} {h : AH} : R_X7_temper d 137 [l0, l1, l2, l3] [.int (s2), .int (s1), .ref b0] h = (hsi h 0 b0 s1 (s2 + (nI 1))).bind fun h1 => R_X7_temper d 140 [l0, l1, l2, l3] [] h1 := by
  refine (p_const rfl).trans ?_
  refine (p_bin rfl).trans ?_
  exact s_iast (t := 0) (nar := (fun y => y)) rfl
theorem r_X7_temper_121 {d : Nat} {b0 b2 : Nat} {s1 x3 : Int32} {l0 l1 l2 : Option Value} {h : AH} : R_X7_temper d 121 [l0, l1, l2, some (.int (x3))] [.ref b2, .int (s1), .ref b0] h = (hai h 0 b2 x3).bind fun v => R_X7_temper d 123 [l0, l1, l2, some (.int (x3))] [.int v, .int (s1), .ref b0] h := by
  refine (p_iload rfl rfl).trans ?_
  exact s_iald rfl
theorem r_X7_temper_140 {d : Nat} {a0 : Nat} {l1 l2 l3 : Option Value} {h : AH} : R_X7_temper d 140 [some (.ref a0), l1, l2, l3] [] h = (hgf h [18] a0 1).bind fun v => R_X7_temper d 144 [some (.ref a0), l1, l2, l3] [v] h := by
  refine (p_aload rfl rfl).trans ?_
  exact s_getf rfl
theorem r_X7_temper_123 {d : Nat} {b0 : Nat} {s1 s2 : Int32} {l0 l1 l2 l3 : Option Value} {h : AH} : R_X7_temper d 123 [l0, l1, l2, l3] [.int (s2), .int (s1), .ref b0] h = (hsi h 0 b0 s1 s2).bind fun h1 => R_X7_temper d 124 [l0, l1, l2, l3] [] h1 := s_iast (t := 0) (nar := (fun y => y)) rfl
theorem r_X7_temper_144 {d : Nat} {b0 : Nat} {l0 l1 l2 l3 : Option Value} {h : AH} : R_X7_temper d 144 [l0, l1, l2, l3] [.ref b0] h = (hai h 0 b0 (nI 2)).bind fun v => R_X7_temper d 146 [l0, l1, l2, l3] [.int v] h := by
  refine (p_const rfl).trans ?_
  exact s_iald rfl
theorem r_X7_temper_124 {d : Nat} {x3 : Int32} {l0 l1 l2 : Option Value} {h : AH} : R_X7_temper d 124 [l0, l1, l2, some (.int (x3))] [] h = R_X7_temper d 103 [l0, l1, l2, some (.int (x3 + (nI 1)))] [] h := by
  refine (p_iinc rfl rfl rfl).trans ?_
  refine (p_goto rfl).trans ?_
  exact rfl
theorem r_X7_temper_146 {d : Nat} {s0 : Int32} {l0 l1 l2 l3 : Option Value} {h : AH} : R_X7_temper d 146 [l0, l1, l2, l3] [.int (s0)] h = some (.inl (some (.int (s0 - (nI 1)))), h) := by
  refine (p_const rfl).trans ?_
  refine (p_bin rfl).trans ?_
  exact s_iretT rfl rfl
theorem e_X7_temper {d : Nat} {a0 : Nat} {h : AH} : exec tTab (d + 1) K_X7_temper [.ref a0] h = R_X7_temper d 0 [some (.ref a0), none, none, none] [] h := exec_eq (cd := k_X7_temper) (hd := (fun _ _ => some none)) (L := 4) rfl rfl rfl
/-- FavourTownModel.fault()I -/
abbrev K_X7_fault : Nat := 186
noncomputable def R_X7_fault (d pc : Nat) (ls : ALs) (st : List Value) (h : AH) : Option (AOut × AH) := aR (exec tTab d) k_X7_fault (fun _ _ => some none) (pc, ls, st, h)
theorem r_X7_fault_0 {d : Nat} {a0 : Nat} {h : AH} : R_X7_fault d 0 [some (.ref a0)] [] h = (hpf h [18] a0 0 (.int ((nI 0)))).bind fun h1 => R_X7_fault d 5 [some (.ref a0)] [] h1 := by
  refine (p_aload rfl rfl).trans ?_
  refine (p_const rfl).trans ?_
  exact s_putT rfl rfl
theorem r_X7_fault_5 {d : Nat} {a0 : Nat} {h : AH} : R_X7_fault d 5 [some (.ref a0)] [] h = (hgf h [18] a0 10).bind fun v => R_X7_fault d 9 [some (.ref a0)] [v] h := by
  refine (p_aload rfl rfl).trans ?_
  exact s_getf rfl
theorem r_X7_fault_9 {d : Nat} {s0 : Int32} {l0 : Option Value} {h : AH} : R_X7_fault d 9 [l0] [.int (s0)] h = some (.inl (some (.int (s0))), h) := s_iretT rfl rfl
theorem e_X7_fault {d : Nat} {a0 : Nat} {h : AH} : exec tTab (d + 1) K_X7_fault [.ref a0] h = R_X7_fault d 0 [some (.ref a0)] [] h := exec_eq (cd := k_X7_fault) (hd := (fun _ _ => some none)) (L := 1) rfl rfl rfl
/-- FavourTownModel.has(II)I -/
abbrev K_X7_has : Nat := 187
noncomputable def R_X7_has (d pc : Nat) (ls : ALs) (st : List Value) (h : AH) : Option (AOut × AH) := aR (exec tTab d) k_X7_has (fun _ _ => some none) (pc, ls, st, h)
theorem r_X7_has_0 {d : Nat} {a0 : Nat} {x1 : Int32} {l2 l3 : Option Value} {h : AH} : R_X7_has d 0 [some (.ref a0), some (.int (x1)), l2, l3] [] h = ((hci h a0).bind (lkN [(18, 188)])).bind fun y => aK (exec tTab d y [.ref a0, .int (x1)] h) (fun v h1 => R_X7_has d 6 [some (.ref a0), some (.int (x1)), l2, l3] (v.toList ++ [.ref a0]) h1) (fun E h1 => some (.inr E, h1)) := by
  refine (p_aload rfl rfl).trans ?_
  refine (p_aload rfl rfl).trans ?_
  refine (p_iload rfl rfl).trans ?_
  exact s_callV (L := [(18, 188)]) (n := 1) (b := a0) (rest := [.ref a0]) rfl rfl rfl
theorem r_X7_has_6 {d : Nat} {b0 : Nat} {s1 : Int32} {l0 l1 l2 l3 : Option Value} {h : AH} : R_X7_has d 6 [l0, l1, l2, l3] [.int (s1), .ref b0] h = if s1 = 0 then R_X7_has d 25 [l0, l1, l2, l3] [.ref b0] h else R_X7_has d 9 [l0, l1, l2, l3] [.ref b0] h := (s_if (g := (fun x => decide (x = 0))) (t := 25) (nx := 9) rfl).trans bif_dec
theorem r_X7_has_25 {d : Nat} {b0 : Nat} {l0 l1 l2 l3 : Option Value} {h : AH} : R_X7_has d 25 [l0, l1, l2, l3] [.ref b0] h = (hpf h [18] b0 0 (.int ((nI 1)))).bind fun h1 => R_X7_has d 33 [l0, l1, l2, l3] [] h1 := by
  refine (p_const rfl).trans ?_
  refine (p_goto rfl).trans ?_
  exact s_putT rfl rfl
theorem r_X7_has_9 {d : Nat} {b0 a0 : Nat} {x2 : Int32} {l1 l3 : Option Value} {h : AH} : R_X7_has d 9 [some (.ref a0), l1, some (.int (x2)), l3] [.ref b0] h = (hgf h [18] a0 1).bind fun v => R_X7_has d 15 [some (.ref a0), l1, some (.int (x2)), l3] [v, .int ((-1)), .int (x2), .ref b0] h := by
  refine (p_iload rfl rfl).trans ?_
  refine (p_const rfl).trans ?_
  refine (p_aload rfl rfl).trans ?_
  exact s_getf rfl
theorem r_X7_has_9N {d : Nat} {x2 : Int32} {a0 : Nat} {l1 l3 : Option Value} {h : AH} : R_X7_has d 9 [some (.ref a0), l1, some (.int (x2)), l3] [.null] h = (hgf h [18] a0 1).bind fun v => R_X7_has d 15 [some (.ref a0), l1, some (.int (x2)), l3] [v, .int ((-1)), .int (x2), .null] h := by
  refine (p_iload rfl rfl).trans ?_
  refine (p_const rfl).trans ?_
  refine (p_aload rfl rfl).trans ?_
  exact s_getf rfl
theorem r_X7_has_33 {d : Nat} {a0 : Nat} {l1 l2 l3 : Option Value} {h : AH} : R_X7_has d 33 [some (.ref a0), l1, l2, l3] [] h = (hgf h [18] a0 0).bind fun v => R_X7_has d 37 [some (.ref a0), l1, l2, l3] [v] h := by
  refine (p_aload rfl rfl).trans ?_
  exact s_getf rfl
theorem r_X7_has_15 {d : Nat} {b0 b3 : Nat} {s1 s2 : Int32} {l0 l1 l2 l3 : Option Value} {h : AH} : R_X7_has d 15 [l0, l1, l2, l3] [.ref b3, .int (s2), .int (s1), .ref b0] h = (hai h 0 b3 (nI 2)).bind fun v => R_X7_has d 17 [l0, l1, l2, l3] [.int v, .int (s2), .int (s1), .ref b0] h := by
  refine (p_const rfl).trans ?_
  exact s_iald rfl
theorem r_X7_has_37 {d : Nat} {s0 : Int32} {l0 l1 l2 l3 : Option Value} {h : AH} : R_X7_has d 37 [l0, l1, l2, l3] [.int (s0)] h = if s0 ≤ 0 then R_X7_has d 42 [l0, l1, l2, l3] [] h else R_X7_has d 40 [l0, l1, l2, l3] [] h := (s_if (g := (fun x => decide (x ≤ 0))) (t := 42) (nx := 40) rfl).trans bif_dec
theorem r_X7_has_17 {d : Nat} {b0 : Nat} {s1 s2 s3 : Int32} {l0 l1 l2 l3 : Option Value} {h : AH} : R_X7_has d 17 [l0, l1, l2, l3] [.int (s3), .int (s2), .int (s1), .ref b0] h = aK (exec tTab d 153 [.int (s1), .int (s2), .int (s3 - (nI 1))] h) (fun v h1 => R_X7_has d 22 [l0, l1, l2, l3] (v.toList ++ [.ref b0]) h1) (fun E h1 => some (.inr E, h1)) := by
  refine (p_const rfl).trans ?_
  refine (p_bin rfl).trans ?_
  exact s_callS (y := 153) (n := 3) rfl rfl
theorem r_X7_has_42 {d : Nat} {a0 : Nat} {l1 l2 l3 : Option Value} {h : AH} : R_X7_has d 42 [some (.ref a0), l1, l2, l3] [] h = (hgf h [18] a0 1).bind fun v => R_X7_has d 46 [some (.ref a0), l1, l2, l3] [v] h := by
  refine (p_aload rfl rfl).trans ?_
  exact s_getf rfl
theorem r_X7_has_40 {d : Nat} {l0 l1 l2 l3 : Option Value} {h : AH} : R_X7_has d 40 [l0, l1, l2, l3] [] h = some (.inl (some (.int ((nI 0)))), h) := by
  refine (p_const rfl).trans ?_
  exact s_iretT rfl rfl
theorem r_X7_has_22 {d : Nat} {b0 : Nat} {s1 : Int32} {l0 l1 l2 l3 : Option Value} {h : AH} : R_X7_has d 22 [l0, l1, l2, l3] [.int (s1), .ref b0] h = if ¬ s1 = 0 then R_X7_has d 29 [l0, l1, l2, l3] [.ref b0] h else R_X7_has d 25 [l0, l1, l2, l3] [.ref b0] h := (s_if (g := (fun x => decide (¬ x = 0))) (t := 29) (nx := 25) rfl).trans bif_dec
theorem r_X7_has_46 {d : Nat} {b0 : Nat} {x1 : Int32} {l0 l2 l3 : Option Value} {h : AH} : R_X7_has d 46 [l0, some (.int (x1)), l2, l3] [.ref b0] h = (hai h 0 b0 (((nI 10) + ((nI 3) * x1)) + (nI 1))).bind fun v => R_X7_has d 55 [l0, some (.int (x1)), l2, l3] [.int v] h := by
  refine (p_const rfl).trans ?_
  refine (p_const rfl).trans ?_
  refine (p_iload rfl rfl).trans ?_
  refine (p_bin rfl).trans ?_
  refine (p_bin rfl).trans ?_
  refine (p_const rfl).trans ?_
  refine (p_bin rfl).trans ?_
  exact s_iald rfl
theorem r_X7_has_29 {d : Nat} {b0 : Nat} {l0 l1 l2 l3 : Option Value} {h : AH} : R_X7_has d 29 [l0, l1, l2, l3] [.ref b0] h = (hpf h [18] b0 0 (.int ((nI 0)))).bind fun h1 => R_X7_has d 33 [l0, l1, l2, l3] [] h1 := by
  refine (p_const rfl).trans ?_
  exact s_putT rfl rfl
theorem r_X7_has_55 {d : Nat} {s0 : Int32} {a0 : Nat} {l1 l2 l3 : Option Value} {h : AH} : R_X7_has d 55 [some (.ref a0), l1, l2, l3] [.int (s0)] h = (hgf h [18] a0 1).bind fun v => R_X7_has d 60 [some (.ref a0), l1, l2, some (.int (s0))] [v] h := by
  refine (p_istore rfl rfl rfl).trans ?_
  refine (p_aload rfl rfl).trans ?_
  exact s_getf rfl
theorem r_X7_has_60 {d : Nat} {b0 : Nat} {x1 x2 : Int32} {l0 l3 : Option Value} {h : AH} : R_X7_has d 60 [l0, some (.int (x1)), some (.int (x2)), l3] [.ref b0] h = (hsi h 0 b0 (((nI 10) + ((nI 3) * x1)) + (nI 1)) x2).bind fun h1 => R_X7_has d 70 [l0, some (.int (x1)), some (.int (x2)), l3] [] h1 := by
  refine (p_const rfl).trans ?_
  refine (p_const rfl).trans ?_
  refine (p_iload rfl rfl).trans ?_
  refine (p_bin rfl).trans ?_
  refine (p_bin rfl).trans ?_
  refine (p_const rfl).trans ?_
  refine (p_bin rfl).trans ?_
  refine (p_iload rfl rfl).trans ?_
  exact s_iast (t := 0) (nar := (fun y => y)) rfl
theorem r_X7_has_70 {d : Nat} {x3 : Int32} {l0 l1 l2 : Option Value} {h : AH} : R_X7_has d 70 [l0, l1, l2, some (.int (x3))] [] h = some (.inl (some (.int (x3))), h) := by
  refine (p_iload rfl rfl).trans ?_
  exact s_iretT rfl rfl
theorem e_X7_has {d : Nat} {a0 : Nat} {x1 x2 : Int32} {h : AH} : exec tTab (d + 1) K_X7_has [.ref a0, .int x1, .int x2] h = R_X7_has d 0 [some (.ref a0), some (.int x1), some (.int x2), none] [] h := exec_eq (cd := k_X7_has) (hd := (fun _ _ => some none)) (L := 4) rfl rfl rfl
/-- FavourTownModel.isPerson(I)Z -/
abbrev K_X7_isPerson : Nat := 188
noncomputable def R_X7_isPerson (d pc : Nat) (ls : ALs) (st : List Value) (h : AH) : Option (AOut × AH) := aR (exec tTab d) k_X7_isPerson (fun _ _ => some none) (pc, ls, st, h)
theorem r_X7_isPerson_0 {d : Nat} {x1 : Int32} {a0 : Nat} {h : AH} : R_X7_isPerson d 0 [some (.ref a0), some (.int (x1))] [] h = (hgf h [18] a0 1).bind fun v => R_X7_isPerson d 6 [some (.ref a0), some (.int (x1))] [v, .int ((nI 0)), .int (x1)] h := by
  refine (p_iload rfl rfl).trans ?_
  refine (p_const rfl).trans ?_
  refine (p_aload rfl rfl).trans ?_
  exact s_getf rfl
theorem r_X7_isPerson_6 {d : Nat} {s0 s1 : Int32} {b2 : Nat} {l0 l1 : Option Value} {h : AH} : R_X7_isPerson d 6 [l0, l1] [.ref b2, .int (s1), .int (s0)] h = (hai h 0 b2 (nI 1)).bind fun v => R_X7_isPerson d 8 [l0, l1] [.int v, .int (s1), .int (s0)] h := by
  refine (p_const rfl).trans ?_
  exact s_iald rfl
theorem r_X7_isPerson_8 {d : Nat} {s0 s1 s2 : Int32} {l0 l1 : Option Value} {h : AH} : R_X7_isPerson d 8 [l0, l1] [.int (s2), .int (s1), .int (s0)] h = aK (exec tTab d 153 [.int (s0), .int (s1), .int (s2 - (nI 1))] h) (fun v h1 => R_X7_isPerson d 13 [l0, l1] (v.toList ++ []) h1) (fun E h1 => some (.inr E, h1)) := by
  refine (p_const rfl).trans ?_
  refine (p_bin rfl).trans ?_
  exact s_callS (y := 153) (n := 3) rfl rfl
theorem r_X7_isPerson_13 {d : Nat} {s0 : Int32} {l0 l1 : Option Value} {h : AH} : R_X7_isPerson d 13 [l0, l1] [.int (s0)] h = bif s0 == 0 || s0 == 1 then some (.inl (some (.int (s0))), h) else none := s_iret (ok := (fun x => x == 0 || x == 1)) rfl
theorem e_X7_isPerson {d : Nat} {a0 : Nat} {x1 : Int32} {h : AH} : exec tTab (d + 1) K_X7_isPerson [.ref a0, .int x1] h = R_X7_isPerson d 0 [some (.ref a0), some (.int x1)] [] h := exec_eq (cd := k_X7_isPerson) (hd := (fun _ _ => some none)) (L := 2) rfl rfl rfl
/-- FavourTownModel.give(IIIIZ)I -/
abbrev K_X7_give : Nat := 189
noncomputable def R_X7_give (d pc : Nat) (ls : ALs) (st : List Value) (h : AH) : Option (AOut × AH) := aR (exec tTab d) k_X7_give (fun _ _ => some none) (pc, ls, st, h)
theorem r_X7_give_0 {d : Nat} {a0 : Nat} {x1 : Int32} {l2 l3 l4 l5 : Option Value} {h : AH} : R_X7_give d 0 [some (.ref a0), some (.int (x1)), l2, l3, l4, l5] [] h = ((hci h a0).bind (lkN [(18, 188)])).bind fun y => aK (exec tTab d y [.ref a0, .int (x1)] h) (fun v h1 => R_X7_give d 6 [some (.ref a0), some (.int (x1)), l2, l3, l4, l5] (v.toList ++ [.ref a0]) h1) (fun E h1 => some (.inr E, h1)) := by
  refine (p_aload rfl rfl).trans ?_
  refine (p_aload rfl rfl).trans ?_
  refine (p_iload rfl rfl).trans ?_
  exact s_callV (L := [(18, 188)]) (n := 1) (b := a0) (rest := [.ref a0]) rfl rfl rfl
theorem r_X7_give_6 {d : Nat} {b0 : Nat} {s1 : Int32} {l0 l1 l2 l3 l4 l5 : Option Value} {h : AH} : R_X7_give d 6 [l0, l1, l2, l3, l4, l5] [.int (s1), .ref b0] h = if s1 = 0 then R_X7_give d 17 [l0, l1, l2, l3, l4, l5] [.ref b0] h else R_X7_give d 9 [l0, l1, l2, l3, l4, l5] [.ref b0] h := (s_if (g := (fun x => decide (x = 0))) (t := 17) (nx := 9) rfl).trans bif_dec
theorem r_X7_give_17 {d : Nat} {b0 : Nat} {l0 l1 l2 l3 l4 l5 : Option Value} {h : AH} : R_X7_give d 17 [l0, l1, l2, l3, l4, l5] [.ref b0] h = (hpf h [18] b0 0 (.int ((nI 1)))).bind fun h1 => R_X7_give d 55 [l0, l1, l2, l3, l4, l5] [] h1 := by
  refine (p_const rfl).trans ?_
  refine (p_goto rfl).trans ?_
  exact s_putT rfl rfl
theorem r_X7_give_9 {d : Nat} {b0 a0 : Nat} {x2 : Int32} {l1 l3 l4 l5 : Option Value} {h : AH} : R_X7_give d 9 [some (.ref a0), l1, some (.int (x2)), l3, l4, l5] [.ref b0] h = ((hci h a0).bind (lkN [(18, 188)])).bind fun y => aK (exec tTab d y [.ref a0, .int (x2)] h) (fun v h1 => R_X7_give d 14 [some (.ref a0), l1, some (.int (x2)), l3, l4, l5] (v.toList ++ [.ref b0]) h1) (fun E h1 => some (.inr E, h1)) := by
  refine (p_aload rfl rfl).trans ?_
  refine (p_iload rfl rfl).trans ?_
  exact s_callV (L := [(18, 188)]) (n := 1) (b := a0) (rest := [.ref b0]) rfl rfl rfl
theorem r_X7_give_9N {d : Nat} {a0 : Nat} {x2 : Int32} {l1 l3 l4 l5 : Option Value} {h : AH} : R_X7_give d 9 [some (.ref a0), l1, some (.int (x2)), l3, l4, l5] [.null] h = ((hci h a0).bind (lkN [(18, 188)])).bind fun y => aK (exec tTab d y [.ref a0, .int (x2)] h) (fun v h1 => R_X7_give d 14 [some (.ref a0), l1, some (.int (x2)), l3, l4, l5] (v.toList ++ [.null]) h1) (fun E h1 => some (.inr E, h1)) := by
  refine (p_aload rfl rfl).trans ?_
  refine (p_iload rfl rfl).trans ?_
  exact s_callV (L := [(18, 188)]) (n := 1) (b := a0) (rest := [.null]) rfl rfl rfl
theorem r_X7_give_55 {d : Nat} {a0 : Nat} {l1 l2 l3 l4 l5 : Option Value} {h : AH} : R_X7_give d 55 [some (.ref a0), l1, l2, l3, l4, l5] [] h = (hgf h [18] a0 0).bind fun v => R_X7_give d 59 [some (.ref a0), l1, l2, l3, l4, l5] [v] h := by
  refine (p_aload rfl rfl).trans ?_
  exact s_getf rfl
theorem r_X7_give_14 {d : Nat} {b0 : Nat} {s1 : Int32} {l0 l1 l2 l3 l4 l5 : Option Value} {h : AH} : R_X7_give d 14 [l0, l1, l2, l3, l4, l5] [.int (s1), .ref b0] h = if ¬ s1 = 0 then R_X7_give d 21 [l0, l1, l2, l3, l4, l5] [.ref b0] h else R_X7_give d 17 [l0, l1, l2, l3, l4, l5] [.ref b0] h := (s_if (g := (fun x => decide (¬ x = 0))) (t := 21) (nx := 17) rfl).trans bif_dec
theorem r_X7_give_59 {d : Nat} {s0 : Int32} {l0 l1 l2 l3 l4 l5 : Option Value} {h : AH} : R_X7_give d 59 [l0, l1, l2, l3, l4, l5] [.int (s0)] h = if s0 ≤ 0 then R_X7_give d 64 [l0, l1, l2, l3, l4, l5] [] h else R_X7_give d 62 [l0, l1, l2, l3, l4, l5] [] h := (s_if (g := (fun x => decide (x ≤ 0))) (t := 64) (nx := 62) rfl).trans bif_dec
theorem r_X7_give_21 {d : Nat} {b0 : Nat} {x1 x2 : Int32} {l0 l3 l4 l5 : Option Value} {h : AH} : R_X7_give d 21 [l0, some (.int (x1)), some (.int (x2)), l3, l4, l5] [.ref b0] h = if x1 = x2 then R_X7_give d 47 [l0, some (.int (x1)), some (.int (x2)), l3, l4, l5] [.ref b0] h else R_X7_give d 26 [l0, some (.int (x1)), some (.int (x2)), l3, l4, l5] [.ref b0] h := by
  refine (p_iload rfl rfl).trans ?_
  refine (p_iload rfl rfl).trans ?_
  exact (s_icmp (g := (fun x y => decide (x = y))) (t := 47) (nx := 26) rfl).trans bif_dec
theorem r_X7_give_21N {d : Nat} {x1 x2 : Int32} {l0 l3 l4 l5 : Option Value} {h : AH} : R_X7_give d 21 [l0, some (.int (x1)), some (.int (x2)), l3, l4, l5] [.null] h = if x1 = x2 then R_X7_give d 47 [l0, some (.int (x1)), some (.int (x2)), l3, l4, l5] [.null] h else R_X7_give d 26 [l0, some (.int (x1)), some (.int (x2)), l3, l4, l5] [.null] h := by
  refine (p_iload rfl rfl).trans ?_
  refine (p_iload rfl rfl).trans ?_
  exact (s_icmp (g := (fun x y => decide (x = y))) (t := 47) (nx := 26) rfl).trans bif_dec
theorem r_X7_give_64 {d : Nat} {a0 : Nat} {x1 x2 x3 x4 x5 : Int32} {h : AH} : R_X7_give d 64 [some (.ref a0), some (.int (x1)), some (.int (x2)), some (.int (x3)), some (.int (x4)), some (.int (x5))] [] h = ((hci h a0).bind (lkN [(18, 172)])).bind fun y => aK (exec tTab d y [.ref a0, .int (x1), .int (x2), .int (x3), .int (x4), .int (x5)] h) (fun v h1 => R_X7_give d 75 [some (.ref a0), some (.int (x1)), some (.int (x2)), some (.int (x3)), some (.int (x4)), some (.int (x5))] (v.toList ++ []) h1) (fun E h1 => some (.inr E, h1)) := by
  refine (p_aload rfl rfl).trans ?_
  refine (p_iload rfl rfl).trans ?_
  refine (p_iload rfl rfl).trans ?_
  refine (p_iload rfl rfl).trans ?_
  refine (p_iload rfl rfl).trans ?_
  refine (p_iload rfl rfl).trans ?_
  exact s_callV (L := [(18, 172)]) (n := 5) (b := a0) (rest := []) rfl rfl rfl
theorem r_X7_give_62 {d : Nat} {l0 l1 l2 l3 l4 l5 : Option Value} {h : AH} : R_X7_give d 62 [l0, l1, l2, l3, l4, l5] [] h = some (.inl (some (.int ((nI 0)))), h) := by
  refine (p_const rfl).trans ?_
  exact s_iretT rfl rfl
theorem r_X7_give_47 {d : Nat} {b0 : Nat} {l0 l1 l2 l3 l4 l5 : Option Value} {h : AH} : R_X7_give d 47 [l0, l1, l2, l3, l4, l5] [.ref b0] h = (hpf h [18] b0 0 (.int ((nI 2)))).bind fun h1 => R_X7_give d 55 [l0, l1, l2, l3, l4, l5] [] h1 := by
  refine (p_const rfl).trans ?_
  refine (p_goto rfl).trans ?_
  exact s_putT rfl rfl
theorem r_X7_give_26 {d : Nat} {b0 : Nat} {x3 : Int32} {l0 l1 l2 l4 l5 : Option Value} {h : AH} : R_X7_give d 26 [l0, l1, l2, some (.int (x3)), l4, l5] [.ref b0] h = aK (exec tTab d 153 [.int (x3), .int ((nI 1)), .int ((nI 99))] h) (fun v h1 => R_X7_give d 33 [l0, l1, l2, some (.int (x3)), l4, l5] (v.toList ++ [.ref b0]) h1) (fun E h1 => some (.inr E, h1)) := by
  refine (p_iload rfl rfl).trans ?_
  refine (p_const rfl).trans ?_
  refine (p_const rfl).trans ?_
  exact s_callS (y := 153) (n := 3) rfl rfl
theorem r_X7_give_26N {d : Nat} {x3 : Int32} {l0 l1 l2 l4 l5 : Option Value} {h : AH} : R_X7_give d 26 [l0, l1, l2, some (.int (x3)), l4, l5] [.null] h = aK (exec tTab d 153 [.int (x3), .int ((nI 1)), .int ((nI 99))] h) (fun v h1 => R_X7_give d 33 [l0, l1, l2, some (.int (x3)), l4, l5] (v.toList ++ [.null]) h1) (fun E h1 => some (.inr E, h1)) := by
  refine (p_iload rfl rfl).trans ?_
  refine (p_const rfl).trans ?_
  refine (p_const rfl).trans ?_
  exact s_callS (y := 153) (n := 3) rfl rfl
theorem r_X7_give_75 {d : Nat} {s0 : Int32} {l0 l1 l2 l3 l4 l5 : Option Value} {h : AH} : R_X7_give d 75 [l0, l1, l2, l3, l4, l5] [.int (s0)] h = some (.inl (some (.int (s0))), h) := s_iretT rfl rfl
theorem r_X7_give_33 {d : Nat} {b0 : Nat} {s1 : Int32} {l0 l1 l2 l3 l4 l5 : Option Value} {h : AH} : R_X7_give d 33 [l0, l1, l2, l3, l4, l5] [.int (s1), .ref b0] h = if s1 = 0 then R_X7_give d 47 [l0, l1, l2, l3, l4, l5] [.ref b0] h else R_X7_give d 36 [l0, l1, l2, l3, l4, l5] [.ref b0] h := (s_if (g := (fun x => decide (x = 0))) (t := 47) (nx := 36) rfl).trans bif_dec
theorem r_X7_give_36 {d : Nat} {b0 : Nat} {x4 : Int32} {l0 l1 l2 l3 l5 : Option Value} {h : AH} : R_X7_give d 36 [l0, l1, l2, l3, some (.int (x4)), l5] [.ref b0] h = aK (exec tTab d 153 [.int (x4), .int ((nI 0)), .int ((nI 99))] h) (fun v h1 => R_X7_give d 44 [l0, l1, l2, l3, some (.int (x4)), l5] (v.toList ++ [.ref b0]) h1) (fun E h1 => some (.inr E, h1)) := by
  refine (p_iload rfl rfl).trans ?_
  refine (p_const rfl).trans ?_
  refine (p_const rfl).trans ?_
  exact s_callS (y := 153) (n := 3) rfl rfl
theorem r_X7_give_36N {d : Nat} {x4 : Int32} {l0 l1 l2 l3 l5 : Option Value} {h : AH} : R_X7_give d 36 [l0, l1, l2, l3, some (.int (x4)), l5] [.null] h = aK (exec tTab d 153 [.int (x4), .int ((nI 0)), .int ((nI 99))] h) (fun v h1 => R_X7_give d 44 [l0, l1, l2, l3, some (.int (x4)), l5] (v.toList ++ [.null]) h1) (fun E h1 => some (.inr E, h1)) := by
  refine (p_iload rfl rfl).trans ?_
  refine (p_const rfl).trans ?_
  refine (p_const rfl).trans ?_
  exact s_callS (y := 153) (n := 3) rfl rfl
theorem r_X7_give_44 {d : Nat} {b0 : Nat} {s1 : Int32} {l0 l1 l2 l3 l4 l5 : Option Value} {h : AH} : R_X7_give d 44 [l0, l1, l2, l3, l4, l5] [.int (s1), .ref b0] h = if ¬ s1 = 0 then R_X7_give d 51 [l0, l1, l2, l3, l4, l5] [.ref b0] h else R_X7_give d 47 [l0, l1, l2, l3, l4, l5] [.ref b0] h := (s_if (g := (fun x => decide (¬ x = 0))) (t := 51) (nx := 47) rfl).trans bif_dec
theorem r_X7_give_51 {d : Nat} {b0 : Nat} {l0 l1 l2 l3 l4 l5 : Option Value} {h : AH} : R_X7_give d 51 [l0, l1, l2, l3, l4, l5] [.ref b0] h = (hpf h [18] b0 0 (.int ((nI 0)))).bind fun h1 => R_X7_give d 55 [l0, l1, l2, l3, l4, l5] [] h1 := by
  refine (p_const rfl).trans ?_
  exact s_putT rfl rfl
theorem e_X7_give {d : Nat} {a0 : Nat} {x1 x2 x3 x4 x5 : Int32} {h : AH} : exec tTab (d + 1) K_X7_give [.ref a0, .int x1, .int x2, .int x3, .int x4, .int x5] h = R_X7_give d 0 [some (.ref a0), some (.int x1), some (.int x2), some (.int x3), some (.int x4), some (.int x5)] [] h := exec_eq (cd := k_X7_give) (hd := (fun _ _ => some none)) (L := 6) rfl rfl rfl
/-- FavourTownModel.pass(II)I -/
abbrev K_X7_pass : Nat := 190
noncomputable def R_X7_pass (d pc : Nat) (ls : ALs) (st : List Value) (h : AH) : Option (AOut × AH) := aR (exec tTab d) k_X7_pass (fun _ _ => some none) (pc, ls, st, h)
theorem r_X7_pass_0 {d : Nat} {a0 : Nat} {x1 : Int32} {l2 : Option Value} {h : AH} : R_X7_pass d 0 [some (.ref a0), some (.int (x1)), l2] [] h = ((hci h a0).bind (lkN [(18, 191)])).bind fun y => aK (exec tTab d y [.ref a0, .int (x1)] h) (fun v h1 => R_X7_pass d 6 [some (.ref a0), some (.int (x1)), l2] (v.toList ++ [.ref a0]) h1) (fun E h1 => some (.inr E, h1)) := by
  refine (p_aload rfl rfl).trans ?_
  refine (p_aload rfl rfl).trans ?_
  refine (p_iload rfl rfl).trans ?_
  exact s_callV (L := [(18, 191)]) (n := 1) (b := a0) (rest := [.ref a0]) rfl rfl rfl
theorem r_X7_pass_6 {d : Nat} {b0 : Nat} {s1 : Int32} {l0 l1 l2 : Option Value} {h : AH} : R_X7_pass d 6 [l0, l1, l2] [.int (s1), .ref b0] h = if s1 = 0 then R_X7_pass d 17 [l0, l1, l2] [.ref b0] h else R_X7_pass d 9 [l0, l1, l2] [.ref b0] h := (s_if (g := (fun x => decide (x = 0))) (t := 17) (nx := 9) rfl).trans bif_dec
theorem r_X7_pass_17 {d : Nat} {b0 : Nat} {l0 l1 l2 : Option Value} {h : AH} : R_X7_pass d 17 [l0, l1, l2] [.ref b0] h = (hpf h [18] b0 0 (.int ((nI 1)))).bind fun h1 => R_X7_pass d 39 [l0, l1, l2] [] h1 := by
  refine (p_const rfl).trans ?_
  refine (p_goto rfl).trans ?_
  exact s_putT rfl rfl
theorem r_X7_pass_9 {d : Nat} {b0 a0 : Nat} {x2 : Int32} {l1 : Option Value} {h : AH} : R_X7_pass d 9 [some (.ref a0), l1, some (.int (x2))] [.ref b0] h = ((hci h a0).bind (lkN [(18, 188)])).bind fun y => aK (exec tTab d y [.ref a0, .int (x2)] h) (fun v h1 => R_X7_pass d 14 [some (.ref a0), l1, some (.int (x2))] (v.toList ++ [.ref b0]) h1) (fun E h1 => some (.inr E, h1)) := by
  refine (p_aload rfl rfl).trans ?_
  refine (p_iload rfl rfl).trans ?_
  exact s_callV (L := [(18, 188)]) (n := 1) (b := a0) (rest := [.ref b0]) rfl rfl rfl
theorem r_X7_pass_9N {d : Nat} {a0 : Nat} {x2 : Int32} {l1 : Option Value} {h : AH} : R_X7_pass d 9 [some (.ref a0), l1, some (.int (x2))] [.null] h = ((hci h a0).bind (lkN [(18, 188)])).bind fun y => aK (exec tTab d y [.ref a0, .int (x2)] h) (fun v h1 => R_X7_pass d 14 [some (.ref a0), l1, some (.int (x2))] (v.toList ++ [.null]) h1) (fun E h1 => some (.inr E, h1)) := by
  refine (p_aload rfl rfl).trans ?_
  refine (p_iload rfl rfl).trans ?_
  exact s_callV (L := [(18, 188)]) (n := 1) (b := a0) (rest := [.null]) rfl rfl rfl
theorem r_X7_pass_39 {d : Nat} {a0 : Nat} {l1 l2 : Option Value} {h : AH} : R_X7_pass d 39 [some (.ref a0), l1, l2] [] h = (hgf h [18] a0 0).bind fun v => R_X7_pass d 43 [some (.ref a0), l1, l2] [v] h := by
  refine (p_aload rfl rfl).trans ?_
  exact s_getf rfl
theorem r_X7_pass_14 {d : Nat} {b0 : Nat} {s1 : Int32} {l0 l1 l2 : Option Value} {h : AH} : R_X7_pass d 14 [l0, l1, l2] [.int (s1), .ref b0] h = if ¬ s1 = 0 then R_X7_pass d 21 [l0, l1, l2] [.ref b0] h else R_X7_pass d 17 [l0, l1, l2] [.ref b0] h := (s_if (g := (fun x => decide (¬ x = 0))) (t := 21) (nx := 17) rfl).trans bif_dec
theorem r_X7_pass_43 {d : Nat} {s0 : Int32} {l0 l1 l2 : Option Value} {h : AH} : R_X7_pass d 43 [l0, l1, l2] [.int (s0)] h = if s0 ≤ 0 then R_X7_pass d 48 [l0, l1, l2] [] h else R_X7_pass d 46 [l0, l1, l2] [] h := (s_if (g := (fun x => decide (x ≤ 0))) (t := 48) (nx := 46) rfl).trans bif_dec
theorem r_X7_pass_21 {d : Nat} {b0 a0 : Nat} {x1 : Int32} {l2 : Option Value} {h : AH} : R_X7_pass d 21 [some (.ref a0), some (.int (x1)), l2] [.ref b0] h = ((hci h a0).bind (lkN [(18, 175)])).bind fun y => aK (exec tTab d y [.ref a0, .int (x1), .int ((nI 2))] h) (fun v h1 => R_X7_pass d 27 [some (.ref a0), some (.int (x1)), l2] (v.toList ++ [.ref b0]) h1) (fun E h1 => some (.inr E, h1)) := by
  refine (p_aload rfl rfl).trans ?_
  refine (p_iload rfl rfl).trans ?_
  refine (p_const rfl).trans ?_
  exact s_callV (L := [(18, 175)]) (n := 2) (b := a0) (rest := [.ref b0]) rfl rfl rfl
theorem r_X7_pass_21N {d : Nat} {a0 : Nat} {x1 : Int32} {l2 : Option Value} {h : AH} : R_X7_pass d 21 [some (.ref a0), some (.int (x1)), l2] [.null] h = ((hci h a0).bind (lkN [(18, 175)])).bind fun y => aK (exec tTab d y [.ref a0, .int (x1), .int ((nI 2))] h) (fun v h1 => R_X7_pass d 27 [some (.ref a0), some (.int (x1)), l2] (v.toList ++ [.null]) h1) (fun E h1 => some (.inr E, h1)) := by
  refine (p_aload rfl rfl).trans ?_
  refine (p_iload rfl rfl).trans ?_
  refine (p_const rfl).trans ?_
  exact s_callV (L := [(18, 175)]) (n := 2) (b := a0) (rest := [.null]) rfl rfl rfl
theorem r_X7_pass_48 {d : Nat} {a0 : Nat} {x1 x2 : Int32} {h : AH} : R_X7_pass d 48 [some (.ref a0), some (.int (x1)), some (.int (x2))] [] h = ((hci h a0).bind (lkN [(18, 181)])).bind fun y => aK (exec tTab d y [.ref a0, .int (x1), .int (x2)] h) (fun v h1 => R_X7_pass d 54 [some (.ref a0), some (.int (x1)), some (.int (x2))] (v.toList ++ []) h1) (fun E h1 => some (.inr E, h1)) := by
  refine (p_aload rfl rfl).trans ?_
  refine (p_iload rfl rfl).trans ?_
  refine (p_iload rfl rfl).trans ?_
  exact s_callV (L := [(18, 181)]) (n := 2) (b := a0) (rest := []) rfl rfl rfl
theorem r_X7_pass_46 {d : Nat} {l0 l1 l2 : Option Value} {h : AH} : R_X7_pass d 46 [l0, l1, l2] [] h = some (.inl (some (.int ((nI 0)))), h) := by
  refine (p_const rfl).trans ?_
  exact s_iretT rfl rfl
theorem r_X7_pass_27 {d : Nat} {b0 : Nat} {s1 x2 : Int32} {l0 l1 : Option Value} {h : AH} : R_X7_pass d 27 [l0, l1, some (.int (x2))] [.int (s1), .ref b0] h = if ¬ s1 = x2 then R_X7_pass d 35 [l0, l1, some (.int (x2))] [.ref b0] h else R_X7_pass d 31 [l0, l1, some (.int (x2))] [.ref b0] h := by
  refine (p_iload rfl rfl).trans ?_
  exact (s_icmp (g := (fun x y => decide (¬ x = y))) (t := 35) (nx := 31) rfl).trans bif_dec
theorem r_X7_pass_54 {d : Nat} {s0 : Int32} {l0 l1 l2 : Option Value} {h : AH} : R_X7_pass d 54 [l0, l1, l2] [.int (s0)] h = some (.inl (some (.int (s0))), h) := s_iretT rfl rfl
theorem r_X7_pass_35 {d : Nat} {b0 : Nat} {l0 l1 l2 : Option Value} {h : AH} : R_X7_pass d 35 [l0, l1, l2] [.ref b0] h = (hpf h [18] b0 0 (.int ((nI 0)))).bind fun h1 => R_X7_pass d 39 [l0, l1, l2] [] h1 := by
  refine (p_const rfl).trans ?_
  exact s_putT rfl rfl
theorem r_X7_pass_31 {d : Nat} {b0 : Nat} {l0 l1 l2 : Option Value} {h : AH} : R_X7_pass d 31 [l0, l1, l2] [.ref b0] h = (hpf h [18] b0 0 (.int ((nI 2)))).bind fun h1 => R_X7_pass d 39 [l0, l1, l2] [] h1 := by
  refine (p_const rfl).trans ?_
  refine (p_goto rfl).trans ?_
  exact s_putT rfl rfl
theorem e_X7_pass {d : Nat} {a0 : Nat} {x1 x2 : Int32} {h : AH} : exec tTab (d + 1) K_X7_pass [.ref a0, .int x1, .int x2] h = R_X7_pass d 0 [some (.ref a0), some (.int x1), some (.int x2)] [] h := exec_eq (cd := k_X7_pass) (hd := (fun _ _ => some none)) (L := 3) rfl rfl rfl
/-- FavourTownModel.isFavour(I)Z -/
abbrev K_X7_isFavour : Nat := 191
noncomputable def R_X7_isFavour (d pc : Nat) (ls : ALs) (st : List Value) (h : AH) : Option (AOut × AH) := aR (exec tTab d) k_X7_isFavour (fun _ _ => some none) (pc, ls, st, h)
theorem r_X7_isFavour_0 {d : Nat} {x1 : Int32} {a0 : Nat} {h : AH} : R_X7_isFavour d 0 [some (.ref a0), some (.int (x1))] [] h = (hgf h [18] a0 1).bind fun v => R_X7_isFavour d 6 [some (.ref a0), some (.int (x1))] [v, .int ((nI 0)), .int (x1)] h := by
  refine (p_iload rfl rfl).trans ?_
  refine (p_const rfl).trans ?_
  refine (p_aload rfl rfl).trans ?_
  exact s_getf rfl
theorem r_X7_isFavour_6 {d : Nat} {s0 s1 : Int32} {b2 : Nat} {l0 l1 : Option Value} {h : AH} : R_X7_isFavour d 6 [l0, l1] [.ref b2, .int (s1), .int (s0)] h = (hai h 0 b2 (nI 3)).bind fun v => R_X7_isFavour d 8 [l0, l1] [.int v, .int (s1), .int (s0)] h := by
  refine (p_const rfl).trans ?_
  exact s_iald rfl
theorem r_X7_isFavour_8 {d : Nat} {s0 s1 s2 : Int32} {l0 l1 : Option Value} {h : AH} : R_X7_isFavour d 8 [l0, l1] [.int (s2), .int (s1), .int (s0)] h = aK (exec tTab d 153 [.int (s0), .int (s1), .int (s2 - (nI 1))] h) (fun v h1 => R_X7_isFavour d 13 [l0, l1] (v.toList ++ []) h1) (fun E h1 => some (.inr E, h1)) := by
  refine (p_const rfl).trans ?_
  refine (p_bin rfl).trans ?_
  exact s_callS (y := 153) (n := 3) rfl rfl
theorem r_X7_isFavour_13 {d : Nat} {s0 : Int32} {l0 l1 : Option Value} {h : AH} : R_X7_isFavour d 13 [l0, l1] [.int (s0)] h = bif s0 == 0 || s0 == 1 then some (.inl (some (.int (s0))), h) else none := s_iret (ok := (fun x => x == 0 || x == 1)) rfl
theorem e_X7_isFavour {d : Nat} {a0 : Nat} {x1 : Int32} {h : AH} : exec tTab (d + 1) K_X7_isFavour [.ref a0, .int x1] h = R_X7_isFavour d 0 [some (.ref a0), some (.int x1)] [] h := exec_eq (cd := k_X7_isFavour) (hd := (fun _ _ => some none)) (L := 2) rfl rfl rfl
/-- FavourTownModel.call(I)I -/
abbrev K_X7_call : Nat := 192
noncomputable def R_X7_call (d pc : Nat) (ls : ALs) (st : List Value) (h : AH) : Option (AOut × AH) := aR (exec tTab d) k_X7_call (fun _ _ => some none) (pc, ls, st, h)
theorem r_X7_call_0 {d : Nat} {a0 : Nat} {x1 : Int32} {h : AH} : R_X7_call d 0 [some (.ref a0), some (.int (x1))] [] h = ((hci h a0).bind (lkN [(18, 191)])).bind fun y => aK (exec tTab d y [.ref a0, .int (x1)] h) (fun v h1 => R_X7_call d 6 [some (.ref a0), some (.int (x1))] (v.toList ++ [.ref a0]) h1) (fun E h1 => some (.inr E, h1)) := by
  refine (p_aload rfl rfl).trans ?_
  refine (p_aload rfl rfl).trans ?_
  refine (p_iload rfl rfl).trans ?_
  exact s_callV (L := [(18, 191)]) (n := 1) (b := a0) (rest := [.ref a0]) rfl rfl rfl
theorem r_X7_call_6 {d : Nat} {b0 : Nat} {s1 : Int32} {l0 l1 : Option Value} {h : AH} : R_X7_call d 6 [l0, l1] [.int (s1), .ref b0] h = if ¬ s1 = 0 then R_X7_call d 13 [l0, l1] [.ref b0] h else R_X7_call d 9 [l0, l1] [.ref b0] h := (s_if (g := (fun x => decide (¬ x = 0))) (t := 13) (nx := 9) rfl).trans bif_dec
theorem r_X7_call_13 {d : Nat} {b0 : Nat} {l0 l1 : Option Value} {h : AH} : R_X7_call d 13 [l0, l1] [.ref b0] h = (hpf h [18] b0 0 (.int ((nI 0)))).bind fun h1 => R_X7_call d 17 [l0, l1] [] h1 := by
  refine (p_const rfl).trans ?_
  exact s_putT rfl rfl
theorem r_X7_call_9 {d : Nat} {b0 : Nat} {l0 l1 : Option Value} {h : AH} : R_X7_call d 9 [l0, l1] [.ref b0] h = (hpf h [18] b0 0 (.int ((nI 1)))).bind fun h1 => R_X7_call d 17 [l0, l1] [] h1 := by
  refine (p_const rfl).trans ?_
  refine (p_goto rfl).trans ?_
  exact s_putT rfl rfl
theorem r_X7_call_17 {d : Nat} {a0 : Nat} {l1 : Option Value} {h : AH} : R_X7_call d 17 [some (.ref a0), l1] [] h = (hgf h [18] a0 0).bind fun v => R_X7_call d 21 [some (.ref a0), l1] [v] h := by
  refine (p_aload rfl rfl).trans ?_
  exact s_getf rfl
theorem r_X7_call_21 {d : Nat} {s0 : Int32} {l0 l1 : Option Value} {h : AH} : R_X7_call d 21 [l0, l1] [.int (s0)] h = if s0 ≤ 0 then R_X7_call d 26 [l0, l1] [] h else R_X7_call d 24 [l0, l1] [] h := (s_if (g := (fun x => decide (x ≤ 0))) (t := 26) (nx := 24) rfl).trans bif_dec
theorem r_X7_call_26 {d : Nat} {a0 : Nat} {x1 : Int32} {h : AH} : R_X7_call d 26 [some (.ref a0), some (.int (x1))] [] h = ((hci h a0).bind (lkN [(18, 175)])).bind fun y => aK (exec tTab d y [.ref a0, .int (x1), .int ((nI 2))] h) (fun v h1 => R_X7_call d 32 [some (.ref a0), some (.int (x1))] (v.toList ++ []) h1) (fun E h1 => some (.inr E, h1)) := by
  refine (p_aload rfl rfl).trans ?_
  refine (p_iload rfl rfl).trans ?_
  refine (p_const rfl).trans ?_
  exact s_callV (L := [(18, 175)]) (n := 2) (b := a0) (rest := []) rfl rfl rfl
theorem r_X7_call_24 {d : Nat} {l0 l1 : Option Value} {h : AH} : R_X7_call d 24 [l0, l1] [] h = some (.inl (some (.int ((nI 0)))), h) := by
  refine (p_const rfl).trans ?_
  exact s_iretT rfl rfl
theorem r_X7_call_32 {d : Nat} {s0 : Int32} {l0 l1 : Option Value} {h : AH} : R_X7_call d 32 [l0, l1] [.int (s0)] h = if ¬ s0 = (-1) then R_X7_call d 38 [l0, l1] [] h else R_X7_call d 36 [l0, l1] [] h := by
  refine (p_const rfl).trans ?_
  exact (s_icmp (g := (fun x y => decide (¬ x = y))) (t := 38) (nx := 36) rfl).trans bif_dec
theorem r_X7_call_38 {d : Nat} {a0 : Nat} {x1 : Int32} {h : AH} : R_X7_call d 38 [some (.ref a0), some (.int (x1))] [] h = ((hci h a0).bind (lkN [(18, 180)])).bind fun y => aK (exec tTab d y [.ref a0, .int (x1), .int ((nI 2)), .int ((-1))] h) (fun v h1 => R_X7_call d 45 [some (.ref a0), some (.int (x1))] (v.toList ++ []) h1) (fun E h1 => some (.inr E, h1)) := by
  refine (p_aload rfl rfl).trans ?_
  refine (p_iload rfl rfl).trans ?_
  refine (p_const rfl).trans ?_
  refine (p_const rfl).trans ?_
  exact s_callV (L := [(18, 180)]) (n := 3) (b := a0) (rest := []) rfl rfl rfl
theorem r_X7_call_36 {d : Nat} {l0 l1 : Option Value} {h : AH} : R_X7_call d 36 [l0, l1] [] h = some (.inl (some (.int ((-1)))), h) := by
  refine (p_const rfl).trans ?_
  exact s_iretT rfl rfl
theorem r_X7_call_45 {d : Nat} {a0 : Nat} {x1 : Int32} {h : AH} : R_X7_call d 45 [some (.ref a0), some (.int (x1))] [] h = ((hci h a0).bind (lkN [(18, 175)])).bind fun y => aK (exec tTab d y [.ref a0, .int (x1), .int ((nI 1))] h) (fun v h1 => R_X7_call d 51 [some (.ref a0), some (.int (x1))] (v.toList ++ []) h1) (fun E h1 => some (.inr E, h1)) := by
  refine (p_aload rfl rfl).trans ?_
  refine (p_iload rfl rfl).trans ?_
  refine (p_const rfl).trans ?_
  exact s_callV (L := [(18, 175)]) (n := 2) (b := a0) (rest := []) rfl rfl rfl
theorem r_X7_call_51 {d : Nat} {s0 x1 : Int32} {a0 : Nat} {h : AH} : R_X7_call d 51 [some (.ref a0), some (.int (x1))] [.int (s0)] h = ((hci h a0).bind (lkN [(18, 175)])).bind fun y => aK (exec tTab d y [.ref a0, .int (x1), .int ((nI 3))] h) (fun v h1 => R_X7_call d 57 [some (.ref a0), some (.int (x1))] (v.toList ++ [.int (s0)]) h1) (fun E h1 => some (.inr E, h1)) := by
  refine (p_aload rfl rfl).trans ?_
  refine (p_iload rfl rfl).trans ?_
  refine (p_const rfl).trans ?_
  exact s_callV (L := [(18, 175)]) (n := 2) (b := a0) (rest := [.int (s0)]) rfl rfl rfl
theorem r_X7_call_57 {d : Nat} {s0 s1 : Int32} {l0 l1 : Option Value} {h : AH} : R_X7_call d 57 [l0, l1] [.int (s1), .int (s0)] h = aK (exec tTab d 177 [.int (s0), .int (s1)] h) (fun v h1 => R_X7_call d 60 [l0, l1] (v.toList ++ []) h1) (fun E h1 => some (.inr E, h1)) := s_callS (y := 177) (n := 2) rfl rfl
theorem r_X7_call_60 {d : Nat} {s0 : Int32} {l0 l1 : Option Value} {h : AH} : R_X7_call d 60 [l0, l1] [.int (s0)] h = some (.inl (some (.int (s0))), h) := s_iretT rfl rfl
theorem e_X7_call {d : Nat} {a0 : Nat} {x1 : Int32} {h : AH} : exec tTab (d + 1) K_X7_call [.ref a0, .int x1] h = R_X7_call d 0 [some (.ref a0), some (.int x1)] [] h := exec_eq (cd := k_X7_call) (hd := (fun _ _ => some none)) (L := 2) rfl rfl rfl
/-- FavourTownModel.days(I)I -/
abbrev K_X7_days : Nat := 193
noncomputable def R_X7_days (d pc : Nat) (ls : ALs) (st : List Value) (h : AH) : Option (AOut × AH) := aR (exec tTab d) k_X7_days (fun _ _ => some none) (pc, ls, st, h)
theorem r_X7_days_0 {d : Nat} {a0 : Nat} {x1 : Int32} {h : AH} : R_X7_days d 0 [some (.ref a0), some (.int (x1))] [] h = aK (exec tTab d 153 [.int (x1), .int ((nI 1)), .int ((nI 99))] h) (fun v h1 => R_X7_days d 8 [some (.ref a0), some (.int (x1))] (v.toList ++ [.ref a0]) h1) (fun E h1 => some (.inr E, h1)) := by
  refine (p_aload rfl rfl).trans ?_
  refine (p_iload rfl rfl).trans ?_
  refine (p_const rfl).trans ?_
  refine (p_const rfl).trans ?_
  exact s_callS (y := 153) (n := 3) rfl rfl
theorem r_X7_days_8 {d : Nat} {b0 : Nat} {s1 : Int32} {l0 l1 : Option Value} {h : AH} : R_X7_days d 8 [l0, l1] [.int (s1), .ref b0] h = if ¬ s1 = 0 then R_X7_days d 15 [l0, l1] [.ref b0] h else R_X7_days d 11 [l0, l1] [.ref b0] h := (s_if (g := (fun x => decide (¬ x = 0))) (t := 15) (nx := 11) rfl).trans bif_dec
theorem r_X7_days_15 {d : Nat} {b0 : Nat} {l0 l1 : Option Value} {h : AH} : R_X7_days d 15 [l0, l1] [.ref b0] h = (hpf h [18] b0 0 (.int ((nI 0)))).bind fun h1 => R_X7_days d 19 [l0, l1] [] h1 := by
  refine (p_const rfl).trans ?_
  exact s_putT rfl rfl
theorem r_X7_days_11 {d : Nat} {b0 : Nat} {l0 l1 : Option Value} {h : AH} : R_X7_days d 11 [l0, l1] [.ref b0] h = (hpf h [18] b0 0 (.int ((nI 1)))).bind fun h1 => R_X7_days d 19 [l0, l1] [] h1 := by
  refine (p_const rfl).trans ?_
  refine (p_goto rfl).trans ?_
  exact s_putT rfl rfl
theorem r_X7_days_19 {d : Nat} {a0 : Nat} {l1 : Option Value} {h : AH} : R_X7_days d 19 [some (.ref a0), l1] [] h = (hgf h [18] a0 0).bind fun v => R_X7_days d 23 [some (.ref a0), l1] [v] h := by
  refine (p_aload rfl rfl).trans ?_
  exact s_getf rfl
theorem r_X7_days_23 {d : Nat} {s0 : Int32} {l0 l1 : Option Value} {h : AH} : R_X7_days d 23 [l0, l1] [.int (s0)] h = if s0 ≤ 0 then R_X7_days d 28 [l0, l1] [] h else R_X7_days d 26 [l0, l1] [] h := (s_if (g := (fun x => decide (x ≤ 0))) (t := 28) (nx := 26) rfl).trans bif_dec
theorem r_X7_days_28 {d : Nat} {a0 : Nat} {x1 : Int32} {h : AH} : R_X7_days d 28 [some (.ref a0), some (.int (x1))] [] h = ((hci h a0).bind (lkN [(18, 184)])).bind fun y => aK (exec tTab d y [.ref a0, .int (x1)] h) (fun v h1 => R_X7_days d 33 [some (.ref a0), some (.int (x1))] (v.toList ++ []) h1) (fun E h1 => some (.inr E, h1)) := by
  refine (p_aload rfl rfl).trans ?_
  refine (p_iload rfl rfl).trans ?_
  exact s_callV (L := [(18, 184)]) (n := 1) (b := a0) (rest := []) rfl rfl rfl
theorem r_X7_days_26 {d : Nat} {l0 l1 : Option Value} {h : AH} : R_X7_days d 26 [l0, l1] [] h = some (.inl (some (.int ((nI 0)))), h) := by
  refine (p_const rfl).trans ?_
  exact s_iretT rfl rfl
theorem r_X7_days_33 {d : Nat} {s0 : Int32} {l0 l1 : Option Value} {h : AH} : R_X7_days d 33 [l0, l1] [.int (s0)] h = some (.inl (some (.int (s0))), h) := s_iretT rfl rfl
theorem e_X7_days {d : Nat} {a0 : Nat} {x1 : Int32} {h : AH} : exec tTab (d + 1) K_X7_days [.ref a0, .int x1] h = R_X7_days d 0 [some (.ref a0), some (.int x1)] [] h := exec_eq (cd := k_X7_days) (hd := (fun _ _ => some none)) (L := 2) rfl rfl rfl
/-- FavourTownModel.look(II)I -/
abbrev K_X7_look : Nat := 194
noncomputable def R_X7_look (d pc : Nat) (ls : ALs) (st : List Value) (h : AH) : Option (AOut × AH) := aR (exec tTab d) k_X7_look (fun _ _ => some none) (pc, ls, st, h)
theorem r_X7_look_0 {d : Nat} {a0 : Nat} {x1 : Int32} {l2 : Option Value} {h : AH} : R_X7_look d 0 [some (.ref a0), some (.int (x1)), l2] [] h = ((hci h a0).bind (lkN [(18, 191)])).bind fun y => aK (exec tTab d y [.ref a0, .int (x1)] h) (fun v h1 => R_X7_look d 6 [some (.ref a0), some (.int (x1)), l2] (v.toList ++ [.ref a0]) h1) (fun E h1 => some (.inr E, h1)) := by
  refine (p_aload rfl rfl).trans ?_
  refine (p_aload rfl rfl).trans ?_
  refine (p_iload rfl rfl).trans ?_
  exact s_callV (L := [(18, 191)]) (n := 1) (b := a0) (rest := [.ref a0]) rfl rfl rfl
theorem r_X7_look_6 {d : Nat} {b0 : Nat} {s1 : Int32} {l0 l1 l2 : Option Value} {h : AH} : R_X7_look d 6 [l0, l1, l2] [.int (s1), .ref b0] h = if ¬ s1 = 0 then R_X7_look d 13 [l0, l1, l2] [.ref b0] h else R_X7_look d 9 [l0, l1, l2] [.ref b0] h := (s_if (g := (fun x => decide (¬ x = 0))) (t := 13) (nx := 9) rfl).trans bif_dec
theorem r_X7_look_13 {d : Nat} {b0 : Nat} {x2 : Int32} {l0 l1 : Option Value} {h : AH} : R_X7_look d 13 [l0, l1, some (.int (x2))] [.ref b0] h = aK (exec tTab d 153 [.int (x2), .int ((nI 0)), .int ((nI 6))] h) (fun v h1 => R_X7_look d 20 [l0, l1, some (.int (x2))] (v.toList ++ [.ref b0]) h1) (fun E h1 => some (.inr E, h1)) := by
  refine (p_iload rfl rfl).trans ?_
  refine (p_const rfl).trans ?_
  refine (p_const rfl).trans ?_
  exact s_callS (y := 153) (n := 3) rfl rfl
theorem r_X7_look_13N {d : Nat} {x2 : Int32} {l0 l1 : Option Value} {h : AH} : R_X7_look d 13 [l0, l1, some (.int (x2))] [.null] h = aK (exec tTab d 153 [.int (x2), .int ((nI 0)), .int ((nI 6))] h) (fun v h1 => R_X7_look d 20 [l0, l1, some (.int (x2))] (v.toList ++ [.null]) h1) (fun E h1 => some (.inr E, h1)) := by
  refine (p_iload rfl rfl).trans ?_
  refine (p_const rfl).trans ?_
  refine (p_const rfl).trans ?_
  exact s_callS (y := 153) (n := 3) rfl rfl
theorem r_X7_look_9 {d : Nat} {b0 : Nat} {l0 l1 l2 : Option Value} {h : AH} : R_X7_look d 9 [l0, l1, l2] [.ref b0] h = (hpf h [18] b0 0 (.int ((nI 1)))).bind fun h1 => R_X7_look d 31 [l0, l1, l2] [] h1 := by
  refine (p_const rfl).trans ?_
  refine (p_goto rfl).trans ?_
  exact s_putT rfl rfl
theorem r_X7_look_20 {d : Nat} {b0 : Nat} {s1 : Int32} {l0 l1 l2 : Option Value} {h : AH} : R_X7_look d 20 [l0, l1, l2] [.int (s1), .ref b0] h = if ¬ s1 = 0 then R_X7_look d 27 [l0, l1, l2] [.ref b0] h else R_X7_look d 23 [l0, l1, l2] [.ref b0] h := (s_if (g := (fun x => decide (¬ x = 0))) (t := 27) (nx := 23) rfl).trans bif_dec
theorem r_X7_look_31 {d : Nat} {a0 : Nat} {l1 l2 : Option Value} {h : AH} : R_X7_look d 31 [some (.ref a0), l1, l2] [] h = (hgf h [18] a0 0).bind fun v => R_X7_look d 35 [some (.ref a0), l1, l2] [v] h := by
  refine (p_aload rfl rfl).trans ?_
  exact s_getf rfl
theorem r_X7_look_27 {d : Nat} {b0 : Nat} {l0 l1 l2 : Option Value} {h : AH} : R_X7_look d 27 [l0, l1, l2] [.ref b0] h = (hpf h [18] b0 0 (.int ((nI 0)))).bind fun h1 => R_X7_look d 31 [l0, l1, l2] [] h1 := by
  refine (p_const rfl).trans ?_
  exact s_putT rfl rfl
theorem r_X7_look_23 {d : Nat} {b0 : Nat} {l0 l1 l2 : Option Value} {h : AH} : R_X7_look d 23 [l0, l1, l2] [.ref b0] h = (hpf h [18] b0 0 (.int ((nI 2)))).bind fun h1 => R_X7_look d 31 [l0, l1, l2] [] h1 := by
  refine (p_const rfl).trans ?_
  refine (p_goto rfl).trans ?_
  exact s_putT rfl rfl
theorem r_X7_look_35 {d : Nat} {s0 : Int32} {l0 l1 l2 : Option Value} {h : AH} : R_X7_look d 35 [l0, l1, l2] [.int (s0)] h = if s0 ≤ 0 then R_X7_look d 40 [l0, l1, l2] [] h else R_X7_look d 38 [l0, l1, l2] [] h := (s_if (g := (fun x => decide (x ≤ 0))) (t := 40) (nx := 38) rfl).trans bif_dec
theorem r_X7_look_40 {d : Nat} {x2 : Int32} {l0 l1 : Option Value} {h : AH} : R_X7_look d 40 [l0, l1, some (.int (x2))] [] h = if ¬ x2 = (nI 4) then R_X7_look d 75 [l0, l1, some (.int (x2))] [] h else R_X7_look d 45 [l0, l1, some (.int (x2))] [] h := by
  refine (p_iload rfl rfl).trans ?_
  refine (p_const rfl).trans ?_
  exact (s_icmp (g := (fun x y => decide (¬ x = y))) (t := 75) (nx := 45) rfl).trans bif_dec
theorem r_X7_look_38 {d : Nat} {l0 l1 l2 : Option Value} {h : AH} : R_X7_look d 38 [l0, l1, l2] [] h = some (.inl (some (.int ((nI 0)))), h) := by
  refine (p_const rfl).trans ?_
  exact s_iretT rfl rfl
theorem r_X7_look_75 {d : Nat} {x2 : Int32} {l0 l1 : Option Value} {h : AH} : R_X7_look d 75 [l0, l1, some (.int (x2))] [] h = if ¬ x2 = 0 then R_X7_look d 88 [l0, l1, some (.int (x2))] [] h else R_X7_look d 79 [l0, l1, some (.int (x2))] [] h := by
  refine (p_iload rfl rfl).trans ?_
  exact (s_if (g := (fun x => decide (¬ x = 0))) (t := 88) (nx := 79) rfl).trans bif_dec
theorem r_X7_look_45 {d : Nat} {a0 : Nat} {x1 : Int32} {l2 : Option Value} {h : AH} : R_X7_look d 45 [some (.ref a0), some (.int (x1)), l2] [] h = ((hci h a0).bind (lkN [(18, 175)])).bind fun y => aK (exec tTab d y [.ref a0, .int (x1), .int ((nI 2))] h) (fun v h1 => R_X7_look d 51 [some (.ref a0), some (.int (x1)), l2] (v.toList ++ []) h1) (fun E h1 => some (.inr E, h1)) := by
  refine (p_aload rfl rfl).trans ?_
  refine (p_iload rfl rfl).trans ?_
  refine (p_const rfl).trans ?_
  exact s_callV (L := [(18, 175)]) (n := 2) (b := a0) (rest := []) rfl rfl rfl
theorem r_X7_look_88 {d : Nat} {x2 : Int32} {l0 l1 : Option Value} {h : AH} : R_X7_look d 88 [l0, l1, some (.int (x2))] [] h = if ¬ x2 = (nI 1) then R_X7_look d 102 [l0, l1, some (.int (x2))] [] h else R_X7_look d 93 [l0, l1, some (.int (x2))] [] h := by
  refine (p_iload rfl rfl).trans ?_
  refine (p_const rfl).trans ?_
  exact (s_icmp (g := (fun x y => decide (¬ x = y))) (t := 102) (nx := 93) rfl).trans bif_dec
theorem r_X7_look_79 {d : Nat} {a0 : Nat} {x1 : Int32} {l2 : Option Value} {h : AH} : R_X7_look d 79 [some (.ref a0), some (.int (x1)), l2] [] h = ((hci h a0).bind (lkN [(18, 175)])).bind fun y => aK (exec tTab d y [.ref a0, .int (x1), .int ((nI 0))] h) (fun v h1 => R_X7_look d 85 [some (.ref a0), some (.int (x1)), l2] (v.toList ++ []) h1) (fun E h1 => some (.inr E, h1)) := by
  refine (p_aload rfl rfl).trans ?_
  refine (p_iload rfl rfl).trans ?_
  refine (p_const rfl).trans ?_
  exact s_callV (L := [(18, 175)]) (n := 2) (b := a0) (rest := []) rfl rfl rfl
theorem r_X7_look_51 {d : Nat} {s0 : Int32} {l0 l1 l2 : Option Value} {h : AH} : R_X7_look d 51 [l0, l1, l2] [.int (s0)] h = if ¬ s0 = (-1) then R_X7_look d 59 [l0, l1, l2] [] h else R_X7_look d 55 [l0, l1, l2] [] h := by
  refine (p_const rfl).trans ?_
  exact (s_icmp (g := (fun x y => decide (¬ x = y))) (t := 59) (nx := 55) rfl).trans bif_dec
theorem r_X7_look_102 {d : Nat} {x2 : Int32} {l0 l1 : Option Value} {h : AH} : R_X7_look d 102 [l0, l1, some (.int (x2))] [] h = if ¬ x2 = (nI 2) then R_X7_look d 116 [l0, l1, some (.int (x2))] [] h else R_X7_look d 107 [l0, l1, some (.int (x2))] [] h := by
  refine (p_iload rfl rfl).trans ?_
  refine (p_const rfl).trans ?_
  exact (s_icmp (g := (fun x y => decide (¬ x = y))) (t := 116) (nx := 107) rfl).trans bif_dec
theorem r_X7_look_93 {d : Nat} {a0 : Nat} {x1 : Int32} {l2 : Option Value} {h : AH} : R_X7_look d 93 [some (.ref a0), some (.int (x1)), l2] [] h = ((hci h a0).bind (lkN [(18, 175)])).bind fun y => aK (exec tTab d y [.ref a0, .int (x1), .int ((nI 2))] h) (fun v h1 => R_X7_look d 99 [some (.ref a0), some (.int (x1)), l2] (v.toList ++ []) h1) (fun E h1 => some (.inr E, h1)) := by
  refine (p_aload rfl rfl).trans ?_
  refine (p_iload rfl rfl).trans ?_
  refine (p_const rfl).trans ?_
  exact s_callV (L := [(18, 175)]) (n := 2) (b := a0) (rest := []) rfl rfl rfl
theorem r_X7_look_85 {d : Nat} {s0 : Int32} {l0 l1 l2 : Option Value} {h : AH} : R_X7_look d 85 [l0, l1, l2] [.int (s0)] h = some (.inl (some (.int (s0))), h) := by
  refine (p_goto rfl).trans ?_
  exact s_iretT rfl rfl
theorem r_X7_look_59 {d : Nat} {a0 : Nat} {x1 : Int32} {l2 : Option Value} {h : AH} : R_X7_look d 59 [some (.ref a0), some (.int (x1)), l2] [] h = ((hci h a0).bind (lkN [(18, 175)])).bind fun y => aK (exec tTab d y [.ref a0, .int (x1), .int ((nI 1))] h) (fun v h1 => R_X7_look d 65 [some (.ref a0), some (.int (x1)), l2] (v.toList ++ []) h1) (fun E h1 => some (.inr E, h1)) := by
  refine (p_aload rfl rfl).trans ?_
  refine (p_iload rfl rfl).trans ?_
  refine (p_const rfl).trans ?_
  exact s_callV (L := [(18, 175)]) (n := 2) (b := a0) (rest := []) rfl rfl rfl
theorem r_X7_look_55 {d : Nat} {l0 l1 l2 : Option Value} {h : AH} : R_X7_look d 55 [l0, l1, l2] [] h = some (.inl (some (.int ((nI 0)))), h) := by
  refine (p_const rfl).trans ?_
  refine (p_goto rfl).trans ?_
  exact s_iretT rfl rfl
theorem r_X7_look_116 {d : Nat} {x2 : Int32} {l0 l1 : Option Value} {h : AH} : R_X7_look d 116 [l0, l1, some (.int (x2))] [] h = if ¬ x2 = (nI 3) then R_X7_look d 130 [l0, l1, some (.int (x2))] [] h else R_X7_look d 121 [l0, l1, some (.int (x2))] [] h := by
  refine (p_iload rfl rfl).trans ?_
  refine (p_const rfl).trans ?_
  exact (s_icmp (g := (fun x y => decide (¬ x = y))) (t := 130) (nx := 121) rfl).trans bif_dec
theorem r_X7_look_107 {d : Nat} {a0 : Nat} {x1 : Int32} {l2 : Option Value} {h : AH} : R_X7_look d 107 [some (.ref a0), some (.int (x1)), l2] [] h = ((hci h a0).bind (lkN [(18, 175)])).bind fun y => aK (exec tTab d y [.ref a0, .int (x1), .int ((nI 1))] h) (fun v h1 => R_X7_look d 113 [some (.ref a0), some (.int (x1)), l2] (v.toList ++ []) h1) (fun E h1 => some (.inr E, h1)) := by
  refine (p_aload rfl rfl).trans ?_
  refine (p_iload rfl rfl).trans ?_
  refine (p_const rfl).trans ?_
  exact s_callV (L := [(18, 175)]) (n := 2) (b := a0) (rest := []) rfl rfl rfl
theorem r_X7_look_99 {d : Nat} {s0 : Int32} {l0 l1 l2 : Option Value} {h : AH} : R_X7_look d 99 [l0, l1, l2] [.int (s0)] h = some (.inl (some (.int (s0))), h) := by
  refine (p_goto rfl).trans ?_
  exact s_iretT rfl rfl
theorem r_X7_look_65 {d : Nat} {s0 x1 : Int32} {a0 : Nat} {l2 : Option Value} {h : AH} : R_X7_look d 65 [some (.ref a0), some (.int (x1)), l2] [.int (s0)] h = ((hci h a0).bind (lkN [(18, 175)])).bind fun y => aK (exec tTab d y [.ref a0, .int (x1), .int ((nI 3))] h) (fun v h1 => R_X7_look d 71 [some (.ref a0), some (.int (x1)), l2] (v.toList ++ [.int (s0)]) h1) (fun E h1 => some (.inr E, h1)) := by
  refine (p_aload rfl rfl).trans ?_
  refine (p_iload rfl rfl).trans ?_
  refine (p_const rfl).trans ?_
  exact s_callV (L := [(18, 175)]) (n := 2) (b := a0) (rest := [.int (s0)]) rfl rfl rfl
theorem r_X7_look_130 {d : Nat} {x2 : Int32} {l0 l1 : Option Value} {h : AH} : R_X7_look d 130 [l0, l1, some (.int (x2))] [] h = if ¬ x2 = (nI 5) then R_X7_look d 144 [l0, l1, some (.int (x2))] [] h else R_X7_look d 135 [l0, l1, some (.int (x2))] [] h := by
  refine (p_iload rfl rfl).trans ?_
  refine (p_const rfl).trans ?_
  exact (s_icmp (g := (fun x y => decide (¬ x = y))) (t := 144) (nx := 135) rfl).trans bif_dec
theorem r_X7_look_121 {d : Nat} {a0 : Nat} {x1 : Int32} {l2 : Option Value} {h : AH} : R_X7_look d 121 [some (.ref a0), some (.int (x1)), l2] [] h = ((hci h a0).bind (lkN [(18, 175)])).bind fun y => aK (exec tTab d y [.ref a0, .int (x1), .int ((nI 3))] h) (fun v h1 => R_X7_look d 127 [some (.ref a0), some (.int (x1)), l2] (v.toList ++ []) h1) (fun E h1 => some (.inr E, h1)) := by
  refine (p_aload rfl rfl).trans ?_
  refine (p_iload rfl rfl).trans ?_
  refine (p_const rfl).trans ?_
  exact s_callV (L := [(18, 175)]) (n := 2) (b := a0) (rest := []) rfl rfl rfl
theorem r_X7_look_113 {d : Nat} {s0 : Int32} {l0 l1 l2 : Option Value} {h : AH} : R_X7_look d 113 [l0, l1, l2] [.int (s0)] h = some (.inl (some (.int (s0))), h) := by
  refine (p_goto rfl).trans ?_
  exact s_iretT rfl rfl
theorem r_X7_look_71 {d : Nat} {s0 s1 : Int32} {l0 l1 l2 : Option Value} {h : AH} : R_X7_look d 71 [l0, l1, l2] [.int (s1), .int (s0)] h = aK (exec tTab d 177 [.int (s0), .int (s1)] h) (fun v h1 => R_X7_look d 74 [l0, l1, l2] (v.toList ++ []) h1) (fun E h1 => some (.inr E, h1)) := s_callS (y := 177) (n := 2) rfl rfl
theorem r_X7_look_144 {d : Nat} {a0 : Nat} {x1 : Int32} {l2 : Option Value} {h : AH} : R_X7_look d 144 [some (.ref a0), some (.int (x1)), l2] [] h = ((hci h a0).bind (lkN [(18, 175)])).bind fun y => aK (exec tTab d y [.ref a0, .int (x1), .int ((nI 5))] h) (fun v h1 => R_X7_look d 150 [some (.ref a0), some (.int (x1)), l2] (v.toList ++ []) h1) (fun E h1 => some (.inr E, h1)) := by
  refine (p_aload rfl rfl).trans ?_
  refine (p_iload rfl rfl).trans ?_
  refine (p_const rfl).trans ?_
  exact s_callV (L := [(18, 175)]) (n := 2) (b := a0) (rest := []) rfl rfl rfl
theorem r_X7_look_135 {d : Nat} {a0 : Nat} {x1 : Int32} {l2 : Option Value} {h : AH} : R_X7_look d 135 [some (.ref a0), some (.int (x1)), l2] [] h = ((hci h a0).bind (lkN [(18, 175)])).bind fun y => aK (exec tTab d y [.ref a0, .int (x1), .int ((nI 4))] h) (fun v h1 => R_X7_look d 141 [some (.ref a0), some (.int (x1)), l2] (v.toList ++ []) h1) (fun E h1 => some (.inr E, h1)) := by
  refine (p_aload rfl rfl).trans ?_
  refine (p_iload rfl rfl).trans ?_
  refine (p_const rfl).trans ?_
  exact s_callV (L := [(18, 175)]) (n := 2) (b := a0) (rest := []) rfl rfl rfl
theorem r_X7_look_127 {d : Nat} {s0 : Int32} {l0 l1 l2 : Option Value} {h : AH} : R_X7_look d 127 [l0, l1, l2] [.int (s0)] h = some (.inl (some (.int (s0))), h) := by
  refine (p_goto rfl).trans ?_
  exact s_iretT rfl rfl
theorem r_X7_look_74 {d : Nat} {s0 : Int32} {l0 l1 l2 : Option Value} {h : AH} : R_X7_look d 74 [l0, l1, l2] [.int (s0)] h = some (.inl (some (.int (s0))), h) := s_iretT rfl rfl
theorem r_X7_look_150 {d : Nat} {s0 : Int32} {l0 l1 l2 : Option Value} {h : AH} : R_X7_look d 150 [l0, l1, l2] [.int (s0)] h = some (.inl (some (.int (s0))), h) := s_iretT rfl rfl
theorem r_X7_look_141 {d : Nat} {s0 : Int32} {l0 l1 l2 : Option Value} {h : AH} : R_X7_look d 141 [l0, l1, l2] [.int (s0)] h = some (.inl (some (.int (s0))), h) := by
  refine (p_goto rfl).trans ?_
  exact s_iretT rfl rfl
theorem e_X7_look {d : Nat} {a0 : Nat} {x1 x2 : Int32} {h : AH} : exec tTab (d + 1) K_X7_look [.ref a0, .int x1, .int x2] h = R_X7_look d 0 [some (.ref a0), some (.int x1), some (.int x2)] [] h := exec_eq (cd := k_X7_look) (hd := (fun _ _ => some none)) (L := 3) rfl rfl rfl
/-- FavourTownModel.hand(II)I -/
abbrev K_X7_hand : Nat := 195
noncomputable def R_X7_hand (d pc : Nat) (ls : ALs) (st : List Value) (h : AH) : Option (AOut × AH) := aR (exec tTab d) k_X7_hand (fun _ _ => some none) (pc, ls, st, h)
theorem r_X7_hand_0 {d : Nat} {a0 : Nat} {x1 : Int32} {l2 : Option Value} {h : AH} : R_X7_hand d 0 [some (.ref a0), some (.int (x1)), l2] [] h = ((hci h a0).bind (lkN [(18, 191)])).bind fun y => aK (exec tTab d y [.ref a0, .int (x1)] h) (fun v h1 => R_X7_hand d 6 [some (.ref a0), some (.int (x1)), l2] (v.toList ++ [.ref a0]) h1) (fun E h1 => some (.inr E, h1)) := by
  refine (p_aload rfl rfl).trans ?_
  refine (p_aload rfl rfl).trans ?_
  refine (p_iload rfl rfl).trans ?_
  exact s_callV (L := [(18, 191)]) (n := 1) (b := a0) (rest := [.ref a0]) rfl rfl rfl
theorem r_X7_hand_6 {d : Nat} {b0 : Nat} {s1 : Int32} {l0 l1 l2 : Option Value} {h : AH} : R_X7_hand d 6 [l0, l1, l2] [.int (s1), .ref b0] h = if ¬ s1 = 0 then R_X7_hand d 13 [l0, l1, l2] [.ref b0] h else R_X7_hand d 9 [l0, l1, l2] [.ref b0] h := (s_if (g := (fun x => decide (¬ x = 0))) (t := 13) (nx := 9) rfl).trans bif_dec
theorem r_X7_hand_13 {d : Nat} {b0 : Nat} {l0 l1 l2 : Option Value} {h : AH} : R_X7_hand d 13 [l0, l1, l2] [.ref b0] h = (hpf h [18] b0 0 (.int ((nI 0)))).bind fun h1 => R_X7_hand d 17 [l0, l1, l2] [] h1 := by
  refine (p_const rfl).trans ?_
  exact s_putT rfl rfl
theorem r_X7_hand_9 {d : Nat} {b0 : Nat} {l0 l1 l2 : Option Value} {h : AH} : R_X7_hand d 9 [l0, l1, l2] [.ref b0] h = (hpf h [18] b0 0 (.int ((nI 1)))).bind fun h1 => R_X7_hand d 17 [l0, l1, l2] [] h1 := by
  refine (p_const rfl).trans ?_
  refine (p_goto rfl).trans ?_
  exact s_putT rfl rfl
theorem r_X7_hand_17 {d : Nat} {a0 : Nat} {l1 l2 : Option Value} {h : AH} : R_X7_hand d 17 [some (.ref a0), l1, l2] [] h = (hgf h [18] a0 0).bind fun v => R_X7_hand d 21 [some (.ref a0), l1, l2] [v] h := by
  refine (p_aload rfl rfl).trans ?_
  exact s_getf rfl
theorem r_X7_hand_21 {d : Nat} {s0 : Int32} {l0 l1 l2 : Option Value} {h : AH} : R_X7_hand d 21 [l0, l1, l2] [.int (s0)] h = if s0 ≤ 0 then R_X7_hand d 26 [l0, l1, l2] [] h else R_X7_hand d 24 [l0, l1, l2] [] h := (s_if (g := (fun x => decide (x ≤ 0))) (t := 26) (nx := 24) rfl).trans bif_dec
theorem r_X7_hand_26 {d : Nat} {x2 x1 : Int32} {a0 : Nat} {h : AH} : R_X7_hand d 26 [some (.ref a0), some (.int (x1)), some (.int (x2))] [] h = ((hci h a0).bind (lkN [(18, 175)])).bind fun y => aK (exec tTab d y [.ref a0, .int (x1), .int ((nI 6))] h) (fun v h1 => R_X7_hand d 35 [some (.ref a0), some (.int (x1)), some (.int (x2))] (v.toList ++ [.int ((nI 0)), .int (x2)]) h1) (fun E h1 => some (.inr E, h1)) := by
  refine (p_iload rfl rfl).trans ?_
  refine (p_const rfl).trans ?_
  refine (p_aload rfl rfl).trans ?_
  refine (p_iload rfl rfl).trans ?_
  refine (p_const rfl).trans ?_
  exact s_callV (L := [(18, 175)]) (n := 2) (b := a0) (rest := [.int ((nI 0)), .int (x2)]) rfl rfl rfl
theorem r_X7_hand_24 {d : Nat} {l0 l1 l2 : Option Value} {h : AH} : R_X7_hand d 24 [l0, l1, l2] [] h = some (.inl (some (.int ((nI 0)))), h) := by
  refine (p_const rfl).trans ?_
  exact s_iretT rfl rfl
theorem r_X7_hand_35 {d : Nat} {s0 s1 s2 : Int32} {l0 l1 l2 : Option Value} {h : AH} : R_X7_hand d 35 [l0, l1, l2] [.int (s2), .int (s1), .int (s0)] h = aK (exec tTab d 153 [.int (s0), .int (s1), .int (s2 - (nI 1))] h) (fun v h1 => R_X7_hand d 40 [l0, l1, l2] (v.toList ++ []) h1) (fun E h1 => some (.inr E, h1)) := by
  refine (p_const rfl).trans ?_
  refine (p_bin rfl).trans ?_
  exact s_callS (y := 153) (n := 3) rfl rfl
theorem r_X7_hand_40 {d : Nat} {s0 : Int32} {l0 l1 l2 : Option Value} {h : AH} : R_X7_hand d 40 [l0, l1, l2] [.int (s0)] h = if s0 = 0 then R_X7_hand d 55 [l0, l1, l2] [] h else R_X7_hand d 43 [l0, l1, l2] [] h := (s_if (g := (fun x => decide (x = 0))) (t := 55) (nx := 43) rfl).trans bif_dec
theorem r_X7_hand_55 {d : Nat} {l0 l1 l2 : Option Value} {h : AH} : R_X7_hand d 55 [l0, l1, l2] [] h = some (.inl (some (.int ((-1)))), h) := by
  refine (p_const rfl).trans ?_
  exact s_iretT rfl rfl
theorem r_X7_hand_43 {d : Nat} {a0 : Nat} {x1 x2 : Int32} {h : AH} : R_X7_hand d 43 [some (.ref a0), some (.int (x1)), some (.int (x2))] [] h = ((hci h a0).bind (lkN [(18, 175)])).bind fun y => aK (exec tTab d y [.ref a0, .int (x1), .int ((nI 7) + x2)] h) (fun v h1 => R_X7_hand d 52 [some (.ref a0), some (.int (x1)), some (.int (x2))] (v.toList ++ []) h1) (fun E h1 => some (.inr E, h1)) := by
  refine (p_aload rfl rfl).trans ?_
  refine (p_iload rfl rfl).trans ?_
  refine (p_const rfl).trans ?_
  refine (p_iload rfl rfl).trans ?_
  refine (p_bin rfl).trans ?_
  exact s_callV (L := [(18, 175)]) (n := 2) (b := a0) (rest := []) rfl rfl rfl
theorem r_X7_hand_52 {d : Nat} {s0 : Int32} {l0 l1 l2 : Option Value} {h : AH} : R_X7_hand d 52 [l0, l1, l2] [.int (s0)] h = some (.inl (some (.int (s0))), h) := by
  refine (p_goto rfl).trans ?_
  exact s_iretT rfl rfl
theorem e_X7_hand {d : Nat} {a0 : Nat} {x1 x2 : Int32} {h : AH} : exec tTab (d + 1) K_X7_hand [.ref a0, .int x1, .int x2] h = R_X7_hand d 0 [some (.ref a0), some (.int x1), some (.int x2)] [] h := exec_eq (cd := k_X7_hand) (hd := (fun _ _ => some none)) (L := 3) rfl rfl rfl
/-- FavourTownModel.takes(II)Z -/
abbrev K_X7_takes : Nat := 196
noncomputable def R_X7_takes (d pc : Nat) (ls : ALs) (st : List Value) (h : AH) : Option (AOut × AH) := aR (exec tTab d) k_X7_takes (fun _ _ => some none) (pc, ls, st, h)
theorem r_X7_takes_0 {d : Nat} {a0 : Nat} {x1 : Int32} {l2 : Option Value} {h : AH} : R_X7_takes d 0 [some (.ref a0), some (.int (x1)), l2] [] h = ((hci h a0).bind (lkN [(18, 188)])).bind fun y => aK (exec tTab d y [.ref a0, .int (x1)] h) (fun v h1 => R_X7_takes d 6 [some (.ref a0), some (.int (x1)), l2] (v.toList ++ [.ref a0]) h1) (fun E h1 => some (.inr E, h1)) := by
  refine (p_aload rfl rfl).trans ?_
  refine (p_aload rfl rfl).trans ?_
  refine (p_iload rfl rfl).trans ?_
  exact s_callV (L := [(18, 188)]) (n := 1) (b := a0) (rest := [.ref a0]) rfl rfl rfl
theorem r_X7_takes_6 {d : Nat} {b0 : Nat} {s1 : Int32} {l0 l1 l2 : Option Value} {h : AH} : R_X7_takes d 6 [l0, l1, l2] [.int (s1), .ref b0] h = if s1 = 0 then R_X7_takes d 17 [l0, l1, l2] [.ref b0] h else R_X7_takes d 9 [l0, l1, l2] [.ref b0] h := (s_if (g := (fun x => decide (x = 0))) (t := 17) (nx := 9) rfl).trans bif_dec
theorem r_X7_takes_17 {d : Nat} {b0 : Nat} {l0 l1 l2 : Option Value} {h : AH} : R_X7_takes d 17 [l0, l1, l2] [.ref b0] h = (hpf h [18] b0 0 (.int ((nI 1)))).bind fun h1 => R_X7_takes d 25 [l0, l1, l2] [] h1 := by
  refine (p_const rfl).trans ?_
  refine (p_goto rfl).trans ?_
  exact s_putT rfl rfl
theorem r_X7_takes_9 {d : Nat} {b0 a0 : Nat} {x2 : Int32} {l1 : Option Value} {h : AH} : R_X7_takes d 9 [some (.ref a0), l1, some (.int (x2))] [.ref b0] h = ((hci h a0).bind (lkN [(18, 191)])).bind fun y => aK (exec tTab d y [.ref a0, .int (x2)] h) (fun v h1 => R_X7_takes d 14 [some (.ref a0), l1, some (.int (x2))] (v.toList ++ [.ref b0]) h1) (fun E h1 => some (.inr E, h1)) := by
  refine (p_aload rfl rfl).trans ?_
  refine (p_iload rfl rfl).trans ?_
  exact s_callV (L := [(18, 191)]) (n := 1) (b := a0) (rest := [.ref b0]) rfl rfl rfl
theorem r_X7_takes_9N {d : Nat} {a0 : Nat} {x2 : Int32} {l1 : Option Value} {h : AH} : R_X7_takes d 9 [some (.ref a0), l1, some (.int (x2))] [.null] h = ((hci h a0).bind (lkN [(18, 191)])).bind fun y => aK (exec tTab d y [.ref a0, .int (x2)] h) (fun v h1 => R_X7_takes d 14 [some (.ref a0), l1, some (.int (x2))] (v.toList ++ [.null]) h1) (fun E h1 => some (.inr E, h1)) := by
  refine (p_aload rfl rfl).trans ?_
  refine (p_iload rfl rfl).trans ?_
  exact s_callV (L := [(18, 191)]) (n := 1) (b := a0) (rest := [.null]) rfl rfl rfl
theorem r_X7_takes_25 {d : Nat} {a0 : Nat} {l1 l2 : Option Value} {h : AH} : R_X7_takes d 25 [some (.ref a0), l1, l2] [] h = (hgf h [18] a0 0).bind fun v => R_X7_takes d 29 [some (.ref a0), l1, l2] [v] h := by
  refine (p_aload rfl rfl).trans ?_
  exact s_getf rfl
theorem r_X7_takes_14 {d : Nat} {b0 : Nat} {s1 : Int32} {l0 l1 l2 : Option Value} {h : AH} : R_X7_takes d 14 [l0, l1, l2] [.int (s1), .ref b0] h = if ¬ s1 = 0 then R_X7_takes d 21 [l0, l1, l2] [.ref b0] h else R_X7_takes d 17 [l0, l1, l2] [.ref b0] h := (s_if (g := (fun x => decide (¬ x = 0))) (t := 21) (nx := 17) rfl).trans bif_dec
theorem r_X7_takes_29 {d : Nat} {s0 : Int32} {l0 l1 l2 : Option Value} {h : AH} : R_X7_takes d 29 [l0, l1, l2] [.int (s0)] h = if s0 ≤ 0 then R_X7_takes d 34 [l0, l1, l2] [] h else R_X7_takes d 32 [l0, l1, l2] [] h := (s_if (g := (fun x => decide (x ≤ 0))) (t := 34) (nx := 32) rfl).trans bif_dec
theorem r_X7_takes_21 {d : Nat} {b0 : Nat} {l0 l1 l2 : Option Value} {h : AH} : R_X7_takes d 21 [l0, l1, l2] [.ref b0] h = (hpf h [18] b0 0 (.int ((nI 0)))).bind fun h1 => R_X7_takes d 25 [l0, l1, l2] [] h1 := by
  refine (p_const rfl).trans ?_
  exact s_putT rfl rfl
theorem r_X7_takes_34 {d : Nat} {a0 : Nat} {x1 x2 : Int32} {h : AH} : R_X7_takes d 34 [some (.ref a0), some (.int (x1)), some (.int (x2))] [] h = ((hci h a0).bind (lkN [(18, 183)])).bind fun y => aK (exec tTab d y [.ref a0, .int (x1), .int (x2)] h) (fun v h1 => R_X7_takes d 40 [some (.ref a0), some (.int (x1)), some (.int (x2))] (v.toList ++ []) h1) (fun E h1 => some (.inr E, h1)) := by
  refine (p_aload rfl rfl).trans ?_
  refine (p_iload rfl rfl).trans ?_
  refine (p_iload rfl rfl).trans ?_
  exact s_callV (L := [(18, 183)]) (n := 2) (b := a0) (rest := []) rfl rfl rfl
theorem r_X7_takes_32 {d : Nat} {l0 l1 l2 : Option Value} {h : AH} : R_X7_takes d 32 [l0, l1, l2] [] h = some (.inl (some (.int ((nI 0)))), h) := by
  refine (p_const rfl).trans ?_
  exact s_iretT rfl rfl
theorem r_X7_takes_40 {d : Nat} {s0 : Int32} {l0 l1 l2 : Option Value} {h : AH} : R_X7_takes d 40 [l0, l1, l2] [.int (s0)] h = bif s0 == 0 || s0 == 1 then some (.inl (some (.int (s0))), h) else none := s_iret (ok := (fun x => x == 0 || x == 1)) rfl
theorem e_X7_takes {d : Nat} {a0 : Nat} {x1 x2 : Int32} {h : AH} : exec tTab (d + 1) K_X7_takes [.ref a0, .int x1, .int x2] h = R_X7_takes d 0 [some (.ref a0), some (.int x1), some (.int x2)] [] h := exec_eq (cd := k_X7_takes) (hd := (fun _ _ => some none)) (L := 3) rfl rfl rfl
/-- FavourTownModel.rich(I)I -/
abbrev K_X7_rich : Nat := 197
noncomputable def R_X7_rich (d pc : Nat) (ls : ALs) (st : List Value) (h : AH) : Option (AOut × AH) := aR (exec tTab d) k_X7_rich (fun _ _ => some none) (pc, ls, st, h)
theorem r_X7_rich_0 {d : Nat} {a0 : Nat} {x1 : Int32} {h : AH} : R_X7_rich d 0 [some (.ref a0), some (.int (x1))] [] h = ((hci h a0).bind (lkN [(18, 188)])).bind fun y => aK (exec tTab d y [.ref a0, .int (x1)] h) (fun v h1 => R_X7_rich d 6 [some (.ref a0), some (.int (x1))] (v.toList ++ [.ref a0]) h1) (fun E h1 => some (.inr E, h1)) := by
  refine (p_aload rfl rfl).trans ?_
  refine (p_aload rfl rfl).trans ?_
  refine (p_iload rfl rfl).trans ?_
  exact s_callV (L := [(18, 188)]) (n := 1) (b := a0) (rest := [.ref a0]) rfl rfl rfl
theorem r_X7_rich_6 {d : Nat} {b0 : Nat} {s1 : Int32} {l0 l1 : Option Value} {h : AH} : R_X7_rich d 6 [l0, l1] [.int (s1), .ref b0] h = if ¬ s1 = 0 then R_X7_rich d 13 [l0, l1] [.ref b0] h else R_X7_rich d 9 [l0, l1] [.ref b0] h := (s_if (g := (fun x => decide (¬ x = 0))) (t := 13) (nx := 9) rfl).trans bif_dec
theorem r_X7_rich_13 {d : Nat} {b0 : Nat} {l0 l1 : Option Value} {h : AH} : R_X7_rich d 13 [l0, l1] [.ref b0] h = (hpf h [18] b0 0 (.int ((nI 0)))).bind fun h1 => R_X7_rich d 17 [l0, l1] [] h1 := by
  refine (p_const rfl).trans ?_
  exact s_putT rfl rfl
theorem r_X7_rich_9 {d : Nat} {b0 : Nat} {l0 l1 : Option Value} {h : AH} : R_X7_rich d 9 [l0, l1] [.ref b0] h = (hpf h [18] b0 0 (.int ((nI 1)))).bind fun h1 => R_X7_rich d 17 [l0, l1] [] h1 := by
  refine (p_const rfl).trans ?_
  refine (p_goto rfl).trans ?_
  exact s_putT rfl rfl
theorem r_X7_rich_17 {d : Nat} {a0 : Nat} {l1 : Option Value} {h : AH} : R_X7_rich d 17 [some (.ref a0), l1] [] h = (hgf h [18] a0 0).bind fun v => R_X7_rich d 21 [some (.ref a0), l1] [v] h := by
  refine (p_aload rfl rfl).trans ?_
  exact s_getf rfl
theorem r_X7_rich_21 {d : Nat} {s0 : Int32} {l0 l1 : Option Value} {h : AH} : R_X7_rich d 21 [l0, l1] [.int (s0)] h = if s0 ≤ 0 then R_X7_rich d 26 [l0, l1] [] h else R_X7_rich d 24 [l0, l1] [] h := (s_if (g := (fun x => decide (x ≤ 0))) (t := 26) (nx := 24) rfl).trans bif_dec
theorem r_X7_rich_26 {d : Nat} {a0 : Nat} {x1 : Int32} {h : AH} : R_X7_rich d 26 [some (.ref a0), some (.int (x1))] [] h = ((hci h a0).bind (lkN [(18, 178)])).bind fun y => aK (exec tTab d y [.ref a0, .int (x1)] h) (fun v h1 => R_X7_rich d 31 [some (.ref a0), some (.int (x1))] (v.toList ++ []) h1) (fun E h1 => some (.inr E, h1)) := by
  refine (p_aload rfl rfl).trans ?_
  refine (p_iload rfl rfl).trans ?_
  exact s_callV (L := [(18, 178)]) (n := 1) (b := a0) (rest := []) rfl rfl rfl
theorem r_X7_rich_24 {d : Nat} {l0 l1 : Option Value} {h : AH} : R_X7_rich d 24 [l0, l1] [] h = some (.inl (some (.int ((nI 0)))), h) := by
  refine (p_const rfl).trans ?_
  exact s_iretT rfl rfl
theorem r_X7_rich_31 {d : Nat} {s0 : Int32} {l0 l1 : Option Value} {h : AH} : R_X7_rich d 31 [l0, l1] [.int (s0)] h = some (.inl (some (.int (s0))), h) := s_iretT rfl rfl
theorem e_X7_rich {d : Nat} {a0 : Nat} {x1 : Int32} {h : AH} : exec tTab (d + 1) K_X7_rich [.ref a0, .int x1] h = R_X7_rich d 0 [some (.ref a0), some (.int x1)] [] h := exec_eq (cd := k_X7_rich) (hd := (fun _ _ => some none)) (L := 2) rfl rfl rfl
/-- FavourTownModel.debt(I)I -/
abbrev K_X7_debt : Nat := 198
noncomputable def R_X7_debt (d pc : Nat) (ls : ALs) (st : List Value) (h : AH) : Option (AOut × AH) := aR (exec tTab d) k_X7_debt (fun _ _ => some none) (pc, ls, st, h)
theorem r_X7_debt_0 {d : Nat} {a0 : Nat} {x1 : Int32} {h : AH} : R_X7_debt d 0 [some (.ref a0), some (.int (x1))] [] h = ((hci h a0).bind (lkN [(18, 188)])).bind fun y => aK (exec tTab d y [.ref a0, .int (x1)] h) (fun v h1 => R_X7_debt d 6 [some (.ref a0), some (.int (x1))] (v.toList ++ [.ref a0]) h1) (fun E h1 => some (.inr E, h1)) := by
  refine (p_aload rfl rfl).trans ?_
  refine (p_aload rfl rfl).trans ?_
  refine (p_iload rfl rfl).trans ?_
  exact s_callV (L := [(18, 188)]) (n := 1) (b := a0) (rest := [.ref a0]) rfl rfl rfl
theorem r_X7_debt_6 {d : Nat} {b0 : Nat} {s1 : Int32} {l0 l1 : Option Value} {h : AH} : R_X7_debt d 6 [l0, l1] [.int (s1), .ref b0] h = if ¬ s1 = 0 then R_X7_debt d 13 [l0, l1] [.ref b0] h else R_X7_debt d 9 [l0, l1] [.ref b0] h := (s_if (g := (fun x => decide (¬ x = 0))) (t := 13) (nx := 9) rfl).trans bif_dec
theorem r_X7_debt_13 {d : Nat} {b0 : Nat} {l0 l1 : Option Value} {h : AH} : R_X7_debt d 13 [l0, l1] [.ref b0] h = (hpf h [18] b0 0 (.int ((nI 0)))).bind fun h1 => R_X7_debt d 17 [l0, l1] [] h1 := by
  refine (p_const rfl).trans ?_
  exact s_putT rfl rfl
theorem r_X7_debt_9 {d : Nat} {b0 : Nat} {l0 l1 : Option Value} {h : AH} : R_X7_debt d 9 [l0, l1] [.ref b0] h = (hpf h [18] b0 0 (.int ((nI 1)))).bind fun h1 => R_X7_debt d 17 [l0, l1] [] h1 := by
  refine (p_const rfl).trans ?_
  refine (p_goto rfl).trans ?_
  exact s_putT rfl rfl
theorem r_X7_debt_17 {d : Nat} {a0 : Nat} {l1 : Option Value} {h : AH} : R_X7_debt d 17 [some (.ref a0), l1] [] h = (hgf h [18] a0 0).bind fun v => R_X7_debt d 21 [some (.ref a0), l1] [v] h := by
  refine (p_aload rfl rfl).trans ?_
  exact s_getf rfl
theorem r_X7_debt_21 {d : Nat} {s0 : Int32} {l0 l1 : Option Value} {h : AH} : R_X7_debt d 21 [l0, l1] [.int (s0)] h = if s0 ≤ 0 then R_X7_debt d 26 [l0, l1] [] h else R_X7_debt d 24 [l0, l1] [] h := (s_if (g := (fun x => decide (x ≤ 0))) (t := 26) (nx := 24) rfl).trans bif_dec
theorem r_X7_debt_26 {d : Nat} {a0 : Nat} {x1 : Int32} {h : AH} : R_X7_debt d 26 [some (.ref a0), some (.int (x1))] [] h = ((hci h a0).bind (lkN [(18, 174)])).bind fun y => aK (exec tTab d y [.ref a0, .int (x1)] h) (fun v h1 => R_X7_debt d 31 [some (.ref a0), some (.int (x1))] (v.toList ++ []) h1) (fun E h1 => some (.inr E, h1)) := by
  refine (p_aload rfl rfl).trans ?_
  refine (p_iload rfl rfl).trans ?_
  exact s_callV (L := [(18, 174)]) (n := 1) (b := a0) (rest := []) rfl rfl rfl
theorem r_X7_debt_24 {d : Nat} {l0 l1 : Option Value} {h : AH} : R_X7_debt d 24 [l0, l1] [] h = some (.inl (some (.int ((nI 0)))), h) := by
  refine (p_const rfl).trans ?_
  exact s_iretT rfl rfl
theorem r_X7_debt_31 {d : Nat} {s0 : Int32} {l0 l1 : Option Value} {h : AH} : R_X7_debt d 31 [l0, l1] [.int (s0)] h = some (.inl (some (.int (s0))), h) := s_iretT rfl rfl
theorem e_X7_debt {d : Nat} {a0 : Nat} {x1 : Int32} {h : AH} : exec tTab (d + 1) K_X7_debt [.ref a0, .int x1] h = R_X7_debt d 0 [some (.ref a0), some (.int x1)] [] h := exec_eq (cd := k_X7_debt) (hd := (fun _ _ => some none)) (L := 2) rfl rfl rfl
/-- FavourTownModel.owes(II)I -/
abbrev K_X7_owes : Nat := 199
noncomputable def R_X7_owes (d pc : Nat) (ls : ALs) (st : List Value) (h : AH) : Option (AOut × AH) := aR (exec tTab d) k_X7_owes (fun _ _ => some none) (pc, ls, st, h)
theorem r_X7_owes_0 {d : Nat} {a0 : Nat} {x1 : Int32} {l2 : Option Value} {h : AH} : R_X7_owes d 0 [some (.ref a0), some (.int (x1)), l2] [] h = ((hci h a0).bind (lkN [(18, 188)])).bind fun y => aK (exec tTab d y [.ref a0, .int (x1)] h) (fun v h1 => R_X7_owes d 6 [some (.ref a0), some (.int (x1)), l2] (v.toList ++ [.ref a0]) h1) (fun E h1 => some (.inr E, h1)) := by
  refine (p_aload rfl rfl).trans ?_
  refine (p_aload rfl rfl).trans ?_
  refine (p_iload rfl rfl).trans ?_
  exact s_callV (L := [(18, 188)]) (n := 1) (b := a0) (rest := [.ref a0]) rfl rfl rfl
theorem r_X7_owes_6 {d : Nat} {b0 : Nat} {s1 : Int32} {l0 l1 l2 : Option Value} {h : AH} : R_X7_owes d 6 [l0, l1, l2] [.int (s1), .ref b0] h = if s1 = 0 then R_X7_owes d 17 [l0, l1, l2] [.ref b0] h else R_X7_owes d 9 [l0, l1, l2] [.ref b0] h := (s_if (g := (fun x => decide (x = 0))) (t := 17) (nx := 9) rfl).trans bif_dec
theorem r_X7_owes_17 {d : Nat} {b0 : Nat} {l0 l1 l2 : Option Value} {h : AH} : R_X7_owes d 17 [l0, l1, l2] [.ref b0] h = (hpf h [18] b0 0 (.int ((nI 1)))).bind fun h1 => R_X7_owes d 25 [l0, l1, l2] [] h1 := by
  refine (p_const rfl).trans ?_
  refine (p_goto rfl).trans ?_
  exact s_putT rfl rfl
theorem r_X7_owes_9 {d : Nat} {b0 a0 : Nat} {x2 : Int32} {l1 : Option Value} {h : AH} : R_X7_owes d 9 [some (.ref a0), l1, some (.int (x2))] [.ref b0] h = ((hci h a0).bind (lkN [(18, 188)])).bind fun y => aK (exec tTab d y [.ref a0, .int (x2)] h) (fun v h1 => R_X7_owes d 14 [some (.ref a0), l1, some (.int (x2))] (v.toList ++ [.ref b0]) h1) (fun E h1 => some (.inr E, h1)) := by
  refine (p_aload rfl rfl).trans ?_
  refine (p_iload rfl rfl).trans ?_
  exact s_callV (L := [(18, 188)]) (n := 1) (b := a0) (rest := [.ref b0]) rfl rfl rfl
theorem r_X7_owes_9N {d : Nat} {a0 : Nat} {x2 : Int32} {l1 : Option Value} {h : AH} : R_X7_owes d 9 [some (.ref a0), l1, some (.int (x2))] [.null] h = ((hci h a0).bind (lkN [(18, 188)])).bind fun y => aK (exec tTab d y [.ref a0, .int (x2)] h) (fun v h1 => R_X7_owes d 14 [some (.ref a0), l1, some (.int (x2))] (v.toList ++ [.null]) h1) (fun E h1 => some (.inr E, h1)) := by
  refine (p_aload rfl rfl).trans ?_
  refine (p_iload rfl rfl).trans ?_
  exact s_callV (L := [(18, 188)]) (n := 1) (b := a0) (rest := [.null]) rfl rfl rfl
theorem r_X7_owes_25 {d : Nat} {a0 : Nat} {l1 l2 : Option Value} {h : AH} : R_X7_owes d 25 [some (.ref a0), l1, l2] [] h = (hgf h [18] a0 0).bind fun v => R_X7_owes d 29 [some (.ref a0), l1, l2] [v] h := by
  refine (p_aload rfl rfl).trans ?_
  exact s_getf rfl
theorem r_X7_owes_14 {d : Nat} {b0 : Nat} {s1 : Int32} {l0 l1 l2 : Option Value} {h : AH} : R_X7_owes d 14 [l0, l1, l2] [.int (s1), .ref b0] h = if ¬ s1 = 0 then R_X7_owes d 21 [l0, l1, l2] [.ref b0] h else R_X7_owes d 17 [l0, l1, l2] [.ref b0] h := (s_if (g := (fun x => decide (¬ x = 0))) (t := 21) (nx := 17) rfl).trans bif_dec
theorem r_X7_owes_29 {d : Nat} {s0 : Int32} {l0 l1 l2 : Option Value} {h : AH} : R_X7_owes d 29 [l0, l1, l2] [.int (s0)] h = if s0 ≤ 0 then R_X7_owes d 34 [l0, l1, l2] [] h else R_X7_owes d 32 [l0, l1, l2] [] h := (s_if (g := (fun x => decide (x ≤ 0))) (t := 34) (nx := 32) rfl).trans bif_dec
theorem r_X7_owes_21 {d : Nat} {b0 : Nat} {l0 l1 l2 : Option Value} {h : AH} : R_X7_owes d 21 [l0, l1, l2] [.ref b0] h = (hpf h [18] b0 0 (.int ((nI 0)))).bind fun h1 => R_X7_owes d 25 [l0, l1, l2] [] h1 := by
  refine (p_const rfl).trans ?_
  exact s_putT rfl rfl
theorem r_X7_owes_34 {d : Nat} {a0 : Nat} {x1 x2 : Int32} {h : AH} : R_X7_owes d 34 [some (.ref a0), some (.int (x1)), some (.int (x2))] [] h = ((hci h a0).bind (lkN [(18, 200)])).bind fun y => aK (exec tTab d y [.ref a0, .int (x1), .int (x2)] h) (fun v h1 => R_X7_owes d 40 [some (.ref a0), some (.int (x1)), some (.int (x2))] (v.toList ++ []) h1) (fun E h1 => some (.inr E, h1)) := by
  refine (p_aload rfl rfl).trans ?_
  refine (p_iload rfl rfl).trans ?_
  refine (p_iload rfl rfl).trans ?_
  exact s_callV (L := [(18, 200)]) (n := 2) (b := a0) (rest := []) rfl rfl rfl
theorem r_X7_owes_32 {d : Nat} {l0 l1 l2 : Option Value} {h : AH} : R_X7_owes d 32 [l0, l1, l2] [] h = some (.inl (some (.int ((nI 0)))), h) := by
  refine (p_const rfl).trans ?_
  exact s_iretT rfl rfl
theorem r_X7_owes_40 {d : Nat} {s0 : Int32} {l0 l1 l2 : Option Value} {h : AH} : R_X7_owes d 40 [l0, l1, l2] [.int (s0)] h = some (.inl (some (.int (s0))), h) := s_iretT rfl rfl
theorem e_X7_owes {d : Nat} {a0 : Nat} {x1 x2 : Int32} {h : AH} : exec tTab (d + 1) K_X7_owes [.ref a0, .int x1, .int x2] h = R_X7_owes d 0 [some (.ref a0), some (.int x1), some (.int x2)] [] h := exec_eq (cd := k_X7_owes) (hd := (fun _ _ => some none)) (L := 3) rfl rfl rfl
/-- FavourTownModel.owesOf(II)I -/
abbrev K_X7_owesOf : Nat := 200
noncomputable def R_X7_owesOf (d pc : Nat) (ls : ALs) (st : List Value) (h : AH) : Option (AOut × AH) := aR (exec tTab d) k_X7_owesOf (fun _ _ => some none) (pc, ls, st, h)
theorem r_X7_owesOf_0 {d : Nat} {l0 l1 l2 l3 l4 : Option Value} {h : AH} : R_X7_owesOf d 0 [l0, l1, l2, l3, l4] [] h = R_X7_owesOf d 5 [l0, l1, l2, some (.int ((nI 0))), some (.int ((nI 0)))] [] h := by
  refine (p_const rfl).trans ?_
  refine (p_istore rfl rfl rfl).trans ?_
  refine (p_const rfl).trans ?_
  refine (p_istore rfl rfl rfl).trans ?_
  exact rfl
theorem q_X7_owesOf_5 {d : Nat} {x4 : Int32} {a0 : Nat} {l1 l2 l3 : Option Value} {h : AH} : R_X7_owesOf d 5 [some (.ref a0), l1, l2, l3, some (.int (x4))] [] h = (hgf h [18] a0 1).bind fun v => R_X7_owesOf d 11 [some (.ref a0), l1, l2, l3, some (.int (x4))] [v, .int (x4)] h := by
  refine (p_iload rfl rfl).trans ?_
  refine (p_aload rfl rfl).trans ?_
  exact s_getf rfl
theorem r_X7_owesOf_11 {d : Nat} {s0 : Int32} {b1 : Nat} {l0 l1 l2 l3 l4 : Option Value} {h : AH} : R_X7_owesOf d 11 [l0, l1, l2, l3, l4] [.ref b1, .int (s0)] h = (hai h 0 b1 (nI 3)).bind fun v => R_X7_owesOf d 13 [l0, l1, l2, l3, l4] [.int v, .int (s0)] h := by
  refine (p_const rfl).trans ?_
  exact s_iald rfl
theorem r_X7_owesOf_13 {d : Nat} {s0 s1 : Int32} {l0 l1 l2 l3 l4 : Option Value} {h : AH} : R_X7_owesOf d 13 [l0, l1, l2, l3, l4] [.int (s1), .int (s0)] h = if s1 ≤ s0 then R_X7_owesOf d 58 [l0, l1, l2, l3, l4] [] h else R_X7_owesOf d 16 [l0, l1, l2, l3, l4] [] h := (s_icmp (g := (fun x y => decide (y ≤ x))) (t := 58) (nx := 16) rfl).trans bif_dec
theorem r_X7_owesOf_58 {d : Nat} {x3 : Int32} {l0 l1 l2 l4 : Option Value} {h : AH} : R_X7_owesOf d 58 [l0, l1, l2, some (.int (x3)), l4] [] h = some (.inl (some (.int (x3))), h) := by
  refine (p_iload rfl rfl).trans ?_
  exact s_iretT rfl rfl
theorem r_X7_owesOf_16 {d : Nat} {x3 x4 : Int32} {a0 : Nat} {l1 l2 : Option Value} {h : AH} : R_X7_owesOf d 16 [some (.ref a0), l1, l2, some (.int (x3)), some (.int (x4))] [] h = ((hci h a0).bind (lkN [(18, 175)])).bind fun y => aK (exec tTab d y [.ref a0, .int (x4), .int ((nI 0))] h) (fun v h1 => R_X7_owesOf d 24 [some (.ref a0), l1, l2, some (.int (x3)), some (.int (x4))] (v.toList ++ [.int (x3)]) h1) (fun E h1 => some (.inr E, h1)) := by
  refine (p_iload rfl rfl).trans ?_
  refine (p_aload rfl rfl).trans ?_
  refine (p_iload rfl rfl).trans ?_
  refine (p_const rfl).trans ?_
  exact s_callV (L := [(18, 175)]) (n := 2) (b := a0) (rest := [.int (x3)]) rfl rfl rfl
theorem r_X7_owesOf_24 {d : Nat} {s0 s1 x1 : Int32} {l0 l2 l3 l4 : Option Value} {h : AH} : R_X7_owesOf d 24 [l0, some (.int (x1)), l2, l3, l4] [.int (s1), .int (s0)] h = if ¬ s1 = x1 then R_X7_owesOf d 49 [l0, some (.int (x1)), l2, l3, l4] [.int (s0)] h else R_X7_owesOf d 28 [l0, some (.int (x1)), l2, l3, l4] [.int (s0)] h := by
  refine (p_iload rfl rfl).trans ?_
  exact (s_icmp (g := (fun x y => decide (¬ x = y))) (t := 49) (nx := 28) rfl).trans bif_dec
theorem r_X7_owesOf_49 {d : Nat} {s0 x4 : Int32} {l0 l1 l2 l3 : Option Value} {h : AH} : R_X7_owesOf d 49 [l0, l1, l2, l3, some (.int (x4))] [.int (s0)] h = R_X7_owesOf d 5 [l0, l1, l2, some (.int (s0 + (nI 0))), some (.int (x4 + (nI 1)))] [] h := by
  refine (p_const rfl).trans ?_
  refine (p_bin rfl).trans ?_
  refine (p_istore rfl rfl rfl).trans ?_
  refine (p_iinc rfl rfl rfl).trans ?_
  refine (p_goto rfl).trans ?_
  exact rfl
theorem r_X7_owesOf_28 {d : Nat} {s0 x4 : Int32} {a0 : Nat} {l1 l2 l3 : Option Value} {h : AH} : R_X7_owesOf d 28 [some (.ref a0), l1, l2, l3, some (.int (x4))] [.int (s0)] h = ((hci h a0).bind (lkN [(18, 175)])).bind fun y => aK (exec tTab d y [.ref a0, .int (x4), .int ((nI 2))] h) (fun v h1 => R_X7_owesOf d 35 [some (.ref a0), l1, l2, l3, some (.int (x4))] (v.toList ++ [.int (s0)]) h1) (fun E h1 => some (.inr E, h1)) := by
  refine (p_aload rfl rfl).trans ?_
  refine (p_iload rfl rfl).trans ?_
  refine (p_const rfl).trans ?_
  exact s_callV (L := [(18, 175)]) (n := 2) (b := a0) (rest := [.int (s0)]) rfl rfl rfl
theorem r_X7_owesOf_35 {d : Nat} {s0 s1 x2 : Int32} {l0 l1 l3 l4 : Option Value} {h : AH} : R_X7_owesOf d 35 [l0, l1, some (.int (x2)), l3, l4] [.int (s1), .int (s0)] h = if ¬ s1 = x2 then R_X7_owesOf d 49 [l0, l1, some (.int (x2)), l3, l4] [.int (s0)] h else R_X7_owesOf d 39 [l0, l1, some (.int (x2)), l3, l4] [.int (s0)] h := by
  refine (p_iload rfl rfl).trans ?_
  exact (s_icmp (g := (fun x y => decide (¬ x = y))) (t := 49) (nx := 39) rfl).trans bif_dec
theorem r_X7_owesOf_39 {d : Nat} {s0 x4 : Int32} {a0 : Nat} {l1 l2 l3 : Option Value} {h : AH} : R_X7_owesOf d 39 [some (.ref a0), l1, l2, l3, some (.int (x4))] [.int (s0)] h = ((hci h a0).bind (lkN [(18, 175)])).bind fun y => aK (exec tTab d y [.ref a0, .int (x4), .int ((nI 1))] h) (fun v h1 => R_X7_owesOf d 46 [some (.ref a0), l1, l2, l3, some (.int (x4))] (v.toList ++ [.int (s0)]) h1) (fun E h1 => some (.inr E, h1)) := by
  refine (p_aload rfl rfl).trans ?_
  refine (p_iload rfl rfl).trans ?_
  refine (p_const rfl).trans ?_
  exact s_callV (L := [(18, 175)]) (n := 2) (b := a0) (rest := [.int (s0)]) rfl rfl rfl
theorem r_X7_owesOf_46 {d : Nat} {s0 s1 x4 : Int32} {l0 l1 l2 l3 : Option Value} {h : AH} : R_X7_owesOf d 46 [l0, l1, l2, l3, some (.int (x4))] [.int (s1), .int (s0)] h = R_X7_owesOf d 5 [l0, l1, l2, some (.int (s0 + s1)), some (.int (x4 + (nI 1)))] [] h := by
  refine (p_goto rfl).trans ?_
  refine (p_bin rfl).trans ?_
  refine (p_istore rfl rfl rfl).trans ?_
  refine (p_iinc rfl rfl rfl).trans ?_
  refine (p_goto rfl).trans ?_
  exact rfl
theorem e_X7_owesOf {d : Nat} {a0 : Nat} {x1 x2 : Int32} {h : AH} : exec tTab (d + 1) K_X7_owesOf [.ref a0, .int x1, .int x2] h = R_X7_owesOf d 0 [some (.ref a0), some (.int x1), some (.int x2), none, none] [] h := exec_eq (cd := k_X7_owesOf) (hd := (fun _ _ => some none)) (L := 5) rfl rfl rfl
/-- FavourTownModel.pays(III)I -/
abbrev K_X7_pays : Nat := 201
noncomputable def R_X7_pays (d pc : Nat) (ls : ALs) (st : List Value) (h : AH) : Option (AOut × AH) := aR (exec tTab d) k_X7_pays (fun _ _ => some none) (pc, ls, st, h)
theorem r_X7_pays_0 {d : Nat} {a0 : Nat} {x1 : Int32} {l2 l3 : Option Value} {h : AH} : R_X7_pays d 0 [some (.ref a0), some (.int (x1)), l2, l3] [] h = ((hci h a0).bind (lkN [(18, 188)])).bind fun y => aK (exec tTab d y [.ref a0, .int (x1)] h) (fun v h1 => R_X7_pays d 6 [some (.ref a0), some (.int (x1)), l2, l3] (v.toList ++ [.ref a0]) h1) (fun E h1 => some (.inr E, h1)) := by
  refine (p_aload rfl rfl).trans ?_
  refine (p_aload rfl rfl).trans ?_
  refine (p_iload rfl rfl).trans ?_
  exact s_callV (L := [(18, 188)]) (n := 1) (b := a0) (rest := [.ref a0]) rfl rfl rfl
theorem r_X7_pays_6 {d : Nat} {b0 : Nat} {s1 : Int32} {l0 l1 l2 l3 : Option Value} {h : AH} : R_X7_pays d 6 [l0, l1, l2, l3] [.int (s1), .ref b0] h = if s1 = 0 then R_X7_pays d 17 [l0, l1, l2, l3] [.ref b0] h else R_X7_pays d 9 [l0, l1, l2, l3] [.ref b0] h := (s_if (g := (fun x => decide (x = 0))) (t := 17) (nx := 9) rfl).trans bif_dec
theorem r_X7_pays_17 {d : Nat} {b0 : Nat} {l0 l1 l2 l3 : Option Value} {h : AH} : R_X7_pays d 17 [l0, l1, l2, l3] [.ref b0] h = (hpf h [18] b0 0 (.int ((nI 1)))).bind fun h1 => R_X7_pays d 44 [l0, l1, l2, l3] [] h1 := by
  refine (p_const rfl).trans ?_
  refine (p_goto rfl).trans ?_
  exact s_putT rfl rfl
theorem r_X7_pays_9 {d : Nat} {b0 a0 : Nat} {x2 : Int32} {l1 l3 : Option Value} {h : AH} : R_X7_pays d 9 [some (.ref a0), l1, some (.int (x2)), l3] [.ref b0] h = ((hci h a0).bind (lkN [(18, 188)])).bind fun y => aK (exec tTab d y [.ref a0, .int (x2)] h) (fun v h1 => R_X7_pays d 14 [some (.ref a0), l1, some (.int (x2)), l3] (v.toList ++ [.ref b0]) h1) (fun E h1 => some (.inr E, h1)) := by
  refine (p_aload rfl rfl).trans ?_
  refine (p_iload rfl rfl).trans ?_
  exact s_callV (L := [(18, 188)]) (n := 1) (b := a0) (rest := [.ref b0]) rfl rfl rfl
theorem r_X7_pays_9N {d : Nat} {a0 : Nat} {x2 : Int32} {l1 l3 : Option Value} {h : AH} : R_X7_pays d 9 [some (.ref a0), l1, some (.int (x2)), l3] [.null] h = ((hci h a0).bind (lkN [(18, 188)])).bind fun y => aK (exec tTab d y [.ref a0, .int (x2)] h) (fun v h1 => R_X7_pays d 14 [some (.ref a0), l1, some (.int (x2)), l3] (v.toList ++ [.null]) h1) (fun E h1 => some (.inr E, h1)) := by
  refine (p_aload rfl rfl).trans ?_
  refine (p_iload rfl rfl).trans ?_
  exact s_callV (L := [(18, 188)]) (n := 1) (b := a0) (rest := [.null]) rfl rfl rfl
theorem r_X7_pays_44 {d : Nat} {a0 : Nat} {l1 l2 l3 : Option Value} {h : AH} : R_X7_pays d 44 [some (.ref a0), l1, l2, l3] [] h = (hgf h [18] a0 0).bind fun v => R_X7_pays d 48 [some (.ref a0), l1, l2, l3] [v] h := by
  refine (p_aload rfl rfl).trans ?_
  exact s_getf rfl
theorem r_X7_pays_14 {d : Nat} {b0 : Nat} {s1 : Int32} {l0 l1 l2 l3 : Option Value} {h : AH} : R_X7_pays d 14 [l0, l1, l2, l3] [.int (s1), .ref b0] h = if ¬ s1 = 0 then R_X7_pays d 21 [l0, l1, l2, l3] [.ref b0] h else R_X7_pays d 17 [l0, l1, l2, l3] [.ref b0] h := (s_if (g := (fun x => decide (¬ x = 0))) (t := 21) (nx := 17) rfl).trans bif_dec
theorem r_X7_pays_48 {d : Nat} {s0 : Int32} {l0 l1 l2 l3 : Option Value} {h : AH} : R_X7_pays d 48 [l0, l1, l2, l3] [.int (s0)] h = if s0 ≤ 0 then R_X7_pays d 53 [l0, l1, l2, l3] [] h else R_X7_pays d 51 [l0, l1, l2, l3] [] h := (s_if (g := (fun x => decide (x ≤ 0))) (t := 53) (nx := 51) rfl).trans bif_dec
theorem r_X7_pays_21 {d : Nat} {b0 : Nat} {x1 x2 : Int32} {l0 l3 : Option Value} {h : AH} : R_X7_pays d 21 [l0, some (.int (x1)), some (.int (x2)), l3] [.ref b0] h = if x1 = x2 then R_X7_pays d 36 [l0, some (.int (x1)), some (.int (x2)), l3] [.ref b0] h else R_X7_pays d 26 [l0, some (.int (x1)), some (.int (x2)), l3] [.ref b0] h := by
  refine (p_iload rfl rfl).trans ?_
  refine (p_iload rfl rfl).trans ?_
  exact (s_icmp (g := (fun x y => decide (x = y))) (t := 36) (nx := 26) rfl).trans bif_dec
theorem r_X7_pays_21N {d : Nat} {x1 x2 : Int32} {l0 l3 : Option Value} {h : AH} : R_X7_pays d 21 [l0, some (.int (x1)), some (.int (x2)), l3] [.null] h = if x1 = x2 then R_X7_pays d 36 [l0, some (.int (x1)), some (.int (x2)), l3] [.null] h else R_X7_pays d 26 [l0, some (.int (x1)), some (.int (x2)), l3] [.null] h := by
  refine (p_iload rfl rfl).trans ?_
  refine (p_iload rfl rfl).trans ?_
  exact (s_icmp (g := (fun x y => decide (x = y))) (t := 36) (nx := 26) rfl).trans bif_dec
theorem r_X7_pays_53 {d : Nat} {a0 : Nat} {x1 x2 x3 : Int32} {h : AH} : R_X7_pays d 53 [some (.ref a0), some (.int (x1)), some (.int (x2)), some (.int (x3))] [] h = ((hci h a0).bind (lkN [(18, 202)])).bind fun y => aK (exec tTab d y [.ref a0, .int (x1), .int (x2), .int (x3)] h) (fun v h1 => R_X7_pays d 60 [some (.ref a0), some (.int (x1)), some (.int (x2)), some (.int (x3))] (v.toList ++ []) h1) (fun E h1 => some (.inr E, h1)) := by
  refine (p_aload rfl rfl).trans ?_
  refine (p_iload rfl rfl).trans ?_
  refine (p_iload rfl rfl).trans ?_
  refine (p_iload rfl rfl).trans ?_
  exact s_callV (L := [(18, 202)]) (n := 3) (b := a0) (rest := []) rfl rfl rfl
theorem r_X7_pays_51 {d : Nat} {l0 l1 l2 l3 : Option Value} {h : AH} : R_X7_pays d 51 [l0, l1, l2, l3] [] h = some (.inl (some (.int ((nI 0)))), h) := by
  refine (p_const rfl).trans ?_
  exact s_iretT rfl rfl
theorem r_X7_pays_36 {d : Nat} {b0 : Nat} {l0 l1 l2 l3 : Option Value} {h : AH} : R_X7_pays d 36 [l0, l1, l2, l3] [.ref b0] h = (hpf h [18] b0 0 (.int ((nI 2)))).bind fun h1 => R_X7_pays d 44 [l0, l1, l2, l3] [] h1 := by
  refine (p_const rfl).trans ?_
  refine (p_goto rfl).trans ?_
  exact s_putT rfl rfl
theorem r_X7_pays_26 {d : Nat} {b0 : Nat} {x3 : Int32} {l0 l1 l2 : Option Value} {h : AH} : R_X7_pays d 26 [l0, l1, l2, some (.int (x3))] [.ref b0] h = aK (exec tTab d 153 [.int (x3), .int ((nI 1)), .int ((nI 99))] h) (fun v h1 => R_X7_pays d 33 [l0, l1, l2, some (.int (x3))] (v.toList ++ [.ref b0]) h1) (fun E h1 => some (.inr E, h1)) := by
  refine (p_iload rfl rfl).trans ?_
  refine (p_const rfl).trans ?_
  refine (p_const rfl).trans ?_
  exact s_callS (y := 153) (n := 3) rfl rfl
theorem r_X7_pays_26N {d : Nat} {x3 : Int32} {l0 l1 l2 : Option Value} {h : AH} : R_X7_pays d 26 [l0, l1, l2, some (.int (x3))] [.null] h = aK (exec tTab d 153 [.int (x3), .int ((nI 1)), .int ((nI 99))] h) (fun v h1 => R_X7_pays d 33 [l0, l1, l2, some (.int (x3))] (v.toList ++ [.null]) h1) (fun E h1 => some (.inr E, h1)) := by
  refine (p_iload rfl rfl).trans ?_
  refine (p_const rfl).trans ?_
  refine (p_const rfl).trans ?_
  exact s_callS (y := 153) (n := 3) rfl rfl
theorem r_X7_pays_60 {d : Nat} {s0 : Int32} {l0 l1 l2 l3 : Option Value} {h : AH} : R_X7_pays d 60 [l0, l1, l2, l3] [.int (s0)] h = some (.inl (some (.int (s0))), h) := s_iretT rfl rfl
theorem r_X7_pays_33 {d : Nat} {b0 : Nat} {s1 : Int32} {l0 l1 l2 l3 : Option Value} {h : AH} : R_X7_pays d 33 [l0, l1, l2, l3] [.int (s1), .ref b0] h = if ¬ s1 = 0 then R_X7_pays d 40 [l0, l1, l2, l3] [.ref b0] h else R_X7_pays d 36 [l0, l1, l2, l3] [.ref b0] h := (s_if (g := (fun x => decide (¬ x = 0))) (t := 40) (nx := 36) rfl).trans bif_dec
theorem r_X7_pays_40 {d : Nat} {b0 : Nat} {l0 l1 l2 l3 : Option Value} {h : AH} : R_X7_pays d 40 [l0, l1, l2, l3] [.ref b0] h = (hpf h [18] b0 0 (.int ((nI 0)))).bind fun h1 => R_X7_pays d 44 [l0, l1, l2, l3] [] h1 := by
  refine (p_const rfl).trans ?_
  exact s_putT rfl rfl
theorem e_X7_pays {d : Nat} {a0 : Nat} {x1 x2 x3 : Int32} {h : AH} : exec tTab (d + 1) K_X7_pays [.ref a0, .int x1, .int x2, .int x3] h = R_X7_pays d 0 [some (.ref a0), some (.int x1), some (.int x2), some (.int x3)] [] h := exec_eq (cd := k_X7_pays) (hd := (fun _ _ => some none)) (L := 4) rfl rfl rfl
/-- FavourTownModel.paysBy(III)I -/
abbrev K_X7_paysBy : Nat := 202
noncomputable def R_X7_paysBy (d pc : Nat) (ls : ALs) (st : List Value) (h : AH) : Option (AOut × AH) := aR (exec tTab d) k_X7_paysBy (fun _ _ => some none) (pc, ls, st, h)
theorem r_X7_paysBy_0 {d : Nat} {l0 l1 l2 l3 l4 l5 l6 l7 : Option Value} {h : AH} : R_X7_paysBy d 0 [l0, l1, l2, l3, l4, l5, l6, l7] [] h = R_X7_paysBy d 9 [l0, l1, l2, l3, some (.int ((-1))), some (.int ((nI 0))), some (.int ((nI 0))), l7] [] h := by
  refine (p_const rfl).trans ?_
  refine (p_istore rfl rfl rfl).trans ?_
  refine (p_const rfl).trans ?_
  refine (p_istore rfl rfl rfl).trans ?_
  refine (p_const rfl).trans ?_
  refine (p_istore rfl rfl rfl).trans ?_
  exact rfl
theorem q_X7_paysBy_9 {d : Nat} {x6 : Int32} {a0 : Nat} {l1 l2 l3 l4 l5 l7 : Option Value} {h : AH} : R_X7_paysBy d 9 [some (.ref a0), l1, l2, l3, l4, l5, some (.int (x6)), l7] [] h = (hgf h [18] a0 1).bind fun v => R_X7_paysBy d 15 [some (.ref a0), l1, l2, l3, l4, l5, some (.int (x6)), l7] [v, .int (x6)] h := by
  refine (p_iload rfl rfl).trans ?_
  refine (p_aload rfl rfl).trans ?_
  exact s_getf rfl
theorem r_X7_paysBy_15 {d : Nat} {s0 : Int32} {b1 : Nat} {l0 l1 l2 l3 l4 l5 l6 l7 : Option Value} {h : AH} : R_X7_paysBy d 15 [l0, l1, l2, l3, l4, l5, l6, l7] [.ref b1, .int (s0)] h = (hai h 0 b1 (nI 3)).bind fun v => R_X7_paysBy d 17 [l0, l1, l2, l3, l4, l5, l6, l7] [.int v, .int (s0)] h := by
  refine (p_const rfl).trans ?_
  exact s_iald rfl
theorem r_X7_paysBy_17 {d : Nat} {s0 s1 : Int32} {l0 l1 l2 l3 l4 l5 l6 l7 : Option Value} {h : AH} : R_X7_paysBy d 17 [l0, l1, l2, l3, l4, l5, l6, l7] [.int (s1), .int (s0)] h = if s1 ≤ s0 then R_X7_paysBy d 103 [l0, l1, l2, l3, l4, l5, l6, l7] [] h else R_X7_paysBy d 20 [l0, l1, l2, l3, l4, l5, l6, l7] [] h := (s_icmp (g := (fun x y => decide (y ≤ x))) (t := 103) (nx := 20) rfl).trans bif_dec
theorem r_X7_paysBy_103 {d : Nat} {x4 : Int32} {l0 l1 l2 l3 l5 l6 l7 : Option Value} {h : AH} : R_X7_paysBy d 103 [l0, l1, l2, l3, some (.int (x4)), l5, l6, l7] [] h = some (.inl (some (.int (x4))), h) := by
  refine (p_iload rfl rfl).trans ?_
  exact s_iretT rfl rfl
theorem r_X7_paysBy_20 {d : Nat} {a0 : Nat} {x6 : Int32} {l1 l2 l3 l4 l5 l7 : Option Value} {h : AH} : R_X7_paysBy d 20 [some (.ref a0), l1, l2, l3, l4, l5, some (.int (x6)), l7] [] h = ((hci h a0).bind (lkN [(18, 175)])).bind fun y => aK (exec tTab d y [.ref a0, .int (x6), .int ((nI 1))] h) (fun v h1 => R_X7_paysBy d 27 [some (.ref a0), l1, l2, l3, l4, l5, some (.int (x6)), l7] (v.toList ++ []) h1) (fun E h1 => some (.inr E, h1)) := by
  refine (p_aload rfl rfl).trans ?_
  refine (p_iload rfl rfl).trans ?_
  refine (p_const rfl).trans ?_
  exact s_callV (L := [(18, 175)]) (n := 2) (b := a0) (rest := []) rfl rfl rfl
theorem r_X7_paysBy_27 {d : Nat} {s0 x6 : Int32} {a0 : Nat} {l1 l2 l3 l4 l5 l7 : Option Value} {h : AH} : R_X7_paysBy d 27 [some (.ref a0), l1, l2, l3, l4, l5, some (.int (x6)), l7] [.int (s0)] h = ((hci h a0).bind (lkN [(18, 175)])).bind fun y => aK (exec tTab d y [.ref a0, .int (x6), .int ((nI 3))] h) (fun v h1 => R_X7_paysBy d 34 [some (.ref a0), l1, l2, l3, l4, l5, some (.int (x6)), l7] (v.toList ++ [.int (s0)]) h1) (fun E h1 => some (.inr E, h1)) := by
  refine (p_aload rfl rfl).trans ?_
  refine (p_iload rfl rfl).trans ?_
  refine (p_const rfl).trans ?_
  exact s_callV (L := [(18, 175)]) (n := 2) (b := a0) (rest := [.int (s0)]) rfl rfl rfl
theorem r_X7_paysBy_34 {d : Nat} {s0 s1 : Int32} {l0 l1 l2 l3 l4 l5 l6 l7 : Option Value} {h : AH} : R_X7_paysBy d 34 [l0, l1, l2, l3, l4, l5, l6, l7] [.int (s1), .int (s0)] h = aK (exec tTab d 177 [.int (s0), .int (s1 + (nI 1))] h) (fun v h1 => R_X7_paysBy d 39 [l0, l1, l2, l3, l4, l5, l6, l7] (v.toList ++ []) h1) (fun E h1 => some (.inr E, h1)) := by
  refine (p_const rfl).trans ?_
  refine (p_bin rfl).trans ?_
  exact s_callS (y := 177) (n := 2) rfl rfl
theorem r_X7_paysBy_39 {d : Nat} {s0 x6 : Int32} {a0 : Nat} {l1 l2 l3 l4 l5 l7 : Option Value} {h : AH} : R_X7_paysBy d 39 [some (.ref a0), l1, l2, l3, l4, l5, some (.int (x6)), l7] [.int (s0)] h = ((hci h a0).bind (lkN [(18, 175)])).bind fun y => aK (exec tTab d y [.ref a0, .int (x6), .int ((nI 2))] h) (fun v h1 => R_X7_paysBy d 48 [some (.ref a0), l1, l2, l3, l4, l5, some (.int (x6)), some (.int (s0))] (v.toList ++ []) h1) (fun E h1 => some (.inr E, h1)) := by
  refine (p_istore rfl rfl rfl).trans ?_
  refine (p_aload rfl rfl).trans ?_
  refine (p_iload rfl rfl).trans ?_
  refine (p_const rfl).trans ?_
  exact s_callV (L := [(18, 175)]) (n := 2) (b := a0) (rest := []) rfl rfl rfl
theorem r_X7_paysBy_48 {d : Nat} {s0 x1 : Int32} {l0 l2 l3 l4 l5 l6 l7 : Option Value} {h : AH} : R_X7_paysBy d 48 [l0, some (.int (x1)), l2, l3, l4, l5, l6, l7] [.int (s0)] h = if ¬ s0 = x1 then R_X7_paysBy d 97 [l0, some (.int (x1)), l2, l3, l4, l5, l6, l7] [] h else R_X7_paysBy d 52 [l0, some (.int (x1)), l2, l3, l4, l5, l6, l7] [] h := by
  refine (p_iload rfl rfl).trans ?_
  exact (s_icmp (g := (fun x y => decide (¬ x = y))) (t := 97) (nx := 52) rfl).trans bif_dec
theorem r_X7_paysBy_97 {d : Nat} {x6 : Int32} {l0 l1 l2 l3 l4 l5 l7 : Option Value} {h : AH} : R_X7_paysBy d 97 [l0, l1, l2, l3, l4, l5, some (.int (x6)), l7] [] h = R_X7_paysBy d 9 [l0, l1, l2, l3, l4, l5, some (.int (x6 + (nI 1))), l7] [] h := by
  refine (p_iinc rfl rfl rfl).trans ?_
  refine (p_goto rfl).trans ?_
  exact rfl
theorem r_X7_paysBy_52 {d : Nat} {x7 x3 : Int32} {l0 l1 l2 l4 l5 l6 : Option Value} {h : AH} : R_X7_paysBy d 52 [l0, l1, l2, some (.int (x3)), l4, l5, l6, some (.int (x7))] [] h = if x7 < ((nI 1024) * x3) then R_X7_paysBy d 97 [l0, l1, l2, some (.int (x3)), l4, l5, l6, some (.int (x7))] [] h else R_X7_paysBy d 62 [l0, l1, l2, some (.int (x3)), l4, l5, l6, some (.int (x7))] [] h := by
  refine (p_iload rfl rfl).trans ?_
  refine (p_const rfl).trans ?_
  refine (p_iload rfl rfl).trans ?_
  refine (p_bin rfl).trans ?_
  exact (s_icmp (g := (fun x y => decide (x < y))) (t := 97) (nx := 62) rfl).trans bif_dec
theorem r_X7_paysBy_62 {d : Nat} {x4 : Int32} {l0 l1 l2 l3 l5 l6 l7 : Option Value} {h : AH} : R_X7_paysBy d 62 [l0, l1, l2, l3, some (.int (x4)), l5, l6, l7] [] h = if x4 = (-1) then R_X7_paysBy d 75 [l0, l1, l2, l3, some (.int (x4)), l5, l6, l7] [] h else R_X7_paysBy d 68 [l0, l1, l2, l3, some (.int (x4)), l5, l6, l7] [] h := by
  refine (p_iload rfl rfl).trans ?_
  refine (p_const rfl).trans ?_
  exact (s_icmp (g := (fun x y => decide (x = y))) (t := 75) (nx := 68) rfl).trans bif_dec
theorem r_X7_paysBy_75 {d : Nat} {a0 : Nat} {x6 x1 x2 : Int32} {l3 l4 l5 l7 : Option Value} {h : AH} : R_X7_paysBy d 75 [some (.ref a0), some (.int (x1)), some (.int (x2)), l3, l4, l5, some (.int (x6)), l7] [] h = ((hci h a0).bind (lkN [(18, 203)])).bind fun y => aK (exec tTab d y [.ref a0, .int (x6), .int (x1), .int (x2)] h) (fun v h1 => R_X7_paysBy d 83 [some (.ref a0), some (.int (x1)), some (.int (x2)), l3, l4, l5, some (.int (x6)), l7] (v.toList ++ []) h1) (fun E h1 => some (.inr E, h1)) := by
  refine (p_aload rfl rfl).trans ?_
  refine (p_iload rfl rfl).trans ?_
  refine (p_iload rfl rfl).trans ?_
  refine (p_iload rfl rfl).trans ?_
  exact s_callV (L := [(18, 203)]) (n := 3) (b := a0) (rest := []) rfl rfl rfl
theorem r_X7_paysBy_68 {d : Nat} {x7 x5 : Int32} {l0 l1 l2 l3 l4 l6 : Option Value} {h : AH} : R_X7_paysBy d 68 [l0, l1, l2, l3, l4, some (.int (x5)), l6, some (.int (x7))] [] h = if x5 ≤ x7 then R_X7_paysBy d 97 [l0, l1, l2, l3, l4, some (.int (x5)), l6, some (.int (x7))] [] h else R_X7_paysBy d 75 [l0, l1, l2, l3, l4, some (.int (x5)), l6, some (.int (x7))] [] h := by
  refine (p_iload rfl rfl).trans ?_
  refine (p_iload rfl rfl).trans ?_
  exact (s_icmp (g := (fun x y => decide (y ≤ x))) (t := 97) (nx := 75) rfl).trans bif_dec
theorem r_X7_paysBy_83 {d : Nat} {s0 : Int32} {l0 l1 l2 l3 l4 l5 l6 l7 : Option Value} {h : AH} : R_X7_paysBy d 83 [l0, l1, l2, l3, l4, l5, l6, l7] [.int (s0)] h = if ¬ s0 = 0 then R_X7_paysBy d 89 [l0, l1, l2, l3, l4, l5, l6, l7] [] h else R_X7_paysBy d 86 [l0, l1, l2, l3, l4, l5, l6, l7] [] h := (s_if (g := (fun x => decide (¬ x = 0))) (t := 89) (nx := 86) rfl).trans bif_dec
theorem r_X7_paysBy_89 {d : Nat} {x6 x7 : Int32} {l0 l1 l2 l3 l4 l5 : Option Value} {h : AH} : R_X7_paysBy d 89 [l0, l1, l2, l3, l4, l5, some (.int (x6)), some (.int (x7))] [] h = R_X7_paysBy d 9 [l0, l1, l2, l3, some (.int (x6)), some (.int (x7)), some (.int (x6 + (nI 1))), some (.int (x7))] [] h := by
  refine (p_iload rfl rfl).trans ?_
  refine (p_istore rfl rfl rfl).trans ?_
  refine (p_iload rfl rfl).trans ?_
  refine (p_istore rfl rfl rfl).trans ?_
  refine (p_iinc rfl rfl rfl).trans ?_
  refine (p_goto rfl).trans ?_
  exact rfl
theorem r_X7_paysBy_86 {d : Nat} {x6 : Int32} {l0 l1 l2 l3 l4 l5 l7 : Option Value} {h : AH} : R_X7_paysBy d 86 [l0, l1, l2, l3, l4, l5, some (.int (x6)), l7] [] h = R_X7_paysBy d 9 [l0, l1, l2, l3, l4, l5, some (.int (x6 + (nI 1))), l7] [] h := by
  refine (p_goto rfl).trans ?_
  refine (p_iinc rfl rfl rfl).trans ?_
  refine (p_goto rfl).trans ?_
  exact rfl
theorem e_X7_paysBy {d : Nat} {a0 : Nat} {x1 x2 x3 : Int32} {h : AH} : exec tTab (d + 1) K_X7_paysBy [.ref a0, .int x1, .int x2, .int x3] h = R_X7_paysBy d 0 [some (.ref a0), some (.int x1), some (.int x2), some (.int x3), none, none, none, none] [] h := exec_eq (cd := k_X7_paysBy) (hd := (fun _ _ => some none)) (L := 8) rfl rfl rfl
/-- FavourTownModel.goes(III)Z -/
abbrev K_X7_goes : Nat := 203
noncomputable def R_X7_goes (d pc : Nat) (ls : ALs) (st : List Value) (h : AH) : Option (AOut × AH) := aR (exec tTab d) k_X7_goes (fun _ _ => some none) (pc, ls, st, h)
theorem r_X7_goes_0 {d : Nat} {a0 : Nat} {x1 : Int32} {l2 l3 : Option Value} {h : AH} : R_X7_goes d 0 [some (.ref a0), some (.int (x1)), l2, l3] [] h = ((hci h a0).bind (lkN [(18, 175)])).bind fun y => aK (exec tTab d y [.ref a0, .int (x1), .int ((nI 2))] h) (fun v h1 => R_X7_goes d 6 [some (.ref a0), some (.int (x1)), l2, l3] (v.toList ++ []) h1) (fun E h1 => some (.inr E, h1)) := by
  refine (p_aload rfl rfl).trans ?_
  refine (p_iload rfl rfl).trans ?_
  refine (p_const rfl).trans ?_
  exact s_callV (L := [(18, 175)]) (n := 2) (b := a0) (rest := []) rfl rfl rfl
theorem r_X7_goes_6 {d : Nat} {s0 x2 : Int32} {l0 l1 l3 : Option Value} {h : AH} : R_X7_goes d 6 [l0, l1, some (.int (x2)), l3] [.int (s0)] h = if ¬ s0 = x2 then R_X7_goes d 33 [l0, l1, some (.int (x2)), l3] [] h else R_X7_goes d 10 [l0, l1, some (.int (x2)), l3] [] h := by
  refine (p_iload rfl rfl).trans ?_
  exact (s_icmp (g := (fun x y => decide (¬ x = y))) (t := 33) (nx := 10) rfl).trans bif_dec
theorem r_X7_goes_33 {d : Nat} {l0 l1 l2 l3 : Option Value} {h : AH} : R_X7_goes d 33 [l0, l1, l2, l3] [] h = some (.inl (some (.int ((nI 0)))), h) := by
  refine (p_const rfl).trans ?_
  exact s_iretT rfl rfl
theorem r_X7_goes_10 {d : Nat} {a0 : Nat} {x1 : Int32} {l2 l3 : Option Value} {h : AH} : R_X7_goes d 10 [some (.ref a0), some (.int (x1)), l2, l3] [] h = ((hci h a0).bind (lkN [(18, 175)])).bind fun y => aK (exec tTab d y [.ref a0, .int (x1), .int ((nI 0))] h) (fun v h1 => R_X7_goes d 16 [some (.ref a0), some (.int (x1)), l2, l3] (v.toList ++ []) h1) (fun E h1 => some (.inr E, h1)) := by
  refine (p_aload rfl rfl).trans ?_
  refine (p_iload rfl rfl).trans ?_
  refine (p_const rfl).trans ?_
  exact s_callV (L := [(18, 175)]) (n := 2) (b := a0) (rest := []) rfl rfl rfl
theorem r_X7_goes_16 {d : Nat} {s0 x3 : Int32} {l0 l1 l2 : Option Value} {h : AH} : R_X7_goes d 16 [l0, l1, l2, some (.int (x3))] [.int (s0)] h = if s0 = x3 then R_X7_goes d 33 [l0, l1, l2, some (.int (x3))] [] h else R_X7_goes d 20 [l0, l1, l2, some (.int (x3))] [] h := by
  refine (p_iload rfl rfl).trans ?_
  exact (s_icmp (g := (fun x y => decide (x = y))) (t := 33) (nx := 20) rfl).trans bif_dec
theorem r_X7_goes_20 {d : Nat} {a0 : Nat} {x1 x3 : Int32} {l2 : Option Value} {h : AH} : R_X7_goes d 20 [some (.ref a0), some (.int (x1)), l2, some (.int (x3))] [] h = ((hci h a0).bind (lkN [(18, 182)])).bind fun y => aK (exec tTab d y [.ref a0, .int (x1), .int (x3)] h) (fun v h1 => R_X7_goes d 26 [some (.ref a0), some (.int (x1)), l2, some (.int (x3))] (v.toList ++ []) h1) (fun E h1 => some (.inr E, h1)) := by
  refine (p_aload rfl rfl).trans ?_
  refine (p_iload rfl rfl).trans ?_
  refine (p_iload rfl rfl).trans ?_
  exact s_callV (L := [(18, 182)]) (n := 2) (b := a0) (rest := []) rfl rfl rfl
theorem r_X7_goes_26 {d : Nat} {s0 : Int32} {l0 l1 l2 l3 : Option Value} {h : AH} : R_X7_goes d 26 [l0, l1, l2, l3] [.int (s0)] h = if s0 = 0 then R_X7_goes d 33 [l0, l1, l2, l3] [] h else R_X7_goes d 29 [l0, l1, l2, l3] [] h := (s_if (g := (fun x => decide (x = 0))) (t := 33) (nx := 29) rfl).trans bif_dec
theorem r_X7_goes_29 {d : Nat} {l0 l1 l2 l3 : Option Value} {h : AH} : R_X7_goes d 29 [l0, l1, l2, l3] [] h = some (.inl (some (.int ((nI 1)))), h) := by
  refine (p_const rfl).trans ?_
  refine (p_goto rfl).trans ?_
  exact s_iretT rfl rfl
theorem e_X7_goes {d : Nat} {a0 : Nat} {x1 x2 x3 : Int32} {h : AH} : exec tTab (d + 1) K_X7_goes [.ref a0, .int x1, .int x2, .int x3] h = R_X7_goes d 0 [some (.ref a0), some (.int x1), some (.int x2), some (.int x3)] [] h := exec_eq (cd := k_X7_goes) (hd := (fun _ _ => some none)) (L := 4) rfl rfl rfl
/-- FavourTownModel.can(I)Z -/
abbrev K_X7_can : Nat := 204
noncomputable def R_X7_can (d pc : Nat) (ls : ALs) (st : List Value) (h : AH) : Option (AOut × AH) := aR (exec tTab d) k_X7_can (fun _ _ => some none) (pc, ls, st, h)
theorem r_X7_can_0 {d : Nat} {a0 : Nat} {x1 : Int32} {h : AH} : R_X7_can d 0 [some (.ref a0), some (.int (x1))] [] h = ((hci h a0).bind (lkN [(18, 205)])).bind fun y => aK (exec tTab d y [.ref a0, .int (x1)] h) (fun v h1 => R_X7_can d 6 [some (.ref a0), some (.int (x1))] (v.toList ++ [.ref a0]) h1) (fun E h1 => some (.inr E, h1)) := by
  refine (p_aload rfl rfl).trans ?_
  refine (p_aload rfl rfl).trans ?_
  refine (p_iload rfl rfl).trans ?_
  exact s_callV (L := [(18, 205)]) (n := 1) (b := a0) (rest := [.ref a0]) rfl rfl rfl
theorem r_X7_can_6 {d : Nat} {b0 : Nat} {s1 : Int32} {l0 l1 : Option Value} {h : AH} : R_X7_can d 6 [l0, l1] [.int (s1), .ref b0] h = if ¬ s1 = 0 then R_X7_can d 13 [l0, l1] [.ref b0] h else R_X7_can d 9 [l0, l1] [.ref b0] h := (s_if (g := (fun x => decide (¬ x = 0))) (t := 13) (nx := 9) rfl).trans bif_dec
theorem r_X7_can_13 {d : Nat} {b0 : Nat} {l0 l1 : Option Value} {h : AH} : R_X7_can d 13 [l0, l1] [.ref b0] h = (hpf h [18] b0 0 (.int ((nI 0)))).bind fun h1 => R_X7_can d 17 [l0, l1] [] h1 := by
  refine (p_const rfl).trans ?_
  exact s_putT rfl rfl
theorem r_X7_can_9 {d : Nat} {b0 : Nat} {l0 l1 : Option Value} {h : AH} : R_X7_can d 9 [l0, l1] [.ref b0] h = (hpf h [18] b0 0 (.int ((nI 1)))).bind fun h1 => R_X7_can d 17 [l0, l1] [] h1 := by
  refine (p_const rfl).trans ?_
  refine (p_goto rfl).trans ?_
  exact s_putT rfl rfl
theorem r_X7_can_17 {d : Nat} {a0 : Nat} {l1 : Option Value} {h : AH} : R_X7_can d 17 [some (.ref a0), l1] [] h = (hgf h [18] a0 0).bind fun v => R_X7_can d 21 [some (.ref a0), l1] [v] h := by
  refine (p_aload rfl rfl).trans ?_
  exact s_getf rfl
theorem r_X7_can_21 {d : Nat} {s0 : Int32} {l0 l1 : Option Value} {h : AH} : R_X7_can d 21 [l0, l1] [.int (s0)] h = if s0 ≤ 0 then R_X7_can d 26 [l0, l1] [] h else R_X7_can d 24 [l0, l1] [] h := (s_if (g := (fun x => decide (x ≤ 0))) (t := 26) (nx := 24) rfl).trans bif_dec
theorem r_X7_can_26 {d : Nat} {a0 : Nat} {x1 : Int32} {h : AH} : R_X7_can d 26 [some (.ref a0), some (.int (x1))] [] h = ((hci h a0).bind (lkN [(18, 206)])).bind fun y => aK (exec tTab d y [.ref a0, .int (x1)] h) (fun v h1 => R_X7_can d 31 [some (.ref a0), some (.int (x1))] (v.toList ++ []) h1) (fun E h1 => some (.inr E, h1)) := by
  refine (p_aload rfl rfl).trans ?_
  refine (p_iload rfl rfl).trans ?_
  exact s_callV (L := [(18, 206)]) (n := 1) (b := a0) (rest := []) rfl rfl rfl
theorem r_X7_can_24 {d : Nat} {l0 l1 : Option Value} {h : AH} : R_X7_can d 24 [l0, l1] [] h = some (.inl (some (.int ((nI 0)))), h) := by
  refine (p_const rfl).trans ?_
  exact s_iretT rfl rfl
theorem r_X7_can_31 {d : Nat} {s0 : Int32} {l0 l1 : Option Value} {h : AH} : R_X7_can d 31 [l0, l1] [.int (s0)] h = bif s0 == 0 || s0 == 1 then some (.inl (some (.int (s0))), h) else none := s_iret (ok := (fun x => x == 0 || x == 1)) rfl
theorem e_X7_can {d : Nat} {a0 : Nat} {x1 : Int32} {h : AH} : exec tTab (d + 1) K_X7_can [.ref a0, .int x1] h = R_X7_can d 0 [some (.ref a0), some (.int x1)] [] h := exec_eq (cd := k_X7_can) (hd := (fun _ _ => some none)) (L := 2) rfl rfl rfl
/-- FavourTownModel.isNeed(I)Z -/
abbrev K_X7_isNeed : Nat := 205
noncomputable def R_X7_isNeed (d pc : Nat) (ls : ALs) (st : List Value) (h : AH) : Option (AOut × AH) := aR (exec tTab d) k_X7_isNeed (fun _ _ => some none) (pc, ls, st, h)
theorem r_X7_isNeed_0 {d : Nat} {x1 : Int32} {a0 : Nat} {h : AH} : R_X7_isNeed d 0 [some (.ref a0), some (.int (x1))] [] h = (hgf h [18] a0 1).bind fun v => R_X7_isNeed d 6 [some (.ref a0), some (.int (x1))] [v, .int ((nI 0)), .int (x1)] h := by
  refine (p_iload rfl rfl).trans ?_
  refine (p_const rfl).trans ?_
  refine (p_aload rfl rfl).trans ?_
  exact s_getf rfl
theorem r_X7_isNeed_6 {d : Nat} {s0 s1 : Int32} {b2 : Nat} {l0 l1 : Option Value} {h : AH} : R_X7_isNeed d 6 [l0, l1] [.ref b2, .int (s1), .int (s0)] h = (hai h 0 b2 (nI 4)).bind fun v => R_X7_isNeed d 8 [l0, l1] [.int v, .int (s1), .int (s0)] h := by
  refine (p_const rfl).trans ?_
  exact s_iald rfl
theorem r_X7_isNeed_8 {d : Nat} {s0 s1 s2 : Int32} {l0 l1 : Option Value} {h : AH} : R_X7_isNeed d 8 [l0, l1] [.int (s2), .int (s1), .int (s0)] h = aK (exec tTab d 153 [.int (s0), .int (s1), .int (s2 - (nI 1))] h) (fun v h1 => R_X7_isNeed d 13 [l0, l1] (v.toList ++ []) h1) (fun E h1 => some (.inr E, h1)) := by
  refine (p_const rfl).trans ?_
  refine (p_bin rfl).trans ?_
  exact s_callS (y := 153) (n := 3) rfl rfl
theorem r_X7_isNeed_13 {d : Nat} {s0 : Int32} {l0 l1 : Option Value} {h : AH} : R_X7_isNeed d 13 [l0, l1] [.int (s0)] h = bif s0 == 0 || s0 == 1 then some (.inl (some (.int (s0))), h) else none := s_iret (ok := (fun x => x == 0 || x == 1)) rfl
theorem e_X7_isNeed {d : Nat} {a0 : Nat} {x1 : Int32} {h : AH} : exec tTab (d + 1) K_X7_isNeed [.ref a0, .int x1] h = R_X7_isNeed d 0 [some (.ref a0), some (.int x1)] [] h := exec_eq (cd := k_X7_isNeed) (hd := (fun _ _ => some none)) (L := 2) rfl rfl rfl
/-- FavourTownModel.canNeed(I)Z -/
abbrev K_X7_canNeed : Nat := 206
noncomputable def R_X7_canNeed (d pc : Nat) (ls : ALs) (st : List Value) (h : AH) : Option (AOut × AH) := aR (exec tTab d) k_X7_canNeed (fun _ _ => some none) (pc, ls, st, h)
theorem r_X7_canNeed_0 {d : Nat} {a0 : Nat} {l1 : Option Value} {h : AH} : R_X7_canNeed d 0 [some (.ref a0), l1] [] h = (hgf h [18] a0 1).bind fun v => R_X7_canNeed d 5 [some (.ref a0), l1] [v, .ref a0] h := by
  refine (p_aload rfl rfl).trans ?_
  refine (p_aload rfl rfl).trans ?_
  exact s_getf rfl
theorem r_X7_canNeed_5 {d : Nat} {b0 b1 : Nat} {x1 : Int32} {l0 : Option Value} {h : AH} : R_X7_canNeed d 5 [l0, some (.int (x1))] [.ref b1, .ref b0] h = (hai h 0 b1 ((nI 46) + ((nI 3) * x1))).bind fun v => R_X7_canNeed d 12 [l0, some (.int (x1))] [.int v, .ref b0] h := by
  refine (p_const rfl).trans ?_
  refine (p_const rfl).trans ?_
  refine (p_iload rfl rfl).trans ?_
  refine (p_bin rfl).trans ?_
  refine (p_bin rfl).trans ?_
  exact s_iald rfl
theorem r_X7_canNeed_12 {d : Nat} {b0 a0 : Nat} {s1 : Int32} {l1 : Option Value} {h : AH} : R_X7_canNeed d 12 [some (.ref a0), l1] [.int (s1), .ref b0] h = (hgf h [18] a0 1).bind fun v => R_X7_canNeed d 16 [some (.ref a0), l1] [v, .int (s1), .ref b0] h := by
  refine (p_aload rfl rfl).trans ?_
  exact s_getf rfl
theorem r_X7_canNeed_16 {d : Nat} {b0 b2 : Nat} {s1 x1 : Int32} {l0 : Option Value} {h : AH} : R_X7_canNeed d 16 [l0, some (.int (x1))] [.ref b2, .int (s1), .ref b0] h = (hai h 0 b2 (((nI 46) + ((nI 3) * x1)) + (nI 1))).bind fun v => R_X7_canNeed d 25 [l0, some (.int (x1))] [.int v, .int (s1), .ref b0] h := by
  refine (p_const rfl).trans ?_
  refine (p_const rfl).trans ?_
  refine (p_iload rfl rfl).trans ?_
  refine (p_bin rfl).trans ?_
  refine (p_bin rfl).trans ?_
  refine (p_const rfl).trans ?_
  refine (p_bin rfl).trans ?_
  exact s_iald rfl
theorem r_X7_canNeed_25 {d : Nat} {b0 a0 : Nat} {s1 s2 : Int32} {l1 : Option Value} {h : AH} : R_X7_canNeed d 25 [some (.ref a0), l1] [.int (s2), .int (s1), .ref b0] h = (hgf h [18] a0 1).bind fun v => R_X7_canNeed d 29 [some (.ref a0), l1] [v, .int (s2), .int (s1), .ref b0] h := by
  refine (p_aload rfl rfl).trans ?_
  exact s_getf rfl
theorem r_X7_canNeed_29 {d : Nat} {b0 b3 : Nat} {s1 s2 x1 : Int32} {l0 : Option Value} {h : AH} : R_X7_canNeed d 29 [l0, some (.int (x1))] [.ref b3, .int (s2), .int (s1), .ref b0] h = (hai h 0 b3 (((nI 46) + ((nI 3) * x1)) + (nI 2))).bind fun v => R_X7_canNeed d 38 [l0, some (.int (x1))] [.int v, .int (s2), .int (s1), .ref b0] h := by
  refine (p_const rfl).trans ?_
  refine (p_const rfl).trans ?_
  refine (p_iload rfl rfl).trans ?_
  refine (p_bin rfl).trans ?_
  refine (p_bin rfl).trans ?_
  refine (p_const rfl).trans ?_
  refine (p_bin rfl).trans ?_
  exact s_iald rfl
theorem r_X7_canNeed_38 {d : Nat} {b0 : Nat} {s1 s2 s3 : Int32} {l0 l1 : Option Value} {h : AH} : R_X7_canNeed d 38 [l0, l1] [.int (s3), .int (s2), .int (s1), .ref b0] h = ((hci h b0).bind (lkN [(18, 207)])).bind fun y => aK (exec tTab d y [.ref b0, .int (s1), .int (s2), .int (s3)] h) (fun v h1 => R_X7_canNeed d 41 [l0, l1] (v.toList ++ []) h1) (fun E h1 => some (.inr E, h1)) := s_callV (L := [(18, 207)]) (n := 3) (b := b0) (rest := []) rfl rfl rfl
theorem r_X7_canNeed_41 {d : Nat} {s0 : Int32} {l0 l1 : Option Value} {h : AH} : R_X7_canNeed d 41 [l0, l1] [.int (s0)] h = bif s0 == 0 || s0 == 1 then some (.inl (some (.int (s0))), h) else none := s_iret (ok := (fun x => x == 0 || x == 1)) rfl
theorem e_X7_canNeed {d : Nat} {a0 : Nat} {x1 : Int32} {h : AH} : exec tTab (d + 1) K_X7_canNeed [.ref a0, .int x1] h = R_X7_canNeed d 0 [some (.ref a0), some (.int x1)] [] h := exec_eq (cd := k_X7_canNeed) (hd := (fun _ _ => some none)) (L := 2) rfl rfl rfl
/-- FavourTownModel.canMeet(III)Z -/
abbrev K_X7_canMeet : Nat := 207
noncomputable def R_X7_canMeet (d pc : Nat) (ls : ALs) (st : List Value) (h : AH) : Option (AOut × AH) := aR (exec tTab d) k_X7_canMeet (fun _ _ => some none) (pc, ls, st, h)
theorem r_X7_canMeet_0 {d : Nat} {a0 : Nat} {x1 x2 x3 : Int32} {h : AH} : R_X7_canMeet d 0 [some (.ref a0), some (.int (x1)), some (.int (x2)), some (.int (x3))] [] h = ((hci h a0).bind (lkN [(18, 202)])).bind fun y => aK (exec tTab d y [.ref a0, .int (x1), .int (x2), .int (x3)] h) (fun v h1 => R_X7_canMeet d 7 [some (.ref a0), some (.int (x1)), some (.int (x2)), some (.int (x3))] (v.toList ++ []) h1) (fun E h1 => some (.inr E, h1)) := by
  refine (p_aload rfl rfl).trans ?_
  refine (p_iload rfl rfl).trans ?_
  refine (p_iload rfl rfl).trans ?_
  refine (p_iload rfl rfl).trans ?_
  exact s_callV (L := [(18, 202)]) (n := 3) (b := a0) (rest := []) rfl rfl rfl
theorem r_X7_canMeet_7 {d : Nat} {s0 : Int32} {l0 l1 l2 l3 : Option Value} {h : AH} : R_X7_canMeet d 7 [l0, l1, l2, l3] [.int (s0)] h = if ¬ s0 = (-1) then R_X7_canMeet d 23 [l0, l1, l2, l3] [] h else R_X7_canMeet d 11 [l0, l1, l2, l3] [] h := by
  refine (p_const rfl).trans ?_
  exact (s_icmp (g := (fun x y => decide (¬ x = y))) (t := 23) (nx := 11) rfl).trans bif_dec
theorem r_X7_canMeet_23 {d : Nat} {l0 l1 l2 l3 : Option Value} {h : AH} : R_X7_canMeet d 23 [l0, l1, l2, l3] [] h = some (.inl (some (.int ((nI 1)))), h) := by
  refine (p_const rfl).trans ?_
  refine (p_goto rfl).trans ?_
  exact s_iretT rfl rfl
theorem r_X7_canMeet_11 {d : Nat} {a0 : Nat} {x1 x2 x3 : Int32} {h : AH} : R_X7_canMeet d 11 [some (.ref a0), some (.int (x1)), some (.int (x2)), some (.int (x3))] [] h = ((hci h a0).bind (lkN [(18, 173)])).bind fun y => aK (exec tTab d y [.ref a0, .int (x1), .int (x2), .int (x3), .int ((-1)), .int ((nI 0))] h) (fun v h1 => R_X7_canMeet d 20 [some (.ref a0), some (.int (x1)), some (.int (x2)), some (.int (x3))] (v.toList ++ []) h1) (fun E h1 => some (.inr E, h1)) := by
  refine (p_aload rfl rfl).trans ?_
  refine (p_iload rfl rfl).trans ?_
  refine (p_iload rfl rfl).trans ?_
  refine (p_iload rfl rfl).trans ?_
  refine (p_const rfl).trans ?_
  refine (p_const rfl).trans ?_
  exact s_callV (L := [(18, 173)]) (n := 5) (b := a0) (rest := []) rfl rfl rfl
theorem r_X7_canMeet_20 {d : Nat} {s0 : Int32} {l0 l1 l2 l3 : Option Value} {h : AH} : R_X7_canMeet d 20 [l0, l1, l2, l3] [.int (s0)] h = if s0 = 0 then R_X7_canMeet d 27 [l0, l1, l2, l3] [] h else R_X7_canMeet d 23 [l0, l1, l2, l3] [] h := (s_if (g := (fun x => decide (x = 0))) (t := 27) (nx := 23) rfl).trans bif_dec
theorem r_X7_canMeet_27 {d : Nat} {l0 l1 l2 l3 : Option Value} {h : AH} : R_X7_canMeet d 27 [l0, l1, l2, l3] [] h = some (.inl (some (.int ((nI 0)))), h) := by
  refine (p_const rfl).trans ?_
  exact s_iretT rfl rfl
theorem e_X7_canMeet {d : Nat} {a0 : Nat} {x1 x2 x3 : Int32} {h : AH} : exec tTab (d + 1) K_X7_canMeet [.ref a0, .int x1, .int x2, .int x3] h = R_X7_canMeet d 0 [some (.ref a0), some (.int x1), some (.int x2), some (.int x3)] [] h := exec_eq (cd := k_X7_canMeet) (hd := (fun _ _ => some none)) (L := 4) rfl rfl rfl
/-- FavourTownModel.meet(I)I -/
abbrev K_X7_meet : Nat := 208
noncomputable def R_X7_meet (d pc : Nat) (ls : ALs) (st : List Value) (h : AH) : Option (AOut × AH) := aR (exec tTab d) k_X7_meet (fun _ _ => some none) (pc, ls, st, h)
theorem r_X7_meet_0 {d : Nat} {a0 : Nat} {x1 : Int32} {h : AH} : R_X7_meet d 0 [some (.ref a0), some (.int (x1))] [] h = ((hci h a0).bind (lkN [(18, 205)])).bind fun y => aK (exec tTab d y [.ref a0, .int (x1)] h) (fun v h1 => R_X7_meet d 6 [some (.ref a0), some (.int (x1))] (v.toList ++ [.ref a0]) h1) (fun E h1 => some (.inr E, h1)) := by
  refine (p_aload rfl rfl).trans ?_
  refine (p_aload rfl rfl).trans ?_
  refine (p_iload rfl rfl).trans ?_
  exact s_callV (L := [(18, 205)]) (n := 1) (b := a0) (rest := [.ref a0]) rfl rfl rfl
theorem r_X7_meet_6 {d : Nat} {b0 : Nat} {s1 : Int32} {l0 l1 : Option Value} {h : AH} : R_X7_meet d 6 [l0, l1] [.int (s1), .ref b0] h = if ¬ s1 = 0 then R_X7_meet d 13 [l0, l1] [.ref b0] h else R_X7_meet d 9 [l0, l1] [.ref b0] h := (s_if (g := (fun x => decide (¬ x = 0))) (t := 13) (nx := 9) rfl).trans bif_dec
theorem r_X7_meet_13 {d : Nat} {b0 : Nat} {l0 l1 : Option Value} {h : AH} : R_X7_meet d 13 [l0, l1] [.ref b0] h = (hpf h [18] b0 0 (.int ((nI 0)))).bind fun h1 => R_X7_meet d 17 [l0, l1] [] h1 := by
  refine (p_const rfl).trans ?_
  exact s_putT rfl rfl
theorem r_X7_meet_9 {d : Nat} {b0 : Nat} {l0 l1 : Option Value} {h : AH} : R_X7_meet d 9 [l0, l1] [.ref b0] h = (hpf h [18] b0 0 (.int ((nI 1)))).bind fun h1 => R_X7_meet d 17 [l0, l1] [] h1 := by
  refine (p_const rfl).trans ?_
  refine (p_goto rfl).trans ?_
  exact s_putT rfl rfl
theorem r_X7_meet_17 {d : Nat} {a0 : Nat} {l1 : Option Value} {h : AH} : R_X7_meet d 17 [some (.ref a0), l1] [] h = (hgf h [18] a0 0).bind fun v => R_X7_meet d 21 [some (.ref a0), l1] [v] h := by
  refine (p_aload rfl rfl).trans ?_
  exact s_getf rfl
theorem r_X7_meet_21 {d : Nat} {s0 : Int32} {l0 l1 : Option Value} {h : AH} : R_X7_meet d 21 [l0, l1] [.int (s0)] h = if s0 ≤ 0 then R_X7_meet d 26 [l0, l1] [] h else R_X7_meet d 24 [l0, l1] [] h := (s_if (g := (fun x => decide (x ≤ 0))) (t := 26) (nx := 24) rfl).trans bif_dec
theorem r_X7_meet_26 {d : Nat} {a0 : Nat} {l1 : Option Value} {h : AH} : R_X7_meet d 26 [some (.ref a0), l1] [] h = (hgf h [18] a0 1).bind fun v => R_X7_meet d 31 [some (.ref a0), l1] [v, .ref a0] h := by
  refine (p_aload rfl rfl).trans ?_
  refine (p_aload rfl rfl).trans ?_
  exact s_getf rfl
theorem r_X7_meet_24 {d : Nat} {l0 l1 : Option Value} {h : AH} : R_X7_meet d 24 [l0, l1] [] h = some (.inl (some (.int ((nI 0)))), h) := by
  refine (p_const rfl).trans ?_
  exact s_iretT rfl rfl
theorem r_X7_meet_31 {d : Nat} {b0 b1 : Nat} {x1 : Int32} {l0 : Option Value} {h : AH} : R_X7_meet d 31 [l0, some (.int (x1))] [.ref b1, .ref b0] h = (hai h 0 b1 ((nI 46) + ((nI 3) * x1))).bind fun v => R_X7_meet d 38 [l0, some (.int (x1))] [.int v, .ref b0] h := by
  refine (p_const rfl).trans ?_
  refine (p_const rfl).trans ?_
  refine (p_iload rfl rfl).trans ?_
  refine (p_bin rfl).trans ?_
  refine (p_bin rfl).trans ?_
  exact s_iald rfl
theorem r_X7_meet_38 {d : Nat} {b0 a0 : Nat} {s1 : Int32} {l1 : Option Value} {h : AH} : R_X7_meet d 38 [some (.ref a0), l1] [.int (s1), .ref b0] h = (hgf h [18] a0 1).bind fun v => R_X7_meet d 42 [some (.ref a0), l1] [v, .int (s1), .ref b0] h := by
  refine (p_aload rfl rfl).trans ?_
  exact s_getf rfl
theorem r_X7_meet_42 {d : Nat} {b0 b2 : Nat} {s1 x1 : Int32} {l0 : Option Value} {h : AH} : R_X7_meet d 42 [l0, some (.int (x1))] [.ref b2, .int (s1), .ref b0] h = (hai h 0 b2 (((nI 46) + ((nI 3) * x1)) + (nI 1))).bind fun v => R_X7_meet d 51 [l0, some (.int (x1))] [.int v, .int (s1), .ref b0] h := by
  refine (p_const rfl).trans ?_
  refine (p_const rfl).trans ?_
  refine (p_iload rfl rfl).trans ?_
  refine (p_bin rfl).trans ?_
  refine (p_bin rfl).trans ?_
  refine (p_const rfl).trans ?_
  refine (p_bin rfl).trans ?_
  exact s_iald rfl
theorem r_X7_meet_51 {d : Nat} {b0 a0 : Nat} {s1 s2 : Int32} {l1 : Option Value} {h : AH} : R_X7_meet d 51 [some (.ref a0), l1] [.int (s2), .int (s1), .ref b0] h = (hgf h [18] a0 1).bind fun v => R_X7_meet d 55 [some (.ref a0), l1] [v, .int (s2), .int (s1), .ref b0] h := by
  refine (p_aload rfl rfl).trans ?_
  exact s_getf rfl
theorem r_X7_meet_55 {d : Nat} {b0 b3 : Nat} {s1 s2 x1 : Int32} {l0 : Option Value} {h : AH} : R_X7_meet d 55 [l0, some (.int (x1))] [.ref b3, .int (s2), .int (s1), .ref b0] h = (hai h 0 b3 (((nI 46) + ((nI 3) * x1)) + (nI 2))).bind fun v => R_X7_meet d 64 [l0, some (.int (x1))] [.int v, .int (s2), .int (s1), .ref b0] h := by
  refine (p_const rfl).trans ?_
  refine (p_const rfl).trans ?_
  refine (p_iload rfl rfl).trans ?_
  refine (p_bin rfl).trans ?_
  refine (p_bin rfl).trans ?_
  refine (p_const rfl).trans ?_
  refine (p_bin rfl).trans ?_
  exact s_iald rfl
theorem r_X7_meet_64 {d : Nat} {b0 : Nat} {s1 s2 s3 : Int32} {l0 l1 : Option Value} {h : AH} : R_X7_meet d 64 [l0, l1] [.int (s3), .int (s2), .int (s1), .ref b0] h = ((hci h b0).bind (lkN [(18, 209)])).bind fun y => aK (exec tTab d y [.ref b0, .int (s1), .int (s2), .int (s3)] h) (fun v h1 => R_X7_meet d 67 [l0, l1] (v.toList ++ []) h1) (fun E h1 => some (.inr E, h1)) := s_callV (L := [(18, 209)]) (n := 3) (b := b0) (rest := []) rfl rfl rfl
theorem r_X7_meet_67 {d : Nat} {s0 : Int32} {l0 l1 : Option Value} {h : AH} : R_X7_meet d 67 [l0, l1] [.int (s0)] h = some (.inl (some (.int (s0))), h) := s_iretT rfl rfl
theorem e_X7_meet {d : Nat} {a0 : Nat} {x1 : Int32} {h : AH} : exec tTab (d + 1) K_X7_meet [.ref a0, .int x1] h = R_X7_meet d 0 [some (.ref a0), some (.int x1)] [] h := exec_eq (cd := k_X7_meet) (hd := (fun _ _ => some none)) (L := 2) rfl rfl rfl
/-- FavourTownModel.meets(III)I -/
abbrev K_X7_meets : Nat := 209
noncomputable def R_X7_meets (d pc : Nat) (ls : ALs) (st : List Value) (h : AH) : Option (AOut × AH) := aR (exec tTab d) k_X7_meets (fun _ _ => some none) (pc, ls, st, h)
theorem r_X7_meets_0 {d : Nat} {a0 : Nat} {x1 x2 x3 : Int32} {l4 : Option Value} {h : AH} : R_X7_meets d 0 [some (.ref a0), some (.int (x1)), some (.int (x2)), some (.int (x3)), l4] [] h = ((hci h a0).bind (lkN [(18, 202)])).bind fun y => aK (exec tTab d y [.ref a0, .int (x1), .int (x2), .int (x3)] h) (fun v h1 => R_X7_meets d 7 [some (.ref a0), some (.int (x1)), some (.int (x2)), some (.int (x3)), l4] (v.toList ++ []) h1) (fun E h1 => some (.inr E, h1)) := by
  refine (p_aload rfl rfl).trans ?_
  refine (p_iload rfl rfl).trans ?_
  refine (p_iload rfl rfl).trans ?_
  refine (p_iload rfl rfl).trans ?_
  exact s_callV (L := [(18, 202)]) (n := 3) (b := a0) (rest := []) rfl rfl rfl
theorem r_X7_meets_7 {d : Nat} {s0 : Int32} {a0 : Nat} {l1 l2 l3 l4 : Option Value} {h : AH} : R_X7_meets d 7 [some (.ref a0), l1, l2, l3, l4] [.int (s0)] h = if s0 = (-1) then R_X7_meets d 20 [some (.ref a0), l1, l2, l3, some (.int (s0))] [.ref a0] h else R_X7_meets d 16 [some (.ref a0), l1, l2, l3, some (.int (s0))] [.ref a0] h := by
  refine (p_istore rfl rfl rfl).trans ?_
  refine (p_aload rfl rfl).trans ?_
  refine (p_iload rfl rfl).trans ?_
  refine (p_const rfl).trans ?_
  exact (s_icmp (g := (fun x y => decide (x = y))) (t := 20) (nx := 16) rfl).trans bif_dec
theorem r_X7_meets_20 {d : Nat} {b0 : Nat} {l0 l1 l2 l3 l4 : Option Value} {h : AH} : R_X7_meets d 20 [l0, l1, l2, l3, l4] [.ref b0] h = bif vZ (.int ((nI 0))) then (hpf h [18] b0 26 (.int ((nI 0)))).bind fun h1 => R_X7_meets d 24 [l0, l1, l2, l3, l4] [] h1 else none := by
  refine (p_const rfl).trans ?_
  exact s_putf rfl
theorem r_X7_meets_16 {d : Nat} {b0 : Nat} {l0 l1 l2 l3 l4 : Option Value} {h : AH} : R_X7_meets d 16 [l0, l1, l2, l3, l4] [.ref b0] h = bif vZ (.int ((nI 1))) then (hpf h [18] b0 26 (.int ((nI 1)))).bind fun h1 => R_X7_meets d 24 [l0, l1, l2, l3, l4] [] h1 else none := by
  refine (p_const rfl).trans ?_
  refine (p_goto rfl).trans ?_
  exact s_putf rfl
theorem r_X7_meets_24 {d : Nat} {x4 : Int32} {l0 l1 l2 l3 : Option Value} {h : AH} : R_X7_meets d 24 [l0, l1, l2, l3, some (.int (x4))] [] h = if ¬ x4 = (-1) then R_X7_meets d 40 [l0, l1, l2, l3, some (.int (x4))] [] h else R_X7_meets d 30 [l0, l1, l2, l3, some (.int (x4))] [] h := by
  refine (p_iload rfl rfl).trans ?_
  refine (p_const rfl).trans ?_
  exact (s_icmp (g := (fun x y => decide (¬ x = y))) (t := 40) (nx := 30) rfl).trans bif_dec
theorem r_X7_meets_40 {d : Nat} {a0 : Nat} {x4 x2 : Int32} {l1 l3 : Option Value} {h : AH} : R_X7_meets d 40 [some (.ref a0), l1, some (.int (x2)), l3, some (.int (x4))] [] h = ((hci h a0).bind (lkN [(18, 181)])).bind fun y => aK (exec tTab d y [.ref a0, .int (x4), .int (x2)] h) (fun v h1 => R_X7_meets d 47 [some (.ref a0), l1, some (.int (x2)), l3, some (.int (x4))] (v.toList ++ []) h1) (fun E h1 => some (.inr E, h1)) := by
  refine (p_aload rfl rfl).trans ?_
  refine (p_iload rfl rfl).trans ?_
  refine (p_iload rfl rfl).trans ?_
  exact s_callV (L := [(18, 181)]) (n := 2) (b := a0) (rest := []) rfl rfl rfl
theorem r_X7_meets_30 {d : Nat} {a0 : Nat} {x1 x2 x3 : Int32} {l4 : Option Value} {h : AH} : R_X7_meets d 30 [some (.ref a0), some (.int (x1)), some (.int (x2)), some (.int (x3)), l4] [] h = ((hci h a0).bind (lkN [(18, 172)])).bind fun y => aK (exec tTab d y [.ref a0, .int (x1), .int (x2), .int (x3), .int ((nI 0)), .int ((nI 0))] h) (fun v h1 => R_X7_meets d 39 [some (.ref a0), some (.int (x1)), some (.int (x2)), some (.int (x3)), l4] (v.toList ++ []) h1) (fun E h1 => some (.inr E, h1)) := by
  refine (p_aload rfl rfl).trans ?_
  refine (p_iload rfl rfl).trans ?_
  refine (p_iload rfl rfl).trans ?_
  refine (p_iload rfl rfl).trans ?_
  refine (p_const rfl).trans ?_
  refine (p_const rfl).trans ?_
  exact s_callV (L := [(18, 172)]) (n := 5) (b := a0) (rest := []) rfl rfl rfl
theorem r_X7_meets_47 {d : Nat} {s0 : Int32} {l0 l1 l2 l3 l4 : Option Value} {h : AH} : R_X7_meets d 47 [l0, l1, l2, l3, l4] [.int (s0)] h = if ¬ s0 = (-1) then R_X7_meets d 55 [l0, l1, l2, l3, l4] [] h else R_X7_meets d 51 [l0, l1, l2, l3, l4] [] h := by
  refine (p_const rfl).trans ?_
  exact (s_icmp (g := (fun x y => decide (¬ x = y))) (t := 55) (nx := 51) rfl).trans bif_dec
theorem r_X7_meets_39 {d : Nat} {s0 : Int32} {l0 l1 l2 l3 l4 : Option Value} {h : AH} : R_X7_meets d 39 [l0, l1, l2, l3, l4] [.int (s0)] h = some (.inl (some (.int (s0))), h) := s_iretT rfl rfl
theorem r_X7_meets_55 {d : Nat} {x4 : Int32} {l0 l1 l2 l3 : Option Value} {h : AH} : R_X7_meets d 55 [l0, l1, l2, l3, some (.int (x4))] [] h = some (.inl (some (.int (x4))), h) := by
  refine (p_iload rfl rfl).trans ?_
  exact s_iretT rfl rfl
theorem r_X7_meets_51 {d : Nat} {l0 l1 l2 l3 l4 : Option Value} {h : AH} : R_X7_meets d 51 [l0, l1, l2, l3, l4] [] h = some (.inl (some (.int ((-1)))), h) := by
  refine (p_const rfl).trans ?_
  refine (p_goto rfl).trans ?_
  exact s_iretT rfl rfl
theorem e_X7_meets {d : Nat} {a0 : Nat} {x1 x2 x3 : Int32} {h : AH} : exec tTab (d + 1) K_X7_meets [.ref a0, .int x1, .int x2, .int x3] h = R_X7_meets d 0 [some (.ref a0), some (.int x1), some (.int x2), some (.int x3), none] [] h := exec_eq (cd := k_X7_meets) (hd := (fun _ _ => some none)) (L := 5) rfl rfl rfl
/-- FavourTownModel.enough(I)Z -/
abbrev K_X7_enough : Nat := 210
noncomputable def R_X7_enough (d pc : Nat) (ls : ALs) (st : List Value) (h : AH) : Option (AOut × AH) := aR (exec tTab d) k_X7_enough (fun _ _ => some none) (pc, ls, st, h)
theorem r_X7_enough_0 {d : Nat} {a0 : Nat} {l1 : Option Value} {h : AH} : R_X7_enough d 0 [some (.ref a0), l1] [] h = (hpf h [18] a0 0 (.int ((nI 0)))).bind fun h1 => R_X7_enough d 5 [some (.ref a0), l1] [] h1 := by
  refine (p_aload rfl rfl).trans ?_
  refine (p_const rfl).trans ?_
  exact s_putT rfl rfl
theorem r_X7_enough_5 {d : Nat} {a0 : Nat} {x1 : Int32} {h : AH} : R_X7_enough d 5 [some (.ref a0), some (.int (x1))] [] h = ((hci h a0).bind (lkN [(18, 211)])).bind fun y => aK (exec tTab d y [.ref a0, .int (x1)] h) (fun v h1 => R_X7_enough d 10 [some (.ref a0), some (.int (x1))] (v.toList ++ []) h1) (fun E h1 => some (.inr E, h1)) := by
  refine (p_aload rfl rfl).trans ?_
  refine (p_iload rfl rfl).trans ?_
  exact s_callV (L := [(18, 211)]) (n := 1) (b := a0) (rest := []) rfl rfl rfl
theorem r_X7_enough_10 {d : Nat} {s0 : Int32} {l0 l1 : Option Value} {h : AH} : R_X7_enough d 10 [l0, l1] [.int (s0)] h = if ¬ s0 = (-1) then R_X7_enough d 18 [l0, l1] [] h else R_X7_enough d 14 [l0, l1] [] h := by
  refine (p_const rfl).trans ?_
  exact (s_icmp (g := (fun x y => decide (¬ x = y))) (t := 18) (nx := 14) rfl).trans bif_dec
theorem r_X7_enough_18 {d : Nat} {l0 l1 : Option Value} {h : AH} : R_X7_enough d 18 [l0, l1] [] h = some (.inl (some (.int ((nI 0)))), h) := by
  refine (p_const rfl).trans ?_
  exact s_iretT rfl rfl
theorem r_X7_enough_14 {d : Nat} {l0 l1 : Option Value} {h : AH} : R_X7_enough d 14 [l0, l1] [] h = some (.inl (some (.int ((nI 1)))), h) := by
  refine (p_const rfl).trans ?_
  refine (p_goto rfl).trans ?_
  exact s_iretT rfl rfl
theorem e_X7_enough {d : Nat} {a0 : Nat} {x1 : Int32} {h : AH} : exec tTab (d + 1) K_X7_enough [.ref a0, .int x1] h = R_X7_enough d 0 [some (.ref a0), some (.int x1)] [] h := exec_eq (cd := k_X7_enough) (hd := (fun _ _ => some none)) (L := 2) rfl rfl rfl
/-- FavourTownModel.witnessOf(I)I -/
abbrev K_X7_witnessOf : Nat := 211
noncomputable def R_X7_witnessOf (d pc : Nat) (ls : ALs) (st : List Value) (h : AH) : Option (AOut × AH) := aR (exec tTab d) k_X7_witnessOf (fun _ _ => some none) (pc, ls, st, h)
theorem r_X7_witnessOf_0 {d : Nat} {l0 l1 l2 l3 : Option Value} {h : AH} : R_X7_witnessOf d 0 [l0, l1, l2, l3] [] h = R_X7_witnessOf d 2 [l0, l1, some (.int ((nI 0))), l3] [] h := by
  refine (p_const rfl).trans ?_
  refine (p_istore rfl rfl rfl).trans ?_
  exact rfl
theorem q_X7_witnessOf_2 {d : Nat} {x2 : Int32} {a0 : Nat} {l1 l3 : Option Value} {h : AH} : R_X7_witnessOf d 2 [some (.ref a0), l1, some (.int (x2)), l3] [] h = (hgf h [18] a0 1).bind fun v => R_X7_witnessOf d 7 [some (.ref a0), l1, some (.int (x2)), l3] [v, .int (x2)] h := by
  refine (p_iload rfl rfl).trans ?_
  refine (p_aload rfl rfl).trans ?_
  exact s_getf rfl
theorem r_X7_witnessOf_7 {d : Nat} {s0 : Int32} {b1 : Nat} {l0 l1 l2 l3 : Option Value} {h : AH} : R_X7_witnessOf d 7 [l0, l1, l2, l3] [.ref b1, .int (s0)] h = (hai h 0 b1 (nI 3)).bind fun v => R_X7_witnessOf d 9 [l0, l1, l2, l3] [.int v, .int (s0)] h := by
  refine (p_const rfl).trans ?_
  exact s_iald rfl
theorem r_X7_witnessOf_9 {d : Nat} {s0 s1 : Int32} {l0 l1 l2 l3 : Option Value} {h : AH} : R_X7_witnessOf d 9 [l0, l1, l2, l3] [.int (s1), .int (s0)] h = if s1 ≤ s0 then R_X7_witnessOf d 30 [l0, l1, l2, l3] [] h else R_X7_witnessOf d 12 [l0, l1, l2, l3] [] h := (s_icmp (g := (fun x y => decide (y ≤ x))) (t := 30) (nx := 12) rfl).trans bif_dec
theorem r_X7_witnessOf_30 {d : Nat} {a0 : Nat} {x1 : Int32} {l2 l3 : Option Value} {h : AH} : R_X7_witnessOf d 30 [some (.ref a0), some (.int (x1)), l2, l3] [] h = ((hci h a0).bind (lkN [(18, 212)])).bind fun y => aK (exec tTab d y [.ref a0, .int (x1)] h) (fun v h1 => R_X7_witnessOf d 35 [some (.ref a0), some (.int (x1)), l2, l3] (v.toList ++ []) h1) (fun E h1 => some (.inr E, h1)) := by
  refine (p_aload rfl rfl).trans ?_
  refine (p_iload rfl rfl).trans ?_
  exact s_callV (L := [(18, 212)]) (n := 1) (b := a0) (rest := []) rfl rfl rfl
theorem r_X7_witnessOf_12 {d : Nat} {a0 : Nat} {l1 l2 l3 : Option Value} {h : AH} : R_X7_witnessOf d 12 [some (.ref a0), l1, l2, l3] [] h = (hgf h [18] a0 27).bind fun v => R_X7_witnessOf d 16 [some (.ref a0), l1, l2, l3] [v] h := by
  refine (p_aload rfl rfl).trans ?_
  exact s_getf rfl
theorem r_X7_witnessOf_35 {d : Nat} {s0 : Int32} {l0 l1 l2 l3 : Option Value} {h : AH} : R_X7_witnessOf d 35 [l0, l1, l2, l3] [.int (s0)] h = R_X7_witnessOf d 38 [l0, l1, some (.int ((nI 0))), l3] [] h := by
  refine (p_pop rfl rfl).trans ?_
  refine (p_const rfl).trans ?_
  refine (p_istore rfl rfl rfl).trans ?_
  exact rfl
theorem r_X7_witnessOf_16 {d : Nat} {b0 a0 : Nat} {x2 : Int32} {l1 l3 : Option Value} {h : AH} : R_X7_witnessOf d 16 [some (.ref a0), l1, some (.int (x2)), l3] [.ref b0] h = ((hci h a0).bind (lkN [(18, 175)])).bind fun y => aK (exec tTab d y [.ref a0, .int (x2), .int ((nI 2))] h) (fun v h1 => R_X7_witnessOf d 23 [some (.ref a0), l1, some (.int (x2)), l3] (v.toList ++ [.int (x2), .ref b0]) h1) (fun E h1 => some (.inr E, h1)) := by
  refine (p_iload rfl rfl).trans ?_
  refine (p_aload rfl rfl).trans ?_
  refine (p_iload rfl rfl).trans ?_
  refine (p_const rfl).trans ?_
  exact s_callV (L := [(18, 175)]) (n := 2) (b := a0) (rest := [.int (x2), .ref b0]) rfl rfl rfl
theorem r_X7_witnessOf_16N {d : Nat} {x2 : Int32} {a0 : Nat} {l1 l3 : Option Value} {h : AH} : R_X7_witnessOf d 16 [some (.ref a0), l1, some (.int (x2)), l3] [.null] h = ((hci h a0).bind (lkN [(18, 175)])).bind fun y => aK (exec tTab d y [.ref a0, .int (x2), .int ((nI 2))] h) (fun v h1 => R_X7_witnessOf d 23 [some (.ref a0), l1, some (.int (x2)), l3] (v.toList ++ [.int (x2), .null]) h1) (fun E h1 => some (.inr E, h1)) := by
  refine (p_iload rfl rfl).trans ?_
  refine (p_aload rfl rfl).trans ?_
  refine (p_iload rfl rfl).trans ?_
  refine (p_const rfl).trans ?_
  exact s_callV (L := [(18, 175)]) (n := 2) (b := a0) (rest := [.int (x2), .null]) rfl rfl rfl
theorem q_X7_witnessOf_38 {d : Nat} {x2 : Int32} {a0 : Nat} {l1 l3 : Option Value} {h : AH} : R_X7_witnessOf d 38 [some (.ref a0), l1, some (.int (x2)), l3] [] h = (hgf h [18] a0 1).bind fun v => R_X7_witnessOf d 43 [some (.ref a0), l1, some (.int (x2)), l3] [v, .int (x2)] h := by
  refine (p_iload rfl rfl).trans ?_
  refine (p_aload rfl rfl).trans ?_
  exact s_getf rfl
theorem r_X7_witnessOf_23 {d : Nat} {b0 : Nat} {s1 s2 : Int32} {l0 l1 l2 l3 : Option Value} {h : AH} : R_X7_witnessOf d 23 [l0, l1, l2, l3] [.int (s2), .int (s1), .ref b0] h = (hsi h 0 b0 s1 s2).bind fun h1 => R_X7_witnessOf d 24 [l0, l1, l2, l3] [] h1 := s_iast (t := 0) (nar := (fun y => y)) rfl
theorem r_X7_witnessOf_43 {d : Nat} {s0 : Int32} {b1 : Nat} {l0 l1 l2 l3 : Option Value} {h : AH} : R_X7_witnessOf d 43 [l0, l1, l2, l3] [.ref b1, .int (s0)] h = (hai h 0 b1 (nI 4)).bind fun v => R_X7_witnessOf d 45 [l0, l1, l2, l3] [.int v, .int (s0)] h := by
  refine (p_const rfl).trans ?_
  exact s_iald rfl
theorem r_X7_witnessOf_24 {d : Nat} {x2 : Int32} {l0 l1 l3 : Option Value} {h : AH} : R_X7_witnessOf d 24 [l0, l1, some (.int (x2)), l3] [] h = R_X7_witnessOf d 2 [l0, l1, some (.int (x2 + (nI 1))), l3] [] h := by
  refine (p_iinc rfl rfl rfl).trans ?_
  refine (p_goto rfl).trans ?_
  exact rfl
theorem r_X7_witnessOf_45 {d : Nat} {s0 s1 : Int32} {l0 l1 l2 l3 : Option Value} {h : AH} : R_X7_witnessOf d 45 [l0, l1, l2, l3] [.int (s1), .int (s0)] h = if s1 ≤ s0 then R_X7_witnessOf d 62 [l0, l1, l2, l3] [] h else R_X7_witnessOf d 48 [l0, l1, l2, l3] [] h := (s_icmp (g := (fun x y => decide (y ≤ x))) (t := 62) (nx := 48) rfl).trans bif_dec
theorem r_X7_witnessOf_62 {d : Nat} {l0 l1 l2 l3 : Option Value} {h : AH} : R_X7_witnessOf d 62 [l0, l1, l2, l3] [] h = R_X7_witnessOf d 64 [l0, l1, l2, some (.int ((nI 0)))] [] h := by
  refine (p_const rfl).trans ?_
  refine (p_istore rfl rfl rfl).trans ?_
  exact rfl
theorem r_X7_witnessOf_48 {d : Nat} {a0 : Nat} {x2 : Int32} {l1 l3 : Option Value} {h : AH} : R_X7_witnessOf d 48 [some (.ref a0), l1, some (.int (x2)), l3] [] h = ((hci h a0).bind (lkN [(18, 206)])).bind fun y => aK (exec tTab d y [.ref a0, .int (x2)] h) (fun v h1 => R_X7_witnessOf d 53 [some (.ref a0), l1, some (.int (x2)), l3] (v.toList ++ []) h1) (fun E h1 => some (.inr E, h1)) := by
  refine (p_aload rfl rfl).trans ?_
  refine (p_iload rfl rfl).trans ?_
  exact s_callV (L := [(18, 206)]) (n := 1) (b := a0) (rest := []) rfl rfl rfl
theorem q_X7_witnessOf_64 {d : Nat} {x3 : Int32} {a0 : Nat} {l1 l2 : Option Value} {h : AH} : R_X7_witnessOf d 64 [some (.ref a0), l1, l2, some (.int (x3))] [] h = (hgf h [18] a0 1).bind fun v => R_X7_witnessOf d 69 [some (.ref a0), l1, l2, some (.int (x3))] [v, .int (x3)] h := by
  refine (p_iload rfl rfl).trans ?_
  refine (p_aload rfl rfl).trans ?_
  exact s_getf rfl
theorem r_X7_witnessOf_53 {d : Nat} {s0 : Int32} {l0 l1 l2 l3 : Option Value} {h : AH} : R_X7_witnessOf d 53 [l0, l1, l2, l3] [.int (s0)] h = if s0 = 0 then R_X7_witnessOf d 62 [l0, l1, l2, l3] [] h else R_X7_witnessOf d 56 [l0, l1, l2, l3] [] h := (s_if (g := (fun x => decide (x = 0))) (t := 62) (nx := 56) rfl).trans bif_dec
theorem r_X7_witnessOf_69 {d : Nat} {s0 : Int32} {b1 : Nat} {l0 l1 l2 l3 : Option Value} {h : AH} : R_X7_witnessOf d 69 [l0, l1, l2, l3] [.ref b1, .int (s0)] h = (hai h 0 b1 (nI 3)).bind fun v => R_X7_witnessOf d 71 [l0, l1, l2, l3] [.int v, .int (s0)] h := by
  refine (p_const rfl).trans ?_
  exact s_iald rfl
theorem r_X7_witnessOf_56 {d : Nat} {x2 : Int32} {l0 l1 l3 : Option Value} {h : AH} : R_X7_witnessOf d 56 [l0, l1, some (.int (x2)), l3] [] h = R_X7_witnessOf d 38 [l0, l1, some (.int (x2 + (nI 1))), l3] [] h := by
  refine (p_iinc rfl rfl rfl).trans ?_
  refine (p_goto rfl).trans ?_
  exact rfl
theorem r_X7_witnessOf_71 {d : Nat} {s0 s1 : Int32} {l0 l1 l2 l3 : Option Value} {h : AH} : R_X7_witnessOf d 71 [l0, l1, l2, l3] [.int (s1), .int (s0)] h = if s1 ≤ s0 then R_X7_witnessOf d 92 [l0, l1, l2, l3] [] h else R_X7_witnessOf d 74 [l0, l1, l2, l3] [] h := (s_icmp (g := (fun x y => decide (y ≤ x))) (t := 92) (nx := 74) rfl).trans bif_dec
theorem r_X7_witnessOf_92 {d : Nat} {x2 : Int32} {a0 : Nat} {l1 l3 : Option Value} {h : AH} : R_X7_witnessOf d 92 [some (.ref a0), l1, some (.int (x2)), l3] [] h = (hgf h [18] a0 1).bind fun v => R_X7_witnessOf d 97 [some (.ref a0), l1, some (.int (x2)), l3] [v, .int (x2)] h := by
  refine (p_iload rfl rfl).trans ?_
  refine (p_aload rfl rfl).trans ?_
  exact s_getf rfl
theorem r_X7_witnessOf_74 {d : Nat} {a0 : Nat} {x3 : Int32} {l1 l2 : Option Value} {h : AH} : R_X7_witnessOf d 74 [some (.ref a0), l1, l2, some (.int (x3))] [] h = (hgf h [18] a0 27).bind fun v => R_X7_witnessOf d 81 [some (.ref a0), l1, l2, some (.int (x3))] [v, .int ((nI 2)), .int (x3), .ref a0] h := by
  refine (p_aload rfl rfl).trans ?_
  refine (p_iload rfl rfl).trans ?_
  refine (p_const rfl).trans ?_
  refine (p_aload rfl rfl).trans ?_
  exact s_getf rfl
theorem r_X7_witnessOf_97 {d : Nat} {s0 : Int32} {b1 : Nat} {l0 l1 l2 l3 : Option Value} {h : AH} : R_X7_witnessOf d 97 [l0, l1, l2, l3] [.ref b1, .int (s0)] h = (hai h 0 b1 (nI 4)).bind fun v => R_X7_witnessOf d 99 [l0, l1, l2, l3] [.int v, .int (s0)] h := by
  refine (p_const rfl).trans ?_
  exact s_iald rfl
theorem r_X7_witnessOf_81 {d : Nat} {b0 b3 : Nat} {s1 s2 x3 : Int32} {l0 l1 l2 : Option Value} {h : AH} : R_X7_witnessOf d 81 [l0, l1, l2, some (.int (x3))] [.ref b3, .int (s2), .int (s1), .ref b0] h = (hai h 0 b3 x3).bind fun v => R_X7_witnessOf d 83 [l0, l1, l2, some (.int (x3))] [.int v, .int (s2), .int (s1), .ref b0] h := by
  refine (p_iload rfl rfl).trans ?_
  exact s_iald rfl
theorem r_X7_witnessOf_99 {d : Nat} {s0 s1 : Int32} {l0 l1 l2 l3 : Option Value} {h : AH} : R_X7_witnessOf d 99 [l0, l1, l2, l3] [.int (s1), .int (s0)] h = if s1 ≤ s0 then R_X7_witnessOf d 106 [l0, l1, l2, l3] [] h else R_X7_witnessOf d 102 [l0, l1, l2, l3] [] h := (s_icmp (g := (fun x y => decide (y ≤ x))) (t := 106) (nx := 102) rfl).trans bif_dec
theorem r_X7_witnessOf_83 {d : Nat} {b0 : Nat} {s1 s2 s3 : Int32} {l0 l1 l2 l3 : Option Value} {h : AH} : R_X7_witnessOf d 83 [l0, l1, l2, l3] [.int (s3), .int (s2), .int (s1), .ref b0] h = ((hci h b0).bind (lkN [(18, 180)])).bind fun y => aK (exec tTab d y [.ref b0, .int (s1), .int (s2), .int (s3)] h) (fun v h1 => R_X7_witnessOf d 86 [l0, l1, l2, l3] (v.toList ++ []) h1) (fun E h1 => some (.inr E, h1)) := s_callV (L := [(18, 180)]) (n := 3) (b := b0) (rest := []) rfl rfl rfl
theorem r_X7_witnessOf_106 {d : Nat} {l0 l1 l2 l3 : Option Value} {h : AH} : R_X7_witnessOf d 106 [l0, l1, l2, l3] [] h = some (.inl (some (.int ((-1)))), h) := by
  refine (p_const rfl).trans ?_
  exact s_iretT rfl rfl
theorem r_X7_witnessOf_102 {d : Nat} {x2 : Int32} {l0 l1 l3 : Option Value} {h : AH} : R_X7_witnessOf d 102 [l0, l1, some (.int (x2)), l3] [] h = some (.inl (some (.int (x2))), h) := by
  refine (p_iload rfl rfl).trans ?_
  refine (p_goto rfl).trans ?_
  exact s_iretT rfl rfl
theorem r_X7_witnessOf_86 {d : Nat} {x3 : Int32} {l0 l1 l2 : Option Value} {h : AH} : R_X7_witnessOf d 86 [l0, l1, l2, some (.int (x3))] [] h = R_X7_witnessOf d 64 [l0, l1, l2, some (.int (x3 + (nI 1)))] [] h := by
  refine (p_iinc rfl rfl rfl).trans ?_
  refine (p_goto rfl).trans ?_
  exact rfl
theorem e_X7_witnessOf {d : Nat} {a0 : Nat} {x1 : Int32} {h : AH} : exec tTab (d + 1) K_X7_witnessOf [.ref a0, .int x1] h = R_X7_witnessOf d 0 [some (.ref a0), some (.int x1), none, none] [] h := exec_eq (cd := k_X7_witnessOf) (hd := (fun _ _ => some none)) (L := 4) rfl rfl rfl
/-- FavourTownModel.lets(I)I -/
abbrev K_X7_lets : Nat := 212
noncomputable def R_X7_lets (d pc : Nat) (ls : ALs) (st : List Value) (h : AH) : Option (AOut × AH) := aR (exec tTab d) k_X7_lets (fun _ _ => some none) (pc, ls, st, h)
theorem r_X7_lets_0 {d : Nat} {l0 l1 l2 l3 l4 : Option Value} {h : AH} : R_X7_lets d 0 [l0, l1, l2, l3, l4] [] h = R_X7_lets d 4 [l0, l1, some (.int ((nI 0))), some (.int ((nI 0))), l4] [] h := by
  refine (p_const rfl).trans ?_
  refine (p_istore rfl rfl rfl).trans ?_
  refine (p_const rfl).trans ?_
  refine (p_istore rfl rfl rfl).trans ?_
  exact rfl
theorem q_X7_lets_4 {d : Nat} {x3 : Int32} {a0 : Nat} {l1 l2 l4 : Option Value} {h : AH} : R_X7_lets d 4 [some (.ref a0), l1, l2, some (.int (x3)), l4] [] h = (hgf h [18] a0 1).bind fun v => R_X7_lets d 9 [some (.ref a0), l1, l2, some (.int (x3)), l4] [v, .int (x3)] h := by
  refine (p_iload rfl rfl).trans ?_
  refine (p_aload rfl rfl).trans ?_
  exact s_getf rfl
theorem r_X7_lets_9 {d : Nat} {s0 : Int32} {b1 : Nat} {l0 l1 l2 l3 l4 : Option Value} {h : AH} : R_X7_lets d 9 [l0, l1, l2, l3, l4] [.ref b1, .int (s0)] h = (hai h 0 b1 (nI 3)).bind fun v => R_X7_lets d 11 [l0, l1, l2, l3, l4] [.int v, .int (s0)] h := by
  refine (p_const rfl).trans ?_
  exact s_iald rfl
theorem r_X7_lets_11 {d : Nat} {s0 s1 : Int32} {l0 l1 l2 l3 l4 : Option Value} {h : AH} : R_X7_lets d 11 [l0, l1, l2, l3, l4] [.int (s1), .int (s0)] h = if s1 ≤ s0 then R_X7_lets d 56 [l0, l1, l2, l3, l4] [] h else R_X7_lets d 14 [l0, l1, l2, l3, l4] [] h := (s_icmp (g := (fun x y => decide (y ≤ x))) (t := 56) (nx := 14) rfl).trans bif_dec
theorem r_X7_lets_56 {d : Nat} {x2 : Int32} {l0 l1 l3 l4 : Option Value} {h : AH} : R_X7_lets d 56 [l0, l1, some (.int (x2)), l3, l4] [] h = some (.inl (some (.int (x2))), h) := by
  refine (p_iload rfl rfl).trans ?_
  exact s_iretT rfl rfl
theorem r_X7_lets_14 {d : Nat} {a0 : Nat} {x3 : Int32} {l1 l2 l4 : Option Value} {h : AH} : R_X7_lets d 14 [some (.ref a0), l1, l2, some (.int (x3)), l4] [] h = ((hci h a0).bind (lkN [(18, 175)])).bind fun y => aK (exec tTab d y [.ref a0, .int (x3), .int ((nI 2))] h) (fun v h1 => R_X7_lets d 20 [some (.ref a0), l1, l2, some (.int (x3)), l4] (v.toList ++ []) h1) (fun E h1 => some (.inr E, h1)) := by
  refine (p_aload rfl rfl).trans ?_
  refine (p_iload rfl rfl).trans ?_
  refine (p_const rfl).trans ?_
  exact s_callV (L := [(18, 175)]) (n := 2) (b := a0) (rest := []) rfl rfl rfl
theorem r_X7_lets_20 {d : Nat} {s0 : Int32} {l0 l1 l2 l3 l4 : Option Value} {h : AH} : R_X7_lets d 20 [l0, l1, l2, l3, l4] [.int (s0)] h = if s0 = (-1) then R_X7_lets d 50 [l0, l1, l2, l3, some (.int (s0))] [] h else R_X7_lets d 28 [l0, l1, l2, l3, some (.int (s0))] [] h := by
  refine (p_istore rfl rfl rfl).trans ?_
  refine (p_iload rfl rfl).trans ?_
  refine (p_const rfl).trans ?_
  exact (s_icmp (g := (fun x y => decide (x = y))) (t := 50) (nx := 28) rfl).trans bif_dec
theorem r_X7_lets_50 {d : Nat} {x3 : Int32} {l0 l1 l2 l4 : Option Value} {h : AH} : R_X7_lets d 50 [l0, l1, l2, some (.int (x3)), l4] [] h = R_X7_lets d 4 [l0, l1, l2, some (.int (x3 + (nI 1))), l4] [] h := by
  refine (p_iinc rfl rfl rfl).trans ?_
  refine (p_goto rfl).trans ?_
  exact rfl
theorem r_X7_lets_28 {d : Nat} {x1 x4 : Int32} {l0 l2 l3 : Option Value} {h : AH} : R_X7_lets d 28 [l0, some (.int (x1)), l2, l3, some (.int (x4))] [] h = if ¬ ((x1 >>> (x4 &&& 31)) &&& (nI 1)) = 0 then R_X7_lets d 40 [l0, some (.int (x1)), l2, l3, some (.int (x4))] [] h else R_X7_lets d 37 [l0, some (.int (x1)), l2, l3, some (.int (x4))] [] h := by
  refine (p_iload rfl rfl).trans ?_
  refine (p_iload rfl rfl).trans ?_
  refine (p_bin rfl).trans ?_
  refine (p_const rfl).trans ?_
  refine (p_bin rfl).trans ?_
  exact (s_if (g := (fun x => decide (¬ x = 0))) (t := 40) (nx := 37) rfl).trans bif_dec
theorem r_X7_lets_40 {d : Nat} {a0 : Nat} {x3 : Int32} {l1 l2 l4 : Option Value} {h : AH} : R_X7_lets d 40 [some (.ref a0), l1, l2, some (.int (x3)), l4] [] h = ((hci h a0).bind (lkN [(18, 180)])).bind fun y => aK (exec tTab d y [.ref a0, .int (x3), .int ((nI 2)), .int ((-1))] h) (fun v h1 => R_X7_lets d 47 [some (.ref a0), l1, l2, some (.int (x3)), l4] (v.toList ++ []) h1) (fun E h1 => some (.inr E, h1)) := by
  refine (p_aload rfl rfl).trans ?_
  refine (p_iload rfl rfl).trans ?_
  refine (p_const rfl).trans ?_
  refine (p_const rfl).trans ?_
  exact s_callV (L := [(18, 180)]) (n := 3) (b := a0) (rest := []) rfl rfl rfl
theorem r_X7_lets_37 {d : Nat} {x3 : Int32} {l0 l1 l2 l4 : Option Value} {h : AH} : R_X7_lets d 37 [l0, l1, l2, some (.int (x3)), l4] [] h = R_X7_lets d 4 [l0, l1, l2, some (.int (x3 + (nI 1))), l4] [] h := by
  refine (p_goto rfl).trans ?_
  refine (p_iinc rfl rfl rfl).trans ?_
  refine (p_goto rfl).trans ?_
  exact rfl
theorem r_X7_lets_47 {d : Nat} {x2 x3 : Int32} {l0 l1 l4 : Option Value} {h : AH} : R_X7_lets d 47 [l0, l1, some (.int (x2)), some (.int (x3)), l4] [] h = R_X7_lets d 4 [l0, l1, some (.int (x2 + (nI 1))), some (.int (x3 + (nI 1))), l4] [] h := by
  refine (p_iinc rfl rfl rfl).trans ?_
  refine (p_iinc rfl rfl rfl).trans ?_
  refine (p_goto rfl).trans ?_
  exact rfl
theorem e_X7_lets {d : Nat} {a0 : Nat} {x1 : Int32} {h : AH} : exec tTab (d + 1) K_X7_lets [.ref a0, .int x1] h = R_X7_lets d 0 [some (.ref a0), some (.int x1), none, none, none] [] h := exec_eq (cd := k_X7_lets) (hd := (fun _ _ => some none)) (L := 5) rfl rfl rfl
/-- FavourTownModel.witness(I)I -/
abbrev K_X7_witness : Nat := 213
noncomputable def R_X7_witness (d pc : Nat) (ls : ALs) (st : List Value) (h : AH) : Option (AOut × AH) := aR (exec tTab d) k_X7_witness (fun _ _ => some none) (pc, ls, st, h)
theorem r_X7_witness_0 {d : Nat} {a0 : Nat} {l1 : Option Value} {h : AH} : R_X7_witness d 0 [some (.ref a0), l1] [] h = (hpf h [18] a0 0 (.int ((nI 0)))).bind fun h1 => R_X7_witness d 5 [some (.ref a0), l1] [] h1 := by
  refine (p_aload rfl rfl).trans ?_
  refine (p_const rfl).trans ?_
  exact s_putT rfl rfl
theorem r_X7_witness_5 {d : Nat} {a0 : Nat} {x1 : Int32} {h : AH} : R_X7_witness d 5 [some (.ref a0), some (.int (x1))] [] h = ((hci h a0).bind (lkN [(18, 211)])).bind fun y => aK (exec tTab d y [.ref a0, .int (x1)] h) (fun v h1 => R_X7_witness d 10 [some (.ref a0), some (.int (x1))] (v.toList ++ []) h1) (fun E h1 => some (.inr E, h1)) := by
  refine (p_aload rfl rfl).trans ?_
  refine (p_iload rfl rfl).trans ?_
  exact s_callV (L := [(18, 211)]) (n := 1) (b := a0) (rest := []) rfl rfl rfl
theorem r_X7_witness_10 {d : Nat} {s0 : Int32} {l0 l1 : Option Value} {h : AH} : R_X7_witness d 10 [l0, l1] [.int (s0)] h = some (.inl (some (.int (s0))), h) := s_iretT rfl rfl
theorem e_X7_witness {d : Nat} {a0 : Nat} {x1 : Int32} {h : AH} : exec tTab (d + 1) K_X7_witness [.ref a0, .int x1] h = R_X7_witness d 0 [some (.ref a0), some (.int x1)] [] h := exec_eq (cd := k_X7_witness) (hd := (fun _ _ => some none)) (L := 2) rfl rfl rfl
/-- FavourTownModel.fewest()I -/
abbrev K_X7_fewest : Nat := 214
noncomputable def R_X7_fewest (d pc : Nat) (ls : ALs) (st : List Value) (h : AH) : Option (AOut × AH) := aR (exec tTab d) k_X7_fewest (fun _ _ => some none) (pc, ls, st, h)
theorem r_X7_fewest_0 {d : Nat} {a0 : Nat} {l1 l2 : Option Value} {h : AH} : R_X7_fewest d 0 [some (.ref a0), l1, l2] [] h = (hpf h [18] a0 0 (.int ((nI 0)))).bind fun h1 => R_X7_fewest d 5 [some (.ref a0), l1, l2] [] h1 := by
  refine (p_aload rfl rfl).trans ?_
  refine (p_const rfl).trans ?_
  exact s_putT rfl rfl
theorem r_X7_fewest_5 {d : Nat} {l0 l1 l2 : Option Value} {h : AH} : R_X7_fewest d 5 [l0, l1, l2] [] h = R_X7_fewest d 7 [l0, some (.int ((nI 0))), l2] [] h := by
  refine (p_const rfl).trans ?_
  refine (p_istore rfl rfl rfl).trans ?_
  exact rfl
theorem q_X7_fewest_7 {d : Nat} {x1 : Int32} {a0 : Nat} {l2 : Option Value} {h : AH} : R_X7_fewest d 7 [some (.ref a0), some (.int (x1)), l2] [] h = (hgf h [18] a0 1).bind fun v => R_X7_fewest d 12 [some (.ref a0), some (.int (x1)), l2] [v, .int (x1)] h := by
  refine (p_iload rfl rfl).trans ?_
  refine (p_aload rfl rfl).trans ?_
  exact s_getf rfl
theorem r_X7_fewest_12 {d : Nat} {s0 : Int32} {b1 : Nat} {l0 l1 l2 : Option Value} {h : AH} : R_X7_fewest d 12 [l0, l1, l2] [.ref b1, .int (s0)] h = (hai h 0 b1 (nI 1)).bind fun v => R_X7_fewest d 14 [l0, l1, l2] [.int v, .int (s0)] h := by
  refine (p_const rfl).trans ?_
  exact s_iald rfl
theorem r_X7_fewest_14 {d : Nat} {s0 s1 : Int32} {l0 l1 l2 : Option Value} {h : AH} : R_X7_fewest d 14 [l0, l1, l2] [.int (s1), .int (s0)] h = if s1 < s0 then R_X7_fewest d 62 [l0, l1, l2] [] h else R_X7_fewest d 17 [l0, l1, l2] [] h := (s_icmp (g := (fun x y => decide (y < x))) (t := 62) (nx := 17) rfl).trans bif_dec
theorem r_X7_fewest_62 {d : Nat} {l0 l1 l2 : Option Value} {h : AH} : R_X7_fewest d 62 [l0, l1, l2] [] h = some (.inl (some (.int ((-1)))), h) := by
  refine (p_const rfl).trans ?_
  exact s_iretT rfl rfl
theorem r_X7_fewest_17 {d : Nat} {l0 l1 l2 : Option Value} {h : AH} : R_X7_fewest d 17 [l0, l1, l2] [] h = R_X7_fewest d 19 [l0, l1, some (.int ((nI 0)))] [] h := by
  refine (p_const rfl).trans ?_
  refine (p_istore rfl rfl rfl).trans ?_
  exact rfl
theorem q_X7_fewest_19 {d : Nat} {x2 : Int32} {a0 : Nat} {l1 : Option Value} {h : AH} : R_X7_fewest d 19 [some (.ref a0), l1, some (.int (x2))] [] h = (hgf h [18] a0 1).bind fun v => R_X7_fewest d 25 [some (.ref a0), l1, some (.int (x2))] [v, .int ((nI 1)), .int (x2)] h := by
  refine (p_iload rfl rfl).trans ?_
  refine (p_const rfl).trans ?_
  refine (p_aload rfl rfl).trans ?_
  exact s_getf rfl
theorem r_X7_fewest_25 {d : Nat} {s0 s1 : Int32} {b2 : Nat} {l0 l1 l2 : Option Value} {h : AH} : R_X7_fewest d 25 [l0, l1, l2] [.ref b2, .int (s1), .int (s0)] h = (hai h 0 b2 (nI 1)).bind fun v => R_X7_fewest d 27 [l0, l1, l2] [.int v, .int (s1), .int (s0)] h := by
  refine (p_const rfl).trans ?_
  exact s_iald rfl
theorem r_X7_fewest_27 {d : Nat} {s0 s1 s2 : Int32} {l0 l1 l2 : Option Value} {h : AH} : R_X7_fewest d 27 [l0, l1, l2] [.int (s2), .int (s1), .int (s0)] h = if (s1 <<< (s2 &&& 31)) ≤ s0 then R_X7_fewest d 56 [l0, l1, l2] [] h else R_X7_fewest d 31 [l0, l1, l2] [] h := by
  refine (p_bin rfl).trans ?_
  exact (s_icmp (g := (fun x y => decide (y ≤ x))) (t := 56) (nx := 31) rfl).trans bif_dec
theorem r_X7_fewest_56 {d : Nat} {x1 : Int32} {l0 l2 : Option Value} {h : AH} : R_X7_fewest d 56 [l0, some (.int (x1)), l2] [] h = R_X7_fewest d 7 [l0, some (.int (x1 + (nI 1))), l2] [] h := by
  refine (p_iinc rfl rfl rfl).trans ?_
  refine (p_goto rfl).trans ?_
  exact rfl
theorem r_X7_fewest_31 {d : Nat} {x2 : Int32} {l0 l1 : Option Value} {h : AH} : R_X7_fewest d 31 [l0, l1, some (.int (x2))] [] h = aK (exec tTab d 215 [.int (x2)] h) (fun v h1 => R_X7_fewest d 35 [l0, l1, some (.int (x2))] (v.toList ++ []) h1) (fun E h1 => some (.inr E, h1)) := by
  refine (p_iload rfl rfl).trans ?_
  exact s_callS (y := 215) (n := 1) rfl rfl
theorem r_X7_fewest_35 {d : Nat} {s0 x1 : Int32} {l0 l2 : Option Value} {h : AH} : R_X7_fewest d 35 [l0, some (.int (x1)), l2] [.int (s0)] h = if ¬ s0 = x1 then R_X7_fewest d 50 [l0, some (.int (x1)), l2] [] h else R_X7_fewest d 39 [l0, some (.int (x1)), l2] [] h := by
  refine (p_iload rfl rfl).trans ?_
  exact (s_icmp (g := (fun x y => decide (¬ x = y))) (t := 50) (nx := 39) rfl).trans bif_dec
theorem r_X7_fewest_50 {d : Nat} {x2 : Int32} {l0 l1 : Option Value} {h : AH} : R_X7_fewest d 50 [l0, l1, some (.int (x2))] [] h = R_X7_fewest d 19 [l0, l1, some (.int (x2 + (nI 1)))] [] h := by
  refine (p_iinc rfl rfl rfl).trans ?_
  refine (p_goto rfl).trans ?_
  exact rfl
theorem r_X7_fewest_39 {d : Nat} {a0 : Nat} {x2 : Int32} {l1 : Option Value} {h : AH} : R_X7_fewest d 39 [some (.ref a0), l1, some (.int (x2))] [] h = ((hci h a0).bind (lkN [(18, 211)])).bind fun y => aK (exec tTab d y [.ref a0, .int (x2)] h) (fun v h1 => R_X7_fewest d 44 [some (.ref a0), l1, some (.int (x2))] (v.toList ++ []) h1) (fun E h1 => some (.inr E, h1)) := by
  refine (p_aload rfl rfl).trans ?_
  refine (p_iload rfl rfl).trans ?_
  exact s_callV (L := [(18, 211)]) (n := 1) (b := a0) (rest := []) rfl rfl rfl
theorem r_X7_fewest_44 {d : Nat} {s0 : Int32} {l0 l1 l2 : Option Value} {h : AH} : R_X7_fewest d 44 [l0, l1, l2] [.int (s0)] h = if ¬ s0 = (-1) then R_X7_fewest d 50 [l0, l1, l2] [] h else R_X7_fewest d 48 [l0, l1, l2] [] h := by
  refine (p_const rfl).trans ?_
  exact (s_icmp (g := (fun x y => decide (¬ x = y))) (t := 50) (nx := 48) rfl).trans bif_dec
theorem r_X7_fewest_48 {d : Nat} {x2 : Int32} {l0 l1 : Option Value} {h : AH} : R_X7_fewest d 48 [l0, l1, some (.int (x2))] [] h = some (.inl (some (.int (x2))), h) := by
  refine (p_iload rfl rfl).trans ?_
  exact s_iretT rfl rfl
theorem e_X7_fewest {d : Nat} {a0 : Nat} {h : AH} : exec tTab (d + 1) K_X7_fewest [.ref a0] h = R_X7_fewest d 0 [some (.ref a0), none, none] [] h := exec_eq (cd := k_X7_fewest) (hd := (fun _ _ => some none)) (L := 3) rfl rfl rfl
/-- FavourTownModel.bits(I)I -/
abbrev K_X7_bits : Nat := 215
noncomputable def R_X7_bits (d pc : Nat) (ls : ALs) (st : List Value) (h : AH) : Option (AOut × AH) := aR (exec tTab d) k_X7_bits (fun _ _ => some none) (pc, ls, st, h)
theorem r_X7_bits_0 {d : Nat} {l0 l1 l2 : Option Value} {h : AH} : R_X7_bits d 0 [l0, l1, l2] [] h = R_X7_bits d 4 [l0, some (.int ((nI 0))), some (.int ((nI 0)))] [] h := by
  refine (p_const rfl).trans ?_
  refine (p_istore rfl rfl rfl).trans ?_
  refine (p_const rfl).trans ?_
  refine (p_istore rfl rfl rfl).trans ?_
  exact rfl
theorem q_X7_bits_4 {d : Nat} {x2 : Int32} {l0 l1 : Option Value} {h : AH} : R_X7_bits d 4 [l0, l1, some (.int (x2))] [] h = if (nI 12) ≤ x2 then R_X7_bits d 24 [l0, l1, some (.int (x2))] [] h else R_X7_bits d 10 [l0, l1, some (.int (x2))] [] h := by
  refine (p_iload rfl rfl).trans ?_
  refine (p_const rfl).trans ?_
  exact (s_icmp (g := (fun x y => decide (y ≤ x))) (t := 24) (nx := 10) rfl).trans bif_dec
theorem r_X7_bits_24 {d : Nat} {x1 : Int32} {l0 l2 : Option Value} {h : AH} : R_X7_bits d 24 [l0, some (.int (x1)), l2] [] h = some (.inl (some (.int (x1))), h) := by
  refine (p_iload rfl rfl).trans ?_
  exact s_iretT rfl rfl
theorem r_X7_bits_10 {d : Nat} {x1 x0 x2 : Int32} {h : AH} : R_X7_bits d 10 [some (.int (x0)), some (.int (x1)), some (.int (x2))] [] h = R_X7_bits d 4 [some (.int (x0)), some (.int (x1 + ((x0 >>> (x2 &&& 31)) &&& (nI 1)))), some (.int (x2 + (nI 1)))] [] h := by
  refine (p_iload rfl rfl).trans ?_
  refine (p_iload rfl rfl).trans ?_
  refine (p_iload rfl rfl).trans ?_
  refine (p_bin rfl).trans ?_
  refine (p_const rfl).trans ?_
  refine (p_bin rfl).trans ?_
  refine (p_bin rfl).trans ?_
  refine (p_istore rfl rfl rfl).trans ?_
  refine (p_iinc rfl rfl rfl).trans ?_
  refine (p_goto rfl).trans ?_
  exact rfl
theorem e_X7_bits {d : Nat} {x0 : Int32} {h : AH} : exec tTab (d + 1) K_X7_bits [.int x0] h = R_X7_bits d 0 [some (.int x0), none, none] [] h := exec_eq (cd := k_X7_bits) (hd := (fun _ _ => some none)) (L := 3) rfl rfl rfl
/-- FavourTownModel.forgive(I)I -/
abbrev K_X7_forgive : Nat := 216
noncomputable def R_X7_forgive (d pc : Nat) (ls : ALs) (st : List Value) (h : AH) : Option (AOut × AH) := aR (exec tTab d) k_X7_forgive (fun _ _ => some none) (pc, ls, st, h)
theorem r_X7_forgive_0 {d : Nat} {a0 : Nat} {l1 : Option Value} {h : AH} : R_X7_forgive d 0 [some (.ref a0), l1] [] h = (hpf h [18] a0 0 (.int ((nI 0)))).bind fun h1 => R_X7_forgive d 5 [some (.ref a0), l1] [] h1 := by
  refine (p_aload rfl rfl).trans ?_
  refine (p_const rfl).trans ?_
  exact s_putT rfl rfl
theorem r_X7_forgive_5 {d : Nat} {a0 : Nat} {x1 : Int32} {h : AH} : R_X7_forgive d 5 [some (.ref a0), some (.int (x1))] [] h = ((hci h a0).bind (lkN [(18, 212)])).bind fun y => aK (exec tTab d y [.ref a0, .int (x1)] h) (fun v h1 => R_X7_forgive d 10 [some (.ref a0), some (.int (x1))] (v.toList ++ []) h1) (fun E h1 => some (.inr E, h1)) := by
  refine (p_aload rfl rfl).trans ?_
  refine (p_iload rfl rfl).trans ?_
  exact s_callV (L := [(18, 212)]) (n := 1) (b := a0) (rest := []) rfl rfl rfl
theorem r_X7_forgive_10 {d : Nat} {s0 : Int32} {l0 l1 : Option Value} {h : AH} : R_X7_forgive d 10 [l0, l1] [.int (s0)] h = some (.inl (some (.int (s0))), h) := s_iretT rfl rfl
theorem e_X7_forgive {d : Nat} {a0 : Nat} {x1 : Int32} {h : AH} : exec tTab (d + 1) K_X7_forgive [.ref a0, .int x1] h = R_X7_forgive d 0 [some (.ref a0), some (.int x1)] [] h := exec_eq (cd := k_X7_forgive) (hd := (fun _ _ => some none)) (L := 2) rfl rfl rfl
/-- FavourTownModel.port(II)I -/
abbrev K_X7_port : Nat := 217
noncomputable def R_X7_port (d pc : Nat) (ls : ALs) (st : List Value) (h : AH) : Option (AOut × AH) := aR (exec tTab d) k_X7_port (fun _ _ => some none) (pc, ls, st, h)
theorem r_X7_port_0 {d : Nat} {a0 : Nat} {x1 x2 : Int32} {h : AH} : R_X7_port d 0 [some (.ref a0), some (.int (x1)), some (.int (x2))] [] h = ((hci h a0).bind (lkN [(18, 218)])).bind fun y => aK (exec tTab d y [.ref a0, .int (x1), .int (x2)] h) (fun v h1 => R_X7_port d 7 [some (.ref a0), some (.int (x1)), some (.int (x2))] (v.toList ++ [.ref a0]) h1) (fun E h1 => some (.inr E, h1)) := by
  refine (p_aload rfl rfl).trans ?_
  refine (p_aload rfl rfl).trans ?_
  refine (p_iload rfl rfl).trans ?_
  refine (p_iload rfl rfl).trans ?_
  exact s_callV (L := [(18, 218)]) (n := 2) (b := a0) (rest := [.ref a0]) rfl rfl rfl
theorem r_X7_port_7 {d : Nat} {b0 : Nat} {s1 : Int32} {l0 l1 l2 : Option Value} {h : AH} : R_X7_port d 7 [l0, l1, l2] [.int (s1), .ref b0] h = (hpf h [18] b0 0 (.int (s1))).bind fun h1 => R_X7_port d 10 [l0, l1, l2] [] h1 := s_putT rfl rfl
theorem r_X7_port_10 {d : Nat} {a0 : Nat} {l1 l2 : Option Value} {h : AH} : R_X7_port d 10 [some (.ref a0), l1, l2] [] h = (hgf h [18] a0 0).bind fun v => R_X7_port d 14 [some (.ref a0), l1, l2] [v] h := by
  refine (p_aload rfl rfl).trans ?_
  exact s_getf rfl
theorem r_X7_port_14 {d : Nat} {s0 : Int32} {l0 l1 l2 : Option Value} {h : AH} : R_X7_port d 14 [l0, l1, l2] [.int (s0)] h = if s0 ≤ 0 then R_X7_port d 19 [l0, l1, l2] [] h else R_X7_port d 17 [l0, l1, l2] [] h := (s_if (g := (fun x => decide (x ≤ 0))) (t := 19) (nx := 17) rfl).trans bif_dec
theorem r_X7_port_19 {d : Nat} {a0 : Nat} {x1 x2 : Int32} {h : AH} : R_X7_port d 19 [some (.ref a0), some (.int (x1)), some (.int (x2))] [] h = ((hci h a0).bind (lkN [(18, 219)])).bind fun y => aK (exec tTab d y [.ref a0, .int (x1), .int (x2)] h) (fun v h1 => R_X7_port d 25 [some (.ref a0), some (.int (x1)), some (.int (x2))] (v.toList ++ []) h1) (fun E h1 => some (.inr E, h1)) := by
  refine (p_aload rfl rfl).trans ?_
  refine (p_iload rfl rfl).trans ?_
  refine (p_iload rfl rfl).trans ?_
  exact s_callV (L := [(18, 219)]) (n := 2) (b := a0) (rest := []) rfl rfl rfl
theorem r_X7_port_17 {d : Nat} {l0 l1 l2 : Option Value} {h : AH} : R_X7_port d 17 [l0, l1, l2] [] h = some (.inl (some (.int ((nI 0)))), h) := by
  refine (p_const rfl).trans ?_
  exact s_iretT rfl rfl
theorem r_X7_port_25 {d : Nat} {s0 : Int32} {l0 l1 l2 : Option Value} {h : AH} : R_X7_port d 25 [l0, l1, l2] [.int (s0)] h = some (.inl (some (.int (s0))), h) := s_iretT rfl rfl
theorem e_X7_port {d : Nat} {a0 : Nat} {x1 x2 : Int32} {h : AH} : exec tTab (d + 1) K_X7_port [.ref a0, .int x1, .int x2] h = R_X7_port d 0 [some (.ref a0), some (.int x1), some (.int x2)] [] h := exec_eq (cd := k_X7_port) (hd := (fun _ _ => some none)) (L := 3) rfl rfl rfl
/-- FavourTownModel.twoOf(II)I -/
abbrev K_X7_twoOf : Nat := 218
noncomputable def R_X7_twoOf (d pc : Nat) (ls : ALs) (st : List Value) (h : AH) : Option (AOut × AH) := aR (exec tTab d) k_X7_twoOf (fun _ _ => some none) (pc, ls, st, h)
theorem r_X7_twoOf_0 {d : Nat} {a0 : Nat} {x1 : Int32} {l2 : Option Value} {h : AH} : R_X7_twoOf d 0 [some (.ref a0), some (.int (x1)), l2] [] h = ((hci h a0).bind (lkN [(18, 188)])).bind fun y => aK (exec tTab d y [.ref a0, .int (x1)] h) (fun v h1 => R_X7_twoOf d 5 [some (.ref a0), some (.int (x1)), l2] (v.toList ++ []) h1) (fun E h1 => some (.inr E, h1)) := by
  refine (p_aload rfl rfl).trans ?_
  refine (p_iload rfl rfl).trans ?_
  exact s_callV (L := [(18, 188)]) (n := 1) (b := a0) (rest := []) rfl rfl rfl
theorem r_X7_twoOf_5 {d : Nat} {s0 : Int32} {l0 l1 l2 : Option Value} {h : AH} : R_X7_twoOf d 5 [l0, l1, l2] [.int (s0)] h = if s0 = 0 then R_X7_twoOf d 16 [l0, l1, l2] [] h else R_X7_twoOf d 8 [l0, l1, l2] [] h := (s_if (g := (fun x => decide (x = 0))) (t := 16) (nx := 8) rfl).trans bif_dec
theorem r_X7_twoOf_16 {d : Nat} {l0 l1 l2 : Option Value} {h : AH} : R_X7_twoOf d 16 [l0, l1, l2] [] h = some (.inl (some (.int ((nI 1)))), h) := by
  refine (p_const rfl).trans ?_
  refine (p_goto rfl).trans ?_
  exact s_iretT rfl rfl
theorem r_X7_twoOf_8 {d : Nat} {a0 : Nat} {x2 : Int32} {l1 : Option Value} {h : AH} : R_X7_twoOf d 8 [some (.ref a0), l1, some (.int (x2))] [] h = ((hci h a0).bind (lkN [(18, 188)])).bind fun y => aK (exec tTab d y [.ref a0, .int (x2)] h) (fun v h1 => R_X7_twoOf d 13 [some (.ref a0), l1, some (.int (x2))] (v.toList ++ []) h1) (fun E h1 => some (.inr E, h1)) := by
  refine (p_aload rfl rfl).trans ?_
  refine (p_iload rfl rfl).trans ?_
  exact s_callV (L := [(18, 188)]) (n := 1) (b := a0) (rest := []) rfl rfl rfl
theorem r_X7_twoOf_13 {d : Nat} {s0 : Int32} {l0 l1 l2 : Option Value} {h : AH} : R_X7_twoOf d 13 [l0, l1, l2] [.int (s0)] h = if ¬ s0 = 0 then R_X7_twoOf d 20 [l0, l1, l2] [] h else R_X7_twoOf d 16 [l0, l1, l2] [] h := (s_if (g := (fun x => decide (¬ x = 0))) (t := 20) (nx := 16) rfl).trans bif_dec
theorem r_X7_twoOf_20 {d : Nat} {x1 x2 : Int32} {l0 : Option Value} {h : AH} : R_X7_twoOf d 20 [l0, some (.int (x1)), some (.int (x2))] [] h = if ¬ x1 = x2 then R_X7_twoOf d 29 [l0, some (.int (x1)), some (.int (x2))] [] h else R_X7_twoOf d 25 [l0, some (.int (x1)), some (.int (x2))] [] h := by
  refine (p_iload rfl rfl).trans ?_
  refine (p_iload rfl rfl).trans ?_
  exact (s_icmp (g := (fun x y => decide (¬ x = y))) (t := 29) (nx := 25) rfl).trans bif_dec
theorem r_X7_twoOf_29 {d : Nat} {l0 l1 l2 : Option Value} {h : AH} : R_X7_twoOf d 29 [l0, l1, l2] [] h = some (.inl (some (.int ((nI 0)))), h) := by
  refine (p_const rfl).trans ?_
  exact s_iretT rfl rfl
theorem r_X7_twoOf_25 {d : Nat} {l0 l1 l2 : Option Value} {h : AH} : R_X7_twoOf d 25 [l0, l1, l2] [] h = some (.inl (some (.int ((nI 2)))), h) := by
  refine (p_const rfl).trans ?_
  refine (p_goto rfl).trans ?_
  exact s_iretT rfl rfl
theorem e_X7_twoOf {d : Nat} {a0 : Nat} {x1 x2 : Int32} {h : AH} : exec tTab (d + 1) K_X7_twoOf [.ref a0, .int x1, .int x2] h = R_X7_twoOf d 0 [some (.ref a0), some (.int x1), some (.int x2)] [] h := exec_eq (cd := k_X7_twoOf) (hd := (fun _ _ => some none)) (L := 3) rfl rfl rfl
/-- FavourTownModel.portOf(II)I -/
abbrev K_X7_portOf : Nat := 219
noncomputable def R_X7_portOf (d pc : Nat) (ls : ALs) (st : List Value) (h : AH) : Option (AOut × AH) := aR (exec tTab d) k_X7_portOf (fun _ _ => some none) (pc, ls, st, h)
theorem r_X7_portOf_0 {d : Nat} {l0 l1 l2 l3 l4 : Option Value} {h : AH} : R_X7_portOf d 0 [l0, l1, l2, l3, l4] [] h = R_X7_portOf d 5 [l0, l1, l2, some (.int ((nI 0))), some (.int ((nI 0)))] [] h := by
  refine (p_const rfl).trans ?_
  refine (p_istore rfl rfl rfl).trans ?_
  refine (p_const rfl).trans ?_
  refine (p_istore rfl rfl rfl).trans ?_
  exact rfl
theorem q_X7_portOf_5 {d : Nat} {x4 : Int32} {a0 : Nat} {l1 l2 l3 : Option Value} {h : AH} : R_X7_portOf d 5 [some (.ref a0), l1, l2, l3, some (.int (x4))] [] h = (hgf h [18] a0 1).bind fun v => R_X7_portOf d 11 [some (.ref a0), l1, l2, l3, some (.int (x4))] [v, .int (x4)] h := by
  refine (p_iload rfl rfl).trans ?_
  refine (p_aload rfl rfl).trans ?_
  exact s_getf rfl
theorem r_X7_portOf_11 {d : Nat} {s0 : Int32} {b1 : Nat} {l0 l1 l2 l3 l4 : Option Value} {h : AH} : R_X7_portOf d 11 [l0, l1, l2, l3, l4] [.ref b1, .int (s0)] h = (hai h 0 b1 (nI 3)).bind fun v => R_X7_portOf d 13 [l0, l1, l2, l3, l4] [.int v, .int (s0)] h := by
  refine (p_const rfl).trans ?_
  exact s_iald rfl
theorem r_X7_portOf_13 {d : Nat} {s0 s1 : Int32} {l0 l1 l2 l3 l4 : Option Value} {h : AH} : R_X7_portOf d 13 [l0, l1, l2, l3, l4] [.int (s1), .int (s0)] h = if s1 ≤ s0 then R_X7_portOf d 70 [l0, l1, l2, l3, l4] [] h else R_X7_portOf d 16 [l0, l1, l2, l3, l4] [] h := (s_icmp (g := (fun x y => decide (y ≤ x))) (t := 70) (nx := 16) rfl).trans bif_dec
theorem r_X7_portOf_70 {d : Nat} {x3 : Int32} {l0 l1 l2 l4 : Option Value} {h : AH} : R_X7_portOf d 70 [l0, l1, l2, some (.int (x3)), l4] [] h = some (.inl (some (.int (x3))), h) := by
  refine (p_iload rfl rfl).trans ?_
  exact s_iretT rfl rfl
theorem r_X7_portOf_16 {d : Nat} {a0 : Nat} {x4 : Int32} {l1 l2 l3 : Option Value} {h : AH} : R_X7_portOf d 16 [some (.ref a0), l1, l2, l3, some (.int (x4))] [] h = ((hci h a0).bind (lkN [(18, 175)])).bind fun y => aK (exec tTab d y [.ref a0, .int (x4), .int ((nI 2))] h) (fun v h1 => R_X7_portOf d 23 [some (.ref a0), l1, l2, l3, some (.int (x4))] (v.toList ++ []) h1) (fun E h1 => some (.inr E, h1)) := by
  refine (p_aload rfl rfl).trans ?_
  refine (p_iload rfl rfl).trans ?_
  refine (p_const rfl).trans ?_
  exact s_callV (L := [(18, 175)]) (n := 2) (b := a0) (rest := []) rfl rfl rfl
theorem r_X7_portOf_23 {d : Nat} {s0 x1 : Int32} {l0 l2 l3 l4 : Option Value} {h : AH} : R_X7_portOf d 23 [l0, some (.int (x1)), l2, l3, l4] [.int (s0)] h = if ¬ s0 = x1 then R_X7_portOf d 64 [l0, some (.int (x1)), l2, l3, l4] [] h else R_X7_portOf d 27 [l0, some (.int (x1)), l2, l3, l4] [] h := by
  refine (p_iload rfl rfl).trans ?_
  exact (s_icmp (g := (fun x y => decide (¬ x = y))) (t := 64) (nx := 27) rfl).trans bif_dec
theorem r_X7_portOf_64 {d : Nat} {x4 : Int32} {l0 l1 l2 l3 : Option Value} {h : AH} : R_X7_portOf d 64 [l0, l1, l2, l3, some (.int (x4))] [] h = R_X7_portOf d 5 [l0, l1, l2, l3, some (.int (x4 + (nI 1)))] [] h := by
  refine (p_iinc rfl rfl rfl).trans ?_
  refine (p_goto rfl).trans ?_
  exact rfl
theorem r_X7_portOf_27 {d : Nat} {a0 : Nat} {x4 x1 x2 : Int32} {l3 : Option Value} {h : AH} : R_X7_portOf d 27 [some (.ref a0), some (.int (x1)), some (.int (x2)), l3, some (.int (x4))] [] h = ((hci h a0).bind (lkN [(18, 203)])).bind fun y => aK (exec tTab d y [.ref a0, .int (x4), .int (x1), .int (x2)] h) (fun v h1 => R_X7_portOf d 35 [some (.ref a0), some (.int (x1)), some (.int (x2)), l3, some (.int (x4))] (v.toList ++ []) h1) (fun E h1 => some (.inr E, h1)) := by
  refine (p_aload rfl rfl).trans ?_
  refine (p_iload rfl rfl).trans ?_
  refine (p_iload rfl rfl).trans ?_
  refine (p_iload rfl rfl).trans ?_
  exact s_callV (L := [(18, 203)]) (n := 3) (b := a0) (rest := []) rfl rfl rfl
theorem r_X7_portOf_35 {d : Nat} {s0 : Int32} {l0 l1 l2 l3 l4 : Option Value} {h : AH} : R_X7_portOf d 35 [l0, l1, l2, l3, l4] [.int (s0)] h = if s0 = 0 then R_X7_portOf d 64 [l0, l1, l2, l3, l4] [] h else R_X7_portOf d 38 [l0, l1, l2, l3, l4] [] h := (s_if (g := (fun x => decide (x = 0))) (t := 64) (nx := 38) rfl).trans bif_dec
theorem r_X7_portOf_38 {d : Nat} {x3 x4 : Int32} {a0 : Nat} {l1 l2 : Option Value} {h : AH} : R_X7_portOf d 38 [some (.ref a0), l1, l2, some (.int (x3)), some (.int (x4))] [] h = ((hci h a0).bind (lkN [(18, 175)])).bind fun y => aK (exec tTab d y [.ref a0, .int (x4), .int ((nI 1))] h) (fun v h1 => R_X7_portOf d 46 [some (.ref a0), l1, l2, some (.int (x3)), some (.int (x4))] (v.toList ++ [.int (x3)]) h1) (fun E h1 => some (.inr E, h1)) := by
  refine (p_iload rfl rfl).trans ?_
  refine (p_aload rfl rfl).trans ?_
  refine (p_iload rfl rfl).trans ?_
  refine (p_const rfl).trans ?_
  exact s_callV (L := [(18, 175)]) (n := 2) (b := a0) (rest := [.int (x3)]) rfl rfl rfl
theorem r_X7_portOf_46 {d : Nat} {s0 s1 x4 : Int32} {a0 : Nat} {l1 l2 l3 : Option Value} {h : AH} : R_X7_portOf d 46 [some (.ref a0), l1, l2, l3, some (.int (x4))] [.int (s1), .int (s0)] h = ((hci h a0).bind (lkN [(18, 175)])).bind fun y => aK (exec tTab d y [.ref a0, .int (x4), .int ((nI 3))] h) (fun v h1 => R_X7_portOf d 53 [some (.ref a0), l1, l2, l3, some (.int (x4))] (v.toList ++ [.int (s1), .int (s0)]) h1) (fun E h1 => some (.inr E, h1)) := by
  refine (p_aload rfl rfl).trans ?_
  refine (p_iload rfl rfl).trans ?_
  refine (p_const rfl).trans ?_
  exact s_callV (L := [(18, 175)]) (n := 2) (b := a0) (rest := [.int (s1), .int (s0)]) rfl rfl rfl
theorem r_X7_portOf_53 {d : Nat} {s0 s1 s2 : Int32} {l0 l1 l2 l3 l4 : Option Value} {h : AH} : R_X7_portOf d 53 [l0, l1, l2, l3, l4] [.int (s2), .int (s1), .int (s0)] h = aK (exec tTab d 177 [.int (s1), .int (s2 + (nI 1))] h) (fun v h1 => R_X7_portOf d 58 [l0, l1, l2, l3, l4] (v.toList ++ [.int (s0)]) h1) (fun E h1 => some (.inr E, h1)) := by
  refine (p_const rfl).trans ?_
  refine (p_bin rfl).trans ?_
  exact s_callS (y := 177) (n := 2) rfl rfl
theorem r_X7_portOf_58 {d : Nat} {s0 s1 x4 : Int32} {l0 l1 l2 l3 : Option Value} {h : AH} : R_X7_portOf d 58 [l0, l1, l2, l3, some (.int (x4))] [.int (s1), .int (s0)] h = R_X7_portOf d 5 [l0, l1, l2, some (.int (s0 + (s1 / (nI 1024)))), some (.int (x4 + (nI 1)))] [] h := by
  refine (p_const rfl).trans ?_
  refine (p_divC rfl (by decide)).trans ?_
  refine (p_bin rfl).trans ?_
  refine (p_istore rfl rfl rfl).trans ?_
  refine (p_iinc rfl rfl rfl).trans ?_
  refine (p_goto rfl).trans ?_
  exact rfl
theorem e_X7_portOf {d : Nat} {a0 : Nat} {x1 x2 : Int32} {h : AH} : exec tTab (d + 1) K_X7_portOf [.ref a0, .int x1, .int x2] h = R_X7_portOf d 0 [some (.ref a0), some (.int x1), some (.int x2), none, none] [] h := exec_eq (cd := k_X7_portOf) (hd := (fun _ _ => some none)) (L := 5) rfl rfl rfl
/-- FavourTownModel.most(II)I -/
abbrev K_X7_most : Nat := 220
noncomputable def R_X7_most (d pc : Nat) (ls : ALs) (st : List Value) (h : AH) : Option (AOut × AH) := aR (exec tTab d) k_X7_most (fun _ _ => some none) (pc, ls, st, h)
theorem r_X7_most_0 {d : Nat} {a0 : Nat} {x1 x2 : Int32} {h : AH} : R_X7_most d 0 [some (.ref a0), some (.int (x1)), some (.int (x2))] [] h = ((hci h a0).bind (lkN [(18, 218)])).bind fun y => aK (exec tTab d y [.ref a0, .int (x1), .int (x2)] h) (fun v h1 => R_X7_most d 7 [some (.ref a0), some (.int (x1)), some (.int (x2))] (v.toList ++ [.ref a0]) h1) (fun E h1 => some (.inr E, h1)) := by
  refine (p_aload rfl rfl).trans ?_
  refine (p_aload rfl rfl).trans ?_
  refine (p_iload rfl rfl).trans ?_
  refine (p_iload rfl rfl).trans ?_
  exact s_callV (L := [(18, 218)]) (n := 2) (b := a0) (rest := [.ref a0]) rfl rfl rfl
theorem r_X7_most_7 {d : Nat} {b0 : Nat} {s1 : Int32} {l0 l1 l2 : Option Value} {h : AH} : R_X7_most d 7 [l0, l1, l2] [.int (s1), .ref b0] h = (hpf h [18] b0 0 (.int (s1))).bind fun h1 => R_X7_most d 10 [l0, l1, l2] [] h1 := s_putT rfl rfl
theorem r_X7_most_10 {d : Nat} {a0 : Nat} {l1 l2 : Option Value} {h : AH} : R_X7_most d 10 [some (.ref a0), l1, l2] [] h = (hgf h [18] a0 0).bind fun v => R_X7_most d 14 [some (.ref a0), l1, l2] [v] h := by
  refine (p_aload rfl rfl).trans ?_
  exact s_getf rfl
theorem r_X7_most_14 {d : Nat} {s0 : Int32} {l0 l1 l2 : Option Value} {h : AH} : R_X7_most d 14 [l0, l1, l2] [.int (s0)] h = if s0 ≤ 0 then R_X7_most d 19 [l0, l1, l2] [] h else R_X7_most d 17 [l0, l1, l2] [] h := (s_if (g := (fun x => decide (x ≤ 0))) (t := 19) (nx := 17) rfl).trans bif_dec
theorem r_X7_most_19 {d : Nat} {a0 : Nat} {x1 x2 : Int32} {h : AH} : R_X7_most d 19 [some (.ref a0), some (.int (x1)), some (.int (x2))] [] h = ((hci h a0).bind (lkN [(18, 221)])).bind fun y => aK (exec tTab d y [.ref a0, .int (x1), .int (x2)] h) (fun v h1 => R_X7_most d 25 [some (.ref a0), some (.int (x1)), some (.int (x2))] (v.toList ++ []) h1) (fun E h1 => some (.inr E, h1)) := by
  refine (p_aload rfl rfl).trans ?_
  refine (p_iload rfl rfl).trans ?_
  refine (p_iload rfl rfl).trans ?_
  exact s_callV (L := [(18, 221)]) (n := 2) (b := a0) (rest := []) rfl rfl rfl
theorem r_X7_most_17 {d : Nat} {l0 l1 l2 : Option Value} {h : AH} : R_X7_most d 17 [l0, l1, l2] [] h = some (.inl (some (.int ((nI 0)))), h) := by
  refine (p_const rfl).trans ?_
  exact s_iretT rfl rfl
theorem r_X7_most_25 {d : Nat} {s0 : Int32} {l0 l1 l2 : Option Value} {h : AH} : R_X7_most d 25 [l0, l1, l2] [.int (s0)] h = some (.inl (some (.int (s0))), h) := s_iretT rfl rfl
theorem e_X7_most {d : Nat} {a0 : Nat} {x1 x2 : Int32} {h : AH} : exec tTab (d + 1) K_X7_most [.ref a0, .int x1, .int x2] h = R_X7_most d 0 [some (.ref a0), some (.int x1), some (.int x2)] [] h := exec_eq (cd := k_X7_most) (hd := (fun _ _ => some none)) (L := 3) rfl rfl rfl
/-- FavourTownModel.flows(II)I -/
abbrev K_X7_flows : Nat := 221
noncomputable def R_X7_flows (d pc : Nat) (ls : ALs) (st : List Value) (h : AH) : Option (AOut × AH) := aR (exec tTab d) k_X7_flows (fun _ _ => some none) (pc, ls, st, h)
theorem r_X7_flows_0 {d : Nat} {a0 : Nat} {l1 l2 l3 l4 l5 : Option Value} {h : AH} : R_X7_flows d 0 [some (.ref a0), l1, l2, l3, l4, l5] [] h = ((hci h a0).bind (lkN [(18, 222)])).bind fun y => aK (exec tTab d y [.ref a0] h) (fun v h1 => R_X7_flows d 4 [some (.ref a0), l1, l2, l3, l4, l5] (v.toList ++ []) h1) (fun E h1 => some (.inr E, h1)) := by
  refine (p_aload rfl rfl).trans ?_
  exact s_callV (L := [(18, 222)]) (n := 0) (b := a0) (rest := []) rfl rfl rfl
theorem r_X7_flows_4 {d : Nat} {l0 l1 l2 l3 l4 l5 : Option Value} {h : AH} : R_X7_flows d 4 [l0, l1, l2, l3, l4, l5] [] h = R_X7_flows d 6 [l0, l1, l2, some (.int ((nI 0))), l4, l5] [] h := by
  refine (p_const rfl).trans ?_
  refine (p_istore rfl rfl rfl).trans ?_
  exact rfl
theorem q_X7_flows_6 {d : Nat} {a0 : Nat} {x1 : Int32} {l2 l3 l4 l5 : Option Value} {h : AH} : R_X7_flows d 6 [some (.ref a0), some (.int (x1)), l2, l3, l4, l5] [] h = ((hci h a0).bind (lkN [(18, 223)])).bind fun y => aK (exec tTab d y [.ref a0, .int (x1)] h) (fun v h1 => R_X7_flows d 11 [some (.ref a0), some (.int (x1)), l2, l3, l4, l5] (v.toList ++ []) h1) (fun E h1 => some (.inr E, h1)) := by
  refine (p_aload rfl rfl).trans ?_
  refine (p_iload rfl rfl).trans ?_
  exact s_callV (L := [(18, 223)]) (n := 1) (b := a0) (rest := []) rfl rfl rfl
theorem r_X7_flows_11 {d : Nat} {s0 x2 : Int32} {l0 l1 l3 l4 l5 : Option Value} {h : AH} : R_X7_flows d 11 [l0, l1, some (.int (x2)), l3, l4, l5] [.int (s0)] h = if ¬ ((s0 >>> (x2 &&& 31)) &&& (nI 1)) = (nI 1) then R_X7_flows d 181 [l0, l1, some (.int (x2)), l3, l4, l5] [] h else R_X7_flows d 19 [l0, l1, some (.int (x2)), l3, l4, l5] [] h := by
  refine (p_iload rfl rfl).trans ?_
  refine (p_bin rfl).trans ?_
  refine (p_const rfl).trans ?_
  refine (p_bin rfl).trans ?_
  refine (p_const rfl).trans ?_
  exact (s_icmp (g := (fun x y => decide (¬ x = y))) (t := 181) (nx := 19) rfl).trans bif_dec
theorem r_X7_flows_181 {d : Nat} {x3 : Int32} {l0 l1 l2 l4 l5 : Option Value} {h : AH} : R_X7_flows d 181 [l0, l1, l2, some (.int (x3)), l4, l5] [] h = some (.inl (some (.int (x3))), h) := by
  refine (p_iload rfl rfl).trans ?_
  exact s_iretT rfl rfl
theorem r_X7_flows_19 {d : Nat} {a0 : Nat} {l1 l2 l3 l4 l5 : Option Value} {h : AH} : R_X7_flows d 19 [some (.ref a0), l1, l2, l3, l4, l5] [] h = (hgf h [18] a0 18).bind fun v => R_X7_flows d 23 [some (.ref a0), l1, l2, l3, l4, l5] [v] h := by
  refine (p_aload rfl rfl).trans ?_
  exact s_getf rfl
theorem r_X7_flows_23 {d : Nat} {b0 a0 : Nat} {l1 l2 l3 l4 l5 : Option Value} {h : AH} : R_X7_flows d 23 [some (.ref a0), l1, l2, l3, l4, l5] [.ref b0] h = (hgf h [18] a0 19).bind fun v => R_X7_flows d 29 [some (.ref a0), l1, l2, l3, l4, l5] [v, .int ((nI 12)), .ref b0] h := by
  refine (p_const rfl).trans ?_
  refine (p_aload rfl rfl).trans ?_
  exact s_getf rfl
theorem r_X7_flows_23N {d : Nat} {a0 : Nat} {l1 l2 l3 l4 l5 : Option Value} {h : AH} : R_X7_flows d 23 [some (.ref a0), l1, l2, l3, l4, l5] [.null] h = (hgf h [18] a0 19).bind fun v => R_X7_flows d 29 [some (.ref a0), l1, l2, l3, l4, l5] [v, .int ((nI 12)), .null] h := by
  refine (p_const rfl).trans ?_
  refine (p_aload rfl rfl).trans ?_
  exact s_getf rfl
theorem r_X7_flows_29 {d : Nat} {b0 b2 : Nat} {s1 x2 : Int32} {l0 l1 l3 l4 l5 : Option Value} {h : AH} : R_X7_flows d 29 [l0, l1, some (.int (x2)), l3, l4, l5] [.ref b2, .int (s1), .ref b0] h = (hai h 0 b2 x2).bind fun v => R_X7_flows d 31 [l0, l1, some (.int (x2)), l3, l4, l5] [.int v, .int (s1), .ref b0] h := by
  refine (p_iload rfl rfl).trans ?_
  exact s_iald rfl
theorem r_X7_flows_31 {d : Nat} {b0 : Nat} {s1 s2 x2 : Int32} {l0 l1 l3 l4 l5 : Option Value} {h : AH} : R_X7_flows d 31 [l0, l1, some (.int (x2)), l3, l4, l5] [.int (s2), .int (s1), .ref b0] h = (hai h 0 b0 ((s1 * s2) + x2)).bind fun v => R_X7_flows d 35 [l0, l1, some (.int (x2)), l3, l4, l5] [.int v] h := by
  refine (p_bin rfl).trans ?_
  refine (p_iload rfl rfl).trans ?_
  refine (p_bin rfl).trans ?_
  exact s_iald rfl
theorem r_X7_flows_35 {d : Nat} {s0 x2 : Int32} {l0 l1 l3 l4 l5 : Option Value} {h : AH} : R_X7_flows d 35 [l0, l1, some (.int (x2)), l3, l4, l5] [.int (s0)] h = R_X7_flows d 40 [l0, l1, some (.int (x2)), l3, some (.int (s0)), some (.int (x2))] [] h := by
  refine (p_istore rfl rfl rfl).trans ?_
  refine (p_iload rfl rfl).trans ?_
  refine (p_istore rfl rfl rfl).trans ?_
  exact rfl
theorem q_X7_flows_40 {d : Nat} {x5 x1 : Int32} {l0 l2 l3 l4 : Option Value} {h : AH} : R_X7_flows d 40 [l0, some (.int (x1)), l2, l3, l4, some (.int (x5))] [] h = if x5 = x1 then R_X7_flows d 106 [l0, some (.int (x1)), l2, l3, l4, some (.int (x5))] [] h else R_X7_flows d 46 [l0, some (.int (x1)), l2, l3, l4, some (.int (x5))] [] h := by
  refine (p_iload rfl rfl).trans ?_
  refine (p_iload rfl rfl).trans ?_
  exact (s_icmp (g := (fun x y => decide (x = y))) (t := 106) (nx := 46) rfl).trans bif_dec
theorem r_X7_flows_106 {d : Nat} {x2 : Int32} {l0 l1 l3 l4 l5 : Option Value} {h : AH} : R_X7_flows d 106 [l0, l1, some (.int (x2)), l3, l4, l5] [] h = R_X7_flows d 109 [l0, l1, some (.int (x2)), l3, l4, some (.int (x2))] [] h := by
  refine (p_iload rfl rfl).trans ?_
  refine (p_istore rfl rfl rfl).trans ?_
  exact rfl
theorem r_X7_flows_46 {d : Nat} {a0 : Nat} {l1 l2 l3 l4 l5 : Option Value} {h : AH} : R_X7_flows d 46 [some (.ref a0), l1, l2, l3, l4, l5] [] h = (hgf h [18] a0 18).bind fun v => R_X7_flows d 50 [some (.ref a0), l1, l2, l3, l4, l5] [v] h := by
  refine (p_aload rfl rfl).trans ?_
  exact s_getf rfl
theorem q_X7_flows_109 {d : Nat} {x5 x1 : Int32} {l0 l2 l3 l4 : Option Value} {h : AH} : R_X7_flows d 109 [l0, some (.int (x1)), l2, l3, l4, some (.int (x5))] [] h = if x5 = x1 then R_X7_flows d 173 [l0, some (.int (x1)), l2, l3, l4, some (.int (x5))] [] h else R_X7_flows d 115 [l0, some (.int (x1)), l2, l3, l4, some (.int (x5))] [] h := by
  refine (p_iload rfl rfl).trans ?_
  refine (p_iload rfl rfl).trans ?_
  exact (s_icmp (g := (fun x y => decide (x = y))) (t := 173) (nx := 115) rfl).trans bif_dec
theorem r_X7_flows_50 {d : Nat} {b0 a0 : Nat} {l1 l2 l3 l4 l5 : Option Value} {h : AH} : R_X7_flows d 50 [some (.ref a0), l1, l2, l3, l4, l5] [.ref b0] h = (hgf h [18] a0 19).bind fun v => R_X7_flows d 56 [some (.ref a0), l1, l2, l3, l4, l5] [v, .int ((nI 12)), .ref b0] h := by
  refine (p_const rfl).trans ?_
  refine (p_aload rfl rfl).trans ?_
  exact s_getf rfl
theorem r_X7_flows_50N {d : Nat} {a0 : Nat} {l1 l2 l3 l4 l5 : Option Value} {h : AH} : R_X7_flows d 50 [some (.ref a0), l1, l2, l3, l4, l5] [.null] h = (hgf h [18] a0 19).bind fun v => R_X7_flows d 56 [some (.ref a0), l1, l2, l3, l4, l5] [v, .int ((nI 12)), .null] h := by
  refine (p_const rfl).trans ?_
  refine (p_aload rfl rfl).trans ?_
  exact s_getf rfl
theorem r_X7_flows_173 {d : Nat} {x3 x4 : Int32} {l0 l1 l2 l5 : Option Value} {h : AH} : R_X7_flows d 173 [l0, l1, l2, some (.int (x3)), some (.int (x4)), l5] [] h = R_X7_flows d 6 [l0, l1, l2, some (.int (x3 + x4)), some (.int (x4)), l5] [] h := by
  refine (p_iload rfl rfl).trans ?_
  refine (p_iload rfl rfl).trans ?_
  refine (p_bin rfl).trans ?_
  refine (p_istore rfl rfl rfl).trans ?_
  refine (p_goto rfl).trans ?_
  exact rfl
theorem r_X7_flows_115 {d : Nat} {a0 : Nat} {l1 l2 l3 l4 l5 : Option Value} {h : AH} : R_X7_flows d 115 [some (.ref a0), l1, l2, l3, l4, l5] [] h = (hgf h [18] a0 18).bind fun v => R_X7_flows d 119 [some (.ref a0), l1, l2, l3, l4, l5] [v] h := by
  refine (p_aload rfl rfl).trans ?_
  exact s_getf rfl
theorem r_X7_flows_56 {d : Nat} {b0 b2 : Nat} {s1 x5 : Int32} {l0 l1 l2 l3 l4 : Option Value} {h : AH} : R_X7_flows d 56 [l0, l1, l2, l3, l4, some (.int (x5))] [.ref b2, .int (s1), .ref b0] h = (hai h 0 b2 x5).bind fun v => R_X7_flows d 59 [l0, l1, l2, l3, l4, some (.int (x5))] [.int v, .int (s1), .ref b0] h := by
  refine (p_iload rfl rfl).trans ?_
  exact s_iald rfl
theorem r_X7_flows_119 {d : Nat} {b0 a0 : Nat} {l1 l2 l3 l4 l5 : Option Value} {h : AH} : R_X7_flows d 119 [some (.ref a0), l1, l2, l3, l4, l5] [.ref b0] h = (hgf h [18] a0 19).bind fun v => R_X7_flows d 125 [some (.ref a0), l1, l2, l3, l4, l5] [v, .int ((nI 12)), .ref b0] h := by
  refine (p_const rfl).trans ?_
  refine (p_aload rfl rfl).trans ?_
  exact s_getf rfl
theorem r_X7_flows_119N {d : Nat} {a0 : Nat} {l1 l2 l3 l4 l5 : Option Value} {h : AH} : R_X7_flows d 119 [some (.ref a0), l1, l2, l3, l4, l5] [.null] h = (hgf h [18] a0 19).bind fun v => R_X7_flows d 125 [some (.ref a0), l1, l2, l3, l4, l5] [v, .int ((nI 12)), .null] h := by
  refine (p_const rfl).trans ?_
  refine (p_aload rfl rfl).trans ?_
  exact s_getf rfl
theorem r_X7_flows_59 {d : Nat} {b0 : Nat} {s1 s2 x5 : Int32} {l0 l1 l2 l3 l4 : Option Value} {h : AH} : R_X7_flows d 59 [l0, l1, l2, l3, l4, some (.int (x5))] [.int (s2), .int (s1), .ref b0] h = (hai h 0 b0 ((s1 * s2) + x5)).bind fun v => R_X7_flows d 64 [l0, l1, l2, l3, l4, some (.int (x5))] [.int v] h := by
  refine (p_bin rfl).trans ?_
  refine (p_iload rfl rfl).trans ?_
  refine (p_bin rfl).trans ?_
  exact s_iald rfl
theorem r_X7_flows_125 {d : Nat} {b0 b2 : Nat} {s1 x5 : Int32} {l0 l1 l2 l3 l4 : Option Value} {h : AH} : R_X7_flows d 125 [l0, l1, l2, l3, l4, some (.int (x5))] [.ref b2, .int (s1), .ref b0] h = (hai h 0 b2 x5).bind fun v => R_X7_flows d 128 [l0, l1, l2, l3, l4, some (.int (x5))] [.int v, .int (s1), .ref b0] h := by
  refine (p_iload rfl rfl).trans ?_
  exact s_iald rfl
theorem r_X7_flows_64 {d : Nat} {s0 x4 : Int32} {l0 l1 l2 l3 l5 : Option Value} {h : AH} : R_X7_flows d 64 [l0, l1, l2, l3, some (.int (x4)), l5] [.int (s0)] h = if x4 ≤ s0 then R_X7_flows d 90 [l0, l1, l2, l3, some (.int (x4)), l5] [] h else R_X7_flows d 69 [l0, l1, l2, l3, some (.int (x4)), l5] [] h := by
  refine (p_iload rfl rfl).trans ?_
  exact (s_icmp (g := (fun x y => decide (y ≤ x))) (t := 90) (nx := 69) rfl).trans bif_dec
theorem r_X7_flows_128 {d : Nat} {b0 : Nat} {s1 s2 x5 : Int32} {l0 l1 l2 l3 l4 : Option Value} {h : AH} : R_X7_flows d 128 [l0, l1, l2, l3, l4, some (.int (x5))] [.int (s2), .int (s1), .ref b0] h = (hai h 0 b0 ((s1 * s2) + x5)).bind fun v => R_X7_flows d 134 [l0, l1, l2, l3, l4, some (.int (x5))] [.int v, .int ((s1 * s2) + x5), .ref b0] h := by
  refine (p_bin rfl).trans ?_
  refine (p_iload rfl rfl).trans ?_
  refine (p_bin rfl).trans ?_
  refine (p_dup2 rfl rfl).trans ?_
  exact s_iald rfl
theorem r_X7_flows_90 {d : Nat} {x4 : Int32} {a0 : Nat} {l1 l2 l3 l5 : Option Value} {h : AH} : R_X7_flows d 90 [some (.ref a0), l1, l2, l3, some (.int (x4)), l5] [] h = (hgf h [18] a0 19).bind fun v => R_X7_flows d 98 [some (.ref a0), l1, l2, l3, some (.int (x4)), l5] [v] h := by
  refine (p_iload rfl rfl).trans ?_
  refine (p_istore rfl rfl rfl).trans ?_
  refine (p_aload rfl rfl).trans ?_
  exact s_getf rfl
theorem r_X7_flows_69 {d : Nat} {a0 : Nat} {l1 l2 l3 l4 l5 : Option Value} {h : AH} : R_X7_flows d 69 [some (.ref a0), l1, l2, l3, l4, l5] [] h = (hgf h [18] a0 18).bind fun v => R_X7_flows d 73 [some (.ref a0), l1, l2, l3, l4, l5] [v] h := by
  refine (p_aload rfl rfl).trans ?_
  exact s_getf rfl
theorem r_X7_flows_134 {d : Nat} {b0 : Nat} {s1 s2 x4 : Int32} {l0 l1 l2 l3 l5 : Option Value} {h : AH} : R_X7_flows d 134 [l0, l1, l2, l3, some (.int (x4)), l5] [.int (s2), .int (s1), .ref b0] h = (hsi h 0 b0 s1 (s2 - x4)).bind fun h1 => R_X7_flows d 138 [l0, l1, l2, l3, some (.int (x4)), l5] [] h1 := by
  refine (p_iload rfl rfl).trans ?_
  refine (p_bin rfl).trans ?_
  exact s_iast (t := 0) (nar := (fun y => y)) rfl
theorem r_X7_flows_98 {d : Nat} {b0 : Nat} {x5 : Int32} {l0 l1 l2 l3 l4 : Option Value} {h : AH} : R_X7_flows d 98 [l0, l1, l2, l3, l4, some (.int (x5))] [.ref b0] h = (hai h 0 b0 x5).bind fun v => R_X7_flows d 101 [l0, l1, l2, l3, l4, some (.int (x5))] [.int v] h := by
  refine (p_iload rfl rfl).trans ?_
  exact s_iald rfl
theorem r_X7_flows_73 {d : Nat} {b0 a0 : Nat} {l1 l2 l3 l4 l5 : Option Value} {h : AH} : R_X7_flows d 73 [some (.ref a0), l1, l2, l3, l4, l5] [.ref b0] h = (hgf h [18] a0 19).bind fun v => R_X7_flows d 79 [some (.ref a0), l1, l2, l3, l4, l5] [v, .int ((nI 12)), .ref b0] h := by
  refine (p_const rfl).trans ?_
  refine (p_aload rfl rfl).trans ?_
  exact s_getf rfl
theorem r_X7_flows_73N {d : Nat} {a0 : Nat} {l1 l2 l3 l4 l5 : Option Value} {h : AH} : R_X7_flows d 73 [some (.ref a0), l1, l2, l3, l4, l5] [.null] h = (hgf h [18] a0 19).bind fun v => R_X7_flows d 79 [some (.ref a0), l1, l2, l3, l4, l5] [v, .int ((nI 12)), .null] h := by
  refine (p_const rfl).trans ?_
  refine (p_aload rfl rfl).trans ?_
  exact s_getf rfl
theorem r_X7_flows_138 {d : Nat} {a0 : Nat} {l1 l2 l3 l4 l5 : Option Value} {h : AH} : R_X7_flows d 138 [some (.ref a0), l1, l2, l3, l4, l5] [] h = (hgf h [18] a0 18).bind fun v => R_X7_flows d 142 [some (.ref a0), l1, l2, l3, l4, l5] [v] h := by
  refine (p_aload rfl rfl).trans ?_
  exact s_getf rfl
theorem r_X7_flows_101 {d : Nat} {s0 : Int32} {l0 l1 l2 l3 l4 l5 : Option Value} {h : AH} : R_X7_flows d 101 [l0, l1, l2, l3, l4, l5] [.int (s0)] h = R_X7_flows d 40 [l0, l1, l2, l3, l4, some (.int (s0))] [] h := by
  refine (p_istore rfl rfl rfl).trans ?_
  refine (p_goto rfl).trans ?_
  exact rfl
theorem r_X7_flows_79 {d : Nat} {b0 b2 : Nat} {s1 x5 : Int32} {l0 l1 l2 l3 l4 : Option Value} {h : AH} : R_X7_flows d 79 [l0, l1, l2, l3, l4, some (.int (x5))] [.ref b2, .int (s1), .ref b0] h = (hai h 0 b2 x5).bind fun v => R_X7_flows d 82 [l0, l1, l2, l3, l4, some (.int (x5))] [.int v, .int (s1), .ref b0] h := by
  refine (p_iload rfl rfl).trans ?_
  exact s_iald rfl
theorem r_X7_flows_142 {d : Nat} {b0 a0 : Nat} {x5 : Int32} {l1 l2 l3 l4 : Option Value} {h : AH} : R_X7_flows d 142 [some (.ref a0), l1, l2, l3, l4, some (.int (x5))] [.ref b0] h = (hgf h [18] a0 19).bind fun v => R_X7_flows d 151 [some (.ref a0), l1, l2, l3, l4, some (.int (x5))] [v, .int ((nI 12) * x5), .ref b0] h := by
  refine (p_const rfl).trans ?_
  refine (p_iload rfl rfl).trans ?_
  refine (p_bin rfl).trans ?_
  refine (p_aload rfl rfl).trans ?_
  exact s_getf rfl
theorem r_X7_flows_142N {d : Nat} {x5 : Int32} {a0 : Nat} {l1 l2 l3 l4 : Option Value} {h : AH} : R_X7_flows d 142 [some (.ref a0), l1, l2, l3, l4, some (.int (x5))] [.null] h = (hgf h [18] a0 19).bind fun v => R_X7_flows d 151 [some (.ref a0), l1, l2, l3, l4, some (.int (x5))] [v, .int ((nI 12) * x5), .null] h := by
  refine (p_const rfl).trans ?_
  refine (p_iload rfl rfl).trans ?_
  refine (p_bin rfl).trans ?_
  refine (p_aload rfl rfl).trans ?_
  exact s_getf rfl
theorem r_X7_flows_82 {d : Nat} {b0 : Nat} {s1 s2 x5 : Int32} {l0 l1 l2 l3 l4 : Option Value} {h : AH} : R_X7_flows d 82 [l0, l1, l2, l3, l4, some (.int (x5))] [.int (s2), .int (s1), .ref b0] h = (hai h 0 b0 ((s1 * s2) + x5)).bind fun v => R_X7_flows d 87 [l0, l1, l2, l3, l4, some (.int (x5))] [.int v] h := by
  refine (p_bin rfl).trans ?_
  refine (p_iload rfl rfl).trans ?_
  refine (p_bin rfl).trans ?_
  exact s_iald rfl
theorem r_X7_flows_151 {d : Nat} {b0 b2 : Nat} {s1 x5 : Int32} {l0 l1 l2 l3 l4 : Option Value} {h : AH} : R_X7_flows d 151 [l0, l1, l2, l3, l4, some (.int (x5))] [.ref b2, .int (s1), .ref b0] h = (hai h 0 b2 x5).bind fun v => R_X7_flows d 154 [l0, l1, l2, l3, l4, some (.int (x5))] [.int v, .int (s1), .ref b0] h := by
  refine (p_iload rfl rfl).trans ?_
  exact s_iald rfl
theorem r_X7_flows_87 {d : Nat} {s0 : Int32} {a0 : Nat} {l1 l2 l3 l4 l5 : Option Value} {h : AH} : R_X7_flows d 87 [some (.ref a0), l1, l2, l3, l4, l5] [.int (s0)] h = (hgf h [18] a0 19).bind fun v => R_X7_flows d 98 [some (.ref a0), l1, l2, l3, some (.int (s0)), l5] [v] h := by
  refine (p_goto rfl).trans ?_
  refine (p_istore rfl rfl rfl).trans ?_
  refine (p_aload rfl rfl).trans ?_
  exact s_getf rfl
theorem r_X7_flows_154 {d : Nat} {b0 : Nat} {s1 s2 : Int32} {l0 l1 l2 l3 l4 l5 : Option Value} {h : AH} : R_X7_flows d 154 [l0, l1, l2, l3, l4, l5] [.int (s2), .int (s1), .ref b0] h = (hai h 0 b0 (s1 + s2)).bind fun v => R_X7_flows d 157 [l0, l1, l2, l3, l4, l5] [.int v, .int (s1 + s2), .ref b0] h := by
  refine (p_bin rfl).trans ?_
  refine (p_dup2 rfl rfl).trans ?_
  exact s_iald rfl
theorem r_X7_flows_157 {d : Nat} {b0 : Nat} {s1 s2 x4 : Int32} {l0 l1 l2 l3 l5 : Option Value} {h : AH} : R_X7_flows d 157 [l0, l1, l2, l3, some (.int (x4)), l5] [.int (s2), .int (s1), .ref b0] h = (hsi h 0 b0 s1 (s2 + x4)).bind fun h1 => R_X7_flows d 161 [l0, l1, l2, l3, some (.int (x4)), l5] [] h1 := by
  refine (p_iload rfl rfl).trans ?_
  refine (p_bin rfl).trans ?_
  exact s_iast (t := 0) (nar := (fun y => y)) rfl
theorem r_X7_flows_161 {d : Nat} {a0 : Nat} {l1 l2 l3 l4 l5 : Option Value} {h : AH} : R_X7_flows d 161 [some (.ref a0), l1, l2, l3, l4, l5] [] h = (hgf h [18] a0 19).bind fun v => R_X7_flows d 165 [some (.ref a0), l1, l2, l3, l4, l5] [v] h := by
  refine (p_aload rfl rfl).trans ?_
  exact s_getf rfl
theorem r_X7_flows_165 {d : Nat} {b0 : Nat} {x5 : Int32} {l0 l1 l2 l3 l4 : Option Value} {h : AH} : R_X7_flows d 165 [l0, l1, l2, l3, l4, some (.int (x5))] [.ref b0] h = (hai h 0 b0 x5).bind fun v => R_X7_flows d 168 [l0, l1, l2, l3, l4, some (.int (x5))] [.int v] h := by
  refine (p_iload rfl rfl).trans ?_
  exact s_iald rfl
theorem r_X7_flows_168 {d : Nat} {s0 : Int32} {l0 l1 l2 l3 l4 l5 : Option Value} {h : AH} : R_X7_flows d 168 [l0, l1, l2, l3, l4, l5] [.int (s0)] h = R_X7_flows d 109 [l0, l1, l2, l3, l4, some (.int (s0))] [] h := by
  refine (p_istore rfl rfl rfl).trans ?_
  refine (p_goto rfl).trans ?_
  exact rfl
theorem e_X7_flows {d : Nat} {a0 : Nat} {x1 x2 : Int32} {h : AH} : exec tTab (d + 1) K_X7_flows [.ref a0, .int x1, .int x2] h = R_X7_flows d 0 [some (.ref a0), some (.int x1), some (.int x2), none, none, none] [] h := exec_eq (cd := k_X7_flows) (hd := (fun _ _ => some none)) (L := 6) rfl rfl rfl
/-- FavourTownModel.allPorts()V -/
abbrev K_X7_allPorts : Nat := 222
noncomputable def R_X7_allPorts (d pc : Nat) (ls : ALs) (st : List Value) (h : AH) : Option (AOut × AH) := aR (exec tTab d) k_X7_allPorts (fun _ _ => some none) (pc, ls, st, h)
theorem r_X7_allPorts_0 {d : Nat} {l0 l1 l2 : Option Value} {h : AH} : R_X7_allPorts d 0 [l0, l1, l2] [] h = R_X7_allPorts d 2 [l0, some (.int ((nI 0))), l2] [] h := by
  refine (p_const rfl).trans ?_
  refine (p_istore rfl rfl rfl).trans ?_
  exact rfl
theorem q_X7_allPorts_2 {d : Nat} {x1 : Int32} {a0 : Nat} {l2 : Option Value} {h : AH} : R_X7_allPorts d 2 [some (.ref a0), some (.int (x1)), l2] [] h = (hgf h [18] a0 1).bind fun v => R_X7_allPorts d 7 [some (.ref a0), some (.int (x1)), l2] [v, .int (x1)] h := by
  refine (p_iload rfl rfl).trans ?_
  refine (p_aload rfl rfl).trans ?_
  exact s_getf rfl
theorem r_X7_allPorts_7 {d : Nat} {s0 : Int32} {b1 : Nat} {l0 l1 l2 : Option Value} {h : AH} : R_X7_allPorts d 7 [l0, l1, l2] [.ref b1, .int (s0)] h = (hai h 0 b1 (nI 1)).bind fun v => R_X7_allPorts d 9 [l0, l1, l2] [.int v, .int (s0)] h := by
  refine (p_const rfl).trans ?_
  exact s_iald rfl
theorem r_X7_allPorts_9 {d : Nat} {s0 s1 : Int32} {l0 l1 l2 : Option Value} {h : AH} : R_X7_allPorts d 9 [l0, l1, l2] [.int (s1), .int (s0)] h = if s1 ≤ s0 then R_X7_allPorts d 62 [l0, l1, l2] [] h else R_X7_allPorts d 12 [l0, l1, l2] [] h := (s_icmp (g := (fun x y => decide (y ≤ x))) (t := 62) (nx := 12) rfl).trans bif_dec
theorem r_X7_allPorts_62 {d : Nat} {l0 l1 l2 : Option Value} {h : AH} : R_X7_allPorts d 62 [l0, l1, l2] [] h = some (.inl none, h) := s_vret rfl
theorem r_X7_allPorts_12 {d : Nat} {l0 l1 l2 : Option Value} {h : AH} : R_X7_allPorts d 12 [l0, l1, l2] [] h = R_X7_allPorts d 14 [l0, l1, some (.int ((nI 0)))] [] h := by
  refine (p_const rfl).trans ?_
  refine (p_istore rfl rfl rfl).trans ?_
  exact rfl
theorem q_X7_allPorts_14 {d : Nat} {x2 : Int32} {a0 : Nat} {l1 : Option Value} {h : AH} : R_X7_allPorts d 14 [some (.ref a0), l1, some (.int (x2))] [] h = (hgf h [18] a0 1).bind fun v => R_X7_allPorts d 19 [some (.ref a0), l1, some (.int (x2))] [v, .int (x2)] h := by
  refine (p_iload rfl rfl).trans ?_
  refine (p_aload rfl rfl).trans ?_
  exact s_getf rfl
theorem r_X7_allPorts_19 {d : Nat} {s0 : Int32} {b1 : Nat} {l0 l1 l2 : Option Value} {h : AH} : R_X7_allPorts d 19 [l0, l1, l2] [.ref b1, .int (s0)] h = (hai h 0 b1 (nI 1)).bind fun v => R_X7_allPorts d 21 [l0, l1, l2] [.int v, .int (s0)] h := by
  refine (p_const rfl).trans ?_
  exact s_iald rfl
theorem r_X7_allPorts_21 {d : Nat} {s0 s1 : Int32} {l0 l1 l2 : Option Value} {h : AH} : R_X7_allPorts d 21 [l0, l1, l2] [.int (s1), .int (s0)] h = if s1 ≤ s0 then R_X7_allPorts d 56 [l0, l1, l2] [] h else R_X7_allPorts d 24 [l0, l1, l2] [] h := (s_icmp (g := (fun x y => decide (y ≤ x))) (t := 56) (nx := 24) rfl).trans bif_dec
theorem r_X7_allPorts_56 {d : Nat} {x1 : Int32} {l0 l2 : Option Value} {h : AH} : R_X7_allPorts d 56 [l0, some (.int (x1)), l2] [] h = R_X7_allPorts d 2 [l0, some (.int (x1 + (nI 1))), l2] [] h := by
  refine (p_iinc rfl rfl rfl).trans ?_
  refine (p_goto rfl).trans ?_
  exact rfl
theorem r_X7_allPorts_24 {d : Nat} {a0 : Nat} {l1 l2 : Option Value} {h : AH} : R_X7_allPorts d 24 [some (.ref a0), l1, l2] [] h = (hgf h [18] a0 18).bind fun v => R_X7_allPorts d 28 [some (.ref a0), l1, l2] [v] h := by
  refine (p_aload rfl rfl).trans ?_
  exact s_getf rfl
theorem r_X7_allPorts_28 {d : Nat} {b0 : Nat} {x1 x2 : Int32} {l0 : Option Value} {h : AH} : R_X7_allPorts d 28 [l0, some (.int (x1)), some (.int (x2))] [.ref b0] h = if ¬ x1 = x2 then R_X7_allPorts d 43 [l0, some (.int (x1)), some (.int (x2))] [.int (((nI 12) * x1) + x2), .ref b0] h else R_X7_allPorts d 39 [l0, some (.int (x1)), some (.int (x2))] [.int (((nI 12) * x1) + x2), .ref b0] h := by
  refine (p_const rfl).trans ?_
  refine (p_iload rfl rfl).trans ?_
  refine (p_bin rfl).trans ?_
  refine (p_iload rfl rfl).trans ?_
  refine (p_bin rfl).trans ?_
  refine (p_iload rfl rfl).trans ?_
  refine (p_iload rfl rfl).trans ?_
  exact (s_icmp (g := (fun x y => decide (¬ x = y))) (t := 43) (nx := 39) rfl).trans bif_dec
theorem r_X7_allPorts_28N {d : Nat} {x1 x2 : Int32} {l0 : Option Value} {h : AH} : R_X7_allPorts d 28 [l0, some (.int (x1)), some (.int (x2))] [.null] h = if ¬ x1 = x2 then R_X7_allPorts d 43 [l0, some (.int (x1)), some (.int (x2))] [.int (((nI 12) * x1) + x2), .null] h else R_X7_allPorts d 39 [l0, some (.int (x1)), some (.int (x2))] [.int (((nI 12) * x1) + x2), .null] h := by
  refine (p_const rfl).trans ?_
  refine (p_iload rfl rfl).trans ?_
  refine (p_bin rfl).trans ?_
  refine (p_iload rfl rfl).trans ?_
  refine (p_bin rfl).trans ?_
  refine (p_iload rfl rfl).trans ?_
  refine (p_iload rfl rfl).trans ?_
  exact (s_icmp (g := (fun x y => decide (¬ x = y))) (t := 43) (nx := 39) rfl).trans bif_dec
theorem r_X7_allPorts_43 {d : Nat} {b0 a0 : Nat} {s1 x1 x2 : Int32} {h : AH} : R_X7_allPorts d 43 [some (.ref a0), some (.int (x1)), some (.int (x2))] [.int (s1), .ref b0] h = ((hci h a0).bind (lkN [(18, 219)])).bind fun y => aK (exec tTab d y [.ref a0, .int (x1), .int (x2)] h) (fun v h1 => R_X7_allPorts d 49 [some (.ref a0), some (.int (x1)), some (.int (x2))] (v.toList ++ [.int (s1), .ref b0]) h1) (fun E h1 => some (.inr E, h1)) := by
  refine (p_aload rfl rfl).trans ?_
  refine (p_iload rfl rfl).trans ?_
  refine (p_iload rfl rfl).trans ?_
  exact s_callV (L := [(18, 219)]) (n := 2) (b := a0) (rest := [.int (s1), .ref b0]) rfl rfl rfl
theorem r_X7_allPorts_39 {d : Nat} {b0 : Nat} {s1 : Int32} {l0 l1 l2 : Option Value} {h : AH} : R_X7_allPorts d 39 [l0, l1, l2] [.int (s1), .ref b0] h = (hsi h 0 b0 s1 (nI 0)).bind fun h1 => R_X7_allPorts d 50 [l0, l1, l2] [] h1 := by
  refine (p_const rfl).trans ?_
  refine (p_goto rfl).trans ?_
  exact s_iast (t := 0) (nar := (fun y => y)) rfl
theorem r_X7_allPorts_49 {d : Nat} {b0 : Nat} {s1 s2 : Int32} {l0 l1 l2 : Option Value} {h : AH} : R_X7_allPorts d 49 [l0, l1, l2] [.int (s2), .int (s1), .ref b0] h = (hsi h 0 b0 s1 s2).bind fun h1 => R_X7_allPorts d 50 [l0, l1, l2] [] h1 := s_iast (t := 0) (nar := (fun y => y)) rfl
theorem r_X7_allPorts_50 {d : Nat} {x2 : Int32} {l0 l1 : Option Value} {h : AH} : R_X7_allPorts d 50 [l0, l1, some (.int (x2))] [] h = R_X7_allPorts d 14 [l0, l1, some (.int (x2 + (nI 1)))] [] h := by
  refine (p_iinc rfl rfl rfl).trans ?_
  refine (p_goto rfl).trans ?_
  exact rfl
theorem e_X7_allPorts {d : Nat} {a0 : Nat} {h : AH} : exec tTab (d + 1) K_X7_allPorts [.ref a0] h = R_X7_allPorts d 0 [some (.ref a0), none, none] [] h := exec_eq (cd := k_X7_allPorts) (hd := (fun _ _ => some none)) (L := 3) rfl rfl rfl
/-- FavourTownModel.reaches(I)I -/
abbrev K_X7_reaches : Nat := 223
noncomputable def R_X7_reaches (d pc : Nat) (ls : ALs) (st : List Value) (h : AH) : Option (AOut × AH) := aR (exec tTab d) k_X7_reaches (fun _ _ => some none) (pc, ls, st, h)
theorem r_X7_reaches_0 {d : Nat} {x1 : Int32} {a0 : Nat} {l2 l3 l4 l5 l6 : Option Value} {h : AH} : R_X7_reaches d 0 [some (.ref a0), some (.int (x1)), l2, l3, l4, l5, l6] [] h = (hgf h [18] a0 20).bind fun v => R_X7_reaches d 10 [some (.ref a0), some (.int (x1)), some (.int ((nI 1) <<< (x1 &&& 31))), some (.int ((nI 1))), l4, l5, l6] [v] h := by
  refine (p_const rfl).trans ?_
  refine (p_iload rfl rfl).trans ?_
  refine (p_bin rfl).trans ?_
  refine (p_istore rfl rfl rfl).trans ?_
  refine (p_const rfl).trans ?_
  refine (p_istore rfl rfl rfl).trans ?_
  refine (p_aload rfl rfl).trans ?_
  exact s_getf rfl
theorem r_X7_reaches_10 {d : Nat} {b0 : Nat} {x1 : Int32} {l0 l2 l3 l4 l5 l6 : Option Value} {h : AH} : R_X7_reaches d 10 [l0, some (.int (x1)), l2, l3, l4, l5, l6] [.ref b0] h = (hsi h 0 b0 (nI 0) x1).bind fun h1 => R_X7_reaches d 13 [l0, some (.int (x1)), l2, l3, l4, l5, l6] [] h1 := by
  refine (p_const rfl).trans ?_
  refine (p_iload rfl rfl).trans ?_
  exact s_iast (t := 0) (nar := (fun y => y)) rfl
theorem r_X7_reaches_13 {d : Nat} {l0 l1 l2 l3 l4 l5 l6 : Option Value} {h : AH} : R_X7_reaches d 13 [l0, l1, l2, l3, l4, l5, l6] [] h = R_X7_reaches d 16 [l0, l1, l2, l3, some (.int ((nI 0))), l5, l6] [] h := by
  refine (p_const rfl).trans ?_
  refine (p_istore rfl rfl rfl).trans ?_
  exact rfl
theorem q_X7_reaches_16 {d : Nat} {x4 x3 : Int32} {l0 l1 l2 l5 l6 : Option Value} {h : AH} : R_X7_reaches d 16 [l0, l1, l2, some (.int (x3)), some (.int (x4)), l5, l6] [] h = if x3 ≤ x4 then R_X7_reaches d 113 [l0, l1, l2, some (.int (x3)), some (.int (x4)), l5, l6] [] h else R_X7_reaches d 22 [l0, l1, l2, some (.int (x3)), some (.int (x4)), l5, l6] [] h := by
  refine (p_iload rfl rfl).trans ?_
  refine (p_iload rfl rfl).trans ?_
  exact (s_icmp (g := (fun x y => decide (y ≤ x))) (t := 113) (nx := 22) rfl).trans bif_dec
theorem r_X7_reaches_113 {d : Nat} {x2 : Int32} {l0 l1 l3 l4 l5 l6 : Option Value} {h : AH} : R_X7_reaches d 113 [l0, l1, some (.int (x2)), l3, l4, l5, l6] [] h = some (.inl (some (.int (x2))), h) := by
  refine (p_iload rfl rfl).trans ?_
  exact s_iretT rfl rfl
theorem r_X7_reaches_22 {d : Nat} {a0 : Nat} {l1 l2 l3 l4 l5 l6 : Option Value} {h : AH} : R_X7_reaches d 22 [some (.ref a0), l1, l2, l3, l4, l5, l6] [] h = (hgf h [18] a0 20).bind fun v => R_X7_reaches d 26 [some (.ref a0), l1, l2, l3, l4, l5, l6] [v] h := by
  refine (p_aload rfl rfl).trans ?_
  exact s_getf rfl
theorem r_X7_reaches_26 {d : Nat} {b0 : Nat} {x4 : Int32} {l0 l1 l2 l3 l5 l6 : Option Value} {h : AH} : R_X7_reaches d 26 [l0, l1, l2, l3, some (.int (x4)), l5, l6] [.ref b0] h = (hai h 0 b0 x4).bind fun v => R_X7_reaches d 29 [l0, l1, l2, l3, some (.int (x4)), l5, l6] [.int v] h := by
  refine (p_iload rfl rfl).trans ?_
  exact s_iald rfl
theorem r_X7_reaches_29 {d : Nat} {s0 : Int32} {l0 l1 l2 l3 l4 l5 l6 : Option Value} {h : AH} : R_X7_reaches d 29 [l0, l1, l2, l3, l4, l5, l6] [.int (s0)] h = R_X7_reaches d 34 [l0, l1, l2, l3, l4, some (.int (s0)), some (.int ((nI 0)))] [] h := by
  refine (p_istore rfl rfl rfl).trans ?_
  refine (p_const rfl).trans ?_
  refine (p_istore rfl rfl rfl).trans ?_
  exact rfl
theorem q_X7_reaches_34 {d : Nat} {x6 : Int32} {a0 : Nat} {l1 l2 l3 l4 l5 : Option Value} {h : AH} : R_X7_reaches d 34 [some (.ref a0), l1, l2, l3, l4, l5, some (.int (x6))] [] h = (hgf h [18] a0 1).bind fun v => R_X7_reaches d 40 [some (.ref a0), l1, l2, l3, l4, l5, some (.int (x6))] [v, .int (x6)] h := by
  refine (p_iload rfl rfl).trans ?_
  refine (p_aload rfl rfl).trans ?_
  exact s_getf rfl
theorem r_X7_reaches_40 {d : Nat} {s0 : Int32} {b1 : Nat} {l0 l1 l2 l3 l4 l5 l6 : Option Value} {h : AH} : R_X7_reaches d 40 [l0, l1, l2, l3, l4, l5, l6] [.ref b1, .int (s0)] h = (hai h 0 b1 (nI 1)).bind fun v => R_X7_reaches d 42 [l0, l1, l2, l3, l4, l5, l6] [.int v, .int (s0)] h := by
  refine (p_const rfl).trans ?_
  exact s_iald rfl
theorem r_X7_reaches_42 {d : Nat} {s0 s1 : Int32} {l0 l1 l2 l3 l4 l5 l6 : Option Value} {h : AH} : R_X7_reaches d 42 [l0, l1, l2, l3, l4, l5, l6] [.int (s1), .int (s0)] h = if s1 ≤ s0 then R_X7_reaches d 107 [l0, l1, l2, l3, l4, l5, l6] [] h else R_X7_reaches d 45 [l0, l1, l2, l3, l4, l5, l6] [] h := (s_icmp (g := (fun x y => decide (y ≤ x))) (t := 107) (nx := 45) rfl).trans bif_dec
theorem r_X7_reaches_107 {d : Nat} {x4 : Int32} {l0 l1 l2 l3 l5 l6 : Option Value} {h : AH} : R_X7_reaches d 107 [l0, l1, l2, l3, some (.int (x4)), l5, l6] [] h = R_X7_reaches d 16 [l0, l1, l2, l3, some (.int (x4 + (nI 1))), l5, l6] [] h := by
  refine (p_iinc rfl rfl rfl).trans ?_
  refine (p_goto rfl).trans ?_
  exact rfl
theorem r_X7_reaches_45 {d : Nat} {a0 : Nat} {l1 l2 l3 l4 l5 l6 : Option Value} {h : AH} : R_X7_reaches d 45 [some (.ref a0), l1, l2, l3, l4, l5, l6] [] h = (hgf h [18] a0 18).bind fun v => R_X7_reaches d 49 [some (.ref a0), l1, l2, l3, l4, l5, l6] [v] h := by
  refine (p_aload rfl rfl).trans ?_
  exact s_getf rfl
theorem r_X7_reaches_49 {d : Nat} {b0 : Nat} {x5 x6 : Int32} {l0 l1 l2 l3 l4 : Option Value} {h : AH} : R_X7_reaches d 49 [l0, l1, l2, l3, l4, some (.int (x5)), some (.int (x6))] [.ref b0] h = (hai h 0 b0 (((nI 12) * x5) + x6)).bind fun v => R_X7_reaches d 58 [l0, l1, l2, l3, l4, some (.int (x5)), some (.int (x6))] [.int v] h := by
  refine (p_const rfl).trans ?_
  refine (p_iload rfl rfl).trans ?_
  refine (p_bin rfl).trans ?_
  refine (p_iload rfl rfl).trans ?_
  refine (p_bin rfl).trans ?_
  exact s_iald rfl
theorem r_X7_reaches_58 {d : Nat} {s0 : Int32} {l0 l1 l2 l3 l4 l5 l6 : Option Value} {h : AH} : R_X7_reaches d 58 [l0, l1, l2, l3, l4, l5, l6] [.int (s0)] h = if s0 = 0 then R_X7_reaches d 101 [l0, l1, l2, l3, l4, l5, l6] [] h else R_X7_reaches d 61 [l0, l1, l2, l3, l4, l5, l6] [] h := (s_if (g := (fun x => decide (x = 0))) (t := 101) (nx := 61) rfl).trans bif_dec
theorem r_X7_reaches_101 {d : Nat} {x6 : Int32} {l0 l1 l2 l3 l4 l5 : Option Value} {h : AH} : R_X7_reaches d 101 [l0, l1, l2, l3, l4, l5, some (.int (x6))] [] h = R_X7_reaches d 34 [l0, l1, l2, l3, l4, l5, some (.int (x6 + (nI 1)))] [] h := by
  refine (p_iinc rfl rfl rfl).trans ?_
  refine (p_goto rfl).trans ?_
  exact rfl
theorem r_X7_reaches_61 {d : Nat} {x2 x6 : Int32} {l0 l1 l3 l4 l5 : Option Value} {h : AH} : R_X7_reaches d 61 [l0, l1, some (.int (x2)), l3, l4, l5, some (.int (x6))] [] h = if ¬ ((x2 >>> (x6 &&& 31)) &&& (nI 1)) = (nI 1) then R_X7_reaches d 74 [l0, l1, some (.int (x2)), l3, l4, l5, some (.int (x6))] [] h else R_X7_reaches d 71 [l0, l1, some (.int (x2)), l3, l4, l5, some (.int (x6))] [] h := by
  refine (p_iload rfl rfl).trans ?_
  refine (p_iload rfl rfl).trans ?_
  refine (p_bin rfl).trans ?_
  refine (p_const rfl).trans ?_
  refine (p_bin rfl).trans ?_
  refine (p_const rfl).trans ?_
  exact (s_icmp (g := (fun x y => decide (¬ x = y))) (t := 74) (nx := 71) rfl).trans bif_dec
theorem r_X7_reaches_74 {d : Nat} {x2 x6 : Int32} {a0 : Nat} {l1 l3 l4 l5 : Option Value} {h : AH} : R_X7_reaches d 74 [some (.ref a0), l1, some (.int (x2)), l3, l4, l5, some (.int (x6))] [] h = (hgf h [18] a0 19).bind fun v => R_X7_reaches d 85 [some (.ref a0), l1, some (.int (x2 ||| ((nI 1) <<< (x6 &&& 31)))), l3, l4, l5, some (.int (x6))] [v] h := by
  refine (p_iload rfl rfl).trans ?_
  refine (p_const rfl).trans ?_
  refine (p_iload rfl rfl).trans ?_
  refine (p_bin rfl).trans ?_
  refine (p_bin rfl).trans ?_
  refine (p_istore rfl rfl rfl).trans ?_
  refine (p_aload rfl rfl).trans ?_
  exact s_getf rfl
theorem r_X7_reaches_71 {d : Nat} {x6 : Int32} {l0 l1 l2 l3 l4 l5 : Option Value} {h : AH} : R_X7_reaches d 71 [l0, l1, l2, l3, l4, l5, some (.int (x6))] [] h = R_X7_reaches d 34 [l0, l1, l2, l3, l4, l5, some (.int (x6 + (nI 1)))] [] h := by
  refine (p_goto rfl).trans ?_
  refine (p_iinc rfl rfl rfl).trans ?_
  refine (p_goto rfl).trans ?_
  exact rfl
theorem r_X7_reaches_85 {d : Nat} {b0 : Nat} {x6 x5 : Int32} {l0 l1 l2 l3 l4 : Option Value} {h : AH} : R_X7_reaches d 85 [l0, l1, l2, l3, l4, some (.int (x5)), some (.int (x6))] [.ref b0] h = (hsi h 0 b0 x6 x5).bind fun h1 => R_X7_reaches d 90 [l0, l1, l2, l3, l4, some (.int (x5)), some (.int (x6))] [] h1 := by
  refine (p_iload rfl rfl).trans ?_
  refine (p_iload rfl rfl).trans ?_
  exact s_iast (t := 0) (nar := (fun y => y)) rfl
theorem r_X7_reaches_90 {d : Nat} {a0 : Nat} {l1 l2 l3 l4 l5 l6 : Option Value} {h : AH} : R_X7_reaches d 90 [some (.ref a0), l1, l2, l3, l4, l5, l6] [] h = (hgf h [18] a0 20).bind fun v => R_X7_reaches d 94 [some (.ref a0), l1, l2, l3, l4, l5, l6] [v] h := by
  refine (p_aload rfl rfl).trans ?_
  exact s_getf rfl
theorem r_X7_reaches_94 {d : Nat} {b0 : Nat} {x3 x6 : Int32} {l0 l1 l2 l4 l5 : Option Value} {h : AH} : R_X7_reaches d 94 [l0, l1, l2, some (.int (x3)), l4, l5, some (.int (x6))] [.ref b0] h = (hsi h 0 b0 x3 x6).bind fun h1 => R_X7_reaches d 98 [l0, l1, l2, some (.int (x3)), l4, l5, some (.int (x6))] [] h1 := by
  refine (p_iload rfl rfl).trans ?_
  refine (p_iload rfl rfl).trans ?_
  exact s_iast (t := 0) (nar := (fun y => y)) rfl
theorem r_X7_reaches_98 {d : Nat} {x3 x6 : Int32} {l0 l1 l2 l4 l5 : Option Value} {h : AH} : R_X7_reaches d 98 [l0, l1, l2, some (.int (x3)), l4, l5, some (.int (x6))] [] h = R_X7_reaches d 34 [l0, l1, l2, some (.int (x3 + (nI 1))), l4, l5, some (.int (x6 + (nI 1)))] [] h := by
  refine (p_iinc rfl rfl rfl).trans ?_
  refine (p_iinc rfl rfl rfl).trans ?_
  refine (p_goto rfl).trans ?_
  exact rfl
theorem e_X7_reaches {d : Nat} {a0 : Nat} {x1 : Int32} {h : AH} : exec tTab (d + 1) K_X7_reaches [.ref a0, .int x1] h = R_X7_reaches d 0 [some (.ref a0), some (.int x1), none, none, none, none, none] [] h := exec_eq (cd := k_X7_reaches) (hd := (fun _ _ => some none)) (L := 7) rfl rfl rfl
/-- FavourTownModel.cut(II)I -/
abbrev K_X7_cut : Nat := 224
noncomputable def R_X7_cut (d pc : Nat) (ls : ALs) (st : List Value) (h : AH) : Option (AOut × AH) := aR (exec tTab d) k_X7_cut (fun _ _ => some none) (pc, ls, st, h)
theorem r_X7_cut_0 {d : Nat} {a0 : Nat} {x1 x2 : Int32} {h : AH} : R_X7_cut d 0 [some (.ref a0), some (.int (x1)), some (.int (x2))] [] h = ((hci h a0).bind (lkN [(18, 218)])).bind fun y => aK (exec tTab d y [.ref a0, .int (x1), .int (x2)] h) (fun v h1 => R_X7_cut d 7 [some (.ref a0), some (.int (x1)), some (.int (x2))] (v.toList ++ [.ref a0]) h1) (fun E h1 => some (.inr E, h1)) := by
  refine (p_aload rfl rfl).trans ?_
  refine (p_aload rfl rfl).trans ?_
  refine (p_iload rfl rfl).trans ?_
  refine (p_iload rfl rfl).trans ?_
  exact s_callV (L := [(18, 218)]) (n := 2) (b := a0) (rest := [.ref a0]) rfl rfl rfl
theorem r_X7_cut_7 {d : Nat} {b0 : Nat} {s1 : Int32} {l0 l1 l2 : Option Value} {h : AH} : R_X7_cut d 7 [l0, l1, l2] [.int (s1), .ref b0] h = (hpf h [18] b0 0 (.int (s1))).bind fun h1 => R_X7_cut d 10 [l0, l1, l2] [] h1 := s_putT rfl rfl
theorem r_X7_cut_10 {d : Nat} {a0 : Nat} {l1 l2 : Option Value} {h : AH} : R_X7_cut d 10 [some (.ref a0), l1, l2] [] h = (hgf h [18] a0 0).bind fun v => R_X7_cut d 14 [some (.ref a0), l1, l2] [v] h := by
  refine (p_aload rfl rfl).trans ?_
  exact s_getf rfl
theorem r_X7_cut_14 {d : Nat} {s0 : Int32} {l0 l1 l2 : Option Value} {h : AH} : R_X7_cut d 14 [l0, l1, l2] [.int (s0)] h = if s0 ≤ 0 then R_X7_cut d 19 [l0, l1, l2] [] h else R_X7_cut d 17 [l0, l1, l2] [] h := (s_if (g := (fun x => decide (x ≤ 0))) (t := 19) (nx := 17) rfl).trans bif_dec
theorem r_X7_cut_19 {d : Nat} {a0 : Nat} {x1 x2 : Int32} {h : AH} : R_X7_cut d 19 [some (.ref a0), some (.int (x1)), some (.int (x2))] [] h = ((hci h a0).bind (lkN [(18, 221)])).bind fun y => aK (exec tTab d y [.ref a0, .int (x1), .int (x2)] h) (fun v h1 => R_X7_cut d 25 [some (.ref a0), some (.int (x1)), some (.int (x2))] (v.toList ++ []) h1) (fun E h1 => some (.inr E, h1)) := by
  refine (p_aload rfl rfl).trans ?_
  refine (p_iload rfl rfl).trans ?_
  refine (p_iload rfl rfl).trans ?_
  exact s_callV (L := [(18, 221)]) (n := 2) (b := a0) (rest := []) rfl rfl rfl
theorem r_X7_cut_17 {d : Nat} {l0 l1 l2 : Option Value} {h : AH} : R_X7_cut d 17 [l0, l1, l2] [] h = some (.inl (some (.int ((nI 0)))), h) := by
  refine (p_const rfl).trans ?_
  exact s_iretT rfl rfl
theorem r_X7_cut_25 {d : Nat} {s0 : Int32} {l0 l1 l2 : Option Value} {h : AH} : R_X7_cut d 25 [l0, l1, l2] [.int (s0)] h = if 0 ≤ s0 then R_X7_cut d 32 [l0, l1, l2] [] h else R_X7_cut d 28 [l0, l1, l2] [] h := (s_if (g := (fun x => decide (0 ≤ x))) (t := 32) (nx := 28) rfl).trans bif_dec
theorem r_X7_cut_32 {d : Nat} {a0 : Nat} {x1 : Int32} {l2 : Option Value} {h : AH} : R_X7_cut d 32 [some (.ref a0), some (.int (x1)), l2] [] h = ((hci h a0).bind (lkN [(18, 223)])).bind fun y => aK (exec tTab d y [.ref a0, .int (x1)] h) (fun v h1 => R_X7_cut d 37 [some (.ref a0), some (.int (x1)), l2] (v.toList ++ []) h1) (fun E h1 => some (.inr E, h1)) := by
  refine (p_aload rfl rfl).trans ?_
  refine (p_iload rfl rfl).trans ?_
  exact s_callV (L := [(18, 223)]) (n := 1) (b := a0) (rest := []) rfl rfl rfl
theorem r_X7_cut_28 {d : Nat} {l0 l1 l2 : Option Value} {h : AH} : R_X7_cut d 28 [l0, l1, l2] [] h = some (.inl (some (.int ((nI 0)))), h) := by
  refine (p_const rfl).trans ?_
  refine (p_goto rfl).trans ?_
  exact s_iretT rfl rfl
theorem r_X7_cut_37 {d : Nat} {s0 : Int32} {l0 l1 l2 : Option Value} {h : AH} : R_X7_cut d 37 [l0, l1, l2] [.int (s0)] h = some (.inl (some (.int (s0))), h) := s_iretT rfl rfl
theorem e_X7_cut {d : Nat} {a0 : Nat} {x1 x2 : Int32} {h : AH} : exec tTab (d + 1) K_X7_cut [.ref a0, .int x1, .int x2] h = R_X7_cut d 0 [some (.ref a0), some (.int x1), some (.int x2)] [] h := exec_eq (cd := k_X7_cut) (hd := (fun _ _ => some none)) (L := 3) rfl rfl rfl
/-- FavourTownModel.chain(IIII)I -/
abbrev K_X7_chain : Nat := 225
noncomputable def R_X7_chain (d pc : Nat) (ls : ALs) (st : List Value) (h : AH) : Option (AOut × AH) := aR (exec tTab d) k_X7_chain (fun _ _ => some none) (pc, ls, st, h)
theorem r_X7_chain_0 {d : Nat} {a0 : Nat} {x1 x2 : Int32} {l3 l4 l5 l6 l7 : Option Value} {h : AH} : R_X7_chain d 0 [some (.ref a0), some (.int (x1)), some (.int (x2)), l3, l4, l5, l6, l7] [] h = ((hci h a0).bind (lkN [(18, 218)])).bind fun y => aK (exec tTab d y [.ref a0, .int (x1), .int (x2)] h) (fun v h1 => R_X7_chain d 7 [some (.ref a0), some (.int (x1)), some (.int (x2)), l3, l4, l5, l6, l7] (v.toList ++ [.ref a0]) h1) (fun E h1 => some (.inr E, h1)) := by
  refine (p_aload rfl rfl).trans ?_
  refine (p_aload rfl rfl).trans ?_
  refine (p_iload rfl rfl).trans ?_
  refine (p_iload rfl rfl).trans ?_
  exact s_callV (L := [(18, 218)]) (n := 2) (b := a0) (rest := [.ref a0]) rfl rfl rfl
theorem r_X7_chain_7 {d : Nat} {b0 : Nat} {s1 : Int32} {l0 l1 l2 l3 l4 l5 l6 l7 : Option Value} {h : AH} : R_X7_chain d 7 [l0, l1, l2, l3, l4, l5, l6, l7] [.int (s1), .ref b0] h = (hpf h [18] b0 0 (.int (s1))).bind fun h1 => R_X7_chain d 10 [l0, l1, l2, l3, l4, l5, l6, l7] [] h1 := s_putT rfl rfl
theorem r_X7_chain_10 {d : Nat} {a0 : Nat} {l1 l2 l3 l4 l5 l6 l7 : Option Value} {h : AH} : R_X7_chain d 10 [some (.ref a0), l1, l2, l3, l4, l5, l6, l7] [] h = (hgf h [18] a0 0).bind fun v => R_X7_chain d 14 [some (.ref a0), l1, l2, l3, l4, l5, l6, l7] [v] h := by
  refine (p_aload rfl rfl).trans ?_
  exact s_getf rfl
theorem r_X7_chain_14 {d : Nat} {s0 : Int32} {l0 l1 l2 l3 l4 l5 l6 l7 : Option Value} {h : AH} : R_X7_chain d 14 [l0, l1, l2, l3, l4, l5, l6, l7] [.int (s0)] h = if ¬ s0 = 0 then R_X7_chain d 38 [l0, l1, l2, l3, l4, l5, l6, l7] [] h else R_X7_chain d 17 [l0, l1, l2, l3, l4, l5, l6, l7] [] h := (s_if (g := (fun x => decide (¬ x = 0))) (t := 38) (nx := 17) rfl).trans bif_dec
theorem r_X7_chain_38 {d : Nat} {a0 : Nat} {l1 l2 l3 l4 l5 l6 l7 : Option Value} {h : AH} : R_X7_chain d 38 [some (.ref a0), l1, l2, l3, l4, l5, l6, l7] [] h = (hgf h [18] a0 0).bind fun v => R_X7_chain d 42 [some (.ref a0), l1, l2, l3, l4, l5, l6, l7] [v] h := by
  refine (p_aload rfl rfl).trans ?_
  exact s_getf rfl
theorem r_X7_chain_17 {d : Nat} {x3 : Int32} {l0 l1 l2 l4 l5 l6 l7 : Option Value} {h : AH} : R_X7_chain d 17 [l0, l1, l2, some (.int (x3)), l4, l5, l6, l7] [] h = aK (exec tTab d 153 [.int (x3), .int ((nI 1)), .int ((nI 99))] h) (fun v h1 => R_X7_chain d 24 [l0, l1, l2, some (.int (x3)), l4, l5, l6, l7] (v.toList ++ []) h1) (fun E h1 => some (.inr E, h1)) := by
  refine (p_iload rfl rfl).trans ?_
  refine (p_const rfl).trans ?_
  refine (p_const rfl).trans ?_
  exact s_callS (y := 153) (n := 3) rfl rfl
theorem r_X7_chain_42 {d : Nat} {s0 : Int32} {l0 l1 l2 l3 l4 l5 l6 l7 : Option Value} {h : AH} : R_X7_chain d 42 [l0, l1, l2, l3, l4, l5, l6, l7] [.int (s0)] h = if s0 ≤ 0 then R_X7_chain d 47 [l0, l1, l2, l3, l4, l5, l6, l7] [] h else R_X7_chain d 45 [l0, l1, l2, l3, l4, l5, l6, l7] [] h := (s_if (g := (fun x => decide (x ≤ 0))) (t := 47) (nx := 45) rfl).trans bif_dec
theorem r_X7_chain_24 {d : Nat} {s0 : Int32} {l0 l1 l2 l3 l4 l5 l6 l7 : Option Value} {h : AH} : R_X7_chain d 24 [l0, l1, l2, l3, l4, l5, l6, l7] [.int (s0)] h = if s0 = 0 then R_X7_chain d 33 [l0, l1, l2, l3, l4, l5, l6, l7] [] h else R_X7_chain d 27 [l0, l1, l2, l3, l4, l5, l6, l7] [] h := (s_if (g := (fun x => decide (x = 0))) (t := 33) (nx := 27) rfl).trans bif_dec
theorem r_X7_chain_47 {d : Nat} {a0 : Nat} {l1 l2 l3 l4 l5 l6 l7 : Option Value} {h : AH} : R_X7_chain d 47 [some (.ref a0), l1, l2, l3, l4, l5, l6, l7] [] h = ((hci h a0).bind (lkN [(18, 222)])).bind fun y => aK (exec tTab d y [.ref a0] h) (fun v h1 => R_X7_chain d 51 [some (.ref a0), l1, l2, l3, l4, l5, l6, l7] (v.toList ++ []) h1) (fun E h1 => some (.inr E, h1)) := by
  refine (p_aload rfl rfl).trans ?_
  exact s_callV (L := [(18, 222)]) (n := 0) (b := a0) (rest := []) rfl rfl rfl
theorem r_X7_chain_45 {d : Nat} {l0 l1 l2 l3 l4 l5 l6 l7 : Option Value} {h : AH} : R_X7_chain d 45 [l0, l1, l2, l3, l4, l5, l6, l7] [] h = some (.inl (some (.int ((nI 0)))), h) := by
  refine (p_const rfl).trans ?_
  exact s_iretT rfl rfl
theorem r_X7_chain_33 {d : Nat} {a0 : Nat} {l1 l2 l3 l4 l5 l6 l7 : Option Value} {h : AH} : R_X7_chain d 33 [some (.ref a0), l1, l2, l3, l4, l5, l6, l7] [] h = (hpf h [18] a0 0 (.int ((nI 2)))).bind fun h1 => R_X7_chain d 38 [some (.ref a0), l1, l2, l3, l4, l5, l6, l7] [] h1 := by
  refine (p_aload rfl rfl).trans ?_
  refine (p_const rfl).trans ?_
  exact s_putT rfl rfl
theorem r_X7_chain_27 {d : Nat} {x4 : Int32} {l0 l1 l2 l3 l5 l6 l7 : Option Value} {h : AH} : R_X7_chain d 27 [l0, l1, l2, l3, some (.int (x4)), l5, l6, l7] [] h = if (-1) ≤ x4 then R_X7_chain d 38 [l0, l1, l2, l3, some (.int (x4)), l5, l6, l7] [] h else R_X7_chain d 33 [l0, l1, l2, l3, some (.int (x4)), l5, l6, l7] [] h := by
  refine (p_iload rfl rfl).trans ?_
  refine (p_const rfl).trans ?_
  exact (s_icmp (g := (fun x y => decide (y ≤ x))) (t := 38) (nx := 33) rfl).trans bif_dec
theorem r_X7_chain_51 {d : Nat} {l0 l1 l2 l3 l4 l5 l6 l7 : Option Value} {h : AH} : R_X7_chain d 51 [l0, l1, l2, l3, l4, l5, l6, l7] [] h = R_X7_chain d 54 [l0, l1, l2, l3, l4, some (.int ((nI 0))), l6, l7] [] h := by
  refine (p_const rfl).trans ?_
  refine (p_istore rfl rfl rfl).trans ?_
  exact rfl
theorem q_X7_chain_54 {d : Nat} {x5 : Int32} {l0 l1 l2 l3 l4 l6 l7 : Option Value} {h : AH} : R_X7_chain d 54 [l0, l1, l2, l3, l4, some (.int (x5)), l6, l7] [] h = if (nI 12) ≤ x5 then R_X7_chain d 85 [l0, l1, l2, l3, l4, some (.int (x5)), l6, l7] [] h else R_X7_chain d 61 [l0, l1, l2, l3, l4, some (.int (x5)), l6, l7] [] h := by
  refine (p_iload rfl rfl).trans ?_
  refine (p_const rfl).trans ?_
  exact (s_icmp (g := (fun x y => decide (y ≤ x))) (t := 85) (nx := 61) rfl).trans bif_dec
theorem r_X7_chain_85 {d : Nat} {l0 l1 l2 l3 l4 l5 l6 l7 : Option Value} {h : AH} : R_X7_chain d 85 [l0, l1, l2, l3, l4, l5, l6, l7] [] h = R_X7_chain d 88 [l0, l1, l2, l3, l4, some (.int ((nI 1))), l6, l7] [] h := by
  refine (p_const rfl).trans ?_
  refine (p_istore rfl rfl rfl).trans ?_
  exact rfl
theorem r_X7_chain_61 {d : Nat} {a0 : Nat} {l1 l2 l3 l4 l5 l6 l7 : Option Value} {h : AH} : R_X7_chain d 61 [some (.ref a0), l1, l2, l3, l4, l5, l6, l7] [] h = (hgf h [18] a0 21).bind fun v => R_X7_chain d 65 [some (.ref a0), l1, l2, l3, l4, l5, l6, l7] [v] h := by
  refine (p_aload rfl rfl).trans ?_
  exact s_getf rfl
theorem q_X7_chain_88 {d : Nat} {x5 : Int32} {a0 : Nat} {l1 l2 l3 l4 l6 l7 : Option Value} {h : AH} : R_X7_chain d 88 [some (.ref a0), l1, l2, l3, l4, some (.int (x5)), l6, l7] [] h = (hgf h [18] a0 1).bind fun v => R_X7_chain d 94 [some (.ref a0), l1, l2, l3, l4, some (.int (x5)), l6, l7] [v, .int (x5)] h := by
  refine (p_iload rfl rfl).trans ?_
  refine (p_aload rfl rfl).trans ?_
  exact s_getf rfl
theorem r_X7_chain_65 {d : Nat} {b0 : Nat} {x5 x2 : Int32} {l0 l1 l3 l4 l6 l7 : Option Value} {h : AH} : R_X7_chain d 65 [l0, l1, some (.int (x2)), l3, l4, some (.int (x5)), l6, l7] [.ref b0] h = if ¬ x5 = x2 then R_X7_chain d 77 [l0, l1, some (.int (x2)), l3, l4, some (.int (x5)), l6, l7] [.int (x5), .ref b0] h else R_X7_chain d 73 [l0, l1, some (.int (x2)), l3, l4, some (.int (x5)), l6, l7] [.int (x5), .ref b0] h := by
  refine (p_iload rfl rfl).trans ?_
  refine (p_iload rfl rfl).trans ?_
  refine (p_iload rfl rfl).trans ?_
  exact (s_icmp (g := (fun x y => decide (¬ x = y))) (t := 77) (nx := 73) rfl).trans bif_dec
theorem r_X7_chain_65N {d : Nat} {x5 x2 : Int32} {l0 l1 l3 l4 l6 l7 : Option Value} {h : AH} : R_X7_chain d 65 [l0, l1, some (.int (x2)), l3, l4, some (.int (x5)), l6, l7] [.null] h = if ¬ x5 = x2 then R_X7_chain d 77 [l0, l1, some (.int (x2)), l3, l4, some (.int (x5)), l6, l7] [.int (x5), .null] h else R_X7_chain d 73 [l0, l1, some (.int (x2)), l3, l4, some (.int (x5)), l6, l7] [.int (x5), .null] h := by
  refine (p_iload rfl rfl).trans ?_
  refine (p_iload rfl rfl).trans ?_
  refine (p_iload rfl rfl).trans ?_
  exact (s_icmp (g := (fun x y => decide (¬ x = y))) (t := 77) (nx := 73) rfl).trans bif_dec
theorem r_X7_chain_94 {d : Nat} {s0 : Int32} {b1 : Nat} {l0 l1 l2 l3 l4 l5 l6 l7 : Option Value} {h : AH} : R_X7_chain d 94 [l0, l1, l2, l3, l4, l5, l6, l7] [.ref b1, .int (s0)] h = (hai h 0 b1 (nI 1)).bind fun v => R_X7_chain d 96 [l0, l1, l2, l3, l4, l5, l6, l7] [.int v, .int (s0)] h := by
  refine (p_const rfl).trans ?_
  exact s_iald rfl
theorem r_X7_chain_77 {d : Nat} {b0 : Nat} {s1 : Int32} {l0 l1 l2 l3 l4 l5 l6 l7 : Option Value} {h : AH} : R_X7_chain d 77 [l0, l1, l2, l3, l4, l5, l6, l7] [.int (s1), .ref b0] h = (hsi h 0 b0 s1 (-1)).bind fun h1 => R_X7_chain d 79 [l0, l1, l2, l3, l4, l5, l6, l7] [] h1 := by
  refine (p_const rfl).trans ?_
  exact s_iast (t := 0) (nar := (fun y => y)) rfl
theorem r_X7_chain_73 {d : Nat} {b0 : Nat} {s1 : Int32} {l0 l1 l2 l3 l4 l5 l6 l7 : Option Value} {h : AH} : R_X7_chain d 73 [l0, l1, l2, l3, l4, l5, l6, l7] [.int (s1), .ref b0] h = (hsi h 0 b0 s1 (nI 0)).bind fun h1 => R_X7_chain d 79 [l0, l1, l2, l3, l4, l5, l6, l7] [] h1 := by
  refine (p_const rfl).trans ?_
  refine (p_goto rfl).trans ?_
  exact s_iast (t := 0) (nar := (fun y => y)) rfl
theorem r_X7_chain_96 {d : Nat} {s0 s1 : Int32} {l0 l1 l2 l3 l4 l5 l6 l7 : Option Value} {h : AH} : R_X7_chain d 96 [l0, l1, l2, l3, l4, l5, l6, l7] [.int (s1), .int (s0)] h = if s1 ≤ s0 then R_X7_chain d 199 [l0, l1, l2, l3, l4, l5, l6, l7] [] h else R_X7_chain d 99 [l0, l1, l2, l3, l4, l5, l6, l7] [] h := (s_icmp (g := (fun x y => decide (y ≤ x))) (t := 199) (nx := 99) rfl).trans bif_dec
theorem r_X7_chain_79 {d : Nat} {x5 : Int32} {l0 l1 l2 l3 l4 l6 l7 : Option Value} {h : AH} : R_X7_chain d 79 [l0, l1, l2, l3, l4, some (.int (x5)), l6, l7] [] h = R_X7_chain d 54 [l0, l1, l2, l3, l4, some (.int (x5 + (nI 1))), l6, l7] [] h := by
  refine (p_iinc rfl rfl rfl).trans ?_
  refine (p_goto rfl).trans ?_
  exact rfl
theorem r_X7_chain_199 {d : Nat} {a0 : Nat} {l1 l2 l3 l4 l5 l6 l7 : Option Value} {h : AH} : R_X7_chain d 199 [some (.ref a0), l1, l2, l3, l4, l5, l6, l7] [] h = (hgf h [18] a0 21).bind fun v => R_X7_chain d 203 [some (.ref a0), l1, l2, l3, l4, l5, l6, l7] [v] h := by
  refine (p_aload rfl rfl).trans ?_
  exact s_getf rfl
theorem r_X7_chain_99 {d : Nat} {l0 l1 l2 l3 l4 l5 l6 l7 : Option Value} {h : AH} : R_X7_chain d 99 [l0, l1, l2, l3, l4, l5, l6, l7] [] h = R_X7_chain d 102 [l0, l1, l2, l3, l4, l5, some (.int ((nI 0))), l7] [] h := by
  refine (p_const rfl).trans ?_
  refine (p_istore rfl rfl rfl).trans ?_
  exact rfl
theorem r_X7_chain_203 {d : Nat} {b0 : Nat} {x1 : Int32} {l0 l2 l3 l4 l5 l6 l7 : Option Value} {h : AH} : R_X7_chain d 203 [l0, some (.int (x1)), l2, l3, l4, l5, l6, l7] [.ref b0] h = (hai h 0 b0 x1).bind fun v => R_X7_chain d 205 [l0, some (.int (x1)), l2, l3, l4, l5, l6, l7] [.int v] h := by
  refine (p_iload rfl rfl).trans ?_
  exact s_iald rfl
theorem q_X7_chain_102 {d : Nat} {x6 : Int32} {a0 : Nat} {l1 l2 l3 l4 l5 l7 : Option Value} {h : AH} : R_X7_chain d 102 [some (.ref a0), l1, l2, l3, l4, l5, some (.int (x6)), l7] [] h = (hgf h [18] a0 1).bind fun v => R_X7_chain d 108 [some (.ref a0), l1, l2, l3, l4, l5, some (.int (x6)), l7] [v, .int (x6)] h := by
  refine (p_iload rfl rfl).trans ?_
  refine (p_aload rfl rfl).trans ?_
  exact s_getf rfl
theorem r_X7_chain_205 {d : Nat} {s0 : Int32} {l0 l1 l2 l3 l4 l5 l6 l7 : Option Value} {h : AH} : R_X7_chain d 205 [l0, l1, l2, l3, l4, l5, l6, l7] [.int (s0)] h = if s0 = (-1) then R_X7_chain d 215 [l0, l1, l2, l3, l4, l5, l6, l7] [] h else R_X7_chain d 209 [l0, l1, l2, l3, l4, l5, l6, l7] [] h := by
  refine (p_const rfl).trans ?_
  exact (s_icmp (g := (fun x y => decide (x = y))) (t := 215) (nx := 209) rfl).trans bif_dec
theorem r_X7_chain_108 {d : Nat} {s0 : Int32} {b1 : Nat} {l0 l1 l2 l3 l4 l5 l6 l7 : Option Value} {h : AH} : R_X7_chain d 108 [l0, l1, l2, l3, l4, l5, l6, l7] [.ref b1, .int (s0)] h = (hai h 0 b1 (nI 1)).bind fun v => R_X7_chain d 110 [l0, l1, l2, l3, l4, l5, l6, l7] [.int v, .int (s0)] h := by
  refine (p_const rfl).trans ?_
  exact s_iald rfl
theorem r_X7_chain_215 {d : Nat} {a0 : Nat} {l1 l2 l3 l4 l5 l6 l7 : Option Value} {h : AH} : R_X7_chain d 215 [some (.ref a0), l1, l2, l3, l4, l5, l6, l7] [] h = (hgf h [18] a0 21).bind fun v => R_X7_chain d 219 [some (.ref a0), l1, l2, l3, l4, l5, l6, l7] [v] h := by
  refine (p_aload rfl rfl).trans ?_
  exact s_getf rfl
theorem r_X7_chain_209 {d : Nat} {x4 : Int32} {l0 l1 l2 l3 l5 l6 l7 : Option Value} {h : AH} : R_X7_chain d 209 [l0, l1, l2, l3, some (.int (x4)), l5, l6, l7] [] h = if ¬ x4 = (-1) then R_X7_chain d 222 [l0, l1, l2, l3, some (.int (x4)), l5, l6, l7] [] h else R_X7_chain d 215 [l0, l1, l2, l3, some (.int (x4)), l5, l6, l7] [] h := by
  refine (p_iload rfl rfl).trans ?_
  refine (p_const rfl).trans ?_
  exact (s_icmp (g := (fun x y => decide (¬ x = y))) (t := 222) (nx := 215) rfl).trans bif_dec
theorem r_X7_chain_110 {d : Nat} {s0 s1 : Int32} {l0 l1 l2 l3 l4 l5 l6 l7 : Option Value} {h : AH} : R_X7_chain d 110 [l0, l1, l2, l3, l4, l5, l6, l7] [.int (s1), .int (s0)] h = if s1 ≤ s0 then R_X7_chain d 193 [l0, l1, l2, l3, l4, l5, l6, l7] [] h else R_X7_chain d 113 [l0, l1, l2, l3, l4, l5, l6, l7] [] h := (s_icmp (g := (fun x y => decide (y ≤ x))) (t := 193) (nx := 113) rfl).trans bif_dec
theorem r_X7_chain_219 {d : Nat} {b0 : Nat} {x1 : Int32} {l0 l2 l3 l4 l5 l6 l7 : Option Value} {h : AH} : R_X7_chain d 219 [l0, some (.int (x1)), l2, l3, l4, l5, l6, l7] [.ref b0] h = (hai h 0 b0 x1).bind fun v => R_X7_chain d 221 [l0, some (.int (x1)), l2, l3, l4, l5, l6, l7] [.int v] h := by
  refine (p_iload rfl rfl).trans ?_
  exact s_iald rfl
theorem r_X7_chain_222 {d : Nat} {x4 : Int32} {a0 : Nat} {l1 l2 l3 l5 l6 l7 : Option Value} {h : AH} : R_X7_chain d 222 [some (.ref a0), l1, l2, l3, some (.int (x4)), l5, l6, l7] [] h = (hgf h [18] a0 21).bind fun v => R_X7_chain d 228 [some (.ref a0), l1, l2, l3, some (.int (x4)), l5, l6, l7] [v, .int (x4)] h := by
  refine (p_iload rfl rfl).trans ?_
  refine (p_aload rfl rfl).trans ?_
  exact s_getf rfl
theorem r_X7_chain_193 {d : Nat} {x5 : Int32} {l0 l1 l2 l3 l4 l6 l7 : Option Value} {h : AH} : R_X7_chain d 193 [l0, l1, l2, l3, l4, some (.int (x5)), l6, l7] [] h = R_X7_chain d 88 [l0, l1, l2, l3, l4, some (.int (x5 + (nI 1))), l6, l7] [] h := by
  refine (p_iinc rfl rfl rfl).trans ?_
  refine (p_goto rfl).trans ?_
  exact rfl
theorem r_X7_chain_113 {d : Nat} {a0 : Nat} {l1 l2 l3 l4 l5 l6 l7 : Option Value} {h : AH} : R_X7_chain d 113 [some (.ref a0), l1, l2, l3, l4, l5, l6, l7] [] h = (hgf h [18] a0 21).bind fun v => R_X7_chain d 117 [some (.ref a0), l1, l2, l3, l4, l5, l6, l7] [v] h := by
  refine (p_aload rfl rfl).trans ?_
  exact s_getf rfl
theorem r_X7_chain_221 {d : Nat} {s0 : Int32} {l0 l1 l2 l3 l4 l5 l6 l7 : Option Value} {h : AH} : R_X7_chain d 221 [l0, l1, l2, l3, l4, l5, l6, l7] [.int (s0)] h = some (.inl (some (.int (s0))), h) := s_iretT rfl rfl
theorem r_X7_chain_228 {d : Nat} {s0 x1 : Int32} {b1 : Nat} {l0 l2 l3 l4 l5 l6 l7 : Option Value} {h : AH} : R_X7_chain d 228 [l0, some (.int (x1)), l2, l3, l4, l5, l6, l7] [.ref b1, .int (s0)] h = (hai h 0 b1 x1).bind fun v => R_X7_chain d 230 [l0, some (.int (x1)), l2, l3, l4, l5, l6, l7] [.int v, .int (s0)] h := by
  refine (p_iload rfl rfl).trans ?_
  exact s_iald rfl
theorem r_X7_chain_117 {d : Nat} {b0 : Nat} {x6 : Int32} {l0 l1 l2 l3 l4 l5 l7 : Option Value} {h : AH} : R_X7_chain d 117 [l0, l1, l2, l3, l4, l5, some (.int (x6)), l7] [.ref b0] h = (hai h 0 b0 x6).bind fun v => R_X7_chain d 120 [l0, l1, l2, l3, l4, l5, some (.int (x6)), l7] [.int v] h := by
  refine (p_iload rfl rfl).trans ?_
  exact s_iald rfl
theorem r_X7_chain_230 {d : Nat} {s0 s1 : Int32} {l0 l1 l2 l3 l4 l5 l6 l7 : Option Value} {h : AH} : R_X7_chain d 230 [l0, l1, l2, l3, l4, l5, l6, l7] [.int (s1), .int (s0)] h = if s0 ≤ s1 then R_X7_chain d 235 [l0, l1, l2, l3, l4, l5, l6, l7] [] h else R_X7_chain d 233 [l0, l1, l2, l3, l4, l5, l6, l7] [] h := (s_icmp (g := (fun x y => decide (x ≤ y))) (t := 235) (nx := 233) rfl).trans bif_dec
theorem r_X7_chain_120 {d : Nat} {s0 : Int32} {l0 l1 l2 l3 l4 l5 l6 l7 : Option Value} {h : AH} : R_X7_chain d 120 [l0, l1, l2, l3, l4, l5, l6, l7] [.int (s0)] h = if s0 = (-1) then R_X7_chain d 127 [l0, l1, l2, l3, l4, l5, l6, l7] [] h else R_X7_chain d 124 [l0, l1, l2, l3, l4, l5, l6, l7] [] h := by
  refine (p_const rfl).trans ?_
  exact (s_icmp (g := (fun x y => decide (x = y))) (t := 127) (nx := 124) rfl).trans bif_dec
theorem r_X7_chain_235 {d : Nat} {x1 : Int32} {l0 l2 l3 l4 l5 l6 l7 : Option Value} {h : AH} : R_X7_chain d 235 [l0, some (.int (x1)), l2, l3, l4, l5, l6, l7] [] h = R_X7_chain d 241 [l0, some (.int (x1)), l2, l3, l4, some (.int (x1)), some (.int ((nI 0))), l7] [] h := by
  refine (p_iload rfl rfl).trans ?_
  refine (p_istore rfl rfl rfl).trans ?_
  refine (p_const rfl).trans ?_
  refine (p_istore rfl rfl rfl).trans ?_
  exact rfl
theorem r_X7_chain_233 {d : Nat} {l0 l1 l2 l3 l4 l5 l6 l7 : Option Value} {h : AH} : R_X7_chain d 233 [l0, l1, l2, l3, l4, l5, l6, l7] [] h = some (.inl (some (.int ((-1)))), h) := by
  refine (p_const rfl).trans ?_
  exact s_iretT rfl rfl
theorem r_X7_chain_127 {d : Nat} {l0 l1 l2 l3 l4 l5 l6 l7 : Option Value} {h : AH} : R_X7_chain d 127 [l0, l1, l2, l3, l4, l5, l6, l7] [] h = R_X7_chain d 130 [l0, l1, l2, l3, l4, l5, l6, some (.int ((nI 0)))] [] h := by
  refine (p_const rfl).trans ?_
  refine (p_istore rfl rfl rfl).trans ?_
  exact rfl
theorem r_X7_chain_124 {d : Nat} {x6 : Int32} {l0 l1 l2 l3 l4 l5 l7 : Option Value} {h : AH} : R_X7_chain d 124 [l0, l1, l2, l3, l4, l5, some (.int (x6)), l7] [] h = R_X7_chain d 102 [l0, l1, l2, l3, l4, l5, some (.int (x6 + (nI 1))), l7] [] h := by
  refine (p_goto rfl).trans ?_
  refine (p_iinc rfl rfl rfl).trans ?_
  refine (p_goto rfl).trans ?_
  exact rfl
theorem q_X7_chain_241 {d : Nat} {x6 x4 : Int32} {l0 l1 l2 l3 l5 l7 : Option Value} {h : AH} : R_X7_chain d 241 [l0, l1, l2, l3, some (.int (x4)), l5, some (.int (x6)), l7] [] h = if x4 ≤ x6 then R_X7_chain d 303 [l0, l1, l2, l3, some (.int (x4)), l5, some (.int (x6)), l7] [] h else R_X7_chain d 248 [l0, l1, l2, l3, some (.int (x4)), l5, some (.int (x6)), l7] [] h := by
  refine (p_iload rfl rfl).trans ?_
  refine (p_iload rfl rfl).trans ?_
  exact (s_icmp (g := (fun x y => decide (y ≤ x))) (t := 303) (nx := 248) rfl).trans bif_dec
theorem q_X7_chain_130 {d : Nat} {x7 : Int32} {a0 : Nat} {l1 l2 l3 l4 l5 l6 : Option Value} {h : AH} : R_X7_chain d 130 [some (.ref a0), l1, l2, l3, l4, l5, l6, some (.int (x7))] [] h = (hgf h [18] a0 1).bind fun v => R_X7_chain d 136 [some (.ref a0), l1, l2, l3, l4, l5, l6, some (.int (x7))] [v, .int (x7)] h := by
  refine (p_iload rfl rfl).trans ?_
  refine (p_aload rfl rfl).trans ?_
  exact s_getf rfl
theorem r_X7_chain_303 {d : Nat} {x5 : Int32} {l0 l1 l2 l3 l4 l6 l7 : Option Value} {h : AH} : R_X7_chain d 303 [l0, l1, l2, l3, l4, some (.int (x5)), l6, l7] [] h = some (.inl (some (.int (x5))), h) := by
  refine (p_iload rfl rfl).trans ?_
  exact s_iretT rfl rfl
theorem r_X7_chain_248 {d : Nat} {l0 l1 l2 l3 l4 l5 l6 l7 : Option Value} {h : AH} : R_X7_chain d 248 [l0, l1, l2, l3, l4, l5, l6, l7] [] h = R_X7_chain d 251 [l0, l1, l2, l3, l4, l5, l6, some (.int ((nI 0)))] [] h := by
  refine (p_const rfl).trans ?_
  refine (p_istore rfl rfl rfl).trans ?_
  exact rfl
theorem r_X7_chain_136 {d : Nat} {s0 : Int32} {b1 : Nat} {l0 l1 l2 l3 l4 l5 l6 l7 : Option Value} {h : AH} : R_X7_chain d 136 [l0, l1, l2, l3, l4, l5, l6, l7] [.ref b1, .int (s0)] h = (hai h 0 b1 (nI 1)).bind fun v => R_X7_chain d 138 [l0, l1, l2, l3, l4, l5, l6, l7] [.int v, .int (s0)] h := by
  refine (p_const rfl).trans ?_
  exact s_iald rfl
theorem q_X7_chain_251 {d : Nat} {a0 : Nat} {l1 l2 l3 l4 l5 l6 l7 : Option Value} {h : AH} : R_X7_chain d 251 [some (.ref a0), l1, l2, l3, l4, l5, l6, l7] [] h = (hgf h [18] a0 21).bind fun v => R_X7_chain d 255 [some (.ref a0), l1, l2, l3, l4, l5, l6, l7] [v] h := by
  refine (p_aload rfl rfl).trans ?_
  exact s_getf rfl
theorem r_X7_chain_138 {d : Nat} {s0 s1 : Int32} {l0 l1 l2 l3 l4 l5 l6 l7 : Option Value} {h : AH} : R_X7_chain d 138 [l0, l1, l2, l3, l4, l5, l6, l7] [.int (s1), .int (s0)] h = if s1 ≤ s0 then R_X7_chain d 187 [l0, l1, l2, l3, l4, l5, l6, l7] [] h else R_X7_chain d 141 [l0, l1, l2, l3, l4, l5, l6, l7] [] h := (s_icmp (g := (fun x y => decide (y ≤ x))) (t := 187) (nx := 141) rfl).trans bif_dec
theorem r_X7_chain_255 {d : Nat} {b0 : Nat} {x7 : Int32} {l0 l1 l2 l3 l4 l5 l6 : Option Value} {h : AH} : R_X7_chain d 255 [l0, l1, l2, l3, l4, l5, l6, some (.int (x7))] [.ref b0] h = (hai h 0 b0 x7).bind fun v => R_X7_chain d 258 [l0, l1, l2, l3, l4, l5, l6, some (.int (x7))] [.int v] h := by
  refine (p_iload rfl rfl).trans ?_
  exact s_iald rfl
theorem r_X7_chain_187 {d : Nat} {x6 : Int32} {l0 l1 l2 l3 l4 l5 l7 : Option Value} {h : AH} : R_X7_chain d 187 [l0, l1, l2, l3, l4, l5, some (.int (x6)), l7] [] h = R_X7_chain d 102 [l0, l1, l2, l3, l4, l5, some (.int (x6 + (nI 1))), l7] [] h := by
  refine (p_iinc rfl rfl rfl).trans ?_
  refine (p_goto rfl).trans ?_
  exact rfl
theorem r_X7_chain_141 {d : Nat} {a0 : Nat} {l1 l2 l3 l4 l5 l6 l7 : Option Value} {h : AH} : R_X7_chain d 141 [some (.ref a0), l1, l2, l3, l4, l5, l6, l7] [] h = (hgf h [18] a0 21).bind fun v => R_X7_chain d 145 [some (.ref a0), l1, l2, l3, l4, l5, l6, l7] [v] h := by
  refine (p_aload rfl rfl).trans ?_
  exact s_getf rfl
theorem r_X7_chain_258 {d : Nat} {s0 : Int32} {a0 : Nat} {l1 l2 l3 l4 l5 l6 l7 : Option Value} {h : AH} : R_X7_chain d 258 [some (.ref a0), l1, l2, l3, l4, l5, l6, l7] [.int (s0)] h = (hgf h [18] a0 21).bind fun v => R_X7_chain d 262 [some (.ref a0), l1, l2, l3, l4, l5, l6, l7] [v, .int (s0)] h := by
  refine (p_aload rfl rfl).trans ?_
  exact s_getf rfl
theorem r_X7_chain_145 {d : Nat} {b0 : Nat} {x7 : Int32} {l0 l1 l2 l3 l4 l5 l6 : Option Value} {h : AH} : R_X7_chain d 145 [l0, l1, l2, l3, l4, l5, l6, some (.int (x7))] [.ref b0] h = (hai h 0 b0 x7).bind fun v => R_X7_chain d 148 [l0, l1, l2, l3, l4, l5, l6, some (.int (x7))] [.int v] h := by
  refine (p_iload rfl rfl).trans ?_
  exact s_iald rfl
theorem r_X7_chain_262 {d : Nat} {s0 x5 : Int32} {b1 : Nat} {l0 l1 l2 l3 l4 l6 l7 : Option Value} {h : AH} : R_X7_chain d 262 [l0, l1, l2, l3, l4, some (.int (x5)), l6, l7] [.ref b1, .int (s0)] h = (hai h 0 b1 x5).bind fun v => R_X7_chain d 265 [l0, l1, l2, l3, l4, some (.int (x5)), l6, l7] [.int v, .int (s0)] h := by
  refine (p_iload rfl rfl).trans ?_
  exact s_iald rfl
theorem r_X7_chain_148 {d : Nat} {s0 x5 : Int32} {l0 l1 l2 l3 l4 l6 l7 : Option Value} {h : AH} : R_X7_chain d 148 [l0, l1, l2, l3, l4, some (.int (x5)), l6, l7] [.int (s0)] h = if ¬ s0 = (x5 - (nI 1)) then R_X7_chain d 181 [l0, l1, l2, l3, l4, some (.int (x5)), l6, l7] [] h else R_X7_chain d 155 [l0, l1, l2, l3, l4, some (.int (x5)), l6, l7] [] h := by
  refine (p_iload rfl rfl).trans ?_
  refine (p_const rfl).trans ?_
  refine (p_bin rfl).trans ?_
  exact (s_icmp (g := (fun x y => decide (¬ x = y))) (t := 181) (nx := 155) rfl).trans bif_dec
theorem r_X7_chain_265 {d : Nat} {s0 s1 : Int32} {l0 l1 l2 l3 l4 l5 l6 l7 : Option Value} {h : AH} : R_X7_chain d 265 [l0, l1, l2, l3, l4, l5, l6, l7] [.int (s1), .int (s0)] h = if ¬ s0 = (s1 - (nI 1)) then R_X7_chain d 287 [l0, l1, l2, l3, l4, l5, l6, l7] [] h else R_X7_chain d 270 [l0, l1, l2, l3, l4, l5, l6, l7] [] h := by
  refine (p_const rfl).trans ?_
  refine (p_bin rfl).trans ?_
  exact (s_icmp (g := (fun x y => decide (¬ x = y))) (t := 287) (nx := 270) rfl).trans bif_dec
theorem r_X7_chain_181 {d : Nat} {x7 : Int32} {l0 l1 l2 l3 l4 l5 l6 : Option Value} {h : AH} : R_X7_chain d 181 [l0, l1, l2, l3, l4, l5, l6, some (.int (x7))] [] h = R_X7_chain d 130 [l0, l1, l2, l3, l4, l5, l6, some (.int (x7 + (nI 1)))] [] h := by
  refine (p_iinc rfl rfl rfl).trans ?_
  refine (p_goto rfl).trans ?_
  exact rfl
theorem r_X7_chain_155 {d : Nat} {a0 : Nat} {l1 l2 l3 l4 l5 l6 l7 : Option Value} {h : AH} : R_X7_chain d 155 [some (.ref a0), l1, l2, l3, l4, l5, l6, l7] [] h = (hgf h [18] a0 18).bind fun v => R_X7_chain d 159 [some (.ref a0), l1, l2, l3, l4, l5, l6, l7] [v] h := by
  refine (p_aload rfl rfl).trans ?_
  exact s_getf rfl
theorem r_X7_chain_287 {d : Nat} {x7 : Int32} {l0 l1 l2 l3 l4 l5 l6 : Option Value} {h : AH} : R_X7_chain d 287 [l0, l1, l2, l3, l4, l5, l6, some (.int (x7))] [] h = R_X7_chain d 251 [l0, l1, l2, l3, l4, l5, l6, some (.int (x7 + (nI 1)))] [] h := by
  refine (p_iinc rfl rfl rfl).trans ?_
  refine (p_goto rfl).trans ?_
  exact rfl
theorem r_X7_chain_270 {d : Nat} {a0 : Nat} {l1 l2 l3 l4 l5 l6 l7 : Option Value} {h : AH} : R_X7_chain d 270 [some (.ref a0), l1, l2, l3, l4, l5, l6, l7] [] h = (hgf h [18] a0 18).bind fun v => R_X7_chain d 274 [some (.ref a0), l1, l2, l3, l4, l5, l6, l7] [v] h := by
  refine (p_aload rfl rfl).trans ?_
  exact s_getf rfl
theorem r_X7_chain_159 {d : Nat} {b0 : Nat} {x6 x7 : Int32} {l0 l1 l2 l3 l4 l5 : Option Value} {h : AH} : R_X7_chain d 159 [l0, l1, l2, l3, l4, l5, some (.int (x6)), some (.int (x7))] [.ref b0] h = (hai h 0 b0 (((nI 12) * x6) + x7)).bind fun v => R_X7_chain d 168 [l0, l1, l2, l3, l4, l5, some (.int (x6)), some (.int (x7))] [.int v] h := by
  refine (p_const rfl).trans ?_
  refine (p_iload rfl rfl).trans ?_
  refine (p_bin rfl).trans ?_
  refine (p_iload rfl rfl).trans ?_
  refine (p_bin rfl).trans ?_
  exact s_iald rfl
theorem r_X7_chain_274 {d : Nat} {b0 : Nat} {x5 x7 : Int32} {l0 l1 l2 l3 l4 l6 : Option Value} {h : AH} : R_X7_chain d 274 [l0, l1, l2, l3, l4, some (.int (x5)), l6, some (.int (x7))] [.ref b0] h = (hai h 0 b0 (((nI 12) * x5) + x7)).bind fun v => R_X7_chain d 283 [l0, l1, l2, l3, l4, some (.int (x5)), l6, some (.int (x7))] [.int v] h := by
  refine (p_const rfl).trans ?_
  refine (p_iload rfl rfl).trans ?_
  refine (p_bin rfl).trans ?_
  refine (p_iload rfl rfl).trans ?_
  refine (p_bin rfl).trans ?_
  exact s_iald rfl
theorem r_X7_chain_168 {d : Nat} {s0 x3 : Int32} {l0 l1 l2 l4 l5 l6 l7 : Option Value} {h : AH} : R_X7_chain d 168 [l0, l1, l2, some (.int (x3)), l4, l5, l6, l7] [.int (s0)] h = if s0 < x3 then R_X7_chain d 181 [l0, l1, l2, some (.int (x3)), l4, l5, l6, l7] [] h else R_X7_chain d 172 [l0, l1, l2, some (.int (x3)), l4, l5, l6, l7] [] h := by
  refine (p_iload rfl rfl).trans ?_
  exact (s_icmp (g := (fun x y => decide (x < y))) (t := 181) (nx := 172) rfl).trans bif_dec
theorem r_X7_chain_283 {d : Nat} {s0 x3 : Int32} {l0 l1 l2 l4 l5 l6 l7 : Option Value} {h : AH} : R_X7_chain d 283 [l0, l1, l2, some (.int (x3)), l4, l5, l6, l7] [.int (s0)] h = if x3 ≤ s0 then R_X7_chain d 293 [l0, l1, l2, some (.int (x3)), l4, l5, l6, l7] [] h else R_X7_chain d 287 [l0, l1, l2, some (.int (x3)), l4, l5, l6, l7] [] h := by
  refine (p_iload rfl rfl).trans ?_
  exact (s_icmp (g := (fun x y => decide (y ≤ x))) (t := 293) (nx := 287) rfl).trans bif_dec
theorem r_X7_chain_172 {d : Nat} {a0 : Nat} {l1 l2 l3 l4 l5 l6 l7 : Option Value} {h : AH} : R_X7_chain d 172 [some (.ref a0), l1, l2, l3, l4, l5, l6, l7] [] h = (hgf h [18] a0 21).bind fun v => R_X7_chain d 176 [some (.ref a0), l1, l2, l3, l4, l5, l6, l7] [v] h := by
  refine (p_aload rfl rfl).trans ?_
  exact s_getf rfl
theorem r_X7_chain_293 {d : Nat} {x7 x6 : Int32} {l0 l1 l2 l3 l4 l5 : Option Value} {h : AH} : R_X7_chain d 293 [l0, l1, l2, l3, l4, l5, some (.int (x6)), some (.int (x7))] [] h = R_X7_chain d 241 [l0, l1, l2, l3, l4, some (.int (x7)), some (.int (x6 + (nI 1))), some (.int (x7))] [] h := by
  refine (p_iload rfl rfl).trans ?_
  refine (p_istore rfl rfl rfl).trans ?_
  refine (p_iinc rfl rfl rfl).trans ?_
  refine (p_goto rfl).trans ?_
  exact rfl
theorem r_X7_chain_176 {d : Nat} {b0 : Nat} {x6 x5 : Int32} {l0 l1 l2 l3 l4 l7 : Option Value} {h : AH} : R_X7_chain d 176 [l0, l1, l2, l3, l4, some (.int (x5)), some (.int (x6)), l7] [.ref b0] h = (hsi h 0 b0 x6 x5).bind fun h1 => R_X7_chain d 181 [l0, l1, l2, l3, l4, some (.int (x5)), some (.int (x6)), l7] [] h1 := by
  refine (p_iload rfl rfl).trans ?_
  refine (p_iload rfl rfl).trans ?_
  exact s_iast (t := 0) (nar := (fun y => y)) rfl
theorem e_X7_chain {d : Nat} {a0 : Nat} {x1 x2 x3 x4 : Int32} {h : AH} : exec tTab (d + 1) K_X7_chain [.ref a0, .int x1, .int x2, .int x3, .int x4] h = R_X7_chain d 0 [some (.ref a0), some (.int x1), some (.int x2), some (.int x3), some (.int x4), none, none, none] [] h := exec_eq (cd := k_X7_chain) (hd := (fun _ _ => some none)) (L := 8) rfl rfl rfl
/-- FavourTownModel.ring()I -/
abbrev K_X7_ring : Nat := 226
noncomputable def R_X7_ring (d pc : Nat) (ls : ALs) (st : List Value) (h : AH) : Option (AOut × AH) := aR (exec tTab d) k_X7_ring (fun _ _ => some none) (pc, ls, st, h)
theorem r_X7_ring_0 {d : Nat} {a0 : Nat} {l1 l2 l3 l4 : Option Value} {h : AH} : R_X7_ring d 0 [some (.ref a0), l1, l2, l3, l4] [] h = (hgf h [18] a0 6).bind fun v => R_X7_ring d 4 [some (.ref a0), l1, l2, l3, l4] [v] h := by
  refine (p_aload rfl rfl).trans ?_
  exact s_getf rfl
theorem r_X7_ring_4 {d : Nat} {s0 : Int32} {a0 : Nat} {l1 l2 l3 l4 : Option Value} {h : AH} : R_X7_ring d 4 [some (.ref a0), l1, l2, l3, l4] [.int (s0)] h = (hpf h [18] a0 6 (.int ((nI 0)))).bind fun h1 => R_X7_ring d 10 [some (.ref a0), some (.int (s0)), l2, l3, l4] [] h1 := by
  refine (p_istore rfl rfl rfl).trans ?_
  refine (p_aload rfl rfl).trans ?_
  refine (p_const rfl).trans ?_
  exact s_putT rfl rfl
theorem r_X7_ring_10 {d : Nat} {x1 : Int32} {l0 l2 l3 l4 : Option Value} {h : AH} : R_X7_ring d 10 [l0, some (.int (x1)), l2, l3, l4] [] h = aK (exec tTab d 153 [.int (x1), .int ((nI 2)), .int ((nI 6))] h) (fun v h1 => R_X7_ring d 17 [l0, some (.int (x1)), l2, l3, l4] (v.toList ++ []) h1) (fun E h1 => some (.inr E, h1)) := by
  refine (p_iload rfl rfl).trans ?_
  refine (p_const rfl).trans ?_
  refine (p_const rfl).trans ?_
  exact s_callS (y := 153) (n := 3) rfl rfl
theorem r_X7_ring_17 {d : Nat} {s0 : Int32} {l0 l1 l2 l3 l4 : Option Value} {h : AH} : R_X7_ring d 17 [l0, l1, l2, l3, l4] [.int (s0)] h = R_X7_ring d 20 [l0, l1, some (.int (s0)), some (.int ((nI 0))), l4] [] h := by
  refine (p_istore rfl rfl rfl).trans ?_
  refine (p_const rfl).trans ?_
  refine (p_istore rfl rfl rfl).trans ?_
  exact rfl
theorem q_X7_ring_20 {d : Nat} {x2 : Int32} {l0 l1 l3 l4 : Option Value} {h : AH} : R_X7_ring d 20 [l0, l1, some (.int (x2)), l3, l4] [] h = if x2 = 0 then R_X7_ring d 90 [l0, l1, some (.int (x2)), l3, l4] [] h else R_X7_ring d 24 [l0, l1, some (.int (x2)), l3, l4] [] h := by
  refine (p_iload rfl rfl).trans ?_
  exact (s_if (g := (fun x => decide (x = 0))) (t := 90) (nx := 24) rfl).trans bif_dec
theorem r_X7_ring_90 {d : Nat} {a0 : Nat} {x2 : Int32} {l1 l3 l4 : Option Value} {h : AH} : R_X7_ring d 90 [some (.ref a0), l1, some (.int (x2)), l3, l4] [] h = if ¬ x2 = 0 then R_X7_ring d 99 [some (.ref a0), l1, some (.int (x2)), l3, l4] [.ref a0] h else R_X7_ring d 95 [some (.ref a0), l1, some (.int (x2)), l3, l4] [.ref a0] h := by
  refine (p_aload rfl rfl).trans ?_
  refine (p_iload rfl rfl).trans ?_
  exact (s_if (g := (fun x => decide (¬ x = 0))) (t := 99) (nx := 95) rfl).trans bif_dec
theorem r_X7_ring_24 {d : Nat} {x3 x1 : Int32} {l0 l2 l4 : Option Value} {h : AH} : R_X7_ring d 24 [l0, some (.int (x1)), l2, some (.int (x3)), l4] [] h = if x1 ≤ x3 then R_X7_ring d 90 [l0, some (.int (x1)), l2, some (.int (x3)), l4] [] h else R_X7_ring d 29 [l0, some (.int (x1)), l2, some (.int (x3)), l4] [] h := by
  refine (p_iload rfl rfl).trans ?_
  refine (p_iload rfl rfl).trans ?_
  exact (s_icmp (g := (fun x y => decide (y ≤ x))) (t := 90) (nx := 29) rfl).trans bif_dec
theorem r_X7_ring_99 {d : Nat} {b0 a0 : Nat} {l1 l2 l3 l4 : Option Value} {h : AH} : R_X7_ring d 99 [some (.ref a0), l1, l2, l3, l4] [.ref b0] h = (hgf h [18] a0 1).bind fun v => R_X7_ring d 103 [some (.ref a0), l1, l2, l3, l4] [v, .ref b0] h := by
  refine (p_aload rfl rfl).trans ?_
  exact s_getf rfl
theorem r_X7_ring_99N {d : Nat} {a0 : Nat} {l1 l2 l3 l4 : Option Value} {h : AH} : R_X7_ring d 99 [some (.ref a0), l1, l2, l3, l4] [.null] h = (hgf h [18] a0 1).bind fun v => R_X7_ring d 103 [some (.ref a0), l1, l2, l3, l4] [v, .null] h := by
  refine (p_aload rfl rfl).trans ?_
  exact s_getf rfl
theorem r_X7_ring_95 {d : Nat} {b0 : Nat} {l0 l1 l2 l3 l4 : Option Value} {h : AH} : R_X7_ring d 95 [l0, l1, l2, l3, l4] [.ref b0] h = (hpf h [18] b0 0 (.int ((nI 1)))).bind fun h1 => R_X7_ring d 118 [l0, l1, l2, l3, l4] [] h1 := by
  refine (p_const rfl).trans ?_
  refine (p_goto rfl).trans ?_
  exact s_putT rfl rfl
theorem r_X7_ring_29 {d : Nat} {a0 : Nat} {l1 l2 l3 l4 : Option Value} {h : AH} : R_X7_ring d 29 [some (.ref a0), l1, l2, l3, l4] [] h = (hgf h [18] a0 5).bind fun v => R_X7_ring d 34 [some (.ref a0), l1, l2, l3, l4] [v, .ref a0] h := by
  refine (p_aload rfl rfl).trans ?_
  refine (p_aload rfl rfl).trans ?_
  exact s_getf rfl
theorem r_X7_ring_103 {d : Nat} {b0 b1 : Nat} {l0 l1 l2 l3 l4 : Option Value} {h : AH} : R_X7_ring d 103 [l0, l1, l2, l3, l4] [.ref b1, .ref b0] h = (hai h 0 b1 (nI 5)).bind fun v => R_X7_ring d 105 [l0, l1, l2, l3, l4] [.int v, .ref b0] h := by
  refine (p_const rfl).trans ?_
  exact s_iald rfl
theorem r_X7_ring_118 {d : Nat} {a0 : Nat} {l1 l2 l3 l4 : Option Value} {h : AH} : R_X7_ring d 118 [some (.ref a0), l1, l2, l3, l4] [] h = (hgf h [18] a0 0).bind fun v => R_X7_ring d 122 [some (.ref a0), l1, l2, l3, l4] [v] h := by
  refine (p_aload rfl rfl).trans ?_
  exact s_getf rfl
theorem r_X7_ring_34 {d : Nat} {b0 b1 : Nat} {x3 : Int32} {l0 l1 l2 l4 : Option Value} {h : AH} : R_X7_ring d 34 [l0, l1, l2, some (.int (x3)), l4] [.ref b1, .ref b0] h = (hai h 0 b1 x3).bind fun v => R_X7_ring d 36 [l0, l1, l2, some (.int (x3)), l4] [.int v, .ref b0] h := by
  refine (p_iload rfl rfl).trans ?_
  exact s_iald rfl
theorem r_X7_ring_105 {d : Nat} {b0 : Nat} {s1 : Int32} {l0 l1 l2 l3 l4 : Option Value} {h : AH} : R_X7_ring d 105 [l0, l1, l2, l3, l4] [.int (s1), .ref b0] h = if ¬ s1 = (nI 8) then R_X7_ring d 114 [l0, l1, l2, l3, l4] [.ref b0] h else R_X7_ring d 110 [l0, l1, l2, l3, l4] [.ref b0] h := by
  refine (p_const rfl).trans ?_
  exact (s_icmp (g := (fun x y => decide (¬ x = y))) (t := 114) (nx := 110) rfl).trans bif_dec
theorem r_X7_ring_122 {d : Nat} {s0 : Int32} {l0 l1 l2 l3 l4 : Option Value} {h : AH} : R_X7_ring d 122 [l0, l1, l2, l3, l4] [.int (s0)] h = if s0 ≤ 0 then R_X7_ring d 127 [l0, l1, l2, l3, l4] [] h else R_X7_ring d 125 [l0, l1, l2, l3, l4] [] h := (s_if (g := (fun x => decide (x ≤ 0))) (t := 127) (nx := 125) rfl).trans bif_dec
theorem r_X7_ring_36 {d : Nat} {b0 : Nat} {s1 : Int32} {l0 l1 l2 l3 l4 : Option Value} {h : AH} : R_X7_ring d 36 [l0, l1, l2, l3, l4] [.int (s1), .ref b0] h = ((hci h b0).bind (lkN [(18, 188)])).bind fun y => aK (exec tTab d y [.ref b0, .int (s1 - (nI 97))] h) (fun v h1 => R_X7_ring d 42 [l0, l1, l2, l3, l4] (v.toList ++ []) h1) (fun E h1 => some (.inr E, h1)) := by
  refine (p_const rfl).trans ?_
  refine (p_bin rfl).trans ?_
  exact s_callV (L := [(18, 188)]) (n := 1) (b := b0) (rest := []) rfl rfl rfl
theorem r_X7_ring_114 {d : Nat} {b0 : Nat} {l0 l1 l2 l3 l4 : Option Value} {h : AH} : R_X7_ring d 114 [l0, l1, l2, l3, l4] [.ref b0] h = (hpf h [18] b0 0 (.int ((nI 0)))).bind fun h1 => R_X7_ring d 118 [l0, l1, l2, l3, l4] [] h1 := by
  refine (p_const rfl).trans ?_
  exact s_putT rfl rfl
theorem r_X7_ring_110 {d : Nat} {b0 : Nat} {l0 l1 l2 l3 l4 : Option Value} {h : AH} : R_X7_ring d 110 [l0, l1, l2, l3, l4] [.ref b0] h = (hpf h [18] b0 0 (.int ((nI 2)))).bind fun h1 => R_X7_ring d 118 [l0, l1, l2, l3, l4] [] h1 := by
  refine (p_const rfl).trans ?_
  refine (p_goto rfl).trans ?_
  exact s_putT rfl rfl
theorem r_X7_ring_127 {d : Nat} {a0 : Nat} {l1 l2 l3 l4 : Option Value} {h : AH} : R_X7_ring d 127 [some (.ref a0), l1, l2, l3, l4] [] h = (hgf h [18] a0 1).bind fun v => R_X7_ring d 135 [some (.ref a0), l1, l2, l3, l4] [v, .int ((nI 7)), .int ((nI 82))] h := by
  refine (p_const rfl).trans ?_
  refine (p_const rfl).trans ?_
  refine (p_aload rfl rfl).trans ?_
  exact s_getf rfl
theorem r_X7_ring_125 {d : Nat} {l0 l1 l2 l3 l4 : Option Value} {h : AH} : R_X7_ring d 125 [l0, l1, l2, l3, l4] [] h = some (.inl (some (.int ((nI 0)))), h) := by
  refine (p_const rfl).trans ?_
  exact s_iretT rfl rfl
theorem r_X7_ring_42 {d : Nat} {s0 : Int32} {l0 l1 l2 l3 l4 : Option Value} {h : AH} : R_X7_ring d 42 [l0, l1, l2, l3, l4] [.int (s0)] h = R_X7_ring d 46 [l0, l1, some (.int (s0)), l3, some (.int ((nI 0)))] [] h := by
  refine (p_istore rfl rfl rfl).trans ?_
  refine (p_const rfl).trans ?_
  refine (p_istore rfl rfl rfl).trans ?_
  exact rfl
theorem r_X7_ring_135 {d : Nat} {s0 s1 : Int32} {b2 : Nat} {l0 l1 l2 l3 l4 : Option Value} {h : AH} : R_X7_ring d 135 [l0, l1, l2, l3, l4] [.ref b2, .int (s1), .int (s0)] h = (hai h 0 b2 (nI 5)).bind fun v => R_X7_ring d 137 [l0, l1, l2, l3, l4] [.int v, .int (s1), .int (s0)] h := by
  refine (p_const rfl).trans ?_
  exact s_iald rfl
theorem q_X7_ring_46 {d : Nat} {x4 x3 : Int32} {l0 l1 l2 : Option Value} {h : AH} : R_X7_ring d 46 [l0, l1, l2, some (.int (x3)), some (.int (x4))] [] h = if x3 ≤ x4 then R_X7_ring d 84 [l0, l1, l2, some (.int (x3)), some (.int (x4))] [] h else R_X7_ring d 52 [l0, l1, l2, some (.int (x3)), some (.int (x4))] [] h := by
  refine (p_iload rfl rfl).trans ?_
  refine (p_iload rfl rfl).trans ?_
  exact (s_icmp (g := (fun x y => decide (y ≤ x))) (t := 84) (nx := 52) rfl).trans bif_dec
theorem r_X7_ring_137 {d : Nat} {s0 s1 s2 : Int32} {a0 : Nat} {l1 l2 l3 l4 : Option Value} {h : AH} : R_X7_ring d 137 [some (.ref a0), l1, l2, l3, l4] [.int (s2), .int (s1), .int (s0)] h = (hgf h [18] a0 1).bind fun v => R_X7_ring d 144 [some (.ref a0), l1, l2, some (.int (s0 + (s1 * s2))), l4] [v] h := by
  refine (p_bin rfl).trans ?_
  refine (p_bin rfl).trans ?_
  refine (p_istore rfl rfl rfl).trans ?_
  refine (p_aload rfl rfl).trans ?_
  exact s_getf rfl
theorem r_X7_ring_84 {d : Nat} {x3 : Int32} {l0 l1 l2 l4 : Option Value} {h : AH} : R_X7_ring d 84 [l0, l1, l2, some (.int (x3)), l4] [] h = R_X7_ring d 20 [l0, l1, l2, some (.int (x3 + (nI 1))), l4] [] h := by
  refine (p_iinc rfl rfl rfl).trans ?_
  refine (p_goto rfl).trans ?_
  exact rfl
theorem r_X7_ring_52 {d : Nat} {x2 : Int32} {l0 l1 l3 l4 : Option Value} {h : AH} : R_X7_ring d 52 [l0, l1, some (.int (x2)), l3, l4] [] h = if x2 = 0 then R_X7_ring d 76 [l0, l1, some (.int (x2)), l3, l4] [] h else R_X7_ring d 56 [l0, l1, some (.int (x2)), l3, l4] [] h := by
  refine (p_iload rfl rfl).trans ?_
  exact (s_if (g := (fun x => decide (x = 0))) (t := 76) (nx := 56) rfl).trans bif_dec
theorem r_X7_ring_144 {d : Nat} {b0 : Nat} {x3 x1 : Int32} {l0 l2 l4 : Option Value} {h : AH} : R_X7_ring d 144 [l0, some (.int (x1)), l2, some (.int (x3)), l4] [.ref b0] h = (hsi h 0 b0 x3 x1).bind fun h1 => R_X7_ring d 147 [l0, some (.int (x1)), l2, some (.int (x3)), l4] [] h1 := by
  refine (p_iload rfl rfl).trans ?_
  refine (p_iload rfl rfl).trans ?_
  exact s_iast (t := 0) (nar := (fun y => y)) rfl
theorem r_X7_ring_76 {d : Nat} {x4 : Int32} {l0 l1 l2 l3 : Option Value} {h : AH} : R_X7_ring d 76 [l0, l1, l2, l3, some (.int (x4))] [] h = R_X7_ring d 46 [l0, l1, some (.int ((nI 0))), l3, some (.int (x4 + (nI 1)))] [] h := by
  refine (p_const rfl).trans ?_
  refine (p_istore rfl rfl rfl).trans ?_
  refine (p_iinc rfl rfl rfl).trans ?_
  refine (p_goto rfl).trans ?_
  exact rfl
theorem r_X7_ring_56 {d : Nat} {a0 : Nat} {l1 l2 l3 l4 : Option Value} {h : AH} : R_X7_ring d 56 [some (.ref a0), l1, l2, l3, l4] [] h = (hgf h [18] a0 5).bind fun v => R_X7_ring d 60 [some (.ref a0), l1, l2, l3, l4] [v] h := by
  refine (p_aload rfl rfl).trans ?_
  exact s_getf rfl
theorem r_X7_ring_147 {d : Nat} {l0 l1 l2 l3 l4 : Option Value} {h : AH} : R_X7_ring d 147 [l0, l1, l2, l3, l4] [] h = R_X7_ring d 150 [l0, l1, l2, l3, some (.int ((nI 0)))] [] h := by
  refine (p_const rfl).trans ?_
  refine (p_istore rfl rfl rfl).trans ?_
  exact rfl
theorem r_X7_ring_60 {d : Nat} {b0 : Nat} {x4 : Int32} {l0 l1 l2 l3 : Option Value} {h : AH} : R_X7_ring d 60 [l0, l1, l2, l3, some (.int (x4))] [.ref b0] h = (hai h 0 b0 x4).bind fun v => R_X7_ring d 63 [l0, l1, l2, l3, some (.int (x4))] [.int v] h := by
  refine (p_iload rfl rfl).trans ?_
  exact s_iald rfl
theorem q_X7_ring_150 {d : Nat} {x4 x1 : Int32} {l0 l2 l3 : Option Value} {h : AH} : R_X7_ring d 150 [l0, some (.int (x1)), l2, l3, some (.int (x4))] [] h = if x1 ≤ x4 then R_X7_ring d 183 [l0, some (.int (x1)), l2, l3, some (.int (x4))] [] h else R_X7_ring d 156 [l0, some (.int (x1)), l2, l3, some (.int (x4))] [] h := by
  refine (p_iload rfl rfl).trans ?_
  refine (p_iload rfl rfl).trans ?_
  exact (s_icmp (g := (fun x y => decide (y ≤ x))) (t := 183) (nx := 156) rfl).trans bif_dec
theorem r_X7_ring_63 {d : Nat} {s0 : Int32} {a0 : Nat} {l1 l2 l3 l4 : Option Value} {h : AH} : R_X7_ring d 63 [some (.ref a0), l1, l2, l3, l4] [.int (s0)] h = (hgf h [18] a0 5).bind fun v => R_X7_ring d 67 [some (.ref a0), l1, l2, l3, l4] [v, .int (s0)] h := by
  refine (p_aload rfl rfl).trans ?_
  exact s_getf rfl
theorem r_X7_ring_183 {d : Nat} {a0 : Nat} {l1 l2 l3 l4 : Option Value} {h : AH} : R_X7_ring d 183 [some (.ref a0), l1, l2, l3, l4] [] h = (hgf h [18] a0 1).bind fun v => R_X7_ring d 187 [some (.ref a0), l1, l2, l3, l4] [v] h := by
  refine (p_aload rfl rfl).trans ?_
  exact s_getf rfl
theorem r_X7_ring_156 {d : Nat} {a0 : Nat} {l1 l2 l3 l4 : Option Value} {h : AH} : R_X7_ring d 156 [some (.ref a0), l1, l2, l3, l4] [] h = (hgf h [18] a0 1).bind fun v => R_X7_ring d 160 [some (.ref a0), l1, l2, l3, l4] [v] h := by
  refine (p_aload rfl rfl).trans ?_
  exact s_getf rfl
theorem r_X7_ring_67 {d : Nat} {s0 x3 : Int32} {b1 : Nat} {l0 l1 l2 l4 : Option Value} {h : AH} : R_X7_ring d 67 [l0, l1, l2, some (.int (x3)), l4] [.ref b1, .int (s0)] h = (hai h 0 b1 x3).bind fun v => R_X7_ring d 69 [l0, l1, l2, some (.int (x3)), l4] [.int v, .int (s0)] h := by
  refine (p_iload rfl rfl).trans ?_
  exact s_iald rfl
theorem r_X7_ring_187 {d : Nat} {b0 : Nat} {l0 l1 l2 l3 l4 : Option Value} {h : AH} : R_X7_ring d 187 [l0, l1, l2, l3, l4] [.ref b0] h = (hai h 0 b0 (nI 5)).bind fun v => R_X7_ring d 190 [l0, l1, l2, l3, l4] [.int v, .int ((nI 5)), .ref b0] h := by
  refine (p_const rfl).trans ?_
  refine (p_dup2 rfl rfl).trans ?_
  exact s_iald rfl
theorem r_X7_ring_160 {d : Nat} {b0 a0 : Nat} {x3 x4 : Int32} {l1 l2 : Option Value} {h : AH} : R_X7_ring d 160 [some (.ref a0), l1, l2, some (.int (x3)), some (.int (x4))] [.ref b0] h = (hgf h [18] a0 5).bind fun v => R_X7_ring d 170 [some (.ref a0), l1, l2, some (.int (x3)), some (.int (x4))] [v, .int ((x3 + (nI 1)) + x4), .ref b0] h := by
  refine (p_iload rfl rfl).trans ?_
  refine (p_const rfl).trans ?_
  refine (p_bin rfl).trans ?_
  refine (p_iload rfl rfl).trans ?_
  refine (p_bin rfl).trans ?_
  refine (p_aload rfl rfl).trans ?_
  exact s_getf rfl
theorem r_X7_ring_160N {d : Nat} {x3 x4 : Int32} {a0 : Nat} {l1 l2 : Option Value} {h : AH} : R_X7_ring d 160 [some (.ref a0), l1, l2, some (.int (x3)), some (.int (x4))] [.null] h = (hgf h [18] a0 5).bind fun v => R_X7_ring d 170 [some (.ref a0), l1, l2, some (.int (x3)), some (.int (x4))] [v, .int ((x3 + (nI 1)) + x4), .null] h := by
  refine (p_iload rfl rfl).trans ?_
  refine (p_const rfl).trans ?_
  refine (p_bin rfl).trans ?_
  refine (p_iload rfl rfl).trans ?_
  refine (p_bin rfl).trans ?_
  refine (p_aload rfl rfl).trans ?_
  exact s_getf rfl
theorem r_X7_ring_69 {d : Nat} {s0 s1 : Int32} {l0 l1 l2 l3 l4 : Option Value} {h : AH} : R_X7_ring d 69 [l0, l1, l2, l3, l4] [.int (s1), .int (s0)] h = if s0 = s1 then R_X7_ring d 76 [l0, l1, l2, l3, l4] [] h else R_X7_ring d 72 [l0, l1, l2, l3, l4] [] h := (s_icmp (g := (fun x y => decide (x = y))) (t := 76) (nx := 72) rfl).trans bif_dec
theorem r_X7_ring_190 {d : Nat} {b0 : Nat} {s1 s2 : Int32} {l0 l1 l2 l3 l4 : Option Value} {h : AH} : R_X7_ring d 190 [l0, l1, l2, l3, l4] [.int (s2), .int (s1), .ref b0] h = (hsi h 0 b0 s1 (s2 + (nI 1))).bind fun h1 => R_X7_ring d 193 [l0, l1, l2, l3, l4] [] h1 := by
  refine (p_const rfl).trans ?_
  refine (p_bin rfl).trans ?_
  exact s_iast (t := 0) (nar := (fun y => y)) rfl
theorem r_X7_ring_170 {d : Nat} {b0 b2 : Nat} {s1 x4 : Int32} {l0 l1 l2 l3 : Option Value} {h : AH} : R_X7_ring d 170 [l0, l1, l2, l3, some (.int (x4))] [.ref b2, .int (s1), .ref b0] h = (hai h 0 b2 x4).bind fun v => R_X7_ring d 173 [l0, l1, l2, l3, some (.int (x4))] [.int v, .int (s1), .ref b0] h := by
  refine (p_iload rfl rfl).trans ?_
  exact s_iald rfl
theorem r_X7_ring_72 {d : Nat} {x4 : Int32} {l0 l1 l2 l3 : Option Value} {h : AH} : R_X7_ring d 72 [l0, l1, l2, l3, some (.int (x4))] [] h = R_X7_ring d 46 [l0, l1, some (.int ((nI 1))), l3, some (.int (x4 + (nI 1)))] [] h := by
  refine (p_const rfl).trans ?_
  refine (p_goto rfl).trans ?_
  refine (p_istore rfl rfl rfl).trans ?_
  refine (p_iinc rfl rfl rfl).trans ?_
  refine (p_goto rfl).trans ?_
  exact rfl
theorem r_X7_ring_193 {d : Nat} {a0 : Nat} {l1 l2 l3 l4 : Option Value} {h : AH} : R_X7_ring d 193 [some (.ref a0), l1, l2, l3, l4] [] h = (hgf h [18] a0 1).bind fun v => R_X7_ring d 197 [some (.ref a0), l1, l2, l3, l4] [v] h := by
  refine (p_aload rfl rfl).trans ?_
  exact s_getf rfl
theorem r_X7_ring_173 {d : Nat} {b0 : Nat} {s1 s2 : Int32} {l0 l1 l2 l3 l4 : Option Value} {h : AH} : R_X7_ring d 173 [l0, l1, l2, l3, l4] [.int (s2), .int (s1), .ref b0] h = (hsi h 0 b0 s1 (s2 - (nI 97))).bind fun h1 => R_X7_ring d 177 [l0, l1, l2, l3, l4] [] h1 := by
  refine (p_const rfl).trans ?_
  refine (p_bin rfl).trans ?_
  exact s_iast (t := 0) (nar := (fun y => y)) rfl
theorem r_X7_ring_197 {d : Nat} {b0 : Nat} {l0 l1 l2 l3 l4 : Option Value} {h : AH} : R_X7_ring d 197 [l0, l1, l2, l3, l4] [.ref b0] h = (hai h 0 b0 (nI 5)).bind fun v => R_X7_ring d 199 [l0, l1, l2, l3, l4] [.int v] h := by
  refine (p_const rfl).trans ?_
  exact s_iald rfl
theorem r_X7_ring_177 {d : Nat} {x4 : Int32} {l0 l1 l2 l3 : Option Value} {h : AH} : R_X7_ring d 177 [l0, l1, l2, l3, some (.int (x4))] [] h = R_X7_ring d 150 [l0, l1, l2, l3, some (.int (x4 + (nI 1)))] [] h := by
  refine (p_iinc rfl rfl rfl).trans ?_
  refine (p_goto rfl).trans ?_
  exact rfl
theorem r_X7_ring_199 {d : Nat} {s0 : Int32} {l0 l1 l2 l3 l4 : Option Value} {h : AH} : R_X7_ring d 199 [l0, l1, l2, l3, l4] [.int (s0)] h = some (.inl (some (.int (s0 - (nI 1)))), h) := by
  refine (p_const rfl).trans ?_
  refine (p_bin rfl).trans ?_
  exact s_iretT rfl rfl
theorem e_X7_ring {d : Nat} {a0 : Nat} {h : AH} : exec tTab (d + 1) K_X7_ring [.ref a0] h = R_X7_ring d 0 [some (.ref a0), none, none, none, none] [] h := exec_eq (cd := k_X7_ring) (hd := (fun _ _ => some none)) (L := 5) rfl rfl rfl
/-- FavourTownModel.clear(I)I -/
abbrev K_X7_clear : Nat := 227
noncomputable def R_X7_clear (d pc : Nat) (ls : ALs) (st : List Value) (h : AH) : Option (AOut × AH) := aR (exec tTab d) k_X7_clear (fun _ _ => some none) (pc, ls, st, h)
theorem r_X7_clear_0 {d : Nat} {a0 : Nat} {x1 : Int32} {l2 l3 : Option Value} {h : AH} : R_X7_clear d 0 [some (.ref a0), some (.int (x1)), l2, l3] [] h = if (-1) ≤ x1 then R_X7_clear d 10 [some (.ref a0), some (.int (x1)), l2, l3] [.ref a0] h else R_X7_clear d 6 [some (.ref a0), some (.int (x1)), l2, l3] [.ref a0] h := by
  refine (p_aload rfl rfl).trans ?_
  refine (p_iload rfl rfl).trans ?_
  refine (p_const rfl).trans ?_
  exact (s_icmp (g := (fun x y => decide (y ≤ x))) (t := 10) (nx := 6) rfl).trans bif_dec
theorem r_X7_clear_10 {d : Nat} {b0 : Nat} {l0 l1 l2 l3 : Option Value} {h : AH} : R_X7_clear d 10 [l0, l1, l2, l3] [.ref b0] h = (hpf h [18] b0 0 (.int ((nI 0)))).bind fun h1 => R_X7_clear d 14 [l0, l1, l2, l3] [] h1 := by
  refine (p_const rfl).trans ?_
  exact s_putT rfl rfl
theorem r_X7_clear_6 {d : Nat} {b0 : Nat} {l0 l1 l2 l3 : Option Value} {h : AH} : R_X7_clear d 6 [l0, l1, l2, l3] [.ref b0] h = (hpf h [18] b0 0 (.int ((nI 1)))).bind fun h1 => R_X7_clear d 14 [l0, l1, l2, l3] [] h1 := by
  refine (p_const rfl).trans ?_
  refine (p_goto rfl).trans ?_
  exact s_putT rfl rfl
theorem r_X7_clear_14 {d : Nat} {a0 : Nat} {l1 l2 l3 : Option Value} {h : AH} : R_X7_clear d 14 [some (.ref a0), l1, l2, l3] [] h = (hgf h [18] a0 0).bind fun v => R_X7_clear d 18 [some (.ref a0), l1, l2, l3] [v] h := by
  refine (p_aload rfl rfl).trans ?_
  exact s_getf rfl
theorem r_X7_clear_18 {d : Nat} {s0 : Int32} {l0 l1 l2 l3 : Option Value} {h : AH} : R_X7_clear d 18 [l0, l1, l2, l3] [.int (s0)] h = if s0 ≤ 0 then R_X7_clear d 23 [l0, l1, l2, l3] [] h else R_X7_clear d 21 [l0, l1, l2, l3] [] h := (s_if (g := (fun x => decide (x ≤ 0))) (t := 23) (nx := 21) rfl).trans bif_dec
theorem r_X7_clear_23 {d : Nat} {l0 l1 l2 l3 : Option Value} {h : AH} : R_X7_clear d 23 [l0, l1, l2, l3] [] h = R_X7_clear d 25 [l0, l1, some (.int ((nI 0))), l3] [] h := by
  refine (p_const rfl).trans ?_
  refine (p_istore rfl rfl rfl).trans ?_
  exact rfl
theorem r_X7_clear_21 {d : Nat} {l0 l1 l2 l3 : Option Value} {h : AH} : R_X7_clear d 21 [l0, l1, l2, l3] [] h = some (.inl (some (.int ((nI 0)))), h) := by
  refine (p_const rfl).trans ?_
  exact s_iretT rfl rfl
theorem q_X7_clear_25 {d : Nat} {x2 : Int32} {a0 : Nat} {l1 l3 : Option Value} {h : AH} : R_X7_clear d 25 [some (.ref a0), l1, some (.int (x2)), l3] [] h = (hgf h [18] a0 1).bind fun v => R_X7_clear d 30 [some (.ref a0), l1, some (.int (x2)), l3] [v, .int (x2)] h := by
  refine (p_iload rfl rfl).trans ?_
  refine (p_aload rfl rfl).trans ?_
  exact s_getf rfl
theorem r_X7_clear_30 {d : Nat} {s0 : Int32} {b1 : Nat} {l0 l1 l2 l3 : Option Value} {h : AH} : R_X7_clear d 30 [l0, l1, l2, l3] [.ref b1, .int (s0)] h = (hai h 0 b1 (nI 1)).bind fun v => R_X7_clear d 32 [l0, l1, l2, l3] [.int v, .int (s0)] h := by
  refine (p_const rfl).trans ?_
  exact s_iald rfl
theorem r_X7_clear_32 {d : Nat} {s0 s1 : Int32} {l0 l1 l2 l3 : Option Value} {h : AH} : R_X7_clear d 32 [l0, l1, l2, l3] [.int (s1), .int (s0)] h = if s1 ≤ s0 then R_X7_clear d 76 [l0, l1, l2, l3] [] h else R_X7_clear d 35 [l0, l1, l2, l3] [] h := (s_icmp (g := (fun x y => decide (y ≤ x))) (t := 76) (nx := 35) rfl).trans bif_dec
theorem r_X7_clear_76 {d : Nat} {a0 : Nat} {l1 l2 l3 : Option Value} {h : AH} : R_X7_clear d 76 [some (.ref a0), l1, l2, l3] [] h = (hpf h [18] a0 25 (.int ((-1)))).bind fun h1 => R_X7_clear d 81 [some (.ref a0), l1, l2, l3] [] h1 := by
  refine (p_aload rfl rfl).trans ?_
  refine (p_const rfl).trans ?_
  exact s_putT rfl rfl
theorem r_X7_clear_35 {d : Nat} {l0 l1 l2 l3 : Option Value} {h : AH} : R_X7_clear d 35 [l0, l1, l2, l3] [] h = R_X7_clear d 37 [l0, l1, l2, some (.int ((nI 0)))] [] h := by
  refine (p_const rfl).trans ?_
  refine (p_istore rfl rfl rfl).trans ?_
  exact rfl
theorem r_X7_clear_81 {d : Nat} {a0 : Nat} {l1 l2 l3 : Option Value} {h : AH} : R_X7_clear d 81 [some (.ref a0), l1, l2, l3] [] h = ((hci h a0).bind (lkN [(18, 228)])).bind fun y => aK (exec tTab d y [.ref a0, .int ((nI 0)), .int ((nI 0)), .int ((nI 0))] h) (fun v h1 => R_X7_clear d 88 [some (.ref a0), l1, l2, l3] (v.toList ++ []) h1) (fun E h1 => some (.inr E, h1)) := by
  refine (p_aload rfl rfl).trans ?_
  refine (p_const rfl).trans ?_
  refine (p_const rfl).trans ?_
  refine (p_const rfl).trans ?_
  exact s_callV (L := [(18, 228)]) (n := 3) (b := a0) (rest := []) rfl rfl rfl
theorem q_X7_clear_37 {d : Nat} {x3 : Int32} {a0 : Nat} {l1 l2 : Option Value} {h : AH} : R_X7_clear d 37 [some (.ref a0), l1, l2, some (.int (x3))] [] h = (hgf h [18] a0 1).bind fun v => R_X7_clear d 42 [some (.ref a0), l1, l2, some (.int (x3))] [v, .int (x3)] h := by
  refine (p_iload rfl rfl).trans ?_
  refine (p_aload rfl rfl).trans ?_
  exact s_getf rfl
theorem r_X7_clear_88 {d : Nat} {x1 : Int32} {l0 l2 l3 : Option Value} {h : AH} : R_X7_clear d 88 [l0, some (.int (x1)), l2, l3] [] h = if ¬ x1 = (-1) then R_X7_clear d 100 [l0, some (.int (x1)), l2, l3] [] h else R_X7_clear d 93 [l0, some (.int (x1)), l2, l3] [] h := by
  refine (p_iload rfl rfl).trans ?_
  refine (p_const rfl).trans ?_
  exact (s_icmp (g := (fun x y => decide (¬ x = y))) (t := 100) (nx := 93) rfl).trans bif_dec
theorem r_X7_clear_42 {d : Nat} {s0 : Int32} {b1 : Nat} {l0 l1 l2 l3 : Option Value} {h : AH} : R_X7_clear d 42 [l0, l1, l2, l3] [.ref b1, .int (s0)] h = (hai h 0 b1 (nI 1)).bind fun v => R_X7_clear d 44 [l0, l1, l2, l3] [.int v, .int (s0)] h := by
  refine (p_const rfl).trans ?_
  exact s_iald rfl
theorem r_X7_clear_100 {d : Nat} {x1 : Int32} {a0 : Nat} {l2 l3 : Option Value} {h : AH} : R_X7_clear d 100 [some (.ref a0), some (.int (x1)), l2, l3] [] h = (hgf h [18] a0 1).bind fun v => R_X7_clear d 105 [some (.ref a0), some (.int (x1)), l2, l3] [v, .int (x1)] h := by
  refine (p_iload rfl rfl).trans ?_
  refine (p_aload rfl rfl).trans ?_
  exact s_getf rfl
theorem r_X7_clear_93 {d : Nat} {a0 : Nat} {l1 l2 l3 : Option Value} {h : AH} : R_X7_clear d 93 [some (.ref a0), l1, l2, l3] [] h = (hgf h [18] a0 25).bind fun v => R_X7_clear d 97 [some (.ref a0), l1, l2, l3] [v] h := by
  refine (p_aload rfl rfl).trans ?_
  exact s_getf rfl
theorem r_X7_clear_44 {d : Nat} {s0 s1 : Int32} {l0 l1 l2 l3 : Option Value} {h : AH} : R_X7_clear d 44 [l0, l1, l2, l3] [.int (s1), .int (s0)] h = if s1 ≤ s0 then R_X7_clear d 70 [l0, l1, l2, l3] [] h else R_X7_clear d 47 [l0, l1, l2, l3] [] h := (s_icmp (g := (fun x y => decide (y ≤ x))) (t := 70) (nx := 47) rfl).trans bif_dec
theorem r_X7_clear_105 {d : Nat} {s0 : Int32} {b1 : Nat} {l0 l1 l2 l3 : Option Value} {h : AH} : R_X7_clear d 105 [l0, l1, l2, l3] [.ref b1, .int (s0)] h = (hai h 0 b1 (nI 5)).bind fun v => R_X7_clear d 107 [l0, l1, l2, l3] [.int v, .int (s0)] h := by
  refine (p_const rfl).trans ?_
  exact s_iald rfl
theorem r_X7_clear_97 {d : Nat} {s0 : Int32} {l0 l1 l2 l3 : Option Value} {h : AH} : R_X7_clear d 97 [l0, l1, l2, l3] [.int (s0)] h = some (.inl (some (.int (s0))), h) := by
  refine (p_goto rfl).trans ?_
  exact s_iretT rfl rfl
theorem r_X7_clear_70 {d : Nat} {x2 : Int32} {l0 l1 l3 : Option Value} {h : AH} : R_X7_clear d 70 [l0, l1, some (.int (x2)), l3] [] h = R_X7_clear d 25 [l0, l1, some (.int (x2 + (nI 1))), l3] [] h := by
  refine (p_iinc rfl rfl rfl).trans ?_
  refine (p_goto rfl).trans ?_
  exact rfl
theorem r_X7_clear_47 {d : Nat} {a0 : Nat} {l1 l2 l3 : Option Value} {h : AH} : R_X7_clear d 47 [some (.ref a0), l1, l2, l3] [] h = (hgf h [18] a0 22).bind fun v => R_X7_clear d 51 [some (.ref a0), l1, l2, l3] [v] h := by
  refine (p_aload rfl rfl).trans ?_
  exact s_getf rfl
theorem r_X7_clear_107 {d : Nat} {s0 s1 : Int32} {l0 l1 l2 l3 : Option Value} {h : AH} : R_X7_clear d 107 [l0, l1, l2, l3] [.int (s1), .int (s0)] h = if s1 ≤ s0 then R_X7_clear d 119 [l0, l1, l2, l3] [] h else R_X7_clear d 110 [l0, l1, l2, l3] [] h := (s_icmp (g := (fun x y => decide (y ≤ x))) (t := 119) (nx := 110) rfl).trans bif_dec
theorem r_X7_clear_51 {d : Nat} {b0 a0 : Nat} {x2 x3 : Int32} {l1 : Option Value} {h : AH} : R_X7_clear d 51 [some (.ref a0), l1, some (.int (x2)), some (.int (x3))] [.ref b0] h = ((hci h a0).bind (lkN [(18, 200)])).bind fun y => aK (exec tTab d y [.ref a0, .int (x2), .int (x3)] h) (fun v h1 => R_X7_clear d 63 [some (.ref a0), l1, some (.int (x2)), some (.int (x3))] (v.toList ++ [.int (((nI 12) * x2) + x3), .ref b0]) h1) (fun E h1 => some (.inr E, h1)) := by
  refine (p_const rfl).trans ?_
  refine (p_iload rfl rfl).trans ?_
  refine (p_bin rfl).trans ?_
  refine (p_iload rfl rfl).trans ?_
  refine (p_bin rfl).trans ?_
  refine (p_aload rfl rfl).trans ?_
  refine (p_iload rfl rfl).trans ?_
  refine (p_iload rfl rfl).trans ?_
  exact s_callV (L := [(18, 200)]) (n := 2) (b := a0) (rest := [.int (((nI 12) * x2) + x3), .ref b0]) rfl rfl rfl
theorem r_X7_clear_51N {d : Nat} {x2 x3 : Int32} {a0 : Nat} {l1 : Option Value} {h : AH} : R_X7_clear d 51 [some (.ref a0), l1, some (.int (x2)), some (.int (x3))] [.null] h = ((hci h a0).bind (lkN [(18, 200)])).bind fun y => aK (exec tTab d y [.ref a0, .int (x2), .int (x3)] h) (fun v h1 => R_X7_clear d 63 [some (.ref a0), l1, some (.int (x2)), some (.int (x3))] (v.toList ++ [.int (((nI 12) * x2) + x3), .null]) h1) (fun E h1 => some (.inr E, h1)) := by
  refine (p_const rfl).trans ?_
  refine (p_iload rfl rfl).trans ?_
  refine (p_bin rfl).trans ?_
  refine (p_iload rfl rfl).trans ?_
  refine (p_bin rfl).trans ?_
  refine (p_aload rfl rfl).trans ?_
  refine (p_iload rfl rfl).trans ?_
  refine (p_iload rfl rfl).trans ?_
  exact s_callV (L := [(18, 200)]) (n := 2) (b := a0) (rest := [.int (((nI 12) * x2) + x3), .null]) rfl rfl rfl
theorem r_X7_clear_119 {d : Nat} {l0 l1 l2 l3 : Option Value} {h : AH} : R_X7_clear d 119 [l0, l1, l2, l3] [] h = some (.inl (some (.int ((-1)))), h) := by
  refine (p_const rfl).trans ?_
  exact s_iretT rfl rfl
theorem r_X7_clear_110 {d : Nat} {a0 : Nat} {l1 l2 l3 : Option Value} {h : AH} : R_X7_clear d 110 [some (.ref a0), l1, l2, l3] [] h = (hgf h [18] a0 24).bind fun v => R_X7_clear d 114 [some (.ref a0), l1, l2, l3] [v] h := by
  refine (p_aload rfl rfl).trans ?_
  exact s_getf rfl
theorem r_X7_clear_63 {d : Nat} {b0 : Nat} {s1 s2 : Int32} {l0 l1 l2 l3 : Option Value} {h : AH} : R_X7_clear d 63 [l0, l1, l2, l3] [.int (s2), .int (s1), .ref b0] h = (hsi h 0 b0 s1 s2).bind fun h1 => R_X7_clear d 64 [l0, l1, l2, l3] [] h1 := s_iast (t := 0) (nar := (fun y => y)) rfl
theorem r_X7_clear_114 {d : Nat} {b0 : Nat} {x1 : Int32} {l0 l2 l3 : Option Value} {h : AH} : R_X7_clear d 114 [l0, some (.int (x1)), l2, l3] [.ref b0] h = (hai h 0 b0 x1).bind fun v => R_X7_clear d 116 [l0, some (.int (x1)), l2, l3] [.int v] h := by
  refine (p_iload rfl rfl).trans ?_
  exact s_iald rfl
theorem r_X7_clear_64 {d : Nat} {x3 : Int32} {l0 l1 l2 : Option Value} {h : AH} : R_X7_clear d 64 [l0, l1, l2, some (.int (x3))] [] h = R_X7_clear d 37 [l0, l1, l2, some (.int (x3 + (nI 1)))] [] h := by
  refine (p_iinc rfl rfl rfl).trans ?_
  refine (p_goto rfl).trans ?_
  exact rfl
theorem r_X7_clear_116 {d : Nat} {s0 : Int32} {l0 l1 l2 l3 : Option Value} {h : AH} : R_X7_clear d 116 [l0, l1, l2, l3] [.int (s0)] h = some (.inl (some (.int (s0))), h) := by
  refine (p_goto rfl).trans ?_
  exact s_iretT rfl rfl
theorem e_X7_clear {d : Nat} {a0 : Nat} {x1 : Int32} {h : AH} : exec tTab (d + 1) K_X7_clear [.ref a0, .int x1] h = R_X7_clear d 0 [some (.ref a0), some (.int x1), none, none] [] h := exec_eq (cd := k_X7_clear) (hd := (fun _ _ => some none)) (L := 4) rfl rfl rfl
/-- FavourTownModel.orders(III)V -/
abbrev K_X7_orders : Nat := 228
noncomputable def R_X7_orders (d pc : Nat) (ls : ALs) (st : List Value) (h : AH) : Option (AOut × AH) := aR (exec tTab d) k_X7_orders (fun _ _ => some none) (pc, ls, st, h)
theorem r_X7_orders_0 {d : Nat} {x1 : Int32} {a0 : Nat} {l2 l3 l4 l5 : Option Value} {h : AH} : R_X7_orders d 0 [some (.ref a0), some (.int (x1)), l2, l3, l4, l5] [] h = (hgf h [18] a0 1).bind fun v => R_X7_orders d 5 [some (.ref a0), some (.int (x1)), l2, l3, l4, l5] [v, .int (x1)] h := by
  refine (p_iload rfl rfl).trans ?_
  refine (p_aload rfl rfl).trans ?_
  exact s_getf rfl
theorem r_X7_orders_5 {d : Nat} {s0 : Int32} {b1 : Nat} {l0 l1 l2 l3 l4 l5 : Option Value} {h : AH} : R_X7_orders d 5 [l0, l1, l2, l3, l4, l5] [.ref b1, .int (s0)] h = (hai h 0 b1 (nI 5)).bind fun v => R_X7_orders d 7 [l0, l1, l2, l3, l4, l5] [.int v, .int (s0)] h := by
  refine (p_const rfl).trans ?_
  exact s_iald rfl
theorem r_X7_orders_7 {d : Nat} {s0 s1 : Int32} {l0 l1 l2 l3 l4 l5 : Option Value} {h : AH} : R_X7_orders d 7 [l0, l1, l2, l3, l4, l5] [.int (s1), .int (s0)] h = if ¬ s0 = s1 then R_X7_orders d 54 [l0, l1, l2, l3, l4, l5] [] h else R_X7_orders d 10 [l0, l1, l2, l3, l4, l5] [] h := (s_icmp (g := (fun x y => decide (¬ x = y))) (t := 54) (nx := 10) rfl).trans bif_dec
theorem r_X7_orders_54 {d : Nat} {l0 l1 l2 l3 l4 l5 : Option Value} {h : AH} : R_X7_orders d 54 [l0, l1, l2, l3, l4, l5] [] h = R_X7_orders d 57 [l0, l1, l2, l3, some (.int ((nI 0))), l5] [] h := by
  refine (p_const rfl).trans ?_
  refine (p_istore rfl rfl rfl).trans ?_
  exact rfl
theorem r_X7_orders_10 {d : Nat} {x3 : Int32} {a0 : Nat} {l1 l2 l4 l5 : Option Value} {h : AH} : R_X7_orders d 10 [some (.ref a0), l1, l2, some (.int (x3)), l4, l5] [] h = (hgf h [18] a0 25).bind fun v => R_X7_orders d 15 [some (.ref a0), l1, l2, some (.int (x3)), l4, l5] [v, .int (x3)] h := by
  refine (p_iload rfl rfl).trans ?_
  refine (p_aload rfl rfl).trans ?_
  exact s_getf rfl
theorem q_X7_orders_57 {d : Nat} {x4 : Int32} {a0 : Nat} {l1 l2 l3 l5 : Option Value} {h : AH} : R_X7_orders d 57 [some (.ref a0), l1, l2, l3, some (.int (x4)), l5] [] h = (hgf h [18] a0 1).bind fun v => R_X7_orders d 63 [some (.ref a0), l1, l2, l3, some (.int (x4)), l5] [v, .int (x4)] h := by
  refine (p_iload rfl rfl).trans ?_
  refine (p_aload rfl rfl).trans ?_
  exact s_getf rfl
theorem r_X7_orders_15 {d : Nat} {s0 s1 : Int32} {l0 l1 l2 l3 l4 l5 : Option Value} {h : AH} : R_X7_orders d 15 [l0, l1, l2, l3, l4, l5] [.int (s1), .int (s0)] h = if s1 < s0 then R_X7_orders d 19 [l0, l1, l2, l3, l4, l5] [] h else R_X7_orders d 18 [l0, l1, l2, l3, l4, l5] [] h := (s_icmp (g := (fun x y => decide (y < x))) (t := 19) (nx := 18) rfl).trans bif_dec
theorem r_X7_orders_63 {d : Nat} {s0 : Int32} {b1 : Nat} {l0 l1 l2 l3 l4 l5 : Option Value} {h : AH} : R_X7_orders d 63 [l0, l1, l2, l3, l4, l5] [.ref b1, .int (s0)] h = (hai h 0 b1 (nI 5)).bind fun v => R_X7_orders d 65 [l0, l1, l2, l3, l4, l5] [.int v, .int (s0)] h := by
  refine (p_const rfl).trans ?_
  exact s_iald rfl
theorem r_X7_orders_19 {d : Nat} {a0 : Nat} {x3 : Int32} {l1 l2 l4 l5 : Option Value} {h : AH} : R_X7_orders d 19 [some (.ref a0), l1, l2, some (.int (x3)), l4, l5] [] h = (hpf h [18] a0 25 (.int (x3))).bind fun h1 => R_X7_orders d 24 [some (.ref a0), l1, l2, some (.int (x3)), l4, l5] [] h1 := by
  refine (p_aload rfl rfl).trans ?_
  refine (p_iload rfl rfl).trans ?_
  exact s_putT rfl rfl
theorem r_X7_orders_18 {d : Nat} {l0 l1 l2 l3 l4 l5 : Option Value} {h : AH} : R_X7_orders d 18 [l0, l1, l2, l3, l4, l5] [] h = some (.inl none, h) := s_vret rfl
theorem r_X7_orders_65 {d : Nat} {s0 s1 : Int32} {l0 l1 l2 l3 l4 l5 : Option Value} {h : AH} : R_X7_orders d 65 [l0, l1, l2, l3, l4, l5] [.int (s1), .int (s0)] h = if s1 ≤ s0 then R_X7_orders d 142 [l0, l1, l2, l3, l4, l5] [] h else R_X7_orders d 68 [l0, l1, l2, l3, l4, l5] [] h := (s_icmp (g := (fun x y => decide (y ≤ x))) (t := 142) (nx := 68) rfl).trans bif_dec
theorem r_X7_orders_24 {d : Nat} {l0 l1 l2 l3 l4 l5 : Option Value} {h : AH} : R_X7_orders d 24 [l0, l1, l2, l3, l4, l5] [] h = R_X7_orders d 27 [l0, l1, l2, l3, some (.int ((nI 0))), l5] [] h := by
  refine (p_const rfl).trans ?_
  refine (p_istore rfl rfl rfl).trans ?_
  exact rfl
theorem r_X7_orders_142 {d : Nat} {l0 l1 l2 l3 l4 l5 : Option Value} {h : AH} : R_X7_orders d 142 [l0, l1, l2, l3, l4, l5] [] h = some (.inl none, h) := s_vret rfl
theorem r_X7_orders_68 {d : Nat} {x2 x4 : Int32} {l0 l1 l3 l5 : Option Value} {h : AH} : R_X7_orders d 68 [l0, l1, some (.int (x2)), l3, some (.int (x4)), l5] [] h = if ¬ ((x2 >>> (x4 &&& 31)) &&& (nI 1)) = (nI 1) then R_X7_orders d 81 [l0, l1, some (.int (x2)), l3, some (.int (x4)), l5] [] h else R_X7_orders d 78 [l0, l1, some (.int (x2)), l3, some (.int (x4)), l5] [] h := by
  refine (p_iload rfl rfl).trans ?_
  refine (p_iload rfl rfl).trans ?_
  refine (p_bin rfl).trans ?_
  refine (p_const rfl).trans ?_
  refine (p_bin rfl).trans ?_
  refine (p_const rfl).trans ?_
  exact (s_icmp (g := (fun x y => decide (¬ x = y))) (t := 81) (nx := 78) rfl).trans bif_dec
theorem q_X7_orders_27 {d : Nat} {x4 x1 : Int32} {l0 l2 l3 l5 : Option Value} {h : AH} : R_X7_orders d 27 [l0, some (.int (x1)), l2, l3, some (.int (x4)), l5] [] h = if x1 ≤ x4 then R_X7_orders d 53 [l0, some (.int (x1)), l2, l3, some (.int (x4)), l5] [] h else R_X7_orders d 33 [l0, some (.int (x1)), l2, l3, some (.int (x4)), l5] [] h := by
  refine (p_iload rfl rfl).trans ?_
  refine (p_iload rfl rfl).trans ?_
  exact (s_icmp (g := (fun x y => decide (y ≤ x))) (t := 53) (nx := 33) rfl).trans bif_dec
theorem r_X7_orders_81 {d : Nat} {a0 : Nat} {l1 l2 l3 l4 l5 : Option Value} {h : AH} : R_X7_orders d 81 [some (.ref a0), l1, l2, l3, l4, l5] [] h = (hgf h [18] a0 23).bind fun v => R_X7_orders d 85 [some (.ref a0), l1, l2, l3, l4, l5] [v] h := by
  refine (p_aload rfl rfl).trans ?_
  exact s_getf rfl
theorem r_X7_orders_78 {d : Nat} {x4 : Int32} {l0 l1 l2 l3 l5 : Option Value} {h : AH} : R_X7_orders d 78 [l0, l1, l2, l3, some (.int (x4)), l5] [] h = R_X7_orders d 57 [l0, l1, l2, l3, some (.int (x4 + (nI 1))), l5] [] h := by
  refine (p_goto rfl).trans ?_
  refine (p_iinc rfl rfl rfl).trans ?_
  refine (p_goto rfl).trans ?_
  exact rfl
theorem r_X7_orders_53 {d : Nat} {l0 l1 l2 l3 l4 l5 : Option Value} {h : AH} : R_X7_orders d 53 [l0, l1, l2, l3, l4, l5] [] h = some (.inl none, h) := s_vret rfl
theorem r_X7_orders_33 {d : Nat} {a0 : Nat} {l1 l2 l3 l4 l5 : Option Value} {h : AH} : R_X7_orders d 33 [some (.ref a0), l1, l2, l3, l4, l5] [] h = (hgf h [18] a0 24).bind fun v => R_X7_orders d 37 [some (.ref a0), l1, l2, l3, l4, l5] [v] h := by
  refine (p_aload rfl rfl).trans ?_
  exact s_getf rfl
theorem r_X7_orders_85 {d : Nat} {b0 : Nat} {x1 x4 : Int32} {l0 l2 l3 l5 : Option Value} {h : AH} : R_X7_orders d 85 [l0, some (.int (x1)), l2, l3, some (.int (x4)), l5] [.ref b0] h = (hsi h 0 b0 x1 x4).bind fun h1 => R_X7_orders d 89 [l0, some (.int (x1)), l2, l3, some (.int (x4)), l5] [] h1 := by
  refine (p_iload rfl rfl).trans ?_
  refine (p_iload rfl rfl).trans ?_
  exact s_iast (t := 0) (nar := (fun y => y)) rfl
theorem r_X7_orders_37 {d : Nat} {b0 a0 : Nat} {x4 : Int32} {l1 l2 l3 l5 : Option Value} {h : AH} : R_X7_orders d 37 [some (.ref a0), l1, l2, l3, some (.int (x4)), l5] [.ref b0] h = (hgf h [18] a0 23).bind fun v => R_X7_orders d 43 [some (.ref a0), l1, l2, l3, some (.int (x4)), l5] [v, .int (x4), .ref b0] h := by
  refine (p_iload rfl rfl).trans ?_
  refine (p_aload rfl rfl).trans ?_
  exact s_getf rfl
theorem r_X7_orders_37N {d : Nat} {x4 : Int32} {a0 : Nat} {l1 l2 l3 l5 : Option Value} {h : AH} : R_X7_orders d 37 [some (.ref a0), l1, l2, l3, some (.int (x4)), l5] [.null] h = (hgf h [18] a0 23).bind fun v => R_X7_orders d 43 [some (.ref a0), l1, l2, l3, some (.int (x4)), l5] [v, .int (x4), .null] h := by
  refine (p_iload rfl rfl).trans ?_
  refine (p_aload rfl rfl).trans ?_
  exact s_getf rfl
theorem r_X7_orders_89 {d : Nat} {a0 : Nat} {x4 : Int32} {l1 l2 l3 l5 : Option Value} {h : AH} : R_X7_orders d 89 [some (.ref a0), l1, l2, l3, some (.int (x4)), l5] [] h = ((hci h a0).bind (lkN [(18, 229)])).bind fun y => aK (exec tTab d y [.ref a0, .int (x4)] h) (fun v h1 => R_X7_orders d 95 [some (.ref a0), l1, l2, l3, some (.int (x4)), l5] (v.toList ++ []) h1) (fun E h1 => some (.inr E, h1)) := by
  refine (p_aload rfl rfl).trans ?_
  refine (p_iload rfl rfl).trans ?_
  exact s_callV (L := [(18, 229)]) (n := 1) (b := a0) (rest := []) rfl rfl rfl
theorem r_X7_orders_43 {d : Nat} {b0 b2 : Nat} {s1 x4 : Int32} {l0 l1 l2 l3 l5 : Option Value} {h : AH} : R_X7_orders d 43 [l0, l1, l2, l3, some (.int (x4)), l5] [.ref b2, .int (s1), .ref b0] h = (hai h 0 b2 x4).bind fun v => R_X7_orders d 46 [l0, l1, l2, l3, some (.int (x4)), l5] [.int v, .int (s1), .ref b0] h := by
  refine (p_iload rfl rfl).trans ?_
  exact s_iald rfl
theorem r_X7_orders_95 {d : Nat} {s0 x1 x2 x4 x3 : Int32} {a0 : Nat} {l5 : Option Value} {h : AH} : R_X7_orders d 95 [some (.ref a0), some (.int (x1)), some (.int (x2)), some (.int (x3)), some (.int (x4)), l5] [.int (s0)] h = (hgf h [18] a0 1).bind fun v => R_X7_orders d 114 [some (.ref a0), some (.int (x1)), some (.int (x2)), some (.int (x3)), some (.int (x4)), some (.int (s0))] [v, .int (s0), .int (x3), .int (x2 ||| ((nI 1) <<< (x4 &&& 31))), .int (x1 + (nI 1)), .ref a0] h := by
  refine (p_istore rfl rfl rfl).trans ?_
  refine (p_aload rfl rfl).trans ?_
  refine (p_iload rfl rfl).trans ?_
  refine (p_const rfl).trans ?_
  refine (p_bin rfl).trans ?_
  refine (p_iload rfl rfl).trans ?_
  refine (p_const rfl).trans ?_
  refine (p_iload rfl rfl).trans ?_
  refine (p_bin rfl).trans ?_
  refine (p_bin rfl).trans ?_
  refine (p_iload rfl rfl).trans ?_
  refine (p_iload rfl rfl).trans ?_
  refine (p_aload rfl rfl).trans ?_
  exact s_getf rfl
theorem r_X7_orders_46 {d : Nat} {b0 : Nat} {s1 s2 : Int32} {l0 l1 l2 l3 l4 l5 : Option Value} {h : AH} : R_X7_orders d 46 [l0, l1, l2, l3, l4, l5] [.int (s2), .int (s1), .ref b0] h = (hsi h 0 b0 s1 s2).bind fun h1 => R_X7_orders d 47 [l0, l1, l2, l3, l4, l5] [] h1 := s_iast (t := 0) (nar := (fun y => y)) rfl
theorem r_X7_orders_114 {d : Nat} {b0 b5 : Nat} {s1 s2 s3 s4 x4 : Int32} {l0 l1 l2 l3 l5 : Option Value} {h : AH} : R_X7_orders d 114 [l0, l1, l2, l3, some (.int (x4)), l5] [.ref b5, .int (s4), .int (s3), .int (s2), .int (s1), .ref b0] h = (hai h 0 b5 ((nI 82) + ((nI 7) * x4))).bind fun v => R_X7_orders d 123 [l0, l1, l2, l3, some (.int (x4)), l5] [.int v, .int (s4), .int (s3), .int (s2), .int (s1), .ref b0] h := by
  refine (p_const rfl).trans ?_
  refine (p_const rfl).trans ?_
  refine (p_iload rfl rfl).trans ?_
  refine (p_bin rfl).trans ?_
  refine (p_bin rfl).trans ?_
  exact s_iald rfl
theorem r_X7_orders_47 {d : Nat} {x4 : Int32} {l0 l1 l2 l3 l5 : Option Value} {h : AH} : R_X7_orders d 47 [l0, l1, l2, l3, some (.int (x4)), l5] [] h = R_X7_orders d 27 [l0, l1, l2, l3, some (.int (x4 + (nI 1))), l5] [] h := by
  refine (p_iinc rfl rfl rfl).trans ?_
  refine (p_goto rfl).trans ?_
  exact rfl
theorem r_X7_orders_123 {d : Nat} {b0 : Nat} {s1 s2 s3 s4 s5 : Int32} {l0 l1 l2 l3 l4 l5 : Option Value} {h : AH} : R_X7_orders d 123 [l0, l1, l2, l3, l4, l5] [.int (s5), .int (s4), .int (s3), .int (s2), .int (s1), .ref b0] h = ((hci h b0).bind (lkN [(18, 228)])).bind fun y => aK (exec tTab d y [.ref b0, .int (s1), .int (s2), .int (s3 + (s4 * s5))] h) (fun v h1 => R_X7_orders d 128 [l0, l1, l2, l3, l4, l5] (v.toList ++ []) h1) (fun E h1 => some (.inr E, h1)) := by
  refine (p_bin rfl).trans ?_
  refine (p_bin rfl).trans ?_
  exact s_callV (L := [(18, 228)]) (n := 3) (b := b0) (rest := []) rfl rfl rfl
theorem r_X7_orders_128 {d : Nat} {a0 : Nat} {x4 x5 : Int32} {l1 l2 l3 : Option Value} {h : AH} : R_X7_orders d 128 [some (.ref a0), l1, l2, l3, some (.int (x4)), some (.int (x5))] [] h = ((hci h a0).bind (lkN [(18, 230)])).bind fun y => aK (exec tTab d y [.ref a0, .int (x4), .int (x5)] h) (fun v h1 => R_X7_orders d 136 [some (.ref a0), l1, l2, l3, some (.int (x4)), some (.int (x5))] (v.toList ++ []) h1) (fun E h1 => some (.inr E, h1)) := by
  refine (p_aload rfl rfl).trans ?_
  refine (p_iload rfl rfl).trans ?_
  refine (p_iload rfl rfl).trans ?_
  exact s_callV (L := [(18, 230)]) (n := 2) (b := a0) (rest := []) rfl rfl rfl
theorem r_X7_orders_136 {d : Nat} {x4 : Int32} {l0 l1 l2 l3 l5 : Option Value} {h : AH} : R_X7_orders d 136 [l0, l1, l2, l3, some (.int (x4)), l5] [] h = R_X7_orders d 57 [l0, l1, l2, l3, some (.int (x4 + (nI 1))), l5] [] h := by
  refine (p_iinc rfl rfl rfl).trans ?_
  refine (p_goto rfl).trans ?_
  exact rfl
theorem e_X7_orders {d : Nat} {a0 : Nat} {x1 x2 x3 : Int32} {h : AH} : exec tTab (d + 1) K_X7_orders [.ref a0, .int x1, .int x2, .int x3] h = R_X7_orders d 0 [some (.ref a0), some (.int x1), some (.int x2), some (.int x3), none, none] [] h := exec_eq (cd := k_X7_orders) (hd := (fun _ _ => some none)) (L := 6) rfl rfl rfl
/-- FavourTownModel.ringOf(I)I -/
abbrev K_X7_ringOf : Nat := 229
noncomputable def R_X7_ringOf (d pc : Nat) (ls : ALs) (st : List Value) (h : AH) : Option (AOut × AH) := aR (exec tTab d) k_X7_ringOf (fun _ _ => some none) (pc, ls, st, h)
theorem r_X7_ringOf_0 {d : Nat} {x1 : Int32} {a0 : Nat} {l2 l3 l4 l5 l6 : Option Value} {h : AH} : R_X7_ringOf d 0 [some (.ref a0), some (.int (x1)), l2, l3, l4, l5, l6] [] h = (hgf h [18] a0 1).bind fun v => R_X7_ringOf d 12 [some (.ref a0), some (.int (x1)), some (.int ((nI 82) + ((nI 7) * x1))), l3, l4, l5, l6] [v] h := by
  refine (p_const rfl).trans ?_
  refine (p_const rfl).trans ?_
  refine (p_iload rfl rfl).trans ?_
  refine (p_bin rfl).trans ?_
  refine (p_bin rfl).trans ?_
  refine (p_istore rfl rfl rfl).trans ?_
  refine (p_aload rfl rfl).trans ?_
  exact s_getf rfl
theorem r_X7_ringOf_12 {d : Nat} {b0 : Nat} {x2 : Int32} {l0 l1 l3 l4 l5 l6 : Option Value} {h : AH} : R_X7_ringOf d 12 [l0, l1, some (.int (x2)), l3, l4, l5, l6] [.ref b0] h = (hai h 0 b0 x2).bind fun v => R_X7_ringOf d 14 [l0, l1, some (.int (x2)), l3, l4, l5, l6] [.int v] h := by
  refine (p_iload rfl rfl).trans ?_
  exact s_iald rfl
theorem r_X7_ringOf_14 {d : Nat} {s0 : Int32} {l0 l1 l2 l3 l4 l5 l6 : Option Value} {h : AH} : R_X7_ringOf d 14 [l0, l1, l2, l3, l4, l5, l6] [.int (s0)] h = R_X7_ringOf d 21 [l0, l1, l2, some (.int (s0)), some (.int ((-1))), some (.int ((nI 0))), l6] [] h := by
  refine (p_istore rfl rfl rfl).trans ?_
  refine (p_const rfl).trans ?_
  refine (p_istore rfl rfl rfl).trans ?_
  refine (p_const rfl).trans ?_
  refine (p_istore rfl rfl rfl).trans ?_
  exact rfl
theorem q_X7_ringOf_21 {d : Nat} {x5 x3 : Int32} {l0 l1 l2 l4 l6 : Option Value} {h : AH} : R_X7_ringOf d 21 [l0, l1, l2, some (.int (x3)), l4, some (.int (x5)), l6] [] h = if x3 ≤ x5 then R_X7_ringOf d 97 [l0, l1, l2, some (.int (x3)), l4, some (.int (x5)), l6] [] h else R_X7_ringOf d 27 [l0, l1, l2, some (.int (x3)), l4, some (.int (x5)), l6] [] h := by
  refine (p_iload rfl rfl).trans ?_
  refine (p_iload rfl rfl).trans ?_
  exact (s_icmp (g := (fun x y => decide (y ≤ x))) (t := 97) (nx := 27) rfl).trans bif_dec
theorem r_X7_ringOf_97 {d : Nat} {a0 : Nat} {x1 x4 : Int32} {l2 l3 l5 l6 : Option Value} {h : AH} : R_X7_ringOf d 97 [some (.ref a0), some (.int (x1)), l2, l3, some (.int (x4)), l5, l6] [] h = ((hci h a0).bind (lkN [(18, 230)])).bind fun y => aK (exec tTab d y [.ref a0, .int (x1), .int (-x4)] h) (fun v h1 => R_X7_ringOf d 105 [some (.ref a0), some (.int (x1)), l2, l3, some (.int (x4)), l5, l6] (v.toList ++ []) h1) (fun E h1 => some (.inr E, h1)) := by
  refine (p_aload rfl rfl).trans ?_
  refine (p_iload rfl rfl).trans ?_
  refine (p_iload rfl rfl).trans ?_
  refine (p_un rfl).trans ?_
  exact s_callV (L := [(18, 230)]) (n := 2) (b := a0) (rest := []) rfl rfl rfl
theorem r_X7_ringOf_27 {d : Nat} {a0 : Nat} {l1 l2 l3 l4 l5 l6 : Option Value} {h : AH} : R_X7_ringOf d 27 [some (.ref a0), l1, l2, l3, l4, l5, l6] [] h = (hgf h [18] a0 1).bind fun v => R_X7_ringOf d 33 [some (.ref a0), l1, l2, l3, l4, l5, l6] [v, .int ((nI 12))] h := by
  refine (p_const rfl).trans ?_
  refine (p_aload rfl rfl).trans ?_
  exact s_getf rfl
theorem r_X7_ringOf_105 {d : Nat} {x4 : Int32} {l0 l1 l2 l3 l5 l6 : Option Value} {h : AH} : R_X7_ringOf d 105 [l0, l1, l2, l3, some (.int (x4)), l5, l6] [] h = some (.inl (some (.int (x4))), h) := by
  refine (p_iload rfl rfl).trans ?_
  exact s_iretT rfl rfl
theorem r_X7_ringOf_33 {d : Nat} {s0 x2 x5 : Int32} {b1 : Nat} {l0 l1 l3 l4 l6 : Option Value} {h : AH} : R_X7_ringOf d 33 [l0, l1, some (.int (x2)), l3, l4, some (.int (x5)), l6] [.ref b1, .int (s0)] h = (hai h 0 b1 ((x2 + (nI 1)) + x5)).bind fun v => R_X7_ringOf d 40 [l0, l1, some (.int (x2)), l3, l4, some (.int (x5)), l6] [.int v, .int (s0)] h := by
  refine (p_iload rfl rfl).trans ?_
  refine (p_const rfl).trans ?_
  refine (p_bin rfl).trans ?_
  refine (p_iload rfl rfl).trans ?_
  refine (p_bin rfl).trans ?_
  exact s_iald rfl
theorem r_X7_ringOf_40 {d : Nat} {s0 s1 : Int32} {a0 : Nat} {l1 l2 l3 l4 l5 l6 : Option Value} {h : AH} : R_X7_ringOf d 40 [some (.ref a0), l1, l2, l3, l4, l5, l6] [.int (s1), .int (s0)] h = (hgf h [18] a0 1).bind fun v => R_X7_ringOf d 45 [some (.ref a0), l1, l2, l3, l4, l5, l6] [v, .int (s0 * s1)] h := by
  refine (p_bin rfl).trans ?_
  refine (p_aload rfl rfl).trans ?_
  exact s_getf rfl
theorem r_X7_ringOf_45 {d : Nat} {s0 x2 x5 x3 : Int32} {b1 : Nat} {l0 l1 l4 l6 : Option Value} {h : AH} : R_X7_ringOf d 45 [l0, l1, some (.int (x2)), some (.int (x3)), l4, some (.int (x5)), l6] [.ref b1, .int (s0)] h = if x3 = 0 then none else R_X7_ringOf d 54 [l0, l1, some (.int (x2)), some (.int (x3)), l4, some (.int (x5)), l6] [.int ((x5 + (nI 1)) - (x5 + (nI 1)) / x3 * x3), .int (x2 + (nI 1)), .ref b1, .int (s0)] h := by
  refine (p_iload rfl rfl).trans ?_
  refine (p_const rfl).trans ?_
  refine (p_bin rfl).trans ?_
  refine (p_iload rfl rfl).trans ?_
  refine (p_const rfl).trans ?_
  refine (p_bin rfl).trans ?_
  refine (p_iload rfl rfl).trans ?_
  exact s_div (g := (fun x y => x - x / y * y)) rfl
theorem r_X7_ringOf_45N {d : Nat} {s0 x2 x5 x3 : Int32} {l0 l1 l4 l6 : Option Value} {h : AH} : R_X7_ringOf d 45 [l0, l1, some (.int (x2)), some (.int (x3)), l4, some (.int (x5)), l6] [.null, .int (s0)] h = if x3 = 0 then none else R_X7_ringOf d 54 [l0, l1, some (.int (x2)), some (.int (x3)), l4, some (.int (x5)), l6] [.int ((x5 + (nI 1)) - (x5 + (nI 1)) / x3 * x3), .int (x2 + (nI 1)), .null, .int (s0)] h := by
  refine (p_iload rfl rfl).trans ?_
  refine (p_const rfl).trans ?_
  refine (p_bin rfl).trans ?_
  refine (p_iload rfl rfl).trans ?_
  refine (p_const rfl).trans ?_
  refine (p_bin rfl).trans ?_
  refine (p_iload rfl rfl).trans ?_
  exact s_div (g := (fun x y => x - x / y * y)) rfl
theorem r_X7_ringOf_54 {d : Nat} {s0 s2 s3 : Int32} {b1 : Nat} {l0 l1 l2 l3 l4 l5 l6 : Option Value} {h : AH} : R_X7_ringOf d 54 [l0, l1, l2, l3, l4, l5, l6] [.int (s3), .int (s2), .ref b1, .int (s0)] h = (hai h 0 b1 (s2 + s3)).bind fun v => R_X7_ringOf d 56 [l0, l1, l2, l3, l4, l5, l6] [.int v, .int (s0)] h := by
  refine (p_bin rfl).trans ?_
  exact s_iald rfl
theorem r_X7_ringOf_56 {d : Nat} {s0 s1 x4 : Int32} {l0 l1 l2 l3 l5 l6 : Option Value} {h : AH} : R_X7_ringOf d 56 [l0, l1, l2, l3, some (.int (x4)), l5, l6] [.int (s1), .int (s0)] h = if x4 = (-1) then R_X7_ringOf d 77 [l0, l1, l2, l3, some (.int (x4)), l5, some (.int (s0 + s1))] [] h else R_X7_ringOf d 65 [l0, l1, l2, l3, some (.int (x4)), l5, some (.int (s0 + s1))] [] h := by
  refine (p_bin rfl).trans ?_
  refine (p_istore rfl rfl rfl).trans ?_
  refine (p_iload rfl rfl).trans ?_
  refine (p_const rfl).trans ?_
  exact (s_icmp (g := (fun x y => decide (x = y))) (t := 77) (nx := 65) rfl).trans bif_dec
theorem r_X7_ringOf_77 {d : Nat} {a0 : Nat} {l1 l2 l3 l4 l5 l6 : Option Value} {h : AH} : R_X7_ringOf d 77 [some (.ref a0), l1, l2, l3, l4, l5, l6] [] h = (hgf h [18] a0 22).bind fun v => R_X7_ringOf d 81 [some (.ref a0), l1, l2, l3, l4, l5, l6] [v] h := by
  refine (p_aload rfl rfl).trans ?_
  exact s_getf rfl
theorem r_X7_ringOf_65 {d : Nat} {a0 : Nat} {l1 l2 l3 l4 l5 l6 : Option Value} {h : AH} : R_X7_ringOf d 65 [some (.ref a0), l1, l2, l3, l4, l5, l6] [] h = (hgf h [18] a0 22).bind fun v => R_X7_ringOf d 69 [some (.ref a0), l1, l2, l3, l4, l5, l6] [v] h := by
  refine (p_aload rfl rfl).trans ?_
  exact s_getf rfl
theorem r_X7_ringOf_81 {d : Nat} {b0 : Nat} {x6 : Int32} {l0 l1 l2 l3 l4 l5 : Option Value} {h : AH} : R_X7_ringOf d 81 [l0, l1, l2, l3, l4, l5, some (.int (x6))] [.ref b0] h = (hai h 0 b0 x6).bind fun v => R_X7_ringOf d 84 [l0, l1, l2, l3, l4, l5, some (.int (x6))] [.int v] h := by
  refine (p_iload rfl rfl).trans ?_
  exact s_iald rfl
theorem r_X7_ringOf_69 {d : Nat} {b0 : Nat} {x6 : Int32} {l0 l1 l2 l3 l4 l5 : Option Value} {h : AH} : R_X7_ringOf d 69 [l0, l1, l2, l3, l4, l5, some (.int (x6))] [.ref b0] h = (hai h 0 b0 x6).bind fun v => R_X7_ringOf d 72 [l0, l1, l2, l3, l4, l5, some (.int (x6))] [.int v] h := by
  refine (p_iload rfl rfl).trans ?_
  exact s_iald rfl
theorem r_X7_ringOf_84 {d : Nat} {s0 x5 : Int32} {l0 l1 l2 l3 l4 l6 : Option Value} {h : AH} : R_X7_ringOf d 84 [l0, l1, l2, l3, l4, some (.int (x5)), l6] [.int (s0)] h = R_X7_ringOf d 21 [l0, l1, l2, l3, some (.int (s0)), some (.int (x5 + (nI 1))), l6] [] h := by
  refine (p_goto rfl).trans ?_
  refine (p_istore rfl rfl rfl).trans ?_
  refine (p_iinc rfl rfl rfl).trans ?_
  refine (p_goto rfl).trans ?_
  exact rfl
theorem r_X7_ringOf_72 {d : Nat} {s0 x4 : Int32} {l0 l1 l2 l3 l5 l6 : Option Value} {h : AH} : R_X7_ringOf d 72 [l0, l1, l2, l3, some (.int (x4)), l5, l6] [.int (s0)] h = if x4 ≤ s0 then R_X7_ringOf d 87 [l0, l1, l2, l3, some (.int (x4)), l5, l6] [] h else R_X7_ringOf d 77 [l0, l1, l2, l3, some (.int (x4)), l5, l6] [] h := by
  refine (p_iload rfl rfl).trans ?_
  exact (s_icmp (g := (fun x y => decide (y ≤ x))) (t := 87) (nx := 77) rfl).trans bif_dec
theorem r_X7_ringOf_87 {d : Nat} {x4 x5 : Int32} {l0 l1 l2 l3 l6 : Option Value} {h : AH} : R_X7_ringOf d 87 [l0, l1, l2, l3, some (.int (x4)), some (.int (x5)), l6] [] h = R_X7_ringOf d 21 [l0, l1, l2, l3, some (.int (x4)), some (.int (x5 + (nI 1))), l6] [] h := by
  refine (p_iload rfl rfl).trans ?_
  refine (p_istore rfl rfl rfl).trans ?_
  refine (p_iinc rfl rfl rfl).trans ?_
  refine (p_goto rfl).trans ?_
  exact rfl
theorem e_X7_ringOf {d : Nat} {a0 : Nat} {x1 : Int32} {h : AH} : exec tTab (d + 1) K_X7_ringOf [.ref a0, .int x1] h = R_X7_ringOf d 0 [some (.ref a0), some (.int x1), none, none, none, none, none] [] h := exec_eq (cd := k_X7_ringOf) (hd := (fun _ _ => some none)) (L := 7) rfl rfl rfl
/-- FavourTownModel.putsBack(II)V -/
abbrev K_X7_putsBack : Nat := 230
noncomputable def R_X7_putsBack (d pc : Nat) (ls : ALs) (st : List Value) (h : AH) : Option (AOut × AH) := aR (exec tTab d) k_X7_putsBack (fun _ _ => some none) (pc, ls, st, h)
theorem r_X7_putsBack_0 {d : Nat} {x1 : Int32} {l0 l2 l3 l4 : Option Value} {h : AH} : R_X7_putsBack d 0 [l0, some (.int (x1)), l2, l3, l4] [] h = R_X7_putsBack d 11 [l0, some (.int (x1)), l2, some (.int ((nI 82) + ((nI 7) * x1))), some (.int ((nI 0)))] [] h := by
  refine (p_const rfl).trans ?_
  refine (p_const rfl).trans ?_
  refine (p_iload rfl rfl).trans ?_
  refine (p_bin rfl).trans ?_
  refine (p_bin rfl).trans ?_
  refine (p_istore rfl rfl rfl).trans ?_
  refine (p_const rfl).trans ?_
  refine (p_istore rfl rfl rfl).trans ?_
  exact rfl
theorem q_X7_putsBack_11 {d : Nat} {x4 : Int32} {a0 : Nat} {l1 l2 l3 : Option Value} {h : AH} : R_X7_putsBack d 11 [some (.ref a0), l1, l2, l3, some (.int (x4))] [] h = (hgf h [18] a0 1).bind fun v => R_X7_putsBack d 17 [some (.ref a0), l1, l2, l3, some (.int (x4))] [v, .int (x4)] h := by
  refine (p_iload rfl rfl).trans ?_
  refine (p_aload rfl rfl).trans ?_
  exact s_getf rfl
theorem r_X7_putsBack_17 {d : Nat} {s0 x3 : Int32} {b1 : Nat} {l0 l1 l2 l4 : Option Value} {h : AH} : R_X7_putsBack d 17 [l0, l1, l2, some (.int (x3)), l4] [.ref b1, .int (s0)] h = (hai h 0 b1 x3).bind fun v => R_X7_putsBack d 19 [l0, l1, l2, some (.int (x3)), l4] [.int v, .int (s0)] h := by
  refine (p_iload rfl rfl).trans ?_
  exact s_iald rfl
theorem r_X7_putsBack_19 {d : Nat} {s0 s1 : Int32} {l0 l1 l2 l3 l4 : Option Value} {h : AH} : R_X7_putsBack d 19 [l0, l1, l2, l3, l4] [.int (s1), .int (s0)] h = if s1 ≤ s0 then R_X7_putsBack d 72 [l0, l1, l2, l3, l4] [] h else R_X7_putsBack d 22 [l0, l1, l2, l3, l4] [] h := (s_icmp (g := (fun x y => decide (y ≤ x))) (t := 72) (nx := 22) rfl).trans bif_dec
theorem r_X7_putsBack_72 {d : Nat} {l0 l1 l2 l3 l4 : Option Value} {h : AH} : R_X7_putsBack d 72 [l0, l1, l2, l3, l4] [] h = some (.inl none, h) := s_vret rfl
theorem r_X7_putsBack_22 {d : Nat} {a0 : Nat} {l1 l2 l3 l4 : Option Value} {h : AH} : R_X7_putsBack d 22 [some (.ref a0), l1, l2, l3, l4] [] h = (hgf h [18] a0 22).bind fun v => R_X7_putsBack d 26 [some (.ref a0), l1, l2, l3, l4] [v] h := by
  refine (p_aload rfl rfl).trans ?_
  exact s_getf rfl
theorem r_X7_putsBack_26 {d : Nat} {b0 a0 : Nat} {l1 l2 l3 l4 : Option Value} {h : AH} : R_X7_putsBack d 26 [some (.ref a0), l1, l2, l3, l4] [.ref b0] h = (hgf h [18] a0 1).bind fun v => R_X7_putsBack d 32 [some (.ref a0), l1, l2, l3, l4] [v, .int ((nI 12)), .ref b0] h := by
  refine (p_const rfl).trans ?_
  refine (p_aload rfl rfl).trans ?_
  exact s_getf rfl
theorem r_X7_putsBack_26N {d : Nat} {a0 : Nat} {l1 l2 l3 l4 : Option Value} {h : AH} : R_X7_putsBack d 26 [some (.ref a0), l1, l2, l3, l4] [.null] h = (hgf h [18] a0 1).bind fun v => R_X7_putsBack d 32 [some (.ref a0), l1, l2, l3, l4] [v, .int ((nI 12)), .null] h := by
  refine (p_const rfl).trans ?_
  refine (p_aload rfl rfl).trans ?_
  exact s_getf rfl
theorem r_X7_putsBack_32 {d : Nat} {b0 b2 : Nat} {s1 x3 x4 : Int32} {l0 l1 l2 : Option Value} {h : AH} : R_X7_putsBack d 32 [l0, l1, l2, some (.int (x3)), some (.int (x4))] [.ref b2, .int (s1), .ref b0] h = (hai h 0 b2 ((x3 + (nI 1)) + x4)).bind fun v => R_X7_putsBack d 39 [l0, l1, l2, some (.int (x3)), some (.int (x4))] [.int v, .int (s1), .ref b0] h := by
  refine (p_iload rfl rfl).trans ?_
  refine (p_const rfl).trans ?_
  refine (p_bin rfl).trans ?_
  refine (p_iload rfl rfl).trans ?_
  refine (p_bin rfl).trans ?_
  exact s_iald rfl
theorem r_X7_putsBack_39 {d : Nat} {b0 a0 : Nat} {s1 s2 : Int32} {l1 l2 l3 l4 : Option Value} {h : AH} : R_X7_putsBack d 39 [some (.ref a0), l1, l2, l3, l4] [.int (s2), .int (s1), .ref b0] h = (hgf h [18] a0 1).bind fun v => R_X7_putsBack d 44 [some (.ref a0), l1, l2, l3, l4] [v, .int (s1 * s2), .ref b0] h := by
  refine (p_bin rfl).trans ?_
  refine (p_aload rfl rfl).trans ?_
  exact s_getf rfl
theorem r_X7_putsBack_44 {d : Nat} {b0 b2 a0 : Nat} {s1 x3 x4 : Int32} {l1 l2 : Option Value} {h : AH} : R_X7_putsBack d 44 [some (.ref a0), l1, l2, some (.int (x3)), some (.int (x4))] [.ref b2, .int (s1), .ref b0] h = (hgf h [18] a0 1).bind fun v => R_X7_putsBack d 55 [some (.ref a0), l1, l2, some (.int (x3)), some (.int (x4))] [v, .int (x4 + (nI 1)), .int (x3 + (nI 1)), .ref b2, .int (s1), .ref b0] h := by
  refine (p_iload rfl rfl).trans ?_
  refine (p_const rfl).trans ?_
  refine (p_bin rfl).trans ?_
  refine (p_iload rfl rfl).trans ?_
  refine (p_const rfl).trans ?_
  refine (p_bin rfl).trans ?_
  refine (p_aload rfl rfl).trans ?_
  exact s_getf rfl
theorem r_X7_putsBack_44N {d : Nat} {b0 a0 : Nat} {s1 x3 x4 : Int32} {l1 l2 : Option Value} {h : AH} : R_X7_putsBack d 44 [some (.ref a0), l1, l2, some (.int (x3)), some (.int (x4))] [.null, .int (s1), .ref b0] h = (hgf h [18] a0 1).bind fun v => R_X7_putsBack d 55 [some (.ref a0), l1, l2, some (.int (x3)), some (.int (x4))] [v, .int (x4 + (nI 1)), .int (x3 + (nI 1)), .null, .int (s1), .ref b0] h := by
  refine (p_iload rfl rfl).trans ?_
  refine (p_const rfl).trans ?_
  refine (p_bin rfl).trans ?_
  refine (p_iload rfl rfl).trans ?_
  refine (p_const rfl).trans ?_
  refine (p_bin rfl).trans ?_
  refine (p_aload rfl rfl).trans ?_
  exact s_getf rfl
theorem r_X7_putsBack_55 {d : Nat} {b0 b2 b5 : Nat} {s1 s3 s4 x3 : Int32} {l0 l1 l2 l4 : Option Value} {h : AH} : R_X7_putsBack d 55 [l0, l1, l2, some (.int (x3)), l4] [.ref b5, .int (s4), .int (s3), .ref b2, .int (s1), .ref b0] h = (hai h 0 b5 x3).bind fun v => R_X7_putsBack d 57 [l0, l1, l2, some (.int (x3)), l4] [.int v, .int (s4), .int (s3), .ref b2, .int (s1), .ref b0] h := by
  refine (p_iload rfl rfl).trans ?_
  exact s_iald rfl
theorem r_X7_putsBack_57 {d : Nat} {b0 b2 : Nat} {s1 s3 s4 s5 : Int32} {l0 l1 l2 l3 l4 : Option Value} {h : AH} : R_X7_putsBack d 57 [l0, l1, l2, l3, l4] [.int (s5), .int (s4), .int (s3), .ref b2, .int (s1), .ref b0] h = if s5 = 0 then none else R_X7_putsBack d 58 [l0, l1, l2, l3, l4] [.int (s4 - s4 / s5 * s5), .int (s3), .ref b2, .int (s1), .ref b0] h := s_div (g := (fun x y => x - x / y * y)) rfl
theorem r_X7_putsBack_58 {d : Nat} {b0 b2 : Nat} {s1 s3 s4 : Int32} {l0 l1 l2 l3 l4 : Option Value} {h : AH} : R_X7_putsBack d 58 [l0, l1, l2, l3, l4] [.int (s4), .int (s3), .ref b2, .int (s1), .ref b0] h = (hai h 0 b2 (s3 + s4)).bind fun v => R_X7_putsBack d 60 [l0, l1, l2, l3, l4] [.int v, .int (s1), .ref b0] h := by
  refine (p_bin rfl).trans ?_
  exact s_iald rfl
theorem r_X7_putsBack_60 {d : Nat} {b0 : Nat} {s1 s2 : Int32} {l0 l1 l2 l3 l4 : Option Value} {h : AH} : R_X7_putsBack d 60 [l0, l1, l2, l3, l4] [.int (s2), .int (s1), .ref b0] h = (hai h 0 b0 (s1 + s2)).bind fun v => R_X7_putsBack d 63 [l0, l1, l2, l3, l4] [.int v, .int (s1 + s2), .ref b0] h := by
  refine (p_bin rfl).trans ?_
  refine (p_dup2 rfl rfl).trans ?_
  exact s_iald rfl
theorem r_X7_putsBack_63 {d : Nat} {b0 : Nat} {s1 s2 x2 : Int32} {l0 l1 l3 l4 : Option Value} {h : AH} : R_X7_putsBack d 63 [l0, l1, some (.int (x2)), l3, l4] [.int (s2), .int (s1), .ref b0] h = (hsi h 0 b0 s1 (s2 + x2)).bind fun h1 => R_X7_putsBack d 66 [l0, l1, some (.int (x2)), l3, l4] [] h1 := by
  refine (p_iload rfl rfl).trans ?_
  refine (p_bin rfl).trans ?_
  exact s_iast (t := 0) (nar := (fun y => y)) rfl
theorem r_X7_putsBack_66 {d : Nat} {x4 : Int32} {l0 l1 l2 l3 : Option Value} {h : AH} : R_X7_putsBack d 66 [l0, l1, l2, l3, some (.int (x4))] [] h = R_X7_putsBack d 11 [l0, l1, l2, l3, some (.int (x4 + (nI 1)))] [] h := by
  refine (p_iinc rfl rfl rfl).trans ?_
  refine (p_goto rfl).trans ?_
  exact rfl
theorem e_X7_putsBack {d : Nat} {a0 : Nat} {x1 x2 : Int32} {h : AH} : exec tTab (d + 1) K_X7_putsBack [.ref a0, .int x1, .int x2] h = R_X7_putsBack d 0 [some (.ref a0), some (.int x1), some (.int x2), none, none] [] h := exec_eq (cd := k_X7_putsBack) (hd := (fun _ _ => some none)) (L := 5) rfl rfl rfl
/-- FavourTownModel.loss(II)I -/
abbrev K_X7_loss : Nat := 231
noncomputable def R_X7_loss (d pc : Nat) (ls : ALs) (st : List Value) (h : AH) : Option (AOut × AH) := aR (exec tTab d) k_X7_loss (fun _ _ => some none) (pc, ls, st, h)
theorem r_X7_loss_0 {d : Nat} {a0 : Nat} {x1 : Int32} {l2 : Option Value} {h : AH} : R_X7_loss d 0 [some (.ref a0), some (.int (x1)), l2] [] h = ((hci h a0).bind (lkN [(18, 188)])).bind fun y => aK (exec tTab d y [.ref a0, .int (x1)] h) (fun v h1 => R_X7_loss d 6 [some (.ref a0), some (.int (x1)), l2] (v.toList ++ [.ref a0]) h1) (fun E h1 => some (.inr E, h1)) := by
  refine (p_aload rfl rfl).trans ?_
  refine (p_aload rfl rfl).trans ?_
  refine (p_iload rfl rfl).trans ?_
  exact s_callV (L := [(18, 188)]) (n := 1) (b := a0) (rest := [.ref a0]) rfl rfl rfl
theorem r_X7_loss_6 {d : Nat} {b0 : Nat} {s1 : Int32} {l0 l1 l2 : Option Value} {h : AH} : R_X7_loss d 6 [l0, l1, l2] [.int (s1), .ref b0] h = if s1 = 0 then R_X7_loss d 17 [l0, l1, l2] [.ref b0] h else R_X7_loss d 9 [l0, l1, l2] [.ref b0] h := (s_if (g := (fun x => decide (x = 0))) (t := 17) (nx := 9) rfl).trans bif_dec
theorem r_X7_loss_17 {d : Nat} {b0 : Nat} {l0 l1 l2 : Option Value} {h : AH} : R_X7_loss d 17 [l0, l1, l2] [.ref b0] h = (hpf h [18] b0 0 (.int ((nI 1)))).bind fun h1 => R_X7_loss d 25 [l0, l1, l2] [] h1 := by
  refine (p_const rfl).trans ?_
  refine (p_goto rfl).trans ?_
  exact s_putT rfl rfl
theorem r_X7_loss_9 {d : Nat} {b0 a0 : Nat} {x2 : Int32} {l1 : Option Value} {h : AH} : R_X7_loss d 9 [some (.ref a0), l1, some (.int (x2))] [.ref b0] h = ((hci h a0).bind (lkN [(18, 188)])).bind fun y => aK (exec tTab d y [.ref a0, .int (x2)] h) (fun v h1 => R_X7_loss d 14 [some (.ref a0), l1, some (.int (x2))] (v.toList ++ [.ref b0]) h1) (fun E h1 => some (.inr E, h1)) := by
  refine (p_aload rfl rfl).trans ?_
  refine (p_iload rfl rfl).trans ?_
  exact s_callV (L := [(18, 188)]) (n := 1) (b := a0) (rest := [.ref b0]) rfl rfl rfl
theorem r_X7_loss_9N {d : Nat} {a0 : Nat} {x2 : Int32} {l1 : Option Value} {h : AH} : R_X7_loss d 9 [some (.ref a0), l1, some (.int (x2))] [.null] h = ((hci h a0).bind (lkN [(18, 188)])).bind fun y => aK (exec tTab d y [.ref a0, .int (x2)] h) (fun v h1 => R_X7_loss d 14 [some (.ref a0), l1, some (.int (x2))] (v.toList ++ [.null]) h1) (fun E h1 => some (.inr E, h1)) := by
  refine (p_aload rfl rfl).trans ?_
  refine (p_iload rfl rfl).trans ?_
  exact s_callV (L := [(18, 188)]) (n := 1) (b := a0) (rest := [.null]) rfl rfl rfl
theorem r_X7_loss_25 {d : Nat} {a0 : Nat} {l1 l2 : Option Value} {h : AH} : R_X7_loss d 25 [some (.ref a0), l1, l2] [] h = (hgf h [18] a0 0).bind fun v => R_X7_loss d 29 [some (.ref a0), l1, l2] [v] h := by
  refine (p_aload rfl rfl).trans ?_
  exact s_getf rfl
theorem r_X7_loss_14 {d : Nat} {b0 : Nat} {s1 : Int32} {l0 l1 l2 : Option Value} {h : AH} : R_X7_loss d 14 [l0, l1, l2] [.int (s1), .ref b0] h = if ¬ s1 = 0 then R_X7_loss d 21 [l0, l1, l2] [.ref b0] h else R_X7_loss d 17 [l0, l1, l2] [.ref b0] h := (s_if (g := (fun x => decide (¬ x = 0))) (t := 21) (nx := 17) rfl).trans bif_dec
theorem r_X7_loss_29 {d : Nat} {s0 : Int32} {l0 l1 l2 : Option Value} {h : AH} : R_X7_loss d 29 [l0, l1, l2] [.int (s0)] h = if s0 ≤ 0 then R_X7_loss d 34 [l0, l1, l2] [] h else R_X7_loss d 32 [l0, l1, l2] [] h := (s_if (g := (fun x => decide (x ≤ 0))) (t := 34) (nx := 32) rfl).trans bif_dec
theorem r_X7_loss_21 {d : Nat} {b0 : Nat} {l0 l1 l2 : Option Value} {h : AH} : R_X7_loss d 21 [l0, l1, l2] [.ref b0] h = (hpf h [18] b0 0 (.int ((nI 0)))).bind fun h1 => R_X7_loss d 25 [l0, l1, l2] [] h1 := by
  refine (p_const rfl).trans ?_
  exact s_putT rfl rfl
theorem r_X7_loss_34 {d : Nat} {a0 : Nat} {x1 x2 : Int32} {h : AH} : R_X7_loss d 34 [some (.ref a0), some (.int (x1)), some (.int (x2))] [] h = ((hci h a0).bind (lkN [(18, 232)])).bind fun y => aK (exec tTab d y [.ref a0, .int (x1), .int (x2)] h) (fun v h1 => R_X7_loss d 40 [some (.ref a0), some (.int (x1)), some (.int (x2))] (v.toList ++ []) h1) (fun E h1 => some (.inr E, h1)) := by
  refine (p_aload rfl rfl).trans ?_
  refine (p_iload rfl rfl).trans ?_
  refine (p_iload rfl rfl).trans ?_
  exact s_callV (L := [(18, 232)]) (n := 2) (b := a0) (rest := []) rfl rfl rfl
theorem r_X7_loss_32 {d : Nat} {l0 l1 l2 : Option Value} {h : AH} : R_X7_loss d 32 [l0, l1, l2] [] h = some (.inl (some (.int ((nI 0)))), h) := by
  refine (p_const rfl).trans ?_
  exact s_iretT rfl rfl
theorem r_X7_loss_40 {d : Nat} {s0 : Int32} {l0 l1 l2 : Option Value} {h : AH} : R_X7_loss d 40 [l0, l1, l2] [.int (s0)] h = some (.inl (some (.int (s0))), h) := s_iretT rfl rfl
theorem e_X7_loss {d : Nat} {a0 : Nat} {x1 x2 : Int32} {h : AH} : exec tTab (d + 1) K_X7_loss [.ref a0, .int x1, .int x2] h = R_X7_loss d 0 [some (.ref a0), some (.int x1), some (.int x2)] [] h := exec_eq (cd := k_X7_loss) (hd := (fun _ _ => some none)) (L := 3) rfl rfl rfl
/-- FavourTownModel.lossOf(II)I -/
abbrev K_X7_lossOf : Nat := 232
noncomputable def R_X7_lossOf (d pc : Nat) (ls : ALs) (st : List Value) (h : AH) : Option (AOut × AH) := aR (exec tTab d) k_X7_lossOf (fun _ _ => some none) (pc, ls, st, h)
theorem r_X7_lossOf_0 {d : Nat} {l0 l1 l2 l3 l4 l5 : Option Value} {h : AH} : R_X7_lossOf d 0 [l0, l1, l2, l3, l4, l5] [] h = R_X7_lossOf d 5 [l0, l1, l2, some (.int ((nI 0))), some (.int ((nI 0))), l5] [] h := by
  refine (p_const rfl).trans ?_
  refine (p_istore rfl rfl rfl).trans ?_
  refine (p_const rfl).trans ?_
  refine (p_istore rfl rfl rfl).trans ?_
  exact rfl
theorem q_X7_lossOf_5 {d : Nat} {x4 : Int32} {a0 : Nat} {l1 l2 l3 l5 : Option Value} {h : AH} : R_X7_lossOf d 5 [some (.ref a0), l1, l2, l3, some (.int (x4)), l5] [] h = (hgf h [18] a0 1).bind fun v => R_X7_lossOf d 11 [some (.ref a0), l1, l2, l3, some (.int (x4)), l5] [v, .int (x4)] h := by
  refine (p_iload rfl rfl).trans ?_
  refine (p_aload rfl rfl).trans ?_
  exact s_getf rfl
theorem r_X7_lossOf_11 {d : Nat} {s0 : Int32} {b1 : Nat} {l0 l1 l2 l3 l4 l5 : Option Value} {h : AH} : R_X7_lossOf d 11 [l0, l1, l2, l3, l4, l5] [.ref b1, .int (s0)] h = (hai h 0 b1 (nI 3)).bind fun v => R_X7_lossOf d 13 [l0, l1, l2, l3, l4, l5] [.int v, .int (s0)] h := by
  refine (p_const rfl).trans ?_
  exact s_iald rfl
theorem r_X7_lossOf_13 {d : Nat} {s0 s1 : Int32} {l0 l1 l2 l3 l4 l5 : Option Value} {h : AH} : R_X7_lossOf d 13 [l0, l1, l2, l3, l4, l5] [.int (s1), .int (s0)] h = if s1 ≤ s0 then R_X7_lossOf d 122 [l0, l1, l2, l3, l4, l5] [] h else R_X7_lossOf d 16 [l0, l1, l2, l3, l4, l5] [] h := (s_icmp (g := (fun x y => decide (y ≤ x))) (t := 122) (nx := 16) rfl).trans bif_dec
theorem r_X7_lossOf_122 {d : Nat} {x3 : Int32} {l0 l1 l2 l4 l5 : Option Value} {h : AH} : R_X7_lossOf d 122 [l0, l1, l2, some (.int (x3)), l4, l5] [] h = some (.inl (some (.int (x3))), h) := by
  refine (p_iload rfl rfl).trans ?_
  exact s_iretT rfl rfl
theorem r_X7_lossOf_16 {d : Nat} {l0 l1 l2 l3 l4 l5 : Option Value} {h : AH} : R_X7_lossOf d 16 [l0, l1, l2, l3, l4, l5] [] h = R_X7_lossOf d 19 [l0, l1, l2, l3, l4, some (.int ((nI 2)))] [] h := by
  refine (p_const rfl).trans ?_
  refine (p_istore rfl rfl rfl).trans ?_
  exact rfl
theorem q_X7_lossOf_19 {d : Nat} {x5 x4 : Int32} {a0 : Nat} {l1 l2 l3 : Option Value} {h : AH} : R_X7_lossOf d 19 [some (.ref a0), l1, l2, l3, some (.int (x4)), some (.int (x5))] [] h = ((hci h a0).bind (lkN [(18, 175)])).bind fun y => aK (exec tTab d y [.ref a0, .int (x4), .int ((nI 6))] h) (fun v h1 => R_X7_lossOf d 29 [some (.ref a0), l1, l2, l3, some (.int (x4)), some (.int (x5))] (v.toList ++ [.int (x5)]) h1) (fun E h1 => some (.inr E, h1)) := by
  refine (p_iload rfl rfl).trans ?_
  refine (p_aload rfl rfl).trans ?_
  refine (p_iload rfl rfl).trans ?_
  refine (p_const rfl).trans ?_
  exact s_callV (L := [(18, 175)]) (n := 2) (b := a0) (rest := [.int (x5)]) rfl rfl rfl
theorem r_X7_lossOf_29 {d : Nat} {s0 s1 : Int32} {l0 l1 l2 l3 l4 l5 : Option Value} {h : AH} : R_X7_lossOf d 29 [l0, l1, l2, l3, l4, l5] [.int (s1), .int (s0)] h = if s1 ≤ s0 then R_X7_lossOf d 116 [l0, l1, l2, l3, l4, l5] [] h else R_X7_lossOf d 32 [l0, l1, l2, l3, l4, l5] [] h := (s_icmp (g := (fun x y => decide (y ≤ x))) (t := 116) (nx := 32) rfl).trans bif_dec
theorem r_X7_lossOf_116 {d : Nat} {x4 : Int32} {l0 l1 l2 l3 l5 : Option Value} {h : AH} : R_X7_lossOf d 116 [l0, l1, l2, l3, some (.int (x4)), l5] [] h = R_X7_lossOf d 5 [l0, l1, l2, l3, some (.int (x4 + (nI 1))), l5] [] h := by
  refine (p_iinc rfl rfl rfl).trans ?_
  refine (p_goto rfl).trans ?_
  exact rfl
theorem r_X7_lossOf_32 {d : Nat} {a0 : Nat} {x4 x5 : Int32} {l1 l2 l3 : Option Value} {h : AH} : R_X7_lossOf d 32 [some (.ref a0), l1, l2, l3, some (.int (x4)), some (.int (x5))] [] h = ((hci h a0).bind (lkN [(18, 175)])).bind fun y => aK (exec tTab d y [.ref a0, .int (x4), .int ((nI 7) + x5)] h) (fun v h1 => R_X7_lossOf d 43 [some (.ref a0), l1, l2, l3, some (.int (x4)), some (.int (x5))] (v.toList ++ []) h1) (fun E h1 => some (.inr E, h1)) := by
  refine (p_aload rfl rfl).trans ?_
  refine (p_iload rfl rfl).trans ?_
  refine (p_const rfl).trans ?_
  refine (p_iload rfl rfl).trans ?_
  refine (p_bin rfl).trans ?_
  exact s_callV (L := [(18, 175)]) (n := 2) (b := a0) (rest := []) rfl rfl rfl
theorem r_X7_lossOf_43 {d : Nat} {s0 x1 : Int32} {l0 l2 l3 l4 l5 : Option Value} {h : AH} : R_X7_lossOf d 43 [l0, some (.int (x1)), l2, l3, l4, l5] [.int (s0)] h = if ¬ s0 = x1 then R_X7_lossOf d 110 [l0, some (.int (x1)), l2, l3, l4, l5] [] h else R_X7_lossOf d 47 [l0, some (.int (x1)), l2, l3, l4, l5] [] h := by
  refine (p_iload rfl rfl).trans ?_
  exact (s_icmp (g := (fun x y => decide (¬ x = y))) (t := 110) (nx := 47) rfl).trans bif_dec
theorem r_X7_lossOf_110 {d : Nat} {x5 : Int32} {l0 l1 l2 l3 l4 : Option Value} {h : AH} : R_X7_lossOf d 110 [l0, l1, l2, l3, l4, some (.int (x5))] [] h = R_X7_lossOf d 19 [l0, l1, l2, l3, l4, some (.int (x5 + (nI 1)))] [] h := by
  refine (p_iinc rfl rfl rfl).trans ?_
  refine (p_goto rfl).trans ?_
  exact rfl
theorem r_X7_lossOf_47 {d : Nat} {a0 : Nat} {x4 x5 : Int32} {l1 l2 l3 : Option Value} {h : AH} : R_X7_lossOf d 47 [some (.ref a0), l1, l2, l3, some (.int (x4)), some (.int (x5))] [] h = ((hci h a0).bind (lkN [(18, 175)])).bind fun y => aK (exec tTab d y [.ref a0, .int (x4), .int (((nI 7) + x5) - (nI 1))] h) (fun v h1 => R_X7_lossOf d 60 [some (.ref a0), l1, l2, l3, some (.int (x4)), some (.int (x5))] (v.toList ++ []) h1) (fun E h1 => some (.inr E, h1)) := by
  refine (p_aload rfl rfl).trans ?_
  refine (p_iload rfl rfl).trans ?_
  refine (p_const rfl).trans ?_
  refine (p_iload rfl rfl).trans ?_
  refine (p_bin rfl).trans ?_
  refine (p_const rfl).trans ?_
  refine (p_bin rfl).trans ?_
  exact s_callV (L := [(18, 175)]) (n := 2) (b := a0) (rest := []) rfl rfl rfl
theorem r_X7_lossOf_60 {d : Nat} {s0 x2 : Int32} {l0 l1 l3 l4 l5 : Option Value} {h : AH} : R_X7_lossOf d 60 [l0, l1, some (.int (x2)), l3, l4, l5] [.int (s0)] h = if ¬ s0 = x2 then R_X7_lossOf d 110 [l0, l1, some (.int (x2)), l3, l4, l5] [] h else R_X7_lossOf d 64 [l0, l1, some (.int (x2)), l3, l4, l5] [] h := by
  refine (p_iload rfl rfl).trans ?_
  exact (s_icmp (g := (fun x y => decide (¬ x = y))) (t := 110) (nx := 64) rfl).trans bif_dec
theorem r_X7_lossOf_64 {d : Nat} {x1 x4 : Int32} {a0 : Nat} {l2 l3 l5 : Option Value} {h : AH} : R_X7_lossOf d 64 [some (.ref a0), some (.int (x1)), l2, l3, some (.int (x4)), l5] [] h = ((hci h a0).bind (lkN [(18, 175)])).bind fun y => aK (exec tTab d y [.ref a0, .int (x4), .int ((nI 0))] h) (fun v h1 => R_X7_lossOf d 72 [some (.ref a0), some (.int (x1)), l2, l3, some (.int (x4)), l5] (v.toList ++ [.int (x1)]) h1) (fun E h1 => some (.inr E, h1)) := by
  refine (p_iload rfl rfl).trans ?_
  refine (p_aload rfl rfl).trans ?_
  refine (p_iload rfl rfl).trans ?_
  refine (p_const rfl).trans ?_
  exact s_callV (L := [(18, 175)]) (n := 2) (b := a0) (rest := [.int (x1)]) rfl rfl rfl
theorem r_X7_lossOf_72 {d : Nat} {s0 s1 : Int32} {l0 l1 l2 l3 l4 l5 : Option Value} {h : AH} : R_X7_lossOf d 72 [l0, l1, l2, l3, l4, l5] [.int (s1), .int (s0)] h = if ¬ s0 = s1 then R_X7_lossOf d 78 [l0, l1, l2, l3, l4, l5] [] h else R_X7_lossOf d 75 [l0, l1, l2, l3, l4, l5] [] h := (s_icmp (g := (fun x y => decide (¬ x = y))) (t := 78) (nx := 75) rfl).trans bif_dec
theorem r_X7_lossOf_78 {d : Nat} {x3 x4 : Int32} {a0 : Nat} {l1 l2 l5 : Option Value} {h : AH} : R_X7_lossOf d 78 [some (.ref a0), l1, l2, some (.int (x3)), some (.int (x4)), l5] [] h = ((hci h a0).bind (lkN [(18, 175)])).bind fun y => aK (exec tTab d y [.ref a0, .int (x4), .int ((nI 1))] h) (fun v h1 => R_X7_lossOf d 86 [some (.ref a0), l1, l2, some (.int (x3)), some (.int (x4)), l5] (v.toList ++ [.int (x3)]) h1) (fun E h1 => some (.inr E, h1)) := by
  refine (p_iload rfl rfl).trans ?_
  refine (p_aload rfl rfl).trans ?_
  refine (p_iload rfl rfl).trans ?_
  refine (p_const rfl).trans ?_
  exact s_callV (L := [(18, 175)]) (n := 2) (b := a0) (rest := [.int (x3)]) rfl rfl rfl
theorem r_X7_lossOf_75 {d : Nat} {x5 : Int32} {l0 l1 l2 l3 l4 : Option Value} {h : AH} : R_X7_lossOf d 75 [l0, l1, l2, l3, l4, some (.int (x5))] [] h = R_X7_lossOf d 19 [l0, l1, l2, l3, l4, some (.int (x5 + (nI 1)))] [] h := by
  refine (p_goto rfl).trans ?_
  refine (p_iinc rfl rfl rfl).trans ?_
  refine (p_goto rfl).trans ?_
  exact rfl
theorem r_X7_lossOf_86 {d : Nat} {s0 s1 x5 : Int32} {l0 l1 l2 l3 l4 : Option Value} {h : AH} : R_X7_lossOf d 86 [l0, l1, l2, l3, l4, some (.int (x5))] [.int (s1), .int (s0)] h = aK (exec tTab d 177 [.int (s1), .int (x5 - (nI 2))] h) (fun v h1 => R_X7_lossOf d 93 [l0, l1, l2, l3, l4, some (.int (x5))] (v.toList ++ [.int (s0)]) h1) (fun E h1 => some (.inr E, h1)) := by
  refine (p_iload rfl rfl).trans ?_
  refine (p_const rfl).trans ?_
  refine (p_bin rfl).trans ?_
  exact s_callS (y := 177) (n := 2) rfl rfl
theorem r_X7_lossOf_93 {d : Nat} {s0 s1 x4 : Int32} {a0 : Nat} {l1 l2 l3 l5 : Option Value} {h : AH} : R_X7_lossOf d 93 [some (.ref a0), l1, l2, l3, some (.int (x4)), l5] [.int (s1), .int (s0)] h = ((hci h a0).bind (lkN [(18, 175)])).bind fun y => aK (exec tTab d y [.ref a0, .int (x4), .int ((nI 1))] h) (fun v h1 => R_X7_lossOf d 100 [some (.ref a0), l1, l2, l3, some (.int (x4)), l5] (v.toList ++ [.int (s1), .int (s0)]) h1) (fun E h1 => some (.inr E, h1)) := by
  refine (p_aload rfl rfl).trans ?_
  refine (p_iload rfl rfl).trans ?_
  refine (p_const rfl).trans ?_
  exact s_callV (L := [(18, 175)]) (n := 2) (b := a0) (rest := [.int (s1), .int (s0)]) rfl rfl rfl
theorem r_X7_lossOf_100 {d : Nat} {s0 s1 s2 x5 : Int32} {l0 l1 l2 l3 l4 : Option Value} {h : AH} : R_X7_lossOf d 100 [l0, l1, l2, l3, l4, some (.int (x5))] [.int (s2), .int (s1), .int (s0)] h = aK (exec tTab d 177 [.int (s2), .int (x5 - (nI 1))] h) (fun v h1 => R_X7_lossOf d 107 [l0, l1, l2, l3, l4, some (.int (x5))] (v.toList ++ [.int (s1), .int (s0)]) h1) (fun E h1 => some (.inr E, h1)) := by
  refine (p_iload rfl rfl).trans ?_
  refine (p_const rfl).trans ?_
  refine (p_bin rfl).trans ?_
  exact s_callS (y := 177) (n := 2) rfl rfl
theorem r_X7_lossOf_107 {d : Nat} {s0 s1 s2 x5 : Int32} {l0 l1 l2 l3 l4 : Option Value} {h : AH} : R_X7_lossOf d 107 [l0, l1, l2, l3, l4, some (.int (x5))] [.int (s2), .int (s1), .int (s0)] h = R_X7_lossOf d 19 [l0, l1, l2, some (.int (s0 + (s1 - s2))), l4, some (.int (x5 + (nI 1)))] [] h := by
  refine (p_bin rfl).trans ?_
  refine (p_bin rfl).trans ?_
  refine (p_istore rfl rfl rfl).trans ?_
  refine (p_iinc rfl rfl rfl).trans ?_
  refine (p_goto rfl).trans ?_
  exact rfl
theorem e_X7_lossOf {d : Nat} {a0 : Nat} {x1 x2 : Int32} {h : AH} : exec tTab (d + 1) K_X7_lossOf [.ref a0, .int x1, .int x2] h = R_X7_lossOf d 0 [some (.ref a0), some (.int x1), some (.int x2), none, none, none] [] h := exec_eq (cd := k_X7_lossOf) (hd := (fun _ _ => some none)) (L := 6) rfl rfl rfl
/-- FavourTownModel.ruined(I)I -/
abbrev K_X7_ruined : Nat := 233
noncomputable def R_X7_ruined (d pc : Nat) (ls : ALs) (st : List Value) (h : AH) : Option (AOut × AH) := aR (exec tTab d) k_X7_ruined (fun _ _ => some none) (pc, ls, st, h)
theorem r_X7_ruined_0 {d : Nat} {a0 : Nat} {x1 : Int32} {l2 l3 l4 l5 : Option Value} {h : AH} : R_X7_ruined d 0 [some (.ref a0), some (.int (x1)), l2, l3, l4, l5] [] h = ((hci h a0).bind (lkN [(18, 188)])).bind fun y => aK (exec tTab d y [.ref a0, .int (x1)] h) (fun v h1 => R_X7_ruined d 6 [some (.ref a0), some (.int (x1)), l2, l3, l4, l5] (v.toList ++ [.ref a0]) h1) (fun E h1 => some (.inr E, h1)) := by
  refine (p_aload rfl rfl).trans ?_
  refine (p_aload rfl rfl).trans ?_
  refine (p_iload rfl rfl).trans ?_
  exact s_callV (L := [(18, 188)]) (n := 1) (b := a0) (rest := [.ref a0]) rfl rfl rfl
theorem r_X7_ruined_6 {d : Nat} {b0 : Nat} {s1 : Int32} {l0 l1 l2 l3 l4 l5 : Option Value} {h : AH} : R_X7_ruined d 6 [l0, l1, l2, l3, l4, l5] [.int (s1), .ref b0] h = if ¬ s1 = 0 then R_X7_ruined d 13 [l0, l1, l2, l3, l4, l5] [.ref b0] h else R_X7_ruined d 9 [l0, l1, l2, l3, l4, l5] [.ref b0] h := (s_if (g := (fun x => decide (¬ x = 0))) (t := 13) (nx := 9) rfl).trans bif_dec
theorem r_X7_ruined_13 {d : Nat} {b0 : Nat} {l0 l1 l2 l3 l4 l5 : Option Value} {h : AH} : R_X7_ruined d 13 [l0, l1, l2, l3, l4, l5] [.ref b0] h = (hpf h [18] b0 0 (.int ((nI 0)))).bind fun h1 => R_X7_ruined d 17 [l0, l1, l2, l3, l4, l5] [] h1 := by
  refine (p_const rfl).trans ?_
  exact s_putT rfl rfl
theorem r_X7_ruined_9 {d : Nat} {b0 : Nat} {l0 l1 l2 l3 l4 l5 : Option Value} {h : AH} : R_X7_ruined d 9 [l0, l1, l2, l3, l4, l5] [.ref b0] h = (hpf h [18] b0 0 (.int ((nI 1)))).bind fun h1 => R_X7_ruined d 17 [l0, l1, l2, l3, l4, l5] [] h1 := by
  refine (p_const rfl).trans ?_
  refine (p_goto rfl).trans ?_
  exact s_putT rfl rfl
theorem r_X7_ruined_17 {d : Nat} {a0 : Nat} {l1 l2 l3 l4 l5 : Option Value} {h : AH} : R_X7_ruined d 17 [some (.ref a0), l1, l2, l3, l4, l5] [] h = (hgf h [18] a0 0).bind fun v => R_X7_ruined d 21 [some (.ref a0), l1, l2, l3, l4, l5] [v] h := by
  refine (p_aload rfl rfl).trans ?_
  exact s_getf rfl
theorem r_X7_ruined_21 {d : Nat} {s0 : Int32} {l0 l1 l2 l3 l4 l5 : Option Value} {h : AH} : R_X7_ruined d 21 [l0, l1, l2, l3, l4, l5] [.int (s0)] h = if s0 ≤ 0 then R_X7_ruined d 26 [l0, l1, l2, l3, l4, l5] [] h else R_X7_ruined d 24 [l0, l1, l2, l3, l4, l5] [] h := (s_if (g := (fun x => decide (x ≤ 0))) (t := 26) (nx := 24) rfl).trans bif_dec
theorem r_X7_ruined_26 {d : Nat} {l0 l1 l2 l3 l4 l5 : Option Value} {h : AH} : R_X7_ruined d 26 [l0, l1, l2, l3, l4, l5] [] h = R_X7_ruined d 33 [l0, l1, some (.int ((-1))), some (.int ((nI 0))), some (.int ((nI 0))), l5] [] h := by
  refine (p_const rfl).trans ?_
  refine (p_istore rfl rfl rfl).trans ?_
  refine (p_const rfl).trans ?_
  refine (p_istore rfl rfl rfl).trans ?_
  refine (p_const rfl).trans ?_
  refine (p_istore rfl rfl rfl).trans ?_
  exact rfl
theorem r_X7_ruined_24 {d : Nat} {l0 l1 l2 l3 l4 l5 : Option Value} {h : AH} : R_X7_ruined d 24 [l0, l1, l2, l3, l4, l5] [] h = some (.inl (some (.int ((nI 0)))), h) := by
  refine (p_const rfl).trans ?_
  exact s_iretT rfl rfl
theorem q_X7_ruined_33 {d : Nat} {x4 : Int32} {a0 : Nat} {l1 l2 l3 l5 : Option Value} {h : AH} : R_X7_ruined d 33 [some (.ref a0), l1, l2, l3, some (.int (x4)), l5] [] h = (hgf h [18] a0 1).bind fun v => R_X7_ruined d 39 [some (.ref a0), l1, l2, l3, some (.int (x4)), l5] [v, .int (x4)] h := by
  refine (p_iload rfl rfl).trans ?_
  refine (p_aload rfl rfl).trans ?_
  exact s_getf rfl
theorem r_X7_ruined_39 {d : Nat} {s0 : Int32} {b1 : Nat} {l0 l1 l2 l3 l4 l5 : Option Value} {h : AH} : R_X7_ruined d 39 [l0, l1, l2, l3, l4, l5] [.ref b1, .int (s0)] h = (hai h 0 b1 (nI 1)).bind fun v => R_X7_ruined d 41 [l0, l1, l2, l3, l4, l5] [.int v, .int (s0)] h := by
  refine (p_const rfl).trans ?_
  exact s_iald rfl
theorem r_X7_ruined_41 {d : Nat} {s0 s1 : Int32} {l0 l1 l2 l3 l4 l5 : Option Value} {h : AH} : R_X7_ruined d 41 [l0, l1, l2, l3, l4, l5] [.int (s1), .int (s0)] h = if s1 ≤ s0 then R_X7_ruined d 74 [l0, l1, l2, l3, l4, l5] [] h else R_X7_ruined d 44 [l0, l1, l2, l3, l4, l5] [] h := (s_icmp (g := (fun x y => decide (y ≤ x))) (t := 74) (nx := 44) rfl).trans bif_dec
theorem r_X7_ruined_74 {d : Nat} {x2 : Int32} {l0 l1 l3 l4 l5 : Option Value} {h : AH} : R_X7_ruined d 74 [l0, l1, some (.int (x2)), l3, l4, l5] [] h = some (.inl (some (.int (x2))), h) := by
  refine (p_iload rfl rfl).trans ?_
  exact s_iretT rfl rfl
theorem r_X7_ruined_44 {d : Nat} {a0 : Nat} {x1 x4 : Int32} {l2 l3 l5 : Option Value} {h : AH} : R_X7_ruined d 44 [some (.ref a0), some (.int (x1)), l2, l3, some (.int (x4)), l5] [] h = ((hci h a0).bind (lkN [(18, 232)])).bind fun y => aK (exec tTab d y [.ref a0, .int (x1), .int (x4)] h) (fun v h1 => R_X7_ruined d 51 [some (.ref a0), some (.int (x1)), l2, l3, some (.int (x4)), l5] (v.toList ++ []) h1) (fun E h1 => some (.inr E, h1)) := by
  refine (p_aload rfl rfl).trans ?_
  refine (p_iload rfl rfl).trans ?_
  refine (p_iload rfl rfl).trans ?_
  exact s_callV (L := [(18, 232)]) (n := 2) (b := a0) (rest := []) rfl rfl rfl
theorem r_X7_ruined_51 {d : Nat} {s0 x3 : Int32} {l0 l1 l2 l4 l5 : Option Value} {h : AH} : R_X7_ruined d 51 [l0, l1, l2, some (.int (x3)), l4, l5] [.int (s0)] h = if x3 < s0 then R_X7_ruined d 62 [l0, l1, l2, some (.int (x3)), l4, some (.int (s0))] [] h else R_X7_ruined d 59 [l0, l1, l2, some (.int (x3)), l4, some (.int (s0))] [] h := by
  refine (p_istore rfl rfl rfl).trans ?_
  refine (p_iload rfl rfl).trans ?_
  refine (p_iload rfl rfl).trans ?_
  exact (s_icmp (g := (fun x y => decide (y < x))) (t := 62) (nx := 59) rfl).trans bif_dec
theorem r_X7_ruined_62 {d : Nat} {x4 x5 : Int32} {l0 l1 l2 l3 : Option Value} {h : AH} : R_X7_ruined d 62 [l0, l1, l2, l3, some (.int (x4)), some (.int (x5))] [] h = R_X7_ruined d 33 [l0, l1, some (.int (x4)), some (.int (x5)), some (.int (x4 + (nI 1))), some (.int (x5))] [] h := by
  refine (p_iload rfl rfl).trans ?_
  refine (p_istore rfl rfl rfl).trans ?_
  refine (p_iload rfl rfl).trans ?_
  refine (p_istore rfl rfl rfl).trans ?_
  refine (p_iinc rfl rfl rfl).trans ?_
  refine (p_goto rfl).trans ?_
  exact rfl
theorem r_X7_ruined_59 {d : Nat} {x4 : Int32} {l0 l1 l2 l3 l5 : Option Value} {h : AH} : R_X7_ruined d 59 [l0, l1, l2, l3, some (.int (x4)), l5] [] h = R_X7_ruined d 33 [l0, l1, l2, l3, some (.int (x4 + (nI 1))), l5] [] h := by
  refine (p_goto rfl).trans ?_
  refine (p_iinc rfl rfl rfl).trans ?_
  refine (p_goto rfl).trans ?_
  exact rfl
theorem e_X7_ruined {d : Nat} {a0 : Nat} {x1 : Int32} {h : AH} : exec tTab (d + 1) K_X7_ruined [.ref a0, .int x1] h = R_X7_ruined d 0 [some (.ref a0), some (.int x1), none, none, none, none] [] h := exec_eq (cd := k_X7_ruined) (hd := (fun _ _ => some none)) (L := 6) rfl rfl rfl
/-- FavourTownModel.fits(I)I -/
abbrev K_X7_fits : Nat := 234
noncomputable def R_X7_fits (d pc : Nat) (ls : ALs) (st : List Value) (h : AH) : Option (AOut × AH) := aR (exec tTab d) k_X7_fits (fun _ _ => some none) (pc, ls, st, h)
theorem r_X7_fits_0 {d : Nat} {a0 : Nat} {l1 l2 l3 : Option Value} {h : AH} : R_X7_fits d 0 [some (.ref a0), l1, l2, l3] [] h = (hgf h [18] a0 6).bind fun v => R_X7_fits d 4 [some (.ref a0), l1, l2, l3] [v] h := by
  refine (p_aload rfl rfl).trans ?_
  exact s_getf rfl
theorem r_X7_fits_4 {d : Nat} {s0 : Int32} {a0 : Nat} {l1 l2 l3 : Option Value} {h : AH} : R_X7_fits d 4 [some (.ref a0), l1, l2, l3] [.int (s0)] h = (hpf h [18] a0 6 (.int ((nI 0)))).bind fun h1 => R_X7_fits d 10 [some (.ref a0), l1, some (.int (s0)), l3] [] h1 := by
  refine (p_istore rfl rfl rfl).trans ?_
  refine (p_aload rfl rfl).trans ?_
  refine (p_const rfl).trans ?_
  exact s_putT rfl rfl
theorem r_X7_fits_10 {d : Nat} {a0 : Nat} {x1 : Int32} {l2 l3 : Option Value} {h : AH} : R_X7_fits d 10 [some (.ref a0), some (.int (x1)), l2, l3] [] h = ((hci h a0).bind (lkN [(18, 191)])).bind fun y => aK (exec tTab d y [.ref a0, .int (x1)] h) (fun v h1 => R_X7_fits d 16 [some (.ref a0), some (.int (x1)), l2, l3] (v.toList ++ [.ref a0]) h1) (fun E h1 => some (.inr E, h1)) := by
  refine (p_aload rfl rfl).trans ?_
  refine (p_aload rfl rfl).trans ?_
  refine (p_iload rfl rfl).trans ?_
  exact s_callV (L := [(18, 191)]) (n := 1) (b := a0) (rest := [.ref a0]) rfl rfl rfl
theorem r_X7_fits_16 {d : Nat} {b0 : Nat} {s1 : Int32} {l0 l1 l2 l3 : Option Value} {h : AH} : R_X7_fits d 16 [l0, l1, l2, l3] [.int (s1), .ref b0] h = if ¬ s1 = 0 then R_X7_fits d 23 [l0, l1, l2, l3] [.ref b0] h else R_X7_fits d 19 [l0, l1, l2, l3] [.ref b0] h := (s_if (g := (fun x => decide (¬ x = 0))) (t := 23) (nx := 19) rfl).trans bif_dec
theorem r_X7_fits_23 {d : Nat} {b0 : Nat} {l0 l1 l2 l3 : Option Value} {h : AH} : R_X7_fits d 23 [l0, l1, l2, l3] [.ref b0] h = (hpf h [18] b0 0 (.int ((nI 0)))).bind fun h1 => R_X7_fits d 27 [l0, l1, l2, l3] [] h1 := by
  refine (p_const rfl).trans ?_
  exact s_putT rfl rfl
theorem r_X7_fits_19 {d : Nat} {b0 : Nat} {l0 l1 l2 l3 : Option Value} {h : AH} : R_X7_fits d 19 [l0, l1, l2, l3] [.ref b0] h = (hpf h [18] b0 0 (.int ((nI 1)))).bind fun h1 => R_X7_fits d 27 [l0, l1, l2, l3] [] h1 := by
  refine (p_const rfl).trans ?_
  refine (p_goto rfl).trans ?_
  exact s_putT rfl rfl
theorem r_X7_fits_27 {d : Nat} {a0 : Nat} {l1 l2 l3 : Option Value} {h : AH} : R_X7_fits d 27 [some (.ref a0), l1, l2, l3] [] h = (hgf h [18] a0 0).bind fun v => R_X7_fits d 31 [some (.ref a0), l1, l2, l3] [v] h := by
  refine (p_aload rfl rfl).trans ?_
  exact s_getf rfl
theorem r_X7_fits_31 {d : Nat} {s0 : Int32} {l0 l1 l2 l3 : Option Value} {h : AH} : R_X7_fits d 31 [l0, l1, l2, l3] [.int (s0)] h = if s0 ≤ 0 then R_X7_fits d 36 [l0, l1, l2, l3] [] h else R_X7_fits d 34 [l0, l1, l2, l3] [] h := (s_if (g := (fun x => decide (x ≤ 0))) (t := 36) (nx := 34) rfl).trans bif_dec
theorem r_X7_fits_36 {d : Nat} {l0 l1 l2 l3 : Option Value} {h : AH} : R_X7_fits d 36 [l0, l1, l2, l3] [] h = R_X7_fits d 38 [l0, l1, l2, some (.int ((nI 0)))] [] h := by
  refine (p_const rfl).trans ?_
  refine (p_istore rfl rfl rfl).trans ?_
  exact rfl
theorem r_X7_fits_34 {d : Nat} {l0 l1 l2 l3 : Option Value} {h : AH} : R_X7_fits d 34 [l0, l1, l2, l3] [] h = some (.inl (some (.int ((nI 0)))), h) := by
  refine (p_const rfl).trans ?_
  exact s_iretT rfl rfl
theorem q_X7_fits_38 {d : Nat} {x3 x2 : Int32} {l0 l1 : Option Value} {h : AH} : R_X7_fits d 38 [l0, l1, some (.int (x2)), some (.int (x3))] [] h = if x2 ≤ x3 then R_X7_fits d 81 [l0, l1, some (.int (x2)), some (.int (x3))] [] h else R_X7_fits d 43 [l0, l1, some (.int (x2)), some (.int (x3))] [] h := by
  refine (p_iload rfl rfl).trans ?_
  refine (p_iload rfl rfl).trans ?_
  exact (s_icmp (g := (fun x y => decide (y ≤ x))) (t := 81) (nx := 43) rfl).trans bif_dec
theorem r_X7_fits_81 {d : Nat} {x3 x2 : Int32} {l0 l1 : Option Value} {h : AH} : R_X7_fits d 81 [l0, l1, some (.int (x2)), some (.int (x3))] [] h = if ¬ x3 = x2 then R_X7_fits d 101 [l0, l1, some (.int (x2)), some (.int (x3))] [] h else R_X7_fits d 86 [l0, l1, some (.int (x2)), some (.int (x3))] [] h := by
  refine (p_iload rfl rfl).trans ?_
  refine (p_iload rfl rfl).trans ?_
  exact (s_icmp (g := (fun x y => decide (¬ x = y))) (t := 101) (nx := 86) rfl).trans bif_dec
theorem r_X7_fits_43 {d : Nat} {x3 x1 : Int32} {a0 : Nat} {l2 : Option Value} {h : AH} : R_X7_fits d 43 [some (.ref a0), some (.int (x1)), l2, some (.int (x3))] [] h = ((hci h a0).bind (lkN [(18, 175)])).bind fun y => aK (exec tTab d y [.ref a0, .int (x1), .int ((nI 6))] h) (fun v h1 => R_X7_fits d 51 [some (.ref a0), some (.int (x1)), l2, some (.int (x3))] (v.toList ++ [.int (x3)]) h1) (fun E h1 => some (.inr E, h1)) := by
  refine (p_iload rfl rfl).trans ?_
  refine (p_aload rfl rfl).trans ?_
  refine (p_iload rfl rfl).trans ?_
  refine (p_const rfl).trans ?_
  exact s_callV (L := [(18, 175)]) (n := 2) (b := a0) (rest := [.int (x3)]) rfl rfl rfl
theorem r_X7_fits_101 {d : Nat} {x3 : Int32} {l0 l1 l2 : Option Value} {h : AH} : R_X7_fits d 101 [l0, l1, l2, some (.int (x3))] [] h = some (.inl (some (.int (x3))), h) := by
  refine (p_iload rfl rfl).trans ?_
  exact s_iretT rfl rfl
theorem r_X7_fits_86 {d : Nat} {x3 x1 : Int32} {a0 : Nat} {l2 : Option Value} {h : AH} : R_X7_fits d 86 [some (.ref a0), some (.int (x1)), l2, some (.int (x3))] [] h = ((hci h a0).bind (lkN [(18, 175)])).bind fun y => aK (exec tTab d y [.ref a0, .int (x1), .int ((nI 6))] h) (fun v h1 => R_X7_fits d 94 [some (.ref a0), some (.int (x1)), l2, some (.int (x3))] (v.toList ++ [.int (x3)]) h1) (fun E h1 => some (.inr E, h1)) := by
  refine (p_iload rfl rfl).trans ?_
  refine (p_aload rfl rfl).trans ?_
  refine (p_iload rfl rfl).trans ?_
  refine (p_const rfl).trans ?_
  exact s_callV (L := [(18, 175)]) (n := 2) (b := a0) (rest := [.int (x3)]) rfl rfl rfl
theorem r_X7_fits_51 {d : Nat} {s0 s1 : Int32} {l0 l1 l2 l3 : Option Value} {h : AH} : R_X7_fits d 51 [l0, l1, l2, l3] [.int (s1), .int (s0)] h = if s1 ≤ s0 then R_X7_fits d 81 [l0, l1, l2, l3] [] h else R_X7_fits d 54 [l0, l1, l2, l3] [] h := (s_icmp (g := (fun x y => decide (y ≤ x))) (t := 81) (nx := 54) rfl).trans bif_dec
theorem r_X7_fits_94 {d : Nat} {s0 s1 : Int32} {l0 l1 l2 l3 : Option Value} {h : AH} : R_X7_fits d 94 [l0, l1, l2, l3] [.int (s1), .int (s0)] h = if ¬ s0 = s1 then R_X7_fits d 101 [l0, l1, l2, l3] [] h else R_X7_fits d 97 [l0, l1, l2, l3] [] h := (s_icmp (g := (fun x y => decide (¬ x = y))) (t := 101) (nx := 97) rfl).trans bif_dec
theorem r_X7_fits_54 {d : Nat} {a0 : Nat} {l1 l2 l3 : Option Value} {h : AH} : R_X7_fits d 54 [some (.ref a0), l1, l2, l3] [] h = (hgf h [18] a0 5).bind fun v => R_X7_fits d 58 [some (.ref a0), l1, l2, l3] [v] h := by
  refine (p_aload rfl rfl).trans ?_
  exact s_getf rfl
theorem r_X7_fits_97 {d : Nat} {l0 l1 l2 l3 : Option Value} {h : AH} : R_X7_fits d 97 [l0, l1, l2, l3] [] h = some (.inl (some (.int ((-1)))), h) := by
  refine (p_const rfl).trans ?_
  refine (p_goto rfl).trans ?_
  exact s_iretT rfl rfl
theorem r_X7_fits_58 {d : Nat} {b0 : Nat} {x3 : Int32} {l0 l1 l2 : Option Value} {h : AH} : R_X7_fits d 58 [l0, l1, l2, some (.int (x3))] [.ref b0] h = (hai h 0 b0 x3).bind fun v => R_X7_fits d 60 [l0, l1, l2, some (.int (x3))] [.int v] h := by
  refine (p_iload rfl rfl).trans ?_
  exact s_iald rfl
theorem r_X7_fits_60 {d : Nat} {s0 x1 x3 : Int32} {a0 : Nat} {l2 : Option Value} {h : AH} : R_X7_fits d 60 [some (.ref a0), some (.int (x1)), l2, some (.int (x3))] [.int (s0)] h = ((hci h a0).bind (lkN [(18, 175)])).bind fun y => aK (exec tTab d y [.ref a0, .int (x1), .int ((nI 7) + x3)] h) (fun v h1 => R_X7_fits d 72 [some (.ref a0), some (.int (x1)), l2, some (.int (x3))] (v.toList ++ [.int (s0 - (nI 97))]) h1) (fun E h1 => some (.inr E, h1)) := by
  refine (p_const rfl).trans ?_
  refine (p_bin rfl).trans ?_
  refine (p_aload rfl rfl).trans ?_
  refine (p_iload rfl rfl).trans ?_
  refine (p_const rfl).trans ?_
  refine (p_iload rfl rfl).trans ?_
  refine (p_bin rfl).trans ?_
  exact s_callV (L := [(18, 175)]) (n := 2) (b := a0) (rest := [.int (s0 - (nI 97))]) rfl rfl rfl
theorem r_X7_fits_72 {d : Nat} {s0 s1 : Int32} {l0 l1 l2 l3 : Option Value} {h : AH} : R_X7_fits d 72 [l0, l1, l2, l3] [.int (s1), .int (s0)] h = if ¬ s0 = s1 then R_X7_fits d 81 [l0, l1, l2, l3] [] h else R_X7_fits d 75 [l0, l1, l2, l3] [] h := (s_icmp (g := (fun x y => decide (¬ x = y))) (t := 81) (nx := 75) rfl).trans bif_dec
theorem r_X7_fits_75 {d : Nat} {x3 : Int32} {l0 l1 l2 : Option Value} {h : AH} : R_X7_fits d 75 [l0, l1, l2, some (.int (x3))] [] h = R_X7_fits d 38 [l0, l1, l2, some (.int (x3 + (nI 1)))] [] h := by
  refine (p_iinc rfl rfl rfl).trans ?_
  refine (p_goto rfl).trans ?_
  exact rfl
theorem e_X7_fits {d : Nat} {a0 : Nat} {x1 : Int32} {h : AH} : exec tTab (d + 1) K_X7_fits [.ref a0, .int x1] h = R_X7_fits d 0 [some (.ref a0), some (.int x1), none, none] [] h := exec_eq (cd := k_X7_fits) (hd := (fun _ _ => some none)) (L := 4) rfl rfl rfl
/-- FavourTownModel.play(III)I -/
abbrev K_X7_play : Nat := 235
noncomputable def R_X7_play (d pc : Nat) (ls : ALs) (st : List Value) (h : AH) : Option (AOut × AH) := aR (exec tTab d) k_X7_play (fun _ _ => some none) (pc, ls, st, h)
theorem r_X7_play_0 {d : Nat} {a0 : Nat} {x2 : Int32} {l1 l3 l4 l5 l6 l7 l8 l9 l10 l11 : Option Value} {h : AH} : R_X7_play d 0 [some (.ref a0), l1, some (.int (x2)), l3, l4, l5, l6, l7, l8, l9, l10, l11] [] h = aK (exec tTab d 153 [.int (x2), .int ((nI 0)), .int ((nI 60))] h) (fun v h1 => R_X7_play d 8 [some (.ref a0), l1, some (.int (x2)), l3, l4, l5, l6, l7, l8, l9, l10, l11] (v.toList ++ [.ref a0]) h1) (fun E h1 => some (.inr E, h1)) := by
  refine (p_aload rfl rfl).trans ?_
  refine (p_iload rfl rfl).trans ?_
  refine (p_const rfl).trans ?_
  refine (p_const rfl).trans ?_
  exact s_callS (y := 153) (n := 3) rfl rfl
theorem r_X7_play_8 {d : Nat} {b0 : Nat} {s1 : Int32} {l0 l1 l2 l3 l4 l5 l6 l7 l8 l9 l10 l11 : Option Value} {h : AH} : R_X7_play d 8 [l0, l1, l2, l3, l4, l5, l6, l7, l8, l9, l10, l11] [.int (s1), .ref b0] h = if ¬ s1 = 0 then R_X7_play d 15 [l0, l1, l2, l3, l4, l5, l6, l7, l8, l9, l10, l11] [.ref b0] h else R_X7_play d 11 [l0, l1, l2, l3, l4, l5, l6, l7, l8, l9, l10, l11] [.ref b0] h := (s_if (g := (fun x => decide (¬ x = 0))) (t := 15) (nx := 11) rfl).trans bif_dec
theorem r_X7_play_15 {d : Nat} {b0 : Nat} {x3 : Int32} {l0 l1 l2 l4 l5 l6 l7 l8 l9 l10 l11 : Option Value} {h : AH} : R_X7_play d 15 [l0, l1, l2, some (.int (x3)), l4, l5, l6, l7, l8, l9, l10, l11] [.ref b0] h = aK (exec tTab d 153 [.int (x3), .int ((nI 0)), .int ((nI 5))] h) (fun v h1 => R_X7_play d 21 [l0, l1, l2, some (.int (x3)), l4, l5, l6, l7, l8, l9, l10, l11] (v.toList ++ [.ref b0]) h1) (fun E h1 => some (.inr E, h1)) := by
  refine (p_iload rfl rfl).trans ?_
  refine (p_const rfl).trans ?_
  refine (p_const rfl).trans ?_
  exact s_callS (y := 153) (n := 3) rfl rfl
theorem r_X7_play_15N {d : Nat} {x3 : Int32} {l0 l1 l2 l4 l5 l6 l7 l8 l9 l10 l11 : Option Value} {h : AH} : R_X7_play d 15 [l0, l1, l2, some (.int (x3)), l4, l5, l6, l7, l8, l9, l10, l11] [.null] h = aK (exec tTab d 153 [.int (x3), .int ((nI 0)), .int ((nI 5))] h) (fun v h1 => R_X7_play d 21 [l0, l1, l2, some (.int (x3)), l4, l5, l6, l7, l8, l9, l10, l11] (v.toList ++ [.null]) h1) (fun E h1 => some (.inr E, h1)) := by
  refine (p_iload rfl rfl).trans ?_
  refine (p_const rfl).trans ?_
  refine (p_const rfl).trans ?_
  exact s_callS (y := 153) (n := 3) rfl rfl
theorem r_X7_play_11 {d : Nat} {b0 : Nat} {l0 l1 l2 l3 l4 l5 l6 l7 l8 l9 l10 l11 : Option Value} {h : AH} : R_X7_play d 11 [l0, l1, l2, l3, l4, l5, l6, l7, l8, l9, l10, l11] [.ref b0] h = (hpf h [18] b0 0 (.int ((nI 1)))).bind fun h1 => R_X7_play d 32 [l0, l1, l2, l3, l4, l5, l6, l7, l8, l9, l10, l11] [] h1 := by
  refine (p_const rfl).trans ?_
  refine (p_goto rfl).trans ?_
  exact s_putT rfl rfl
theorem r_X7_play_21 {d : Nat} {b0 : Nat} {s1 : Int32} {l0 l1 l2 l3 l4 l5 l6 l7 l8 l9 l10 l11 : Option Value} {h : AH} : R_X7_play d 21 [l0, l1, l2, l3, l4, l5, l6, l7, l8, l9, l10, l11] [.int (s1), .ref b0] h = if ¬ s1 = 0 then R_X7_play d 28 [l0, l1, l2, l3, l4, l5, l6, l7, l8, l9, l10, l11] [.ref b0] h else R_X7_play d 24 [l0, l1, l2, l3, l4, l5, l6, l7, l8, l9, l10, l11] [.ref b0] h := (s_if (g := (fun x => decide (¬ x = 0))) (t := 28) (nx := 24) rfl).trans bif_dec
theorem r_X7_play_32 {d : Nat} {a0 : Nat} {l1 l2 l3 l4 l5 l6 l7 l8 l9 l10 l11 : Option Value} {h : AH} : R_X7_play d 32 [some (.ref a0), l1, l2, l3, l4, l5, l6, l7, l8, l9, l10, l11] [] h = (hgf h [18] a0 0).bind fun v => R_X7_play d 36 [some (.ref a0), l1, l2, l3, l4, l5, l6, l7, l8, l9, l10, l11] [v] h := by
  refine (p_aload rfl rfl).trans ?_
  exact s_getf rfl
theorem r_X7_play_28 {d : Nat} {b0 : Nat} {l0 l1 l2 l3 l4 l5 l6 l7 l8 l9 l10 l11 : Option Value} {h : AH} : R_X7_play d 28 [l0, l1, l2, l3, l4, l5, l6, l7, l8, l9, l10, l11] [.ref b0] h = (hpf h [18] b0 0 (.int ((nI 0)))).bind fun h1 => R_X7_play d 32 [l0, l1, l2, l3, l4, l5, l6, l7, l8, l9, l10, l11] [] h1 := by
  refine (p_const rfl).trans ?_
  exact s_putT rfl rfl
theorem r_X7_play_24 {d : Nat} {b0 : Nat} {l0 l1 l2 l3 l4 l5 l6 l7 l8 l9 l10 l11 : Option Value} {h : AH} : R_X7_play d 24 [l0, l1, l2, l3, l4, l5, l6, l7, l8, l9, l10, l11] [.ref b0] h = (hpf h [18] b0 0 (.int ((nI 2)))).bind fun h1 => R_X7_play d 32 [l0, l1, l2, l3, l4, l5, l6, l7, l8, l9, l10, l11] [] h1 := by
  refine (p_const rfl).trans ?_
  refine (p_goto rfl).trans ?_
  exact s_putT rfl rfl
theorem r_X7_play_36 {d : Nat} {s0 : Int32} {l0 l1 l2 l3 l4 l5 l6 l7 l8 l9 l10 l11 : Option Value} {h : AH} : R_X7_play d 36 [l0, l1, l2, l3, l4, l5, l6, l7, l8, l9, l10, l11] [.int (s0)] h = if s0 ≤ 0 then R_X7_play d 41 [l0, l1, l2, l3, l4, l5, l6, l7, l8, l9, l10, l11] [] h else R_X7_play d 39 [l0, l1, l2, l3, l4, l5, l6, l7, l8, l9, l10, l11] [] h := (s_if (g := (fun x => decide (x ≤ 0))) (t := 41) (nx := 39) rfl).trans bif_dec
theorem r_X7_play_41 {d : Nat} {l0 l1 l2 l3 l4 l5 l6 l7 l8 l9 l10 l11 : Option Value} {h : AH} : R_X7_play d 41 [l0, l1, l2, l3, l4, l5, l6, l7, l8, l9, l10, l11] [] h = R_X7_play d 44 [l0, l1, l2, l3, some (.int ((nI 0))), l5, l6, l7, l8, l9, l10, l11] [] h := by
  refine (p_const rfl).trans ?_
  refine (p_istore rfl rfl rfl).trans ?_
  exact rfl
theorem r_X7_play_39 {d : Nat} {l0 l1 l2 l3 l4 l5 l6 l7 l8 l9 l10 l11 : Option Value} {h : AH} : R_X7_play d 39 [l0, l1, l2, l3, l4, l5, l6, l7, l8, l9, l10, l11] [] h = some (.inl (some (.int ((nI 0)))), h) := by
  refine (p_const rfl).trans ?_
  exact s_iretT rfl rfl
theorem q_X7_play_44 {d : Nat} {x4 : Int32} {l0 l1 l2 l3 l5 l6 l7 l8 l9 l10 l11 : Option Value} {h : AH} : R_X7_play d 44 [l0, l1, l2, l3, some (.int (x4)), l5, l6, l7, l8, l9, l10, l11] [] h = if (nI 940) ≤ x4 then R_X7_play d 72 [l0, l1, l2, l3, some (.int (x4)), l5, l6, l7, l8, l9, l10, l11] [] h else R_X7_play d 52 [l0, l1, l2, l3, some (.int (x4)), l5, l6, l7, l8, l9, l10, l11] [] h := by
  refine (p_iload rfl rfl).trans ?_
  refine (p_const rfl).trans ?_
  exact (s_icmp (g := (fun x y => decide (y ≤ x))) (t := 72) (nx := 52) rfl).trans bif_dec
theorem r_X7_play_72 {d : Nat} {a0 : Nat} {x1 : Int32} {l2 l3 l4 l5 l6 l7 l8 l9 l10 l11 : Option Value} {h : AH} : R_X7_play d 72 [some (.ref a0), some (.int (x1)), l2, l3, l4, l5, l6, l7, l8, l9, l10, l11] [] h = (hpf h [18] a0 28 (.int (x1))).bind fun h1 => R_X7_play d 77 [some (.ref a0), some (.int (x1)), l2, l3, l4, l5, l6, l7, l8, l9, l10, l11] [] h1 := by
  refine (p_aload rfl rfl).trans ?_
  refine (p_iload rfl rfl).trans ?_
  exact s_putT rfl rfl
theorem r_X7_play_52 {d : Nat} {a0 : Nat} {l1 l2 l3 l4 l5 l6 l7 l8 l9 l10 l11 : Option Value} {h : AH} : R_X7_play d 52 [some (.ref a0), l1, l2, l3, l4, l5, l6, l7, l8, l9, l10, l11] [] h = (hgf h [18] a0 4).bind fun v => R_X7_play d 56 [some (.ref a0), l1, l2, l3, l4, l5, l6, l7, l8, l9, l10, l11] [v] h := by
  refine (p_aload rfl rfl).trans ?_
  exact s_getf rfl
theorem r_X7_play_77 {d : Nat} {l0 l1 l2 l3 l4 l5 l6 l7 l8 l9 l10 l11 : Option Value} {h : AH} : R_X7_play d 77 [l0, l1, l2, l3, l4, l5, l6, l7, l8, l9, l10, l11] [] h = R_X7_play d 89 [l0, l1, l2, l3, some (.int ((nI 0))), some (.int ((nI 0))), some (.int ((nI 0))), some (.int ((nI 0))), l8, l9, l10, l11] [] h := by
  refine (p_const rfl).trans ?_
  refine (p_istore rfl rfl rfl).trans ?_
  refine (p_const rfl).trans ?_
  refine (p_istore rfl rfl rfl).trans ?_
  refine (p_const rfl).trans ?_
  refine (p_istore rfl rfl rfl).trans ?_
  refine (p_const rfl).trans ?_
  refine (p_istore rfl rfl rfl).trans ?_
  exact rfl
theorem r_X7_play_56 {d : Nat} {b0 a0 : Nat} {x4 : Int32} {l1 l2 l3 l5 l6 l7 l8 l9 l10 l11 : Option Value} {h : AH} : R_X7_play d 56 [some (.ref a0), l1, l2, l3, some (.int (x4)), l5, l6, l7, l8, l9, l10, l11] [.ref b0] h = (hgf h [18] a0 1).bind fun v => R_X7_play d 62 [some (.ref a0), l1, l2, l3, some (.int (x4)), l5, l6, l7, l8, l9, l10, l11] [v, .int (x4), .ref b0] h := by
  refine (p_iload rfl rfl).trans ?_
  refine (p_aload rfl rfl).trans ?_
  exact s_getf rfl
theorem r_X7_play_56N {d : Nat} {x4 : Int32} {a0 : Nat} {l1 l2 l3 l5 l6 l7 l8 l9 l10 l11 : Option Value} {h : AH} : R_X7_play d 56 [some (.ref a0), l1, l2, l3, some (.int (x4)), l5, l6, l7, l8, l9, l10, l11] [.null] h = (hgf h [18] a0 1).bind fun v => R_X7_play d 62 [some (.ref a0), l1, l2, l3, some (.int (x4)), l5, l6, l7, l8, l9, l10, l11] [v, .int (x4), .null] h := by
  refine (p_iload rfl rfl).trans ?_
  refine (p_aload rfl rfl).trans ?_
  exact s_getf rfl
theorem q_X7_play_89 {d : Nat} {x7 x2 : Int32} {l0 l1 l3 l4 l5 l6 l8 l9 l10 l11 : Option Value} {h : AH} : R_X7_play d 89 [l0, l1, some (.int (x2)), l3, l4, l5, l6, some (.int (x7)), l8, l9, l10, l11] [] h = if x2 ≤ x7 then R_X7_play d 233 [l0, l1, some (.int (x2)), l3, l4, l5, l6, some (.int (x7)), l8, l9, l10, l11] [] h else R_X7_play d 95 [l0, l1, some (.int (x2)), l3, l4, l5, l6, some (.int (x7)), l8, l9, l10, l11] [] h := by
  refine (p_iload rfl rfl).trans ?_
  refine (p_iload rfl rfl).trans ?_
  exact (s_icmp (g := (fun x y => decide (y ≤ x))) (t := 233) (nx := 95) rfl).trans bif_dec
theorem r_X7_play_62 {d : Nat} {b0 b2 : Nat} {s1 x4 : Int32} {l0 l1 l2 l3 l5 l6 l7 l8 l9 l10 l11 : Option Value} {h : AH} : R_X7_play d 62 [l0, l1, l2, l3, some (.int (x4)), l5, l6, l7, l8, l9, l10, l11] [.ref b2, .int (s1), .ref b0] h = (hai h 0 b2 x4).bind fun v => R_X7_play d 65 [l0, l1, l2, l3, some (.int (x4)), l5, l6, l7, l8, l9, l10, l11] [.int v, .int (s1), .ref b0] h := by
  refine (p_iload rfl rfl).trans ?_
  exact s_iald rfl
theorem r_X7_play_233 {d : Nat} {l0 l1 l2 l3 l4 l5 l6 l7 l8 l9 l10 l11 : Option Value} {h : AH} : R_X7_play d 233 [l0, l1, l2, l3, l4, l5, l6, l7, l8, l9, l10, l11] [] h = R_X7_play d 245 [l0, l1, l2, l3, l4, l5, l6, some (.int ((nI 0))), some (.int ((nI 0))), some (.int ((-1))), some (.int ((nI 0))), l11] [] h := by
  refine (p_const rfl).trans ?_
  refine (p_istore rfl rfl rfl).trans ?_
  refine (p_const rfl).trans ?_
  refine (p_istore rfl rfl rfl).trans ?_
  refine (p_const rfl).trans ?_
  refine (p_istore rfl rfl rfl).trans ?_
  refine (p_const rfl).trans ?_
  refine (p_istore rfl rfl rfl).trans ?_
  exact rfl
theorem r_X7_play_95 {d : Nat} {l0 l1 l2 l3 l4 l5 l6 l7 l8 l9 l10 l11 : Option Value} {h : AH} : R_X7_play d 95 [l0, l1, l2, l3, l4, l5, l6, l7, l8, l9, l10, l11] [] h = R_X7_play d 98 [l0, l1, l2, l3, l4, l5, l6, l7, some (.int ((nI 0))), l9, l10, l11] [] h := by
  refine (p_const rfl).trans ?_
  refine (p_istore rfl rfl rfl).trans ?_
  exact rfl
theorem r_X7_play_65 {d : Nat} {b0 : Nat} {s1 s2 : Int32} {l0 l1 l2 l3 l4 l5 l6 l7 l8 l9 l10 l11 : Option Value} {h : AH} : R_X7_play d 65 [l0, l1, l2, l3, l4, l5, l6, l7, l8, l9, l10, l11] [.int (s2), .int (s1), .ref b0] h = (hsi h 0 b0 s1 s2).bind fun h1 => R_X7_play d 66 [l0, l1, l2, l3, l4, l5, l6, l7, l8, l9, l10, l11] [] h1 := s_iast (t := 0) (nar := (fun y => y)) rfl
theorem q_X7_play_245 {d : Nat} {x10 : Int32} {a0 : Nat} {l1 l2 l3 l4 l5 l6 l7 l8 l9 l11 : Option Value} {h : AH} : R_X7_play d 245 [some (.ref a0), l1, l2, l3, l4, l5, l6, l7, l8, l9, some (.int (x10)), l11] [] h = (hgf h [18] a0 1).bind fun v => R_X7_play d 251 [some (.ref a0), l1, l2, l3, l4, l5, l6, l7, l8, l9, some (.int (x10)), l11] [v, .int (x10)] h := by
  refine (p_iload rfl rfl).trans ?_
  refine (p_aload rfl rfl).trans ?_
  exact s_getf rfl
theorem q_X7_play_98 {d : Nat} {x8 : Int32} {a0 : Nat} {l1 l2 l3 l4 l5 l6 l7 l9 l10 l11 : Option Value} {h : AH} : R_X7_play d 98 [some (.ref a0), l1, l2, l3, l4, l5, l6, l7, some (.int (x8)), l9, l10, l11] [] h = (hgf h [18] a0 1).bind fun v => R_X7_play d 104 [some (.ref a0), l1, l2, l3, l4, l5, l6, l7, some (.int (x8)), l9, l10, l11] [v, .int (x8)] h := by
  refine (p_iload rfl rfl).trans ?_
  refine (p_aload rfl rfl).trans ?_
  exact s_getf rfl
theorem r_X7_play_66 {d : Nat} {x4 : Int32} {l0 l1 l2 l3 l5 l6 l7 l8 l9 l10 l11 : Option Value} {h : AH} : R_X7_play d 66 [l0, l1, l2, l3, some (.int (x4)), l5, l6, l7, l8, l9, l10, l11] [] h = R_X7_play d 44 [l0, l1, l2, l3, some (.int (x4 + (nI 1))), l5, l6, l7, l8, l9, l10, l11] [] h := by
  refine (p_iinc rfl rfl rfl).trans ?_
  refine (p_goto rfl).trans ?_
  exact rfl
theorem r_X7_play_251 {d : Nat} {s0 : Int32} {b1 : Nat} {l0 l1 l2 l3 l4 l5 l6 l7 l8 l9 l10 l11 : Option Value} {h : AH} : R_X7_play d 251 [l0, l1, l2, l3, l4, l5, l6, l7, l8, l9, l10, l11] [.ref b1, .int (s0)] h = (hai h 0 b1 (nI 3)).bind fun v => R_X7_play d 253 [l0, l1, l2, l3, l4, l5, l6, l7, l8, l9, l10, l11] [.int v, .int (s0)] h := by
  refine (p_const rfl).trans ?_
  exact s_iald rfl
theorem r_X7_play_104 {d : Nat} {s0 : Int32} {b1 : Nat} {l0 l1 l2 l3 l4 l5 l6 l7 l8 l9 l10 l11 : Option Value} {h : AH} : R_X7_play d 104 [l0, l1, l2, l3, l4, l5, l6, l7, l8, l9, l10, l11] [.ref b1, .int (s0)] h = (hai h 0 b1 (nI 1)).bind fun v => R_X7_play d 106 [l0, l1, l2, l3, l4, l5, l6, l7, l8, l9, l10, l11] [.int v, .int (s0)] h := by
  refine (p_const rfl).trans ?_
  exact s_iald rfl
theorem r_X7_play_253 {d : Nat} {s0 s1 : Int32} {l0 l1 l2 l3 l4 l5 l6 l7 l8 l9 l10 l11 : Option Value} {h : AH} : R_X7_play d 253 [l0, l1, l2, l3, l4, l5, l6, l7, l8, l9, l10, l11] [.int (s1), .int (s0)] h = if s1 ≤ s0 then R_X7_play d 283 [l0, l1, l2, l3, l4, l5, l6, l7, l8, l9, l10, l11] [] h else R_X7_play d 256 [l0, l1, l2, l3, l4, l5, l6, l7, l8, l9, l10, l11] [] h := (s_icmp (g := (fun x y => decide (y ≤ x))) (t := 283) (nx := 256) rfl).trans bif_dec
theorem r_X7_play_106 {d : Nat} {s0 s1 : Int32} {l0 l1 l2 l3 l4 l5 l6 l7 l8 l9 l10 l11 : Option Value} {h : AH} : R_X7_play d 106 [l0, l1, l2, l3, l4, l5, l6, l7, l8, l9, l10, l11] [.int (s1), .int (s0)] h = if s1 ≤ s0 then R_X7_play d 221 [l0, l1, l2, l3, l4, l5, l6, l7, l8, l9, l10, l11] [] h else R_X7_play d 109 [l0, l1, l2, l3, l4, l5, l6, l7, l8, l9, l10, l11] [] h := (s_icmp (g := (fun x y => decide (y ≤ x))) (t := 221) (nx := 109) rfl).trans bif_dec
theorem r_X7_play_283 {d : Nat} {l0 l1 l2 l3 l4 l5 l6 l7 l8 l9 l10 l11 : Option Value} {h : AH} : R_X7_play d 283 [l0, l1, l2, l3, l4, l5, l6, l7, l8, l9, l10, l11] [] h = R_X7_play d 286 [l0, l1, l2, l3, l4, l5, l6, l7, l8, l9, some (.int ((nI 0))), l11] [] h := by
  refine (p_const rfl).trans ?_
  refine (p_istore rfl rfl rfl).trans ?_
  exact rfl
theorem r_X7_play_256 {d : Nat} {x7 x10 : Int32} {a0 : Nat} {l1 l2 l3 l4 l5 l6 l8 l9 l11 : Option Value} {h : AH} : R_X7_play d 256 [some (.ref a0), l1, l2, l3, l4, l5, l6, some (.int (x7)), l8, l9, some (.int (x10)), l11] [] h = ((hci h a0).bind (lkN [(18, 175)])).bind fun y => aK (exec tTab d y [.ref a0, .int (x10), .int ((nI 2))] h) (fun v h1 => R_X7_play d 265 [some (.ref a0), l1, l2, l3, l4, l5, l6, some (.int (x7)), l8, l9, some (.int (x10)), l11] (v.toList ++ [.int (x7)]) h1) (fun E h1 => some (.inr E, h1)) := by
  refine (p_iload rfl rfl).trans ?_
  refine (p_aload rfl rfl).trans ?_
  refine (p_iload rfl rfl).trans ?_
  refine (p_const rfl).trans ?_
  exact s_callV (L := [(18, 175)]) (n := 2) (b := a0) (rest := [.int (x7)]) rfl rfl rfl
theorem r_X7_play_221 {d : Nat} {a0 : Nat} {l1 l2 l3 l4 l5 l6 l7 l8 l9 l10 l11 : Option Value} {h : AH} : R_X7_play d 221 [some (.ref a0), l1, l2, l3, l4, l5, l6, l7, l8, l9, l10, l11] [] h = ((hci h a0).bind (lkN [(18, 184)])).bind fun y => aK (exec tTab d y [.ref a0, .int ((nI 1))] h) (fun v h1 => R_X7_play d 226 [some (.ref a0), l1, l2, l3, l4, l5, l6, l7, l8, l9, l10, l11] (v.toList ++ []) h1) (fun E h1 => some (.inr E, h1)) := by
  refine (p_aload rfl rfl).trans ?_
  refine (p_const rfl).trans ?_
  exact s_callV (L := [(18, 184)]) (n := 1) (b := a0) (rest := []) rfl rfl rfl
theorem r_X7_play_109 {d : Nat} {a0 : Nat} {l1 l2 l3 l4 l5 l6 l7 l8 l9 l10 l11 : Option Value} {h : AH} : R_X7_play d 109 [some (.ref a0), l1, l2, l3, l4, l5, l6, l7, l8, l9, l10, l11] [] h = (hgf h [18] a0 1).bind fun v => R_X7_play d 114 [some (.ref a0), l1, l2, l3, l4, l5, l6, l7, l8, l9, l10, l11] [v, .ref a0] h := by
  refine (p_aload rfl rfl).trans ?_
  refine (p_aload rfl rfl).trans ?_
  exact s_getf rfl
theorem q_X7_play_286 {d : Nat} {x10 : Int32} {a0 : Nat} {l1 l2 l3 l4 l5 l6 l7 l8 l9 l11 : Option Value} {h : AH} : R_X7_play d 286 [some (.ref a0), l1, l2, l3, l4, l5, l6, l7, l8, l9, some (.int (x10)), l11] [] h = (hgf h [18] a0 1).bind fun v => R_X7_play d 292 [some (.ref a0), l1, l2, l3, l4, l5, l6, l7, l8, l9, some (.int (x10)), l11] [v, .int (x10)] h := by
  refine (p_iload rfl rfl).trans ?_
  refine (p_aload rfl rfl).trans ?_
  exact s_getf rfl
theorem r_X7_play_265 {d : Nat} {s0 s1 : Int32} {l0 l1 l2 l3 l4 l5 l6 l7 l8 l9 l10 l11 : Option Value} {h : AH} : R_X7_play d 265 [l0, l1, l2, l3, l4, l5, l6, l7, l8, l9, l10, l11] [.int (s1), .int (s0)] h = if ¬ s1 = (-1) then R_X7_play d 273 [l0, l1, l2, l3, l4, l5, l6, l7, l8, l9, l10, l11] [.int (s0)] h else R_X7_play d 269 [l0, l1, l2, l3, l4, l5, l6, l7, l8, l9, l10, l11] [.int (s0)] h := by
  refine (p_const rfl).trans ?_
  exact (s_icmp (g := (fun x y => decide (¬ x = y))) (t := 273) (nx := 269) rfl).trans bif_dec
theorem r_X7_play_226 {d : Nat} {s0 x7 : Int32} {l0 l1 l2 l3 l4 l5 l6 l8 l9 l10 l11 : Option Value} {h : AH} : R_X7_play d 226 [l0, l1, l2, l3, l4, l5, l6, some (.int (x7)), l8, l9, l10, l11] [.int (s0)] h = R_X7_play d 89 [l0, l1, l2, l3, l4, l5, l6, some (.int (x7 + (nI 1))), l8, l9, l10, l11] [] h := by
  refine (p_pop rfl rfl).trans ?_
  refine (p_iinc rfl rfl rfl).trans ?_
  refine (p_goto rfl).trans ?_
  exact rfl
theorem r_X7_play_114 {d : Nat} {b0 b1 : Nat} {l0 l1 l2 l3 l4 l5 l6 l7 l8 l9 l10 l11 : Option Value} {h : AH} : R_X7_play d 114 [l0, l1, l2, l3, l4, l5, l6, l7, l8, l9, l10, l11] [.ref b1, .ref b0] h = (hai h 0 b1 (nI 1)).bind fun v => R_X7_play d 116 [l0, l1, l2, l3, l4, l5, l6, l7, l8, l9, l10, l11] [.int v, .ref b0] h := by
  refine (p_const rfl).trans ?_
  exact s_iald rfl
theorem r_X7_play_292 {d : Nat} {s0 : Int32} {b1 : Nat} {l0 l1 l2 l3 l4 l5 l6 l7 l8 l9 l10 l11 : Option Value} {h : AH} : R_X7_play d 292 [l0, l1, l2, l3, l4, l5, l6, l7, l8, l9, l10, l11] [.ref b1, .int (s0)] h = (hai h 0 b1 (nI 1)).bind fun v => R_X7_play d 294 [l0, l1, l2, l3, l4, l5, l6, l7, l8, l9, l10, l11] [.int v, .int (s0)] h := by
  refine (p_const rfl).trans ?_
  exact s_iald rfl
theorem r_X7_play_273 {d : Nat} {s0 x10 : Int32} {l0 l1 l2 l3 l4 l5 l6 l7 l8 l9 l11 : Option Value} {h : AH} : R_X7_play d 273 [l0, l1, l2, l3, l4, l5, l6, l7, l8, l9, some (.int (x10)), l11] [.int (s0)] h = R_X7_play d 245 [l0, l1, l2, l3, l4, l5, l6, some (.int (s0 + (nI 1))), l8, l9, some (.int (x10 + (nI 1))), l11] [] h := by
  refine (p_const rfl).trans ?_
  refine (p_bin rfl).trans ?_
  refine (p_istore rfl rfl rfl).trans ?_
  refine (p_iinc rfl rfl rfl).trans ?_
  refine (p_goto rfl).trans ?_
  exact rfl
theorem r_X7_play_269 {d : Nat} {s0 x10 : Int32} {l0 l1 l2 l3 l4 l5 l6 l7 l8 l9 l11 : Option Value} {h : AH} : R_X7_play d 269 [l0, l1, l2, l3, l4, l5, l6, l7, l8, l9, some (.int (x10)), l11] [.int (s0)] h = R_X7_play d 245 [l0, l1, l2, l3, l4, l5, l6, some (.int (s0 + (nI 0))), l8, l9, some (.int (x10 + (nI 1))), l11] [] h := by
  refine (p_const rfl).trans ?_
  refine (p_goto rfl).trans ?_
  refine (p_bin rfl).trans ?_
  refine (p_istore rfl rfl rfl).trans ?_
  refine (p_iinc rfl rfl rfl).trans ?_
  refine (p_goto rfl).trans ?_
  exact rfl
theorem r_X7_play_116 {d : Nat} {b0 : Nat} {s1 : Int32} {l0 l1 l2 l3 l4 l5 l6 l7 l8 l9 l10 l11 : Option Value} {h : AH} : R_X7_play d 116 [l0, l1, l2, l3, l4, l5, l6, l7, l8, l9, l10, l11] [.int (s1), .ref b0] h = ((hci h b0).bind (lkN [(18, 236)])).bind fun y => aK (exec tTab d y [.ref b0, .int (s1)] h) (fun v h1 => R_X7_play d 119 [l0, l1, l2, l3, l4, l5, l6, l7, l8, l9, l10, l11] (v.toList ++ []) h1) (fun E h1 => some (.inr E, h1)) := s_callV (L := [(18, 236)]) (n := 1) (b := b0) (rest := []) rfl rfl rfl
theorem r_X7_play_294 {d : Nat} {s0 s1 : Int32} {l0 l1 l2 l3 l4 l5 l6 l7 l8 l9 l10 l11 : Option Value} {h : AH} : R_X7_play d 294 [l0, l1, l2, l3, l4, l5, l6, l7, l8, l9, l10, l11] [.int (s1), .int (s0)] h = if s1 ≤ s0 then R_X7_play d 344 [l0, l1, l2, l3, l4, l5, l6, l7, l8, l9, l10, l11] [] h else R_X7_play d 297 [l0, l1, l2, l3, l4, l5, l6, l7, l8, l9, l10, l11] [] h := (s_icmp (g := (fun x y => decide (y ≤ x))) (t := 344) (nx := 297) rfl).trans bif_dec
theorem r_X7_play_119 {d : Nat} {s0 x8 : Int32} {l0 l1 l2 l3 l4 l5 l6 l7 l9 l10 l11 : Option Value} {h : AH} : R_X7_play d 119 [l0, l1, l2, l3, l4, l5, l6, l7, some (.int (x8)), l9, l10, l11] [.int (s0)] h = if ¬ s0 = x8 then R_X7_play d 131 [l0, l1, l2, l3, l4, l5, l6, l7, some (.int (x8)), some (.int (s0)), l10, l11] [] h else R_X7_play d 128 [l0, l1, l2, l3, l4, l5, l6, l7, some (.int (x8)), some (.int (s0)), l10, l11] [] h := by
  refine (p_istore rfl rfl rfl).trans ?_
  refine (p_iload rfl rfl).trans ?_
  refine (p_iload rfl rfl).trans ?_
  exact (s_icmp (g := (fun x y => decide (¬ x = y))) (t := 131) (nx := 128) rfl).trans bif_dec
theorem r_X7_play_344 {d : Nat} {l0 l1 l2 l3 l4 l5 l6 l7 l8 l9 l10 l11 : Option Value} {h : AH} : R_X7_play d 344 [l0, l1, l2, l3, l4, l5, l6, l7, l8, l9, l10, l11] [] h = R_X7_play d 347 [l0, l1, l2, l3, l4, l5, l6, l7, l8, l9, some (.int ((nI 0))), l11] [] h := by
  refine (p_const rfl).trans ?_
  refine (p_istore rfl rfl rfl).trans ?_
  exact rfl
theorem r_X7_play_297 {d : Nat} {x8 x10 : Int32} {a0 : Nat} {l1 l2 l3 l4 l5 l6 l7 l9 l11 : Option Value} {h : AH} : R_X7_play d 297 [some (.ref a0), l1, l2, l3, l4, l5, l6, l7, some (.int (x8)), l9, some (.int (x10)), l11] [] h = ((hci h a0).bind (lkN [(18, 178)])).bind fun y => aK (exec tTab d y [.ref a0, .int (x10)] h) (fun v h1 => R_X7_play d 305 [some (.ref a0), l1, l2, l3, l4, l5, l6, l7, some (.int (x8)), l9, some (.int (x10)), l11] (v.toList ++ [.int (x8)]) h1) (fun E h1 => some (.inr E, h1)) := by
  refine (p_iload rfl rfl).trans ?_
  refine (p_aload rfl rfl).trans ?_
  refine (p_iload rfl rfl).trans ?_
  exact s_callV (L := [(18, 178)]) (n := 1) (b := a0) (rest := [.int (x8)]) rfl rfl rfl
theorem r_X7_play_131 {d : Nat} {a0 : Nat} {l1 l2 l3 l4 l5 l6 l7 l8 l9 l10 l11 : Option Value} {h : AH} : R_X7_play d 131 [some (.ref a0), l1, l2, l3, l4, l5, l6, l7, l8, l9, l10, l11] [] h = ((hci h a0).bind (lkN [(18, 236)])).bind fun y => aK (exec tTab d y [.ref a0, .int ((nI 9))] h) (fun v h1 => R_X7_play d 137 [some (.ref a0), l1, l2, l3, l4, l5, l6, l7, l8, l9, l10, l11] (v.toList ++ []) h1) (fun E h1 => some (.inr E, h1)) := by
  refine (p_aload rfl rfl).trans ?_
  refine (p_const rfl).trans ?_
  exact s_callV (L := [(18, 236)]) (n := 1) (b := a0) (rest := []) rfl rfl rfl
theorem r_X7_play_128 {d : Nat} {x8 : Int32} {l0 l1 l2 l3 l4 l5 l6 l7 l9 l10 l11 : Option Value} {h : AH} : R_X7_play d 128 [l0, l1, l2, l3, l4, l5, l6, l7, some (.int (x8)), l9, l10, l11] [] h = R_X7_play d 98 [l0, l1, l2, l3, l4, l5, l6, l7, some (.int (x8 + (nI 1))), l9, l10, l11] [] h := by
  refine (p_goto rfl).trans ?_
  refine (p_iinc rfl rfl rfl).trans ?_
  refine (p_goto rfl).trans ?_
  exact rfl
theorem q_X7_play_347 {d : Nat} {x10 : Int32} {l0 l1 l2 l3 l4 l5 l6 l7 l8 l9 l11 : Option Value} {h : AH} : R_X7_play d 347 [l0, l1, l2, l3, l4, l5, l6, l7, l8, l9, some (.int (x10)), l11] [] h = if (nI 940) ≤ x10 then R_X7_play d 375 [l0, l1, l2, l3, l4, l5, l6, l7, l8, l9, some (.int (x10)), l11] [] h else R_X7_play d 355 [l0, l1, l2, l3, l4, l5, l6, l7, l8, l9, some (.int (x10)), l11] [] h := by
  refine (p_iload rfl rfl).trans ?_
  refine (p_const rfl).trans ?_
  exact (s_icmp (g := (fun x y => decide (y ≤ x))) (t := 375) (nx := 355) rfl).trans bif_dec
theorem r_X7_play_305 {d : Nat} {s0 s1 x9 : Int32} {l0 l1 l2 l3 l4 l5 l6 l7 l8 l10 l11 : Option Value} {h : AH} : R_X7_play d 305 [l0, l1, l2, l3, l4, l5, l6, l7, l8, some (.int (x9)), l10, l11] [.int (s1), .int (s0)] h = if x9 = (-1) then R_X7_play d 329 [l0, l1, l2, l3, l4, l5, l6, l7, some (.int (s0 + s1)), some (.int (x9)), l10, l11] [] h else R_X7_play d 314 [l0, l1, l2, l3, l4, l5, l6, l7, some (.int (s0 + s1)), some (.int (x9)), l10, l11] [] h := by
  refine (p_bin rfl).trans ?_
  refine (p_istore rfl rfl rfl).trans ?_
  refine (p_iload rfl rfl).trans ?_
  refine (p_const rfl).trans ?_
  exact (s_icmp (g := (fun x y => decide (x = y))) (t := 329) (nx := 314) rfl).trans bif_dec
theorem r_X7_play_137 {d : Nat} {s0 x8 x9 : Int32} {a0 : Nat} {l1 l2 l3 l4 l5 l6 l7 l10 l11 : Option Value} {h : AH} : R_X7_play d 137 [some (.ref a0), l1, l2, l3, l4, l5, l6, l7, some (.int (x8)), some (.int (x9)), l10, l11] [.int (s0)] h = ((hci h a0).bind (lkN [(18, 209)])).bind fun y => aK (exec tTab d y [.ref a0, .int (x8), .int (x9), .int (s0 + (nI 1))] h) (fun v h1 => R_X7_play d 151 [some (.ref a0), l1, l2, l3, l4, l5, l6, l7, some (.int (x8)), some (.int (x9)), some (.int (s0 + (nI 1))), l11] (v.toList ++ []) h1) (fun E h1 => some (.inr E, h1)) := by
  refine (p_const rfl).trans ?_
  refine (p_bin rfl).trans ?_
  refine (p_istore rfl rfl rfl).trans ?_
  refine (p_aload rfl rfl).trans ?_
  refine (p_iload rfl rfl).trans ?_
  refine (p_iload rfl rfl).trans ?_
  refine (p_iload rfl rfl).trans ?_
  exact s_callV (L := [(18, 209)]) (n := 3) (b := a0) (rest := []) rfl rfl rfl
theorem r_X7_play_375 {d : Nat} {x3 : Int32} {l0 l1 l2 l4 l5 l6 l7 l8 l9 l10 l11 : Option Value} {h : AH} : R_X7_play d 375 [l0, l1, l2, some (.int (x3)), l4, l5, l6, l7, l8, l9, l10, l11] [] h = if ¬ x3 = 0 then R_X7_play d 384 [l0, l1, l2, some (.int (x3)), l4, l5, l6, l7, l8, l9, l10, l11] [] h else R_X7_play d 379 [l0, l1, l2, some (.int (x3)), l4, l5, l6, l7, l8, l9, l10, l11] [] h := by
  refine (p_iload rfl rfl).trans ?_
  exact (s_if (g := (fun x => decide (¬ x = 0))) (t := 384) (nx := 379) rfl).trans bif_dec
theorem r_X7_play_355 {d : Nat} {a0 : Nat} {l1 l2 l3 l4 l5 l6 l7 l8 l9 l10 l11 : Option Value} {h : AH} : R_X7_play d 355 [some (.ref a0), l1, l2, l3, l4, l5, l6, l7, l8, l9, l10, l11] [] h = (hgf h [18] a0 1).bind fun v => R_X7_play d 359 [some (.ref a0), l1, l2, l3, l4, l5, l6, l7, l8, l9, l10, l11] [v] h := by
  refine (p_aload rfl rfl).trans ?_
  exact s_getf rfl
theorem r_X7_play_329 {d : Nat} {x10 : Int32} {l0 l1 l2 l3 l4 l5 l6 l7 l8 l9 l11 : Option Value} {h : AH} : R_X7_play d 329 [l0, l1, l2, l3, l4, l5, l6, l7, l8, l9, some (.int (x10)), l11] [] h = R_X7_play d 286 [l0, l1, l2, l3, l4, l5, l6, l7, l8, some (.int (x10)), some (.int (x10 + (nI 1))), l11] [] h := by
  refine (p_iload rfl rfl).trans ?_
  refine (p_goto rfl).trans ?_
  refine (p_istore rfl rfl rfl).trans ?_
  refine (p_iinc rfl rfl rfl).trans ?_
  refine (p_goto rfl).trans ?_
  exact rfl
theorem r_X7_play_314 {d : Nat} {a0 : Nat} {x10 : Int32} {l1 l2 l3 l4 l5 l6 l7 l8 l9 l11 : Option Value} {h : AH} : R_X7_play d 314 [some (.ref a0), l1, l2, l3, l4, l5, l6, l7, l8, l9, some (.int (x10)), l11] [] h = ((hci h a0).bind (lkN [(18, 178)])).bind fun y => aK (exec tTab d y [.ref a0, .int (x10)] h) (fun v h1 => R_X7_play d 320 [some (.ref a0), l1, l2, l3, l4, l5, l6, l7, l8, l9, some (.int (x10)), l11] (v.toList ++ []) h1) (fun E h1 => some (.inr E, h1)) := by
  refine (p_aload rfl rfl).trans ?_
  refine (p_iload rfl rfl).trans ?_
  exact s_callV (L := [(18, 178)]) (n := 1) (b := a0) (rest := []) rfl rfl rfl
theorem r_X7_play_151 {d : Nat} {s0 x6 : Int32} {l0 l1 l2 l3 l4 l5 l7 l8 l9 l10 l11 : Option Value} {h : AH} : R_X7_play d 151 [l0, l1, l2, l3, l4, l5, some (.int (x6)), l7, l8, l9, l10, l11] [.int (s0)] h = if ¬ s0 = (-1) then R_X7_play d 165 [l0, l1, l2, l3, l4, l5, some (.int (x6)), l7, l8, l9, l10, some (.int (s0))] [.int (x6)] h else R_X7_play d 161 [l0, l1, l2, l3, l4, l5, some (.int (x6)), l7, l8, l9, l10, some (.int (s0))] [.int (x6)] h := by
  refine (p_istore rfl rfl rfl).trans ?_
  refine (p_iload rfl rfl).trans ?_
  refine (p_iload rfl rfl).trans ?_
  refine (p_const rfl).trans ?_
  exact (s_icmp (g := (fun x y => decide (¬ x = y))) (t := 165) (nx := 161) rfl).trans bif_dec
theorem r_X7_play_384 {d : Nat} {x3 : Int32} {l0 l1 l2 l4 l5 l6 l7 l8 l9 l10 l11 : Option Value} {h : AH} : R_X7_play d 384 [l0, l1, l2, some (.int (x3)), l4, l5, l6, l7, l8, l9, l10, l11] [] h = if ¬ x3 = (nI 1) then R_X7_play d 394 [l0, l1, l2, some (.int (x3)), l4, l5, l6, l7, l8, l9, l10, l11] [] h else R_X7_play d 389 [l0, l1, l2, some (.int (x3)), l4, l5, l6, l7, l8, l9, l10, l11] [] h := by
  refine (p_iload rfl rfl).trans ?_
  refine (p_const rfl).trans ?_
  exact (s_icmp (g := (fun x y => decide (¬ x = y))) (t := 394) (nx := 389) rfl).trans bif_dec
theorem r_X7_play_379 {d : Nat} {x4 : Int32} {l0 l1 l2 l3 l5 l6 l7 l8 l9 l10 l11 : Option Value} {h : AH} : R_X7_play d 379 [l0, l1, l2, l3, some (.int (x4)), l5, l6, l7, l8, l9, l10, l11] [] h = some (.inl (some (.int (x4))), h) := by
  refine (p_iload rfl rfl).trans ?_
  refine (p_goto rfl).trans ?_
  exact s_iretT rfl rfl
theorem r_X7_play_359 {d : Nat} {b0 a0 : Nat} {x10 : Int32} {l1 l2 l3 l4 l5 l6 l7 l8 l9 l11 : Option Value} {h : AH} : R_X7_play d 359 [some (.ref a0), l1, l2, l3, l4, l5, l6, l7, l8, l9, some (.int (x10)), l11] [.ref b0] h = (hgf h [18] a0 4).bind fun v => R_X7_play d 365 [some (.ref a0), l1, l2, l3, l4, l5, l6, l7, l8, l9, some (.int (x10)), l11] [v, .int (x10), .ref b0] h := by
  refine (p_iload rfl rfl).trans ?_
  refine (p_aload rfl rfl).trans ?_
  exact s_getf rfl
theorem r_X7_play_359N {d : Nat} {x10 : Int32} {a0 : Nat} {l1 l2 l3 l4 l5 l6 l7 l8 l9 l11 : Option Value} {h : AH} : R_X7_play d 359 [some (.ref a0), l1, l2, l3, l4, l5, l6, l7, l8, l9, some (.int (x10)), l11] [.null] h = (hgf h [18] a0 4).bind fun v => R_X7_play d 365 [some (.ref a0), l1, l2, l3, l4, l5, l6, l7, l8, l9, some (.int (x10)), l11] [v, .int (x10), .null] h := by
  refine (p_iload rfl rfl).trans ?_
  refine (p_aload rfl rfl).trans ?_
  exact s_getf rfl
theorem r_X7_play_320 {d : Nat} {s0 x9 : Int32} {a0 : Nat} {l1 l2 l3 l4 l5 l6 l7 l8 l10 l11 : Option Value} {h : AH} : R_X7_play d 320 [some (.ref a0), l1, l2, l3, l4, l5, l6, l7, l8, some (.int (x9)), l10, l11] [.int (s0)] h = ((hci h a0).bind (lkN [(18, 178)])).bind fun y => aK (exec tTab d y [.ref a0, .int (x9)] h) (fun v h1 => R_X7_play d 326 [some (.ref a0), l1, l2, l3, l4, l5, l6, l7, l8, some (.int (x9)), l10, l11] (v.toList ++ [.int (s0)]) h1) (fun E h1 => some (.inr E, h1)) := by
  refine (p_aload rfl rfl).trans ?_
  refine (p_iload rfl rfl).trans ?_
  exact s_callV (L := [(18, 178)]) (n := 1) (b := a0) (rest := [.int (s0)]) rfl rfl rfl
theorem r_X7_play_165 {d : Nat} {s0 x4 x11 : Int32} {l0 l1 l2 l3 l5 l6 l7 l8 l9 l10 : Option Value} {h : AH} : R_X7_play d 165 [l0, l1, l2, l3, some (.int (x4)), l5, l6, l7, l8, l9, l10, some (.int (x11))] [.int (s0)] h = if x11 = (-1) then R_X7_play d 188 [l0, l1, l2, l3, some (.int (x4)), l5, some (.int (s0 + (nI 0))), l7, l8, l9, l10, some (.int (x11))] [.int (x4)] h else R_X7_play d 177 [l0, l1, l2, l3, some (.int (x4)), l5, some (.int (s0 + (nI 0))), l7, l8, l9, l10, some (.int (x11))] [.int (x4)] h := by
  refine (p_const rfl).trans ?_
  refine (p_bin rfl).trans ?_
  refine (p_istore rfl rfl rfl).trans ?_
  refine (p_iload rfl rfl).trans ?_
  refine (p_iload rfl rfl).trans ?_
  refine (p_const rfl).trans ?_
  exact (s_icmp (g := (fun x y => decide (x = y))) (t := 188) (nx := 177) rfl).trans bif_dec
theorem r_X7_play_161 {d : Nat} {s0 x4 x11 : Int32} {l0 l1 l2 l3 l5 l6 l7 l8 l9 l10 : Option Value} {h : AH} : R_X7_play d 161 [l0, l1, l2, l3, some (.int (x4)), l5, l6, l7, l8, l9, l10, some (.int (x11))] [.int (s0)] h = if x11 = (-1) then R_X7_play d 188 [l0, l1, l2, l3, some (.int (x4)), l5, some (.int (s0 + (nI 1))), l7, l8, l9, l10, some (.int (x11))] [.int (x4)] h else R_X7_play d 177 [l0, l1, l2, l3, some (.int (x4)), l5, some (.int (s0 + (nI 1))), l7, l8, l9, l10, some (.int (x11))] [.int (x4)] h := by
  refine (p_const rfl).trans ?_
  refine (p_goto rfl).trans ?_
  refine (p_bin rfl).trans ?_
  refine (p_istore rfl rfl rfl).trans ?_
  refine (p_iload rfl rfl).trans ?_
  refine (p_iload rfl rfl).trans ?_
  refine (p_const rfl).trans ?_
  exact (s_icmp (g := (fun x y => decide (x = y))) (t := 188) (nx := 177) rfl).trans bif_dec
theorem r_X7_play_394 {d : Nat} {x3 : Int32} {l0 l1 l2 l4 l5 l6 l7 l8 l9 l10 l11 : Option Value} {h : AH} : R_X7_play d 394 [l0, l1, l2, some (.int (x3)), l4, l5, l6, l7, l8, l9, l10, l11] [] h = if ¬ x3 = (nI 2) then R_X7_play d 404 [l0, l1, l2, some (.int (x3)), l4, l5, l6, l7, l8, l9, l10, l11] [] h else R_X7_play d 399 [l0, l1, l2, some (.int (x3)), l4, l5, l6, l7, l8, l9, l10, l11] [] h := by
  refine (p_iload rfl rfl).trans ?_
  refine (p_const rfl).trans ?_
  exact (s_icmp (g := (fun x y => decide (¬ x = y))) (t := 404) (nx := 399) rfl).trans bif_dec
theorem r_X7_play_389 {d : Nat} {x5 : Int32} {l0 l1 l2 l3 l4 l6 l7 l8 l9 l10 l11 : Option Value} {h : AH} : R_X7_play d 389 [l0, l1, l2, l3, l4, some (.int (x5)), l6, l7, l8, l9, l10, l11] [] h = some (.inl (some (.int (x5))), h) := by
  refine (p_iload rfl rfl).trans ?_
  refine (p_goto rfl).trans ?_
  exact s_iretT rfl rfl
theorem r_X7_play_365 {d : Nat} {b0 b2 : Nat} {s1 x10 : Int32} {l0 l1 l2 l3 l4 l5 l6 l7 l8 l9 l11 : Option Value} {h : AH} : R_X7_play d 365 [l0, l1, l2, l3, l4, l5, l6, l7, l8, l9, some (.int (x10)), l11] [.ref b2, .int (s1), .ref b0] h = (hai h 0 b2 x10).bind fun v => R_X7_play d 368 [l0, l1, l2, l3, l4, l5, l6, l7, l8, l9, some (.int (x10)), l11] [.int v, .int (s1), .ref b0] h := by
  refine (p_iload rfl rfl).trans ?_
  exact s_iald rfl
theorem r_X7_play_326 {d : Nat} {s0 s1 : Int32} {l0 l1 l2 l3 l4 l5 l6 l7 l8 l9 l10 l11 : Option Value} {h : AH} : R_X7_play d 326 [l0, l1, l2, l3, l4, l5, l6, l7, l8, l9, l10, l11] [.int (s1), .int (s0)] h = if s0 ≤ s1 then R_X7_play d 334 [l0, l1, l2, l3, l4, l5, l6, l7, l8, l9, l10, l11] [] h else R_X7_play d 329 [l0, l1, l2, l3, l4, l5, l6, l7, l8, l9, l10, l11] [] h := (s_icmp (g := (fun x y => decide (x ≤ y))) (t := 334) (nx := 329) rfl).trans bif_dec
theorem r_X7_play_188 {d : Nat} {s0 x5 x11 : Int32} {l0 l1 l2 l3 l4 l6 l7 l8 l9 l10 : Option Value} {h : AH} : R_X7_play d 188 [l0, l1, l2, l3, l4, some (.int (x5)), l6, l7, l8, l9, l10, some (.int (x11))] [.int (s0)] h = if x11 = (-1) then R_X7_play d 211 [l0, l1, l2, l3, some (.int (s0 + (nI 0))), some (.int (x5)), l6, l7, l8, l9, l10, some (.int (x11))] [.int (x5)] h else R_X7_play d 200 [l0, l1, l2, l3, some (.int (s0 + (nI 0))), some (.int (x5)), l6, l7, l8, l9, l10, some (.int (x11))] [.int (x5)] h := by
  refine (p_const rfl).trans ?_
  refine (p_bin rfl).trans ?_
  refine (p_istore rfl rfl rfl).trans ?_
  refine (p_iload rfl rfl).trans ?_
  refine (p_iload rfl rfl).trans ?_
  refine (p_const rfl).trans ?_
  exact (s_icmp (g := (fun x y => decide (x = y))) (t := 211) (nx := 200) rfl).trans bif_dec
theorem r_X7_play_177 {d : Nat} {s0 : Int32} {a0 : Nat} {l1 l2 l3 l4 l5 l6 l7 l8 l9 l10 l11 : Option Value} {h : AH} : R_X7_play d 177 [some (.ref a0), l1, l2, l3, l4, l5, l6, l7, l8, l9, l10, l11] [.int (s0)] h = (hgf h [18] a0 26).bind fun v => R_X7_play d 181 [some (.ref a0), l1, l2, l3, l4, l5, l6, l7, l8, l9, l10, l11] [v, .int (s0)] h := by
  refine (p_aload rfl rfl).trans ?_
  exact s_getf rfl
theorem r_X7_play_404 {d : Nat} {x3 : Int32} {l0 l1 l2 l4 l5 l6 l7 l8 l9 l10 l11 : Option Value} {h : AH} : R_X7_play d 404 [l0, l1, l2, some (.int (x3)), l4, l5, l6, l7, l8, l9, l10, l11] [] h = if ¬ x3 = (nI 3) then R_X7_play d 414 [l0, l1, l2, some (.int (x3)), l4, l5, l6, l7, l8, l9, l10, l11] [] h else R_X7_play d 409 [l0, l1, l2, some (.int (x3)), l4, l5, l6, l7, l8, l9, l10, l11] [] h := by
  refine (p_iload rfl rfl).trans ?_
  refine (p_const rfl).trans ?_
  exact (s_icmp (g := (fun x y => decide (¬ x = y))) (t := 414) (nx := 409) rfl).trans bif_dec
theorem r_X7_play_399 {d : Nat} {x6 : Int32} {l0 l1 l2 l3 l4 l5 l7 l8 l9 l10 l11 : Option Value} {h : AH} : R_X7_play d 399 [l0, l1, l2, l3, l4, l5, some (.int (x6)), l7, l8, l9, l10, l11] [] h = some (.inl (some (.int (x6))), h) := by
  refine (p_iload rfl rfl).trans ?_
  refine (p_goto rfl).trans ?_
  exact s_iretT rfl rfl
theorem r_X7_play_368 {d : Nat} {b0 : Nat} {s1 s2 : Int32} {l0 l1 l2 l3 l4 l5 l6 l7 l8 l9 l10 l11 : Option Value} {h : AH} : R_X7_play d 368 [l0, l1, l2, l3, l4, l5, l6, l7, l8, l9, l10, l11] [.int (s2), .int (s1), .ref b0] h = (hsi h 0 b0 s1 s2).bind fun h1 => R_X7_play d 369 [l0, l1, l2, l3, l4, l5, l6, l7, l8, l9, l10, l11] [] h1 := s_iast (t := 0) (nar := (fun y => y)) rfl
theorem r_X7_play_334 {d : Nat} {x9 x10 : Int32} {l0 l1 l2 l3 l4 l5 l6 l7 l8 l11 : Option Value} {h : AH} : R_X7_play d 334 [l0, l1, l2, l3, l4, l5, l6, l7, l8, some (.int (x9)), some (.int (x10)), l11] [] h = R_X7_play d 286 [l0, l1, l2, l3, l4, l5, l6, l7, l8, some (.int (x9)), some (.int (x10 + (nI 1))), l11] [] h := by
  refine (p_iload rfl rfl).trans ?_
  refine (p_istore rfl rfl rfl).trans ?_
  refine (p_iinc rfl rfl rfl).trans ?_
  refine (p_goto rfl).trans ?_
  exact rfl
theorem r_X7_play_211 {d : Nat} {s0 x8 : Int32} {l0 l1 l2 l3 l4 l5 l6 l7 l9 l10 l11 : Option Value} {h : AH} : R_X7_play d 211 [l0, l1, l2, l3, l4, l5, l6, l7, some (.int (x8)), l9, l10, l11] [.int (s0)] h = R_X7_play d 98 [l0, l1, l2, l3, l4, some (.int (s0 + (nI 0))), l6, l7, some (.int (x8 + (nI 1))), l9, l10, l11] [] h := by
  refine (p_const rfl).trans ?_
  refine (p_bin rfl).trans ?_
  refine (p_istore rfl rfl rfl).trans ?_
  refine (p_iinc rfl rfl rfl).trans ?_
  refine (p_goto rfl).trans ?_
  exact rfl
theorem r_X7_play_200 {d : Nat} {s0 : Int32} {a0 : Nat} {l1 l2 l3 l4 l5 l6 l7 l8 l9 l10 l11 : Option Value} {h : AH} : R_X7_play d 200 [some (.ref a0), l1, l2, l3, l4, l5, l6, l7, l8, l9, l10, l11] [.int (s0)] h = (hgf h [18] a0 26).bind fun v => R_X7_play d 204 [some (.ref a0), l1, l2, l3, l4, l5, l6, l7, l8, l9, l10, l11] [v, .int (s0)] h := by
  refine (p_aload rfl rfl).trans ?_
  exact s_getf rfl
theorem r_X7_play_181 {d : Nat} {s0 s1 : Int32} {l0 l1 l2 l3 l4 l5 l6 l7 l8 l9 l10 l11 : Option Value} {h : AH} : R_X7_play d 181 [l0, l1, l2, l3, l4, l5, l6, l7, l8, l9, l10, l11] [.int (s1), .int (s0)] h = if s1 = 0 then R_X7_play d 188 [l0, l1, l2, l3, l4, l5, l6, l7, l8, l9, l10, l11] [.int (s0)] h else R_X7_play d 184 [l0, l1, l2, l3, l4, l5, l6, l7, l8, l9, l10, l11] [.int (s0)] h := (s_if (g := (fun x => decide (x = 0))) (t := 188) (nx := 184) rfl).trans bif_dec
theorem r_X7_play_414 {d : Nat} {x3 : Int32} {l0 l1 l2 l4 l5 l6 l7 l8 l9 l10 l11 : Option Value} {h : AH} : R_X7_play d 414 [l0, l1, l2, some (.int (x3)), l4, l5, l6, l7, l8, l9, l10, l11] [] h = if ¬ x3 = (nI 4) then R_X7_play d 424 [l0, l1, l2, some (.int (x3)), l4, l5, l6, l7, l8, l9, l10, l11] [] h else R_X7_play d 419 [l0, l1, l2, some (.int (x3)), l4, l5, l6, l7, l8, l9, l10, l11] [] h := by
  refine (p_iload rfl rfl).trans ?_
  refine (p_const rfl).trans ?_
  exact (s_icmp (g := (fun x y => decide (¬ x = y))) (t := 424) (nx := 419) rfl).trans bif_dec
theorem r_X7_play_409 {d : Nat} {x7 : Int32} {l0 l1 l2 l3 l4 l5 l6 l8 l9 l10 l11 : Option Value} {h : AH} : R_X7_play d 409 [l0, l1, l2, l3, l4, l5, l6, some (.int (x7)), l8, l9, l10, l11] [] h = some (.inl (some (.int (x7))), h) := by
  refine (p_iload rfl rfl).trans ?_
  refine (p_goto rfl).trans ?_
  exact s_iretT rfl rfl
theorem r_X7_play_369 {d : Nat} {x10 : Int32} {l0 l1 l2 l3 l4 l5 l6 l7 l8 l9 l11 : Option Value} {h : AH} : R_X7_play d 369 [l0, l1, l2, l3, l4, l5, l6, l7, l8, l9, some (.int (x10)), l11] [] h = R_X7_play d 347 [l0, l1, l2, l3, l4, l5, l6, l7, l8, l9, some (.int (x10 + (nI 1))), l11] [] h := by
  refine (p_iinc rfl rfl rfl).trans ?_
  refine (p_goto rfl).trans ?_
  exact rfl
theorem r_X7_play_204 {d : Nat} {s0 s1 : Int32} {l0 l1 l2 l3 l4 l5 l6 l7 l8 l9 l10 l11 : Option Value} {h : AH} : R_X7_play d 204 [l0, l1, l2, l3, l4, l5, l6, l7, l8, l9, l10, l11] [.int (s1), .int (s0)] h = if ¬ s1 = 0 then R_X7_play d 211 [l0, l1, l2, l3, l4, l5, l6, l7, l8, l9, l10, l11] [.int (s0)] h else R_X7_play d 207 [l0, l1, l2, l3, l4, l5, l6, l7, l8, l9, l10, l11] [.int (s0)] h := (s_if (g := (fun x => decide (¬ x = 0))) (t := 211) (nx := 207) rfl).trans bif_dec
theorem r_X7_play_184 {d : Nat} {s0 x5 x11 : Int32} {l0 l1 l2 l3 l4 l6 l7 l8 l9 l10 : Option Value} {h : AH} : R_X7_play d 184 [l0, l1, l2, l3, l4, some (.int (x5)), l6, l7, l8, l9, l10, some (.int (x11))] [.int (s0)] h = if x11 = (-1) then R_X7_play d 211 [l0, l1, l2, l3, some (.int (s0 + (nI 1))), some (.int (x5)), l6, l7, l8, l9, l10, some (.int (x11))] [.int (x5)] h else R_X7_play d 200 [l0, l1, l2, l3, some (.int (s0 + (nI 1))), some (.int (x5)), l6, l7, l8, l9, l10, some (.int (x11))] [.int (x5)] h := by
  refine (p_const rfl).trans ?_
  refine (p_goto rfl).trans ?_
  refine (p_bin rfl).trans ?_
  refine (p_istore rfl rfl rfl).trans ?_
  refine (p_iload rfl rfl).trans ?_
  refine (p_iload rfl rfl).trans ?_
  refine (p_const rfl).trans ?_
  exact (s_icmp (g := (fun x y => decide (x = y))) (t := 211) (nx := 200) rfl).trans bif_dec
theorem r_X7_play_424 {d : Nat} {x9 : Int32} {l0 l1 l2 l3 l4 l5 l6 l7 l8 l10 l11 : Option Value} {h : AH} : R_X7_play d 424 [l0, l1, l2, l3, l4, l5, l6, l7, l8, some (.int (x9)), l10, l11] [] h = some (.inl (some (.int (x9))), h) := by
  refine (p_iload rfl rfl).trans ?_
  exact s_iretT rfl rfl
theorem r_X7_play_419 {d : Nat} {x8 : Int32} {l0 l1 l2 l3 l4 l5 l6 l7 l9 l10 l11 : Option Value} {h : AH} : R_X7_play d 419 [l0, l1, l2, l3, l4, l5, l6, l7, some (.int (x8)), l9, l10, l11] [] h = some (.inl (some (.int (x8))), h) := by
  refine (p_iload rfl rfl).trans ?_
  refine (p_goto rfl).trans ?_
  exact s_iretT rfl rfl
theorem r_X7_play_207 {d : Nat} {s0 x8 : Int32} {l0 l1 l2 l3 l4 l5 l6 l7 l9 l10 l11 : Option Value} {h : AH} : R_X7_play d 207 [l0, l1, l2, l3, l4, l5, l6, l7, some (.int (x8)), l9, l10, l11] [.int (s0)] h = R_X7_play d 98 [l0, l1, l2, l3, l4, some (.int (s0 + (nI 1))), l6, l7, some (.int (x8 + (nI 1))), l9, l10, l11] [] h := by
  refine (p_const rfl).trans ?_
  refine (p_goto rfl).trans ?_
  refine (p_bin rfl).trans ?_
  refine (p_istore rfl rfl rfl).trans ?_
  refine (p_iinc rfl rfl rfl).trans ?_
  refine (p_goto rfl).trans ?_
  exact rfl
theorem e_X7_play {d : Nat} {a0 : Nat} {x1 x2 x3 : Int32} {h : AH} : exec tTab (d + 1) K_X7_play [.ref a0, .int x1, .int x2, .int x3] h = R_X7_play d 0 [some (.ref a0), some (.int x1), some (.int x2), some (.int x3), none, none, none, none, none, none, none, none] [] h := exec_eq (cd := k_X7_play) (hd := (fun _ _ => some none)) (L := 12) rfl rfl rfl
/-- FavourTownModel.draws(I)I -/
abbrev K_X7_draws : Nat := 236
noncomputable def R_X7_draws (d pc : Nat) (ls : ALs) (st : List Value) (h : AH) : Option (AOut × AH) := aR (exec tTab d) k_X7_draws (fun _ _ => some none) (pc, ls, st, h)
theorem r_X7_draws_0 {d : Nat} {a0 : Nat} {l1 : Option Value} {h : AH} : R_X7_draws d 0 [some (.ref a0), l1] [] h = (hgf h [18] a0 28).bind fun v => R_X7_draws d 8 [some (.ref a0), l1] [v, .int ((1103515245 : Int32)), .ref a0] h := by
  refine (p_aload rfl rfl).trans ?_
  refine (p_const rfl).trans ?_
  refine (p_aload rfl rfl).trans ?_
  exact s_getf rfl
theorem r_X7_draws_8 {d : Nat} {b0 : Nat} {s1 s2 : Int32} {l0 l1 : Option Value} {h : AH} : R_X7_draws d 8 [l0, l1] [.int (s2), .int (s1), .ref b0] h = (hpf h [18] b0 28 (.int ((s1 * s2) + (nI 12345)))).bind fun h1 => R_X7_draws d 16 [l0, l1] [] h1 := by
  refine (p_bin rfl).trans ?_
  refine (p_const rfl).trans ?_
  refine (p_bin rfl).trans ?_
  exact s_putT rfl rfl
theorem r_X7_draws_16 {d : Nat} {a0 : Nat} {l1 : Option Value} {h : AH} : R_X7_draws d 16 [some (.ref a0), l1] [] h = (hgf h [18] a0 28).bind fun v => R_X7_draws d 20 [some (.ref a0), l1] [v] h := by
  refine (p_aload rfl rfl).trans ?_
  exact s_getf rfl
theorem r_X7_draws_20 {d : Nat} {s0 x1 : Int32} {l0 : Option Value} {h : AH} : R_X7_draws d 20 [l0, some (.int (x1))] [.int (s0)] h = if x1 = 0 then none else R_X7_draws d 29 [l0, some (.int (x1))] [.int ((((s0.toUInt32 >>> ((nI 16).toUInt32 &&& Int32.toUInt32 31)).toInt32) &&& (nI 32767)) - (((s0.toUInt32 >>> ((nI 16).toUInt32 &&& Int32.toUInt32 31)).toInt32) &&& (nI 32767)) / x1 * x1)] h := by
  refine (p_const rfl).trans ?_
  refine (p_bin rfl).trans ?_
  refine (p_const rfl).trans ?_
  refine (p_bin rfl).trans ?_
  refine (p_iload rfl rfl).trans ?_
  exact s_div (g := (fun x y => x - x / y * y)) rfl
theorem r_X7_draws_29 {d : Nat} {s0 : Int32} {l0 l1 : Option Value} {h : AH} : R_X7_draws d 29 [l0, l1] [.int (s0)] h = some (.inl (some (.int (s0))), h) := s_iretT rfl rfl
theorem e_X7_draws {d : Nat} {a0 : Nat} {x1 : Int32} {h : AH} : exec tTab (d + 1) K_X7_draws [.ref a0, .int x1] h = R_X7_draws d 0 [some (.ref a0), some (.int x1)] [] h := exec_eq (cd := k_X7_draws) (hd := (fun _ _ => some none)) (L := 2) rfl rfl rfl
/-- FavourTownModel.image()V -/
abbrev K_X7_image : Nat := 237
noncomputable def R_X7_image (d pc : Nat) (ls : ALs) (st : List Value) (h : AH) : Option (AOut × AH) := aR (exec tTab d) k_X7_image (fun _ _ => some none) (pc, ls, st, h)
theorem r_X7_image_0 {d : Nat} {a0 : Nat} {l1 : Option Value} {h : AH} : R_X7_image d 0 [some (.ref a0), l1] [] h = (hpf h [18] a0 0 (.int ((nI 0)))).bind fun h1 => R_X7_image d 5 [some (.ref a0), l1] [] h1 := by
  refine (p_aload rfl rfl).trans ?_
  refine (p_const rfl).trans ?_
  exact s_putT rfl rfl
theorem r_X7_image_5 {d : Nat} {l0 l1 : Option Value} {h : AH} : R_X7_image d 5 [l0, l1] [] h = R_X7_image d 7 [l0, some (.int ((nI 0)))] [] h := by
  refine (p_const rfl).trans ?_
  refine (p_istore rfl rfl rfl).trans ?_
  exact rfl
theorem q_X7_image_7 {d : Nat} {x1 : Int32} {l0 : Option Value} {h : AH} : R_X7_image d 7 [l0, some (.int (x1))] [] h = if (nI 3346) ≤ x1 then R_X7_image d 32 [l0, some (.int (x1))] [] h else R_X7_image d 14 [l0, some (.int (x1))] [] h := by
  refine (p_iload rfl rfl).trans ?_
  refine (p_const rfl).trans ?_
  exact (s_icmp (g := (fun x y => decide (y ≤ x))) (t := 32) (nx := 14) rfl).trans bif_dec
theorem r_X7_image_32 {d : Nat} {a0 : Nat} {l1 : Option Value} {h : AH} : R_X7_image d 32 [some (.ref a0), l1] [] h = bif vZ (.int ((nI 1))) then (hpf h [18] a0 3 (.int ((nI 1)))).bind fun h1 => R_X7_image d 37 [some (.ref a0), l1] [] h1 else none := by
  refine (p_aload rfl rfl).trans ?_
  refine (p_const rfl).trans ?_
  exact s_putf rfl
theorem r_X7_image_14 {d : Nat} {a0 : Nat} {l1 : Option Value} {h : AH} : R_X7_image d 14 [some (.ref a0), l1] [] h = (hgf h [18] a0 2).bind fun v => R_X7_image d 18 [some (.ref a0), l1] [v] h := by
  refine (p_aload rfl rfl).trans ?_
  exact s_getf rfl
theorem r_X7_image_37 {d : Nat} {l0 l1 : Option Value} {h : AH} : R_X7_image d 37 [l0, l1] [] h = some (.inl none, h) := s_vret rfl
theorem r_X7_image_18 {d : Nat} {b0 a0 : Nat} {x1 : Int32} {h : AH} : R_X7_image d 18 [some (.ref a0), some (.int (x1))] [.ref b0] h = (hgf h [18] a0 1).bind fun v => R_X7_image d 23 [some (.ref a0), some (.int (x1))] [v, .int (x1), .ref b0] h := by
  refine (p_iload rfl rfl).trans ?_
  refine (p_aload rfl rfl).trans ?_
  exact s_getf rfl
theorem r_X7_image_18N {d : Nat} {x1 : Int32} {a0 : Nat} {h : AH} : R_X7_image d 18 [some (.ref a0), some (.int (x1))] [.null] h = (hgf h [18] a0 1).bind fun v => R_X7_image d 23 [some (.ref a0), some (.int (x1))] [v, .int (x1), .null] h := by
  refine (p_iload rfl rfl).trans ?_
  refine (p_aload rfl rfl).trans ?_
  exact s_getf rfl
theorem r_X7_image_23 {d : Nat} {b0 b2 : Nat} {s1 x1 : Int32} {l0 : Option Value} {h : AH} : R_X7_image d 23 [l0, some (.int (x1))] [.ref b2, .int (s1), .ref b0] h = (hai h 0 b2 x1).bind fun v => R_X7_image d 25 [l0, some (.int (x1))] [.int v, .int (s1), .ref b0] h := by
  refine (p_iload rfl rfl).trans ?_
  exact s_iald rfl
theorem r_X7_image_25 {d : Nat} {b0 : Nat} {s1 s2 : Int32} {l0 l1 : Option Value} {h : AH} : R_X7_image d 25 [l0, l1] [.int (s2), .int (s1), .ref b0] h = (hsi h 0 b0 s1 s2).bind fun h1 => R_X7_image d 26 [l0, l1] [] h1 := s_iast (t := 0) (nar := (fun y => y)) rfl
theorem r_X7_image_26 {d : Nat} {x1 : Int32} {l0 : Option Value} {h : AH} : R_X7_image d 26 [l0, some (.int (x1))] [] h = R_X7_image d 7 [l0, some (.int (x1 + (nI 1)))] [] h := by
  refine (p_iinc rfl rfl rfl).trans ?_
  refine (p_goto rfl).trans ?_
  exact rfl
theorem e_X7_image {d : Nat} {a0 : Nat} {h : AH} : exec tTab (d + 1) K_X7_image [.ref a0] h = R_X7_image d 0 [some (.ref a0), none] [] h := exec_eq (cd := k_X7_image) (hd := (fun _ _ => some none)) (L := 2) rfl rfl rfl
/-- FavourTownModel.back()Z -/
abbrev K_X7_back : Nat := 238
noncomputable def R_X7_back (d pc : Nat) (ls : ALs) (st : List Value) (h : AH) : Option (AOut × AH) := aR (exec tTab d) k_X7_back (fun _ _ => some none) (pc, ls, st, h)
theorem r_X7_back_0 {d : Nat} {a0 : Nat} {l1 : Option Value} {h : AH} : R_X7_back d 0 [some (.ref a0), l1] [] h = (hpf h [18] a0 0 (.int ((nI 0)))).bind fun h1 => R_X7_back d 5 [some (.ref a0), l1] [] h1 := by
  refine (p_aload rfl rfl).trans ?_
  refine (p_const rfl).trans ?_
  exact s_putT rfl rfl
theorem r_X7_back_5 {d : Nat} {a0 : Nat} {l1 : Option Value} {h : AH} : R_X7_back d 5 [some (.ref a0), l1] [] h = (hgf h [18] a0 3).bind fun v => R_X7_back d 9 [some (.ref a0), l1] [v] h := by
  refine (p_aload rfl rfl).trans ?_
  exact s_getf rfl
theorem r_X7_back_9 {d : Nat} {s0 : Int32} {l0 l1 : Option Value} {h : AH} : R_X7_back d 9 [l0, l1] [.int (s0)] h = if ¬ s0 = 0 then R_X7_back d 14 [l0, l1] [] h else R_X7_back d 12 [l0, l1] [] h := (s_if (g := (fun x => decide (¬ x = 0))) (t := 14) (nx := 12) rfl).trans bif_dec
theorem r_X7_back_14 {d : Nat} {l0 l1 : Option Value} {h : AH} : R_X7_back d 14 [l0, l1] [] h = R_X7_back d 16 [l0, some (.int ((nI 0)))] [] h := by
  refine (p_const rfl).trans ?_
  refine (p_istore rfl rfl rfl).trans ?_
  exact rfl
theorem r_X7_back_12 {d : Nat} {l0 l1 : Option Value} {h : AH} : R_X7_back d 12 [l0, l1] [] h = some (.inl (some (.int ((nI 0)))), h) := by
  refine (p_const rfl).trans ?_
  exact s_iretT rfl rfl
theorem q_X7_back_16 {d : Nat} {x1 : Int32} {l0 : Option Value} {h : AH} : R_X7_back d 16 [l0, some (.int (x1))] [] h = if (nI 3346) ≤ x1 then R_X7_back d 41 [l0, some (.int (x1))] [] h else R_X7_back d 23 [l0, some (.int (x1))] [] h := by
  refine (p_iload rfl rfl).trans ?_
  refine (p_const rfl).trans ?_
  exact (s_icmp (g := (fun x y => decide (y ≤ x))) (t := 41) (nx := 23) rfl).trans bif_dec
theorem r_X7_back_41 {d : Nat} {l0 l1 : Option Value} {h : AH} : R_X7_back d 41 [l0, l1] [] h = some (.inl (some (.int ((nI 1)))), h) := by
  refine (p_const rfl).trans ?_
  exact s_iretT rfl rfl
theorem r_X7_back_23 {d : Nat} {a0 : Nat} {l1 : Option Value} {h : AH} : R_X7_back d 23 [some (.ref a0), l1] [] h = (hgf h [18] a0 1).bind fun v => R_X7_back d 27 [some (.ref a0), l1] [v] h := by
  refine (p_aload rfl rfl).trans ?_
  exact s_getf rfl
theorem r_X7_back_27 {d : Nat} {b0 a0 : Nat} {x1 : Int32} {h : AH} : R_X7_back d 27 [some (.ref a0), some (.int (x1))] [.ref b0] h = (hgf h [18] a0 2).bind fun v => R_X7_back d 32 [some (.ref a0), some (.int (x1))] [v, .int (x1), .ref b0] h := by
  refine (p_iload rfl rfl).trans ?_
  refine (p_aload rfl rfl).trans ?_
  exact s_getf rfl
theorem r_X7_back_27N {d : Nat} {x1 : Int32} {a0 : Nat} {h : AH} : R_X7_back d 27 [some (.ref a0), some (.int (x1))] [.null] h = (hgf h [18] a0 2).bind fun v => R_X7_back d 32 [some (.ref a0), some (.int (x1))] [v, .int (x1), .null] h := by
  refine (p_iload rfl rfl).trans ?_
  refine (p_aload rfl rfl).trans ?_
  exact s_getf rfl
theorem r_X7_back_32 {d : Nat} {b0 b2 : Nat} {s1 x1 : Int32} {l0 : Option Value} {h : AH} : R_X7_back d 32 [l0, some (.int (x1))] [.ref b2, .int (s1), .ref b0] h = (hai h 0 b2 x1).bind fun v => R_X7_back d 34 [l0, some (.int (x1))] [.int v, .int (s1), .ref b0] h := by
  refine (p_iload rfl rfl).trans ?_
  exact s_iald rfl
theorem r_X7_back_34 {d : Nat} {b0 : Nat} {s1 s2 : Int32} {l0 l1 : Option Value} {h : AH} : R_X7_back d 34 [l0, l1] [.int (s2), .int (s1), .ref b0] h = (hsi h 0 b0 s1 s2).bind fun h1 => R_X7_back d 35 [l0, l1] [] h1 := s_iast (t := 0) (nar := (fun y => y)) rfl
theorem r_X7_back_35 {d : Nat} {x1 : Int32} {l0 : Option Value} {h : AH} : R_X7_back d 35 [l0, some (.int (x1))] [] h = R_X7_back d 16 [l0, some (.int (x1 + (nI 1)))] [] h := by
  refine (p_iinc rfl rfl rfl).trans ?_
  refine (p_goto rfl).trans ?_
  exact rfl
theorem e_X7_back {d : Nat} {a0 : Nat} {h : AH} : exec tTab (d + 1) K_X7_back [.ref a0] h = R_X7_back d 0 [some (.ref a0), none] [] h := exec_eq (cd := k_X7_back) (hd := (fun _ _ => some none)) (L := 2) rfl rfl rfl
/-- FavourTownModel.count(I)I -/
abbrev K_X7_count : Nat := 239
noncomputable def R_X7_count (d pc : Nat) (ls : ALs) (st : List Value) (h : AH) : Option (AOut × AH) := aR (exec tTab d) k_X7_count (fun _ _ => some none) (pc, ls, st, h)
theorem r_X7_count_0 {d : Nat} {a0 : Nat} {l1 l2 l3 l4 : Option Value} {h : AH} : R_X7_count d 0 [some (.ref a0), l1, l2, l3, l4] [] h = (hpf h [18] a0 0 (.int ((nI 0)))).bind fun h1 => R_X7_count d 5 [some (.ref a0), l1, l2, l3, l4] [] h1 := by
  refine (p_aload rfl rfl).trans ?_
  refine (p_const rfl).trans ?_
  exact s_putT rfl rfl
theorem r_X7_count_5 {d : Nat} {l0 l1 l2 l3 l4 : Option Value} {h : AH} : R_X7_count d 5 [l0, l1, l2, l3, l4] [] h = R_X7_count d 12 [l0, l1, some (.int ((nI 0))), some (.int ((nI 0))), some (.int ((nI 0)))] [] h := by
  refine (p_const rfl).trans ?_
  refine (p_istore rfl rfl rfl).trans ?_
  refine (p_const rfl).trans ?_
  refine (p_istore rfl rfl rfl).trans ?_
  refine (p_const rfl).trans ?_
  refine (p_istore rfl rfl rfl).trans ?_
  exact rfl
theorem q_X7_count_12 {d : Nat} {x4 : Int32} {a0 : Nat} {l1 l2 l3 : Option Value} {h : AH} : R_X7_count d 12 [some (.ref a0), l1, l2, l3, some (.int (x4))] [] h = (hgf h [18] a0 1).bind fun v => R_X7_count d 18 [some (.ref a0), l1, l2, l3, some (.int (x4))] [v, .int (x4)] h := by
  refine (p_iload rfl rfl).trans ?_
  refine (p_aload rfl rfl).trans ?_
  exact s_getf rfl
theorem r_X7_count_18 {d : Nat} {s0 : Int32} {b1 : Nat} {l0 l1 l2 l3 l4 : Option Value} {h : AH} : R_X7_count d 18 [l0, l1, l2, l3, l4] [.ref b1, .int (s0)] h = (hai h 0 b1 (nI 3)).bind fun v => R_X7_count d 20 [l0, l1, l2, l3, l4] [.int v, .int (s0)] h := by
  refine (p_const rfl).trans ?_
  exact s_iald rfl
theorem r_X7_count_20 {d : Nat} {s0 s1 : Int32} {l0 l1 l2 l3 l4 : Option Value} {h : AH} : R_X7_count d 20 [l0, l1, l2, l3, l4] [.int (s1), .int (s0)] h = if s1 ≤ s0 then R_X7_count d 48 [l0, l1, l2, l3, l4] [] h else R_X7_count d 23 [l0, l1, l2, l3, l4] [] h := (s_icmp (g := (fun x y => decide (y ≤ x))) (t := 48) (nx := 23) rfl).trans bif_dec
theorem r_X7_count_48 {d : Nat} {l0 l1 l2 l3 l4 : Option Value} {h : AH} : R_X7_count d 48 [l0, l1, l2, l3, l4] [] h = R_X7_count d 51 [l0, l1, l2, l3, some (.int ((nI 0)))] [] h := by
  refine (p_const rfl).trans ?_
  refine (p_istore rfl rfl rfl).trans ?_
  exact rfl
theorem r_X7_count_23 {d : Nat} {x2 x4 : Int32} {a0 : Nat} {l1 l3 : Option Value} {h : AH} : R_X7_count d 23 [some (.ref a0), l1, some (.int (x2)), l3, some (.int (x4))] [] h = ((hci h a0).bind (lkN [(18, 175)])).bind fun y => aK (exec tTab d y [.ref a0, .int (x4), .int ((nI 2))] h) (fun v h1 => R_X7_count d 31 [some (.ref a0), l1, some (.int (x2)), l3, some (.int (x4))] (v.toList ++ [.int (x2)]) h1) (fun E h1 => some (.inr E, h1)) := by
  refine (p_iload rfl rfl).trans ?_
  refine (p_aload rfl rfl).trans ?_
  refine (p_iload rfl rfl).trans ?_
  refine (p_const rfl).trans ?_
  exact s_callV (L := [(18, 175)]) (n := 2) (b := a0) (rest := [.int (x2)]) rfl rfl rfl
theorem q_X7_count_51 {d : Nat} {x4 : Int32} {a0 : Nat} {l1 l2 l3 : Option Value} {h : AH} : R_X7_count d 51 [some (.ref a0), l1, l2, l3, some (.int (x4))] [] h = (hgf h [18] a0 1).bind fun v => R_X7_count d 57 [some (.ref a0), l1, l2, l3, some (.int (x4))] [v, .int (x4)] h := by
  refine (p_iload rfl rfl).trans ?_
  refine (p_aload rfl rfl).trans ?_
  exact s_getf rfl
theorem r_X7_count_31 {d : Nat} {s0 s1 : Int32} {l0 l1 l2 l3 l4 : Option Value} {h : AH} : R_X7_count d 31 [l0, l1, l2, l3, l4] [.int (s1), .int (s0)] h = if ¬ s1 = (-1) then R_X7_count d 39 [l0, l1, l2, l3, l4] [.int (s0)] h else R_X7_count d 35 [l0, l1, l2, l3, l4] [.int (s0)] h := by
  refine (p_const rfl).trans ?_
  exact (s_icmp (g := (fun x y => decide (¬ x = y))) (t := 39) (nx := 35) rfl).trans bif_dec
theorem r_X7_count_57 {d : Nat} {s0 : Int32} {b1 : Nat} {l0 l1 l2 l3 l4 : Option Value} {h : AH} : R_X7_count d 57 [l0, l1, l2, l3, l4] [.ref b1, .int (s0)] h = (hai h 0 b1 (nI 1)).bind fun v => R_X7_count d 59 [l0, l1, l2, l3, l4] [.int v, .int (s0)] h := by
  refine (p_const rfl).trans ?_
  exact s_iald rfl
theorem r_X7_count_39 {d : Nat} {s0 x4 : Int32} {l0 l1 l2 l3 : Option Value} {h : AH} : R_X7_count d 39 [l0, l1, l2, l3, some (.int (x4))] [.int (s0)] h = R_X7_count d 12 [l0, l1, some (.int (s0 + (nI 1))), l3, some (.int (x4 + (nI 1)))] [] h := by
  refine (p_const rfl).trans ?_
  refine (p_bin rfl).trans ?_
  refine (p_istore rfl rfl rfl).trans ?_
  refine (p_iinc rfl rfl rfl).trans ?_
  refine (p_goto rfl).trans ?_
  exact rfl
theorem r_X7_count_35 {d : Nat} {s0 x4 : Int32} {l0 l1 l2 l3 : Option Value} {h : AH} : R_X7_count d 35 [l0, l1, l2, l3, some (.int (x4))] [.int (s0)] h = R_X7_count d 12 [l0, l1, some (.int (s0 + (nI 0))), l3, some (.int (x4 + (nI 1)))] [] h := by
  refine (p_const rfl).trans ?_
  refine (p_goto rfl).trans ?_
  refine (p_bin rfl).trans ?_
  refine (p_istore rfl rfl rfl).trans ?_
  refine (p_iinc rfl rfl rfl).trans ?_
  refine (p_goto rfl).trans ?_
  exact rfl
theorem r_X7_count_59 {d : Nat} {s0 s1 : Int32} {l0 l1 l2 l3 l4 : Option Value} {h : AH} : R_X7_count d 59 [l0, l1, l2, l3, l4] [.int (s1), .int (s0)] h = if s1 ≤ s0 then R_X7_count d 88 [l0, l1, l2, l3, l4] [] h else R_X7_count d 62 [l0, l1, l2, l3, l4] [] h := (s_icmp (g := (fun x y => decide (y ≤ x))) (t := 88) (nx := 62) rfl).trans bif_dec
theorem r_X7_count_88 {d : Nat} {x1 : Int32} {l0 l2 l3 l4 : Option Value} {h : AH} : R_X7_count d 88 [l0, some (.int (x1)), l2, l3, l4] [] h = if ¬ x1 = 0 then R_X7_count d 101 [l0, some (.int (x1)), l2, l3, l4] [] h else R_X7_count d 92 [l0, some (.int (x1)), l2, l3, l4] [] h := by
  refine (p_iload rfl rfl).trans ?_
  exact (s_if (g := (fun x => decide (¬ x = 0))) (t := 101) (nx := 92) rfl).trans bif_dec
theorem r_X7_count_62 {d : Nat} {x3 : Int32} {a0 : Nat} {l1 l2 l4 : Option Value} {h : AH} : R_X7_count d 62 [some (.ref a0), l1, l2, some (.int (x3)), l4] [] h = (hgf h [18] a0 1).bind fun v => R_X7_count d 67 [some (.ref a0), l1, l2, some (.int (x3)), l4] [v, .int (x3)] h := by
  refine (p_iload rfl rfl).trans ?_
  refine (p_aload rfl rfl).trans ?_
  exact s_getf rfl
theorem r_X7_count_101 {d : Nat} {x1 : Int32} {l0 l2 l3 l4 : Option Value} {h : AH} : R_X7_count d 101 [l0, some (.int (x1)), l2, l3, l4] [] h = if ¬ x1 = (nI 1) then R_X7_count d 115 [l0, some (.int (x1)), l2, l3, l4] [] h else R_X7_count d 106 [l0, some (.int (x1)), l2, l3, l4] [] h := by
  refine (p_iload rfl rfl).trans ?_
  refine (p_const rfl).trans ?_
  exact (s_icmp (g := (fun x y => decide (¬ x = y))) (t := 115) (nx := 106) rfl).trans bif_dec
theorem r_X7_count_92 {d : Nat} {a0 : Nat} {l1 l2 l3 l4 : Option Value} {h : AH} : R_X7_count d 92 [some (.ref a0), l1, l2, l3, l4] [] h = (hgf h [18] a0 1).bind fun v => R_X7_count d 96 [some (.ref a0), l1, l2, l3, l4] [v] h := by
  refine (p_aload rfl rfl).trans ?_
  exact s_getf rfl
theorem r_X7_count_67 {d : Nat} {s0 x4 : Int32} {b1 : Nat} {l0 l1 l2 l3 : Option Value} {h : AH} : R_X7_count d 67 [l0, l1, l2, l3, some (.int (x4))] [.ref b1, .int (s0)] h = (hai h 0 b1 (((nI 10) + ((nI 3) * x4)) + (nI 2))).bind fun v => R_X7_count d 77 [l0, l1, l2, l3, some (.int (x4))] [.int v, .int (s0)] h := by
  refine (p_const rfl).trans ?_
  refine (p_const rfl).trans ?_
  refine (p_iload rfl rfl).trans ?_
  refine (p_bin rfl).trans ?_
  refine (p_bin rfl).trans ?_
  refine (p_const rfl).trans ?_
  refine (p_bin rfl).trans ?_
  exact s_iald rfl
theorem r_X7_count_115 {d : Nat} {x1 : Int32} {l0 l2 l3 l4 : Option Value} {h : AH} : R_X7_count d 115 [l0, some (.int (x1)), l2, l3, l4] [] h = if ¬ x1 = (nI 2) then R_X7_count d 129 [l0, some (.int (x1)), l2, l3, l4] [] h else R_X7_count d 120 [l0, some (.int (x1)), l2, l3, l4] [] h := by
  refine (p_iload rfl rfl).trans ?_
  refine (p_const rfl).trans ?_
  exact (s_icmp (g := (fun x y => decide (¬ x = y))) (t := 129) (nx := 120) rfl).trans bif_dec
theorem r_X7_count_106 {d : Nat} {a0 : Nat} {l1 l2 l3 l4 : Option Value} {h : AH} : R_X7_count d 106 [some (.ref a0), l1, l2, l3, l4] [] h = (hgf h [18] a0 1).bind fun v => R_X7_count d 110 [some (.ref a0), l1, l2, l3, l4] [v] h := by
  refine (p_aload rfl rfl).trans ?_
  exact s_getf rfl
theorem r_X7_count_96 {d : Nat} {b0 : Nat} {l0 l1 l2 l3 l4 : Option Value} {h : AH} : R_X7_count d 96 [l0, l1, l2, l3, l4] [.ref b0] h = (hai h 0 b0 (nI 1)).bind fun v => R_X7_count d 98 [l0, l1, l2, l3, l4] [.int v] h := by
  refine (p_const rfl).trans ?_
  exact s_iald rfl
theorem r_X7_count_77 {d : Nat} {s0 s1 : Int32} {l0 l1 l2 l3 l4 : Option Value} {h : AH} : R_X7_count d 77 [l0, l1, l2, l3, l4] [.int (s1), .int (s0)] h = aK (exec tTab d 215 [.int (s1)] h) (fun v h1 => R_X7_count d 80 [l0, l1, l2, l3, l4] (v.toList ++ [.int (s0)]) h1) (fun E h1 => some (.inr E, h1)) := s_callS (y := 215) (n := 1) rfl rfl
theorem r_X7_count_129 {d : Nat} {x1 : Int32} {l0 l2 l3 l4 : Option Value} {h : AH} : R_X7_count d 129 [l0, some (.int (x1)), l2, l3, l4] [] h = if ¬ x1 = (nI 3) then R_X7_count d 143 [l0, some (.int (x1)), l2, l3, l4] [] h else R_X7_count d 134 [l0, some (.int (x1)), l2, l3, l4] [] h := by
  refine (p_iload rfl rfl).trans ?_
  refine (p_const rfl).trans ?_
  exact (s_icmp (g := (fun x y => decide (¬ x = y))) (t := 143) (nx := 134) rfl).trans bif_dec
theorem r_X7_count_120 {d : Nat} {a0 : Nat} {l1 l2 l3 l4 : Option Value} {h : AH} : R_X7_count d 120 [some (.ref a0), l1, l2, l3, l4] [] h = (hgf h [18] a0 1).bind fun v => R_X7_count d 124 [some (.ref a0), l1, l2, l3, l4] [v] h := by
  refine (p_aload rfl rfl).trans ?_
  exact s_getf rfl
theorem r_X7_count_110 {d : Nat} {b0 : Nat} {l0 l1 l2 l3 l4 : Option Value} {h : AH} : R_X7_count d 110 [l0, l1, l2, l3, l4] [.ref b0] h = (hai h 0 b0 (nI 0)).bind fun v => R_X7_count d 112 [l0, l1, l2, l3, l4] [.int v] h := by
  refine (p_const rfl).trans ?_
  exact s_iald rfl
theorem r_X7_count_98 {d : Nat} {s0 : Int32} {l0 l1 l2 l3 l4 : Option Value} {h : AH} : R_X7_count d 98 [l0, l1, l2, l3, l4] [.int (s0)] h = some (.inl (some (.int (s0))), h) := by
  refine (p_goto rfl).trans ?_
  exact s_iretT rfl rfl
theorem r_X7_count_80 {d : Nat} {s0 s1 x4 : Int32} {l0 l1 l2 l3 : Option Value} {h : AH} : R_X7_count d 80 [l0, l1, l2, l3, some (.int (x4))] [.int (s1), .int (s0)] h = R_X7_count d 51 [l0, l1, l2, some (.int (s0 + s1)), some (.int (x4 + (nI 1)))] [] h := by
  refine (p_bin rfl).trans ?_
  refine (p_istore rfl rfl rfl).trans ?_
  refine (p_iinc rfl rfl rfl).trans ?_
  refine (p_goto rfl).trans ?_
  exact rfl
theorem r_X7_count_143 {d : Nat} {x1 : Int32} {l0 l2 l3 l4 : Option Value} {h : AH} : R_X7_count d 143 [l0, some (.int (x1)), l2, l3, l4] [] h = if ¬ x1 = (nI 4) then R_X7_count d 152 [l0, some (.int (x1)), l2, l3, l4] [] h else R_X7_count d 148 [l0, some (.int (x1)), l2, l3, l4] [] h := by
  refine (p_iload rfl rfl).trans ?_
  refine (p_const rfl).trans ?_
  exact (s_icmp (g := (fun x y => decide (¬ x = y))) (t := 152) (nx := 148) rfl).trans bif_dec
theorem r_X7_count_134 {d : Nat} {a0 : Nat} {l1 l2 l3 l4 : Option Value} {h : AH} : R_X7_count d 134 [some (.ref a0), l1, l2, l3, l4] [] h = (hgf h [18] a0 1).bind fun v => R_X7_count d 138 [some (.ref a0), l1, l2, l3, l4] [v] h := by
  refine (p_aload rfl rfl).trans ?_
  exact s_getf rfl
theorem r_X7_count_124 {d : Nat} {b0 : Nat} {l0 l1 l2 l3 l4 : Option Value} {h : AH} : R_X7_count d 124 [l0, l1, l2, l3, l4] [.ref b0] h = (hai h 0 b0 (nI 2)).bind fun v => R_X7_count d 126 [l0, l1, l2, l3, l4] [.int v] h := by
  refine (p_const rfl).trans ?_
  exact s_iald rfl
theorem r_X7_count_112 {d : Nat} {s0 : Int32} {l0 l1 l2 l3 l4 : Option Value} {h : AH} : R_X7_count d 112 [l0, l1, l2, l3, l4] [.int (s0)] h = some (.inl (some (.int (s0))), h) := by
  refine (p_goto rfl).trans ?_
  exact s_iretT rfl rfl
theorem r_X7_count_152 {d : Nat} {x1 : Int32} {l0 l2 l3 l4 : Option Value} {h : AH} : R_X7_count d 152 [l0, some (.int (x1)), l2, l3, l4] [] h = if ¬ x1 = (nI 5) then R_X7_count d 166 [l0, some (.int (x1)), l2, l3, l4] [] h else R_X7_count d 157 [l0, some (.int (x1)), l2, l3, l4] [] h := by
  refine (p_iload rfl rfl).trans ?_
  refine (p_const rfl).trans ?_
  exact (s_icmp (g := (fun x y => decide (¬ x = y))) (t := 166) (nx := 157) rfl).trans bif_dec
theorem r_X7_count_148 {d : Nat} {x2 : Int32} {l0 l1 l3 l4 : Option Value} {h : AH} : R_X7_count d 148 [l0, l1, some (.int (x2)), l3, l4] [] h = some (.inl (some (.int (x2))), h) := by
  refine (p_iload rfl rfl).trans ?_
  refine (p_goto rfl).trans ?_
  exact s_iretT rfl rfl
theorem r_X7_count_138 {d : Nat} {b0 : Nat} {l0 l1 l2 l3 l4 : Option Value} {h : AH} : R_X7_count d 138 [l0, l1, l2, l3, l4] [.ref b0] h = (hai h 0 b0 (nI 3)).bind fun v => R_X7_count d 140 [l0, l1, l2, l3, l4] [.int v] h := by
  refine (p_const rfl).trans ?_
  exact s_iald rfl
theorem r_X7_count_126 {d : Nat} {s0 : Int32} {l0 l1 l2 l3 l4 : Option Value} {h : AH} : R_X7_count d 126 [l0, l1, l2, l3, l4] [.int (s0)] h = some (.inl (some (.int (s0))), h) := by
  refine (p_goto rfl).trans ?_
  exact s_iretT rfl rfl
theorem r_X7_count_166 {d : Nat} {x1 : Int32} {l0 l2 l3 l4 : Option Value} {h : AH} : R_X7_count d 166 [l0, some (.int (x1)), l2, l3, l4] [] h = if ¬ x1 = (nI 6) then R_X7_count d 181 [l0, some (.int (x1)), l2, l3, l4] [] h else R_X7_count d 172 [l0, some (.int (x1)), l2, l3, l4] [] h := by
  refine (p_iload rfl rfl).trans ?_
  refine (p_const rfl).trans ?_
  exact (s_icmp (g := (fun x y => decide (¬ x = y))) (t := 181) (nx := 172) rfl).trans bif_dec
theorem r_X7_count_157 {d : Nat} {a0 : Nat} {l1 l2 l3 l4 : Option Value} {h : AH} : R_X7_count d 157 [some (.ref a0), l1, l2, l3, l4] [] h = (hgf h [18] a0 1).bind fun v => R_X7_count d 161 [some (.ref a0), l1, l2, l3, l4] [v] h := by
  refine (p_aload rfl rfl).trans ?_
  exact s_getf rfl
theorem r_X7_count_140 {d : Nat} {s0 : Int32} {l0 l1 l2 l3 l4 : Option Value} {h : AH} : R_X7_count d 140 [l0, l1, l2, l3, l4] [.int (s0)] h = some (.inl (some (.int (s0))), h) := by
  refine (p_goto rfl).trans ?_
  exact s_iretT rfl rfl
theorem r_X7_count_181 {d : Nat} {x1 : Int32} {l0 l2 l3 l4 : Option Value} {h : AH} : R_X7_count d 181 [l0, some (.int (x1)), l2, l3, l4] [] h = if ¬ x1 = (nI 7) then R_X7_count d 197 [l0, some (.int (x1)), l2, l3, l4] [] h else R_X7_count d 187 [l0, some (.int (x1)), l2, l3, l4] [] h := by
  refine (p_iload rfl rfl).trans ?_
  refine (p_const rfl).trans ?_
  exact (s_icmp (g := (fun x y => decide (¬ x = y))) (t := 197) (nx := 187) rfl).trans bif_dec
theorem r_X7_count_172 {d : Nat} {a0 : Nat} {l1 l2 l3 l4 : Option Value} {h : AH} : R_X7_count d 172 [some (.ref a0), l1, l2, l3, l4] [] h = (hgf h [18] a0 1).bind fun v => R_X7_count d 176 [some (.ref a0), l1, l2, l3, l4] [v] h := by
  refine (p_aload rfl rfl).trans ?_
  exact s_getf rfl
theorem r_X7_count_161 {d : Nat} {b0 : Nat} {l0 l1 l2 l3 l4 : Option Value} {h : AH} : R_X7_count d 161 [l0, l1, l2, l3, l4] [.ref b0] h = (hai h 0 b0 (nI 4)).bind fun v => R_X7_count d 163 [l0, l1, l2, l3, l4] [.int v] h := by
  refine (p_const rfl).trans ?_
  exact s_iald rfl
theorem r_X7_count_197 {d : Nat} {x1 : Int32} {l0 l2 l3 l4 : Option Value} {h : AH} : R_X7_count d 197 [l0, some (.int (x1)), l2, l3, l4] [] h = if ¬ x1 = (nI 8) then R_X7_count d 213 [l0, some (.int (x1)), l2, l3, l4] [] h else R_X7_count d 203 [l0, some (.int (x1)), l2, l3, l4] [] h := by
  refine (p_iload rfl rfl).trans ?_
  refine (p_const rfl).trans ?_
  exact (s_icmp (g := (fun x y => decide (¬ x = y))) (t := 213) (nx := 203) rfl).trans bif_dec
theorem r_X7_count_187 {d : Nat} {a0 : Nat} {l1 l2 l3 l4 : Option Value} {h : AH} : R_X7_count d 187 [some (.ref a0), l1, l2, l3, l4] [] h = (hgf h [18] a0 1).bind fun v => R_X7_count d 191 [some (.ref a0), l1, l2, l3, l4] [v] h := by
  refine (p_aload rfl rfl).trans ?_
  exact s_getf rfl
theorem r_X7_count_176 {d : Nat} {b0 : Nat} {l0 l1 l2 l3 l4 : Option Value} {h : AH} : R_X7_count d 176 [l0, l1, l2, l3, l4] [.ref b0] h = (hai h 0 b0 (nI 5)).bind fun v => R_X7_count d 178 [l0, l1, l2, l3, l4] [.int v] h := by
  refine (p_const rfl).trans ?_
  exact s_iald rfl
theorem r_X7_count_163 {d : Nat} {s0 : Int32} {l0 l1 l2 l3 l4 : Option Value} {h : AH} : R_X7_count d 163 [l0, l1, l2, l3, l4] [.int (s0)] h = some (.inl (some (.int (s0))), h) := by
  refine (p_goto rfl).trans ?_
  exact s_iretT rfl rfl
theorem r_X7_count_213 {d : Nat} {x1 : Int32} {l0 l2 l3 l4 : Option Value} {h : AH} : R_X7_count d 213 [l0, some (.int (x1)), l2, l3, l4] [] h = if ¬ x1 = (nI 9) then R_X7_count d 225 [l0, some (.int (x1)), l2, l3, l4] [] h else R_X7_count d 219 [l0, some (.int (x1)), l2, l3, l4] [] h := by
  refine (p_iload rfl rfl).trans ?_
  refine (p_const rfl).trans ?_
  exact (s_icmp (g := (fun x y => decide (¬ x = y))) (t := 225) (nx := 219) rfl).trans bif_dec
theorem r_X7_count_203 {d : Nat} {a0 : Nat} {l1 l2 l3 l4 : Option Value} {h : AH} : R_X7_count d 203 [some (.ref a0), l1, l2, l3, l4] [] h = (hgf h [18] a0 1).bind fun v => R_X7_count d 207 [some (.ref a0), l1, l2, l3, l4] [v] h := by
  refine (p_aload rfl rfl).trans ?_
  exact s_getf rfl
theorem r_X7_count_191 {d : Nat} {b0 : Nat} {l0 l1 l2 l3 l4 : Option Value} {h : AH} : R_X7_count d 191 [l0, l1, l2, l3, l4] [.ref b0] h = (hai h 0 b0 (nI 6)).bind fun v => R_X7_count d 194 [l0, l1, l2, l3, l4] [.int v] h := by
  refine (p_const rfl).trans ?_
  exact s_iald rfl
theorem r_X7_count_178 {d : Nat} {s0 : Int32} {l0 l1 l2 l3 l4 : Option Value} {h : AH} : R_X7_count d 178 [l0, l1, l2, l3, l4] [.int (s0)] h = some (.inl (some (.int (s0))), h) := by
  refine (p_goto rfl).trans ?_
  exact s_iretT rfl rfl
theorem r_X7_count_225 {d : Nat} {l0 l1 l2 l3 l4 : Option Value} {h : AH} : R_X7_count d 225 [l0, l1, l2, l3, l4] [] h = some (.inl (some (.int ((-1)))), h) := by
  refine (p_const rfl).trans ?_
  exact s_iretT rfl rfl
theorem r_X7_count_219 {d : Nat} {x3 : Int32} {l0 l1 l2 l4 : Option Value} {h : AH} : R_X7_count d 219 [l0, l1, l2, some (.int (x3)), l4] [] h = some (.inl (some (.int (x3 / (nI 2)))), h) := by
  refine (p_iload rfl rfl).trans ?_
  refine (p_const rfl).trans ?_
  refine (p_divC rfl (by decide)).trans ?_
  refine (p_goto rfl).trans ?_
  exact s_iretT rfl rfl
theorem r_X7_count_207 {d : Nat} {b0 : Nat} {l0 l1 l2 l3 l4 : Option Value} {h : AH} : R_X7_count d 207 [l0, l1, l2, l3, l4] [.ref b0] h = (hai h 0 b0 (nI 7)).bind fun v => R_X7_count d 210 [l0, l1, l2, l3, l4] [.int v] h := by
  refine (p_const rfl).trans ?_
  exact s_iald rfl
theorem r_X7_count_194 {d : Nat} {s0 : Int32} {l0 l1 l2 l3 l4 : Option Value} {h : AH} : R_X7_count d 194 [l0, l1, l2, l3, l4] [.int (s0)] h = some (.inl (some (.int (s0))), h) := by
  refine (p_goto rfl).trans ?_
  exact s_iretT rfl rfl
theorem r_X7_count_210 {d : Nat} {s0 : Int32} {l0 l1 l2 l3 l4 : Option Value} {h : AH} : R_X7_count d 210 [l0, l1, l2, l3, l4] [.int (s0)] h = some (.inl (some (.int (s0))), h) := by
  refine (p_goto rfl).trans ?_
  exact s_iretT rfl rfl
theorem e_X7_count {d : Nat} {a0 : Nat} {x1 : Int32} {h : AH} : exec tTab (d + 1) K_X7_count [.ref a0, .int x1] h = R_X7_count d 0 [some (.ref a0), some (.int x1), none, none, none] [] h := exec_eq (cd := k_X7_count) (hd := (fun _ _ => some none)) (L := 5) rfl rfl rfl
