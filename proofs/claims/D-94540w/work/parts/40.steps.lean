/-! ===== PURE: steps as equations (no machine below this line) ===== -/
section
variable {env : AEnv} {cd : Nat → Option AOp} {hd : AHd} {pc nx : Nat} {ls : ALs} {st : List Value} {h : AH}
/-- what follows a throw at pc -/
noncomputable def aT (env : AEnv) (cd : Nat → Option AOp) (hd : AHd) (pc : Nat) (ls : ALs) (E : Nat) (h : AH) : Option (AOut × AH) := match hd pc E with
  | none => none
  | some none => some (.inr E, h)
  | some (some q) => aR env cd hd (q.1, ls.set q.2 none, [], h)
def aK (r : Option (AOut × AH)) (f : Option Value → AH → Option (AOut × AH)) (g : Nat → AH → Option (AOut × AH)) : Option (AOut × AH) := match r with
  | none => none
  | some (.inl v, h) => f v h
  | some (.inr E, h) => g E h
theorem aK_ret {v : Option Value} {h : AH} {f : Option Value → AH → Option (AOut × AH)} {g : Nat → AH → Option (AOut × AH)} : aK (some (.inl v, h)) f g = f v h := rfl
theorem aK_thr {E : Nat} {h : AH} {f : Option Value → AH → Option (AOut × AH)} {g : Nat → AH → Option (AOut × AH)} : aK (some (.inr E, h)) f g = g E h := rfl
theorem bif_dec {α : Type} {p : Prop} {i : Decidable p} {a b : α} : (bif decide p then a else b) = if p then a else b := by
  by_cases h : p <;> simp [h]
theorem aR_if {env : AEnv} {cd : Nat → Option AOp} {hd : AHd} {b : Bool} {t n : Nat} {ls : ALs} {st : List Value} {h : AH} : aR env cd hd ((bif b then t else n), ls, st, h) = bif b then aR env cd hd (t, ls, st, h) else aR env cd hd (n, ls, st, h) := by cases b <;> rfl
theorem s_if {g : Int32 → Bool} {t : Nat} {x : Int32} (hc : cd pc = some (aP (f_if g t nx))) : aR env cd hd (pc, ls, .int x :: st, h) = bif g x then aR env cd hd (t, ls, st, h) else aR env cd hd (nx, ls, st, h) := (aR_eq hc).trans aR_if
theorem s_icmp {g : Int32 → Int32 → Bool} {t : Nat} {x y : Int32} (hc : cd pc = some (aP (f_icmp g t nx))) : aR env cd hd (pc, ls, .int y :: .int x :: st, h) = bif g x y then aR env cd hd (t, ls, st, h) else aR env cd hd (nx, ls, st, h) := (aR_eq hc).trans aR_if
theorem s_acmp {t : Nat} {x y : Option Nat} (hc : cd pc = some (aP (f_acmp t nx))) : aR env cd hd (pc, ls, va_rf y :: va_rf x :: st, h) = if x = y then aR env cd hd (t, ls, st, h) else aR env cd hd (nx, ls, st, h) := by
  rw [aR_eq hc]
  have e : ∀ z : Option Nat, rfOf (va_rf z) = some z := fun z => by cases z <;> rfl
  simp only [aP, f_acmp, e]
  by_cases hxy : x = y
  · rw [if_pos hxy, if_pos hxy]
  · rw [if_neg hxy, if_neg hxy]
theorem s_div {g : Int32 → Int32 → Int32} {x y : Int32} (hc : cd pc = some (aP (f_div g nx))) : aR env cd hd (pc, ls, .int y :: .int x :: st, h) = if y = 0 then none else aR env cd hd (nx, ls, .int (g x y) :: st, h) := by
  rw [aR_eq hc]
  simp only [aP, f_div]
  by_cases hy : y = 0
  · simp [hy]
  · simp [hy]
theorem s_getf {cis : List Nat} {a k : Nat} (hc : cd pc = some (aP (f_getf cis k nx))) : aR env cd hd (pc, ls, .ref a :: st, h) = (hgf h cis a k).bind fun v => aR env cd hd (nx, ls, v :: st, h) := by
  rw [aR_eq hc]; simp only [aP, f_getf]; cases hgf h cis a k <;> rfl
theorem s_iald {t a : Nat} {i : Int32} (hc : cd pc = some (aP (f_iald t nx))) : aR env cd hd (pc, ls, .int i :: .ref a :: st, h) = (hai h t a i).bind fun v => aR env cd hd (nx, ls, .int v :: st, h) := by
  rw [aR_eq hc]; simp only [aP, f_iald]; cases hai h t a i <;> rfl
theorem s_lald {t a : Nat} {i : Int32} (hc : cd pc = some (aP (f_lald t nx))) : aR env cd hd (pc, ls, .int i :: .ref a :: st, h) = (haj h t a i).bind fun v => aR env cd hd (nx, ls, .long v :: st, h) := by
  rw [aR_eq hc]; simp only [aP, f_lald]; cases haj h t a i <;> rfl
def haqs (h : AH) (ts : List Nat) (a : Nat) (i : Int32) : Option (Option Nat) := ts.findSome? (fun t => haq h t a i)
theorem s_aald {ts : List Nat} {a : Nat} {i : Int32} (hc : cd pc = some (aP (f_aald ts nx))) : aR env cd hd (pc, ls, .int i :: .ref a :: st, h) = (haqs h ts a i).bind fun v => aR env cd hd (nx, ls, va_rf v :: st, h) := by
  rw [aR_eq hc]; simp only [aP, f_aald, haqs]; cases List.findSome? (fun t => haq h t a i) ts <;> rfl
theorem s_alen {a : Nat} (hc : cd pc = some (aP (f_alen nx))) : aR env cd hd (pc, ls, .ref a :: st, h) = (hal h a).bind fun n => aR env cd hd (nx, ls, .int (nI n) :: st, h) := by
  rw [aR_eq hc]; simp only [aP, f_alen]; cases hal h a <;> rfl
def hck (h : AH) (cis ts : List Nat) (a : Nat) : Bool := match h.1 a with
  | some (_, .inr (ci, _)) => cis.contains ci
  | some (true, .inl (t, _)) => ts.contains t
  | _ => false
theorem s_cast {cis ts : List Nat} {a : Nat} (hc : cd pc = some (aP (f_cast cis ts nx))) : aR env cd hd (pc, ls, .ref a :: st, h) = bif hck h cis ts a then aR env cd hd (nx, ls, .ref a :: st, h) else none := by
  rw [aR_eq hc]
  simp only [aP, f_cast, hck]
  generalize h.1 a = m
  rcases m with _ | ⟨b, ⟨t, k⟩ | ⟨ci, fs⟩⟩
  · rfl
  · cases b
    · rfl
    · dsimp only
      cases ts.contains t <;> rfl
  · cases b <;> (dsimp only; cases cis.contains ci <;> rfl)
theorem s_putf {cis : List Nat} {a k : Nat} {ok : Value → Bool} {v : Value} (hc : cd pc = some (o_putf cis k ok nx)) : aR env cd hd (pc, ls, v :: .ref a :: st, h) = bif ok v then (hpf h cis a k v).bind fun h' => aR env cd hd (nx, ls, st, h') else none := by
  rw [aR_eq hc]; simp only [o_putf]; cases ok v <;> cases hpf h cis a k v <;> rfl
theorem s_iast {t a : Nat} {i x : Int32} {nar : Int32 → Int32} (hc : cd pc = some (o_iast t nar nx)) : aR env cd hd (pc, ls, .int x :: .int i :: .ref a :: st, h) = (hsi h t a i (nar x)).bind fun h' => aR env cd hd (nx, ls, st, h') := by
  rw [aR_eq hc]; simp only [o_iast]; cases hsi h t a i (nar x) <;> rfl
theorem s_last {t a : Nat} {i : Int32} {x : Int64} (hc : cd pc = some (o_last t nx)) : aR env cd hd (pc, ls, .long x :: .int i :: .ref a :: st, h) = (hsj h t a i x).bind fun h' => aR env cd hd (nx, ls, st, h') := by
  rw [aR_eq hc]; simp only [o_last]; cases hsj h t a i x <;> rfl
theorem s_aast {t a v : Nat} {i : Int32} {cis ts : List Nat} (hc : cd pc = some (o_aast t cis ts nx)) : aR env cd hd (pc, ls, .ref v :: .int i :: .ref a :: st, h) = bif refOK h cis ts v then (hsq h t a i (some v)).bind fun h' => aR env cd hd (nx, ls, st, h') else none := by
  rw [aR_eq hc]
  simp only [o_aast, refOK]
  generalize h.1 v = m
  rcases m with _ | ⟨b, ⟨t, k⟩ | ⟨ci, fs⟩⟩
  · rfl
  · cases b
    · rfl
    · dsimp only
      cases ts.contains t <;> cases hsq h _ a i (some v) <;> rfl
  · cases b
    · rfl
    · dsimp only
      cases cis.contains ci <;> cases hsq h _ a i (some v) <;> rfl
theorem s_newa {t : Nat} {n : Int32} {z : (Nat → Int32) ⊕ ((Nat → Int64) ⊕ (Nat → Option Nat))} (hc : cd pc = some (o_newa t z nx)) : aR env cd hd (pc, ls, .int n :: st, h) = bif hin n 65537 then aR env cd hd (nx, ls, .ref h.2.1 :: st, hnew h (true, .inl (t, n.toNatClampNeg, z)) n.toNatClampNeg) else none := by
  rw [aR_eq hc]; simp only [o_newa]; cases hin n 65537 <;> rfl
theorem s_mnew {n k : Int32} (hc : cd pc = some (o_mnew nx)) : aR env cd hd (pc, ls, .int k :: .int n :: st, h) = bif hin k 1025 && hin n 1025 then aR env cd hd (nx, ls, .ref h.2.1 :: st, mnewC h n.toNatClampNeg k.toNatClampNeg) else none := by
  rw [aR_eq hc]; simp only [o_mnew]; cases hin k 1025 && hin n 1025 <;> rfl
theorem s_make {ci : Nat} (hc : cd pc = some (o_make ci nx)) (hs : okR st = true) : aR env cd hd (pc, ls, st, h) = aR env cd hd (nx, ls, .ref h.2.1 :: st, hnew h (true, .inr (ci, [])) 6) := by
  have hs : Nat.ble (st.map Value.category).sum 8 = true := hs
  rw [aR_eq hc]; simp only [o_make, hs]; rfl
theorem s_copy {cis ts : List Nat} {a a0 : Nat} {n dp sp : Int32} (hc : cd pc = some (o_copy cis ts nx)) (hs : okR st = true) : aR env cd hd (pc, ls, .int n :: .int dp :: .ref a :: .int sp :: .ref a0 :: st, h) = (hcpy h cis ts a0 a sp dp n).bind fun h' => aR env cd hd (nx, ls, st, h') := by
  rw [aR_eq hc]; simp only [o_copy, hs]; cases hcpy h cis ts a0 a sp dp n <;> rfl
theorem s_mth {g : Int32 → Int32 → Int32} {x y : Int32} (hc : cd pc = some (o_mth g nx)) (hs : okR st = true) : aR env cd hd (pc, ls, .int y :: .int x :: st, h) = aR env cd hd (nx, ls, .int (g x y) :: st, h) := by
  rw [aR_eq hc]; simp only [o_mth, hs]; rfl
theorem s_objI {a : Nat} (hc : cd pc = some (aP (f_objI nx))) (hs : okR st = true) : aR env cd hd (pc, ls, .ref a :: st, h) = aR env cd hd (nx, ls, st, h) := by
  rw [aR_eq hc]; simp only [aP, f_objI, hs]; rfl
theorem aRes_K {rest : List Value} {r : Option (AOut × AH)} : (match aRes nx ls rest r with
      | none => none
      | some (.inl s') => aR env cd hd s'
      | some (.inr (.inl v, h')) => some (.inl v, h')
      | some (.inr (.inr E, h')) => match hd pc E with
        | none => none
        | some none => some (.inr E, h')
        | some (some q) => aR env cd hd (q.1, ls.set q.2 none, [], h')) = aK r (fun v h' => aR env cd hd (nx, ls, v.toList ++ rest, h')) (fun E h' => aT env cd hd pc ls E h') := by
  match r with
  | none => rfl
  | some (.inl v, h1) => rfl
  | some (.inr E, h1) => rfl
theorem s_callS {y n : Nat} (hc : cd pc = some (o_callS y n nx)) (hs : (Nat.ble n st.length && okR (st.drop n)) = true) : aR env cd hd (pc, ls, st, h) = aK (env y (st.take n).reverse h) (fun v h' => aR env cd hd (nx, ls, v.toList ++ st.drop n, h')) (fun E h' => aT env cd hd pc ls E h') := by
  rw [aR_eq hc]; simp only [o_callS, hs, cond_true]; exact aRes_K
theorem s_callI {y n b : Nat} {rest : List Value} (hc : cd pc = some (o_callI y n nx)) (hr : st.drop n = .ref b :: rest) (hs : (Nat.ble n st.length && okR rest) = true) : aR env cd hd (pc, ls, st, h) = aK (env y (.ref b :: (st.take n).reverse) h) (fun v h' => aR env cd hd (nx, ls, v.toList ++ rest, h')) (fun E h' => aT env cd hd pc ls E h') := by
  rw [aR_eq hc]; simp only [o_callI, hr, hs, cond_true]; exact aRes_K
theorem s_callV {L : List (Nat × Nat)} {n b : Nat} {rest : List Value} (hc : cd pc = some (o_callV (lkN L) n nx)) (hr : st.drop n = .ref b :: rest) (hs : (Nat.ble n st.length && okR rest) = true) : aR env cd hd (pc, ls, st, h) = ((hci h b).bind (lkN L)).bind fun y => aK (env y (.ref b :: (st.take n).reverse) h) (fun v h' => aR env cd hd (nx, ls, v.toList ++ rest, h')) (fun E h' => aT env cd hd pc ls E h') := by
  rw [aR_eq hc]
  simp only [o_callV, hr]
  cases hci h b with
  | none => rfl
  | some ci =>
    simp only [Option.bind_some]
    cases lkN L ci with
    | none => rfl
    | some y =>
      simp only [Option.bind_some, hs, cond_true]
      exact aRes_K
def hex (h : AH) (exs : List Nat) (a : Nat) : Option Nat := match h.1 a with
  | some (true, .inr (ci, _)) => bif exs.contains ci then some ci else none
  | _ => none
theorem s_athrow {exs : List Nat} {a : Nat} (hc : cd pc = some (o_athrow exs)) : aR env cd hd (pc, ls, .ref a :: st, h) = (hex h exs a).bind fun E => aT env cd hd pc ls E h := by
  rw [aR_eq hc]
  simp only [o_athrow, hex]
  generalize h.1 a = m
  rcases m with _ | ⟨b, ⟨t, k⟩ | ⟨ci, fs⟩⟩
  · rfl
  · cases b <;> rfl
  · cases b
    · rfl
    · dsimp only
      cases exs.contains ci <;> rfl
theorem s_iret {ok : Int32 → Bool} {x : Int32} (hc : cd pc = some (o_iret ok)) : aR env cd hd (pc, ls, [.int x], h) = bif ok x then some (.inl (some (.int x)), h) else none := by
  rw [aR_eq hc]; simp only [o_iret]; cases ok x <;> rfl
theorem s_inst {cis : List Nat} {a : Nat} (hc : cd pc = some (aP (f_inst cis nx))) : aR env cd hd (pc, ls, .ref a :: st, h) = (hci h a).bind fun ci => bif cis.contains ci then aR env cd hd (nx, ls, .int 1 :: st, h) else none := by
  rw [aR_eq hc]
  simp only [aP, f_inst, hci]
  generalize h.1 a = m
  rcases m with _ | ⟨b, ⟨t, k⟩ | ⟨ci, fs⟩⟩
  · rfl
  · rfl
  · dsimp only
    simp only [Option.bind_some]
    cases cis.contains ci <;> rfl
end
theorem exec_eq {d y : Nat} {cd : Nat → Option AOp} {hd : AHd} {L : Nat} {as : List Value} {h : AH} (hT : tTab y = (cd, hd, L)) (h1 : as.all isC1 = true) (h2 : Nat.ble as.length L = true) : exec tTab (d + 1) y as h = aR (exec tTab d) cd hd (0, aEnt L as, [], h) := by
  show (bif as.all isC1 && Nat.ble as.length (tTab y).2.2 then aR (exec tTab d) (tTab y).1 (tTab y).2.1 (0, aEnt (tTab y).2.2 as, [], h) else none) = _
  rw [hT]
  simp only [h1, h2]
  rfl
