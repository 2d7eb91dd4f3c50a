/-! ===== PURE: the heap with the model object; loops; small laws ===== -/
abbrev MS : Type := (Nat → Int32) × (Nat → Nat → Int32)
def bI (b : Bool) : Int32 := bif b then nI 1 else nI 0
theorem bI_ok {b : Bool} : (bI b == 0 || bI b == 1) = true := by cases b <;> rfl
theorem bI_vZ {b : Bool} : vZ (.int (bI b)) = true := by cases b <;> rfl
theorem bI_0 {b : Bool} : (bI b = 0) = (b = false) := by cases b <;> simp [bI] <;> decide
theorem bI_t : bI true = nI 1 := rfl
theorem bI_f : bI false = nI 0 := rfl
theorem ret_bI {α : Type} {b : Bool} {x y : α} : (bif bI b == 0 || bI b == 1 then x else y) = x := by rw [bI_ok]; rfl
theorem nI_z : nI 0 = 0 := rfl
theorem loopUp {α β : Type} {C : β} (F : Nat → α → β) (n : Nat) (step : ∀ k, k < n → ∀ a, ∃ a', F k a = F (k + 1) a') (fin : ∀ a, F n a = C) (a : α) : F 0 a = C := by
  have key : ∀ j k, k + j = n → ∀ a, F k a = C := by
    intro j
    induction j with
    | zero => intro k hk a; rw [show k = n by omega]; exact fin a
    | succ j ih =>
      intro k hk a
      obtain ⟨a', e⟩ := step k (by omega) a
      rw [e]
      exact ih (k + 1) (by omega) a'
  exact key n 0 (by omega) a
def sumN (g : Nat → Int32) : Nat → Int32
  | 0 => 0
  | n + 1 => sumN g n + g n
theorem hin_nI {i n : Nat} (h : i < n) (hn : n < 2 ^ 31) : hin (nI i) n = true := by
  unfold hin
  rw [nI_clamp (by omega)]
  simp only [nI_pos (show i < 2 ^ 31 by omega), decide_false, Bool.not_false, Bool.true_and]
  exact Nat.blt_eq.mpr h
theorem add_n0 {x : Int32} : x + nI 0 = x := by rw [nI_z]; exact Int32.add_zero x
def mo_len : List Nat := [3346, 3346, 940, 400, 6, 144, 12, 12, 12, 144, 8, 8, 40]
def mo_obj (am : Nat) (s : Nat → Int32) : AC := (true, .inr (18, [.int (s 0), .ref (am + 1), .ref (am + 2), .int (s 3), .ref (am + 3), .ref (am + 4), .int (s 6), .int (s 7), .int (s 8), .int (s 9), .int (s 10), .int (s 11), .int (s 12), .ref (am + 5), .int (s 14), .int (s 15), .int (s 16), .int (s 17), .ref (am + 6), .ref (am + 7), .ref (am + 8), .ref (am + 9), .ref (am + 10), .ref (am + 11), .ref (am + 12), .int (s 25), .int (s 26), .ref (am + 13), .int (s 28)]))
def mo_arr (M : MS) (j : Nat) : AC := (true, .inl (0, mo_len[j]?.getD 0, .inl (M.2 j)))
def put (am : Nat) (M : MS) (h : AH) : AH := (fun x => if x = am then some (mo_obj am M.1) else if am < x ∧ x ≤ am + 13 then some (mo_arr M (x - (am + 1))) else h.1 x, h.2)
def us (M : MS) (k : Nat) (v : Int32) : MS := (fun j => if j = k then v else M.1 j, M.2)
def uf (f : Nat → Int32) (k : Nat) (v : Int32) : Nat → Int32 := fun j => if j = k then v else f j
def ua (M : MS) (j i : Nat) (v : Int32) : MS := (M.1, fun a => if a = j then uf (M.2 j) i v else M.2 a)
theorem us_2 {M : MS} {k : Nat} {v : Int32} : (us M k v).2 = M.2 := rfl
theorem ua_1 {M : MS} {j i : Nat} {v : Int32} : (ua M j i v).1 = M.1 := rfl
theorem us_eq {M : MS} {k : Nat} {v : Int32} : (us M k v).1 k = v := if_pos rfl
theorem us_ne {M : MS} {k j : Nat} {v : Int32} (h : j ≠ k) : (us M k v).1 j = M.1 j := if_neg h
theorem ua_eq {M : MS} {j i : Nat} {v : Int32} : (ua M j i v).2 j = uf (M.2 j) i v := if_pos rfl
theorem ua_ne {M : MS} {k j i : Nat} {v : Int32} (h : k ≠ j) : (ua M j i v).2 k = M.2 k := if_neg h
theorem uf_eq {f : Nat → Int32} {k : Nat} {v : Int32} : uf f k v k = v := if_pos rfl
theorem uf_ne {f : Nat → Int32} {k j : Nat} {v : Int32} (h : j ≠ k) : uf f k v j = f j := if_neg h
theorem put_2 {am : Nat} {M : MS} {h : AH} : (put am M h).2 = h.2 := rfl
theorem put_obj {am : Nat} {M : MS} {h : AH} : (put am M h).1 am = some (mo_obj am M.1) := if_pos rfl
theorem put_arr {am : Nat} {M : MS} {h : AH} {j : Nat} (hj : j < 13) : (put am M h).1 (am + 1 + j) = some (mo_arr M j) := by
  show (if am + 1 + j = am then _ else _) = _
  rw [if_neg (by omega), if_pos (by omega)]
  congr 2; omega
theorem put_set {am : Nat} {M : MS} {h : AH} {j i : Nat} {v : Int32} (hj : j < 13) : hset (put am M h) (am + 1 + j) (true, .inl (0, mo_len[j]?.getD 0, .inl (upd (M.2 j) i v))) = put am (ua M j i v) h := by
  refine Prod.ext (funext fun x => ?_) rfl
  show (if x = am + 1 + j then _ else if x = am then _ else _) = (if x = am then _ else _)
  by_cases h1 : x = am + 1 + j
  · rw [if_pos h1, if_neg (by omega), if_pos (by omega), show x - (am + 1) = j by omega]
    show _ = some (mo_arr (ua M j i v) j)
    unfold mo_arr
    rw [ua_eq]
    rfl
  · rw [if_neg h1]
    by_cases h2 : x = am
    · rw [if_pos h2, if_pos h2]; rfl
    · rw [if_neg h2, if_neg h2]
      by_cases h3 : am < x ∧ x ≤ am + 13
      · rw [if_pos h3, if_pos h3]
        unfold mo_arr
        rw [ua_ne (by omega)]
      · rw [if_neg h3, if_neg h3]
theorem put_setO {am : Nat} {M : MS} {h : AH} {k : Nat} {v : Int32} : hset (put am M h) am (mo_obj am (us M k v).1) = put am (us M k v) h := by
  refine Prod.ext (funext fun x => ?_) rfl
  show (if x = am then _ else if x = am then _ else _) = (if x = am then _ else _)
  by_cases h1 : x = am
  · rw [if_pos h1, if_pos h1]
  · rw [if_neg h1, if_neg h1, if_neg h1]; rfl
theorem hci_put {am : Nat} {M : MS} {h : AH} : hci (put am M h) am = some 18 := by unfold hci; rw [put_obj]; rfl
theorem mr_0 {am : Nat} {M : MS} {h : AH} {i : Nat} (hi : i < 3346) : hai (put am M h) 0 (am + 1) (nI i) = some (M.2 0 i) := by
  unfold hai
  rw [show am + 1 = am + 1 + 0 by omega, put_arr (by decide)]
  show (bif Nat.beq 0 0 && hin (nI i) 3346 then _ else _) = _
  rw [hin_nI hi (by decide), nI_clamp (by omega)]; rfl
theorem mw_0 {am : Nat} {M : MS} {h : AH} {i : Nat} {v : Int32} (hi : i < 3346) : hsi (put am M h) 0 (am + 1) (nI i) v = some (put am (ua M 0 i v) h) := by
  unfold hsi
  rw [show am + 1 = am + 1 + 0 by omega, put_arr (by decide)]
  show (bif Nat.beq 0 0 && hin (nI i) 3346 then _ else _) = _
  rw [hin_nI hi (by decide), nI_clamp (by omega)]
  exact congrArg some (put_set (j := 0) (by decide))
theorem mr_1 {am : Nat} {M : MS} {h : AH} {i : Nat} (hi : i < 3346) : hai (put am M h) 0 (am + 2) (nI i) = some (M.2 1 i) := by
  unfold hai
  rw [show am + 2 = am + 1 + 1 by omega, put_arr (by decide)]
  show (bif Nat.beq 0 0 && hin (nI i) 3346 then _ else _) = _
  rw [hin_nI hi (by decide), nI_clamp (by omega)]; rfl
theorem mw_1 {am : Nat} {M : MS} {h : AH} {i : Nat} {v : Int32} (hi : i < 3346) : hsi (put am M h) 0 (am + 2) (nI i) v = some (put am (ua M 1 i v) h) := by
  unfold hsi
  rw [show am + 2 = am + 1 + 1 by omega, put_arr (by decide)]
  show (bif Nat.beq 0 0 && hin (nI i) 3346 then _ else _) = _
  rw [hin_nI hi (by decide), nI_clamp (by omega)]
  exact congrArg some (put_set (j := 1) (by decide))
theorem mr_2 {am : Nat} {M : MS} {h : AH} {i : Nat} (hi : i < 940) : hai (put am M h) 0 (am + 3) (nI i) = some (M.2 2 i) := by
  unfold hai
  rw [show am + 3 = am + 1 + 2 by omega, put_arr (by decide)]
  show (bif Nat.beq 0 0 && hin (nI i) 940 then _ else _) = _
  rw [hin_nI hi (by decide), nI_clamp (by omega)]; rfl
theorem mw_2 {am : Nat} {M : MS} {h : AH} {i : Nat} {v : Int32} (hi : i < 940) : hsi (put am M h) 0 (am + 3) (nI i) v = some (put am (ua M 2 i v) h) := by
  unfold hsi
  rw [show am + 3 = am + 1 + 2 by omega, put_arr (by decide)]
  show (bif Nat.beq 0 0 && hin (nI i) 940 then _ else _) = _
  rw [hin_nI hi (by decide), nI_clamp (by omega)]
  exact congrArg some (put_set (j := 2) (by decide))
theorem mr_3 {am : Nat} {M : MS} {h : AH} {i : Nat} (hi : i < 400) : hai (put am M h) 0 (am + 4) (nI i) = some (M.2 3 i) := by
  unfold hai
  rw [show am + 4 = am + 1 + 3 by omega, put_arr (by decide)]
  show (bif Nat.beq 0 0 && hin (nI i) 400 then _ else _) = _
  rw [hin_nI hi (by decide), nI_clamp (by omega)]; rfl
theorem mw_3 {am : Nat} {M : MS} {h : AH} {i : Nat} {v : Int32} (hi : i < 400) : hsi (put am M h) 0 (am + 4) (nI i) v = some (put am (ua M 3 i v) h) := by
  unfold hsi
  rw [show am + 4 = am + 1 + 3 by omega, put_arr (by decide)]
  show (bif Nat.beq 0 0 && hin (nI i) 400 then _ else _) = _
  rw [hin_nI hi (by decide), nI_clamp (by omega)]
  exact congrArg some (put_set (j := 3) (by decide))
theorem mr_4 {am : Nat} {M : MS} {h : AH} {i : Nat} (hi : i < 6) : hai (put am M h) 0 (am + 5) (nI i) = some (M.2 4 i) := by
  unfold hai
  rw [show am + 5 = am + 1 + 4 by omega, put_arr (by decide)]
  show (bif Nat.beq 0 0 && hin (nI i) 6 then _ else _) = _
  rw [hin_nI hi (by decide), nI_clamp (by omega)]; rfl
theorem mw_4 {am : Nat} {M : MS} {h : AH} {i : Nat} {v : Int32} (hi : i < 6) : hsi (put am M h) 0 (am + 5) (nI i) v = some (put am (ua M 4 i v) h) := by
  unfold hsi
  rw [show am + 5 = am + 1 + 4 by omega, put_arr (by decide)]
  show (bif Nat.beq 0 0 && hin (nI i) 6 then _ else _) = _
  rw [hin_nI hi (by decide), nI_clamp (by omega)]
  exact congrArg some (put_set (j := 4) (by decide))
theorem mr_5 {am : Nat} {M : MS} {h : AH} {i : Nat} (hi : i < 144) : hai (put am M h) 0 (am + 6) (nI i) = some (M.2 5 i) := by
  unfold hai
  rw [show am + 6 = am + 1 + 5 by omega, put_arr (by decide)]
  show (bif Nat.beq 0 0 && hin (nI i) 144 then _ else _) = _
  rw [hin_nI hi (by decide), nI_clamp (by omega)]; rfl
theorem mw_5 {am : Nat} {M : MS} {h : AH} {i : Nat} {v : Int32} (hi : i < 144) : hsi (put am M h) 0 (am + 6) (nI i) v = some (put am (ua M 5 i v) h) := by
  unfold hsi
  rw [show am + 6 = am + 1 + 5 by omega, put_arr (by decide)]
  show (bif Nat.beq 0 0 && hin (nI i) 144 then _ else _) = _
  rw [hin_nI hi (by decide), nI_clamp (by omega)]
  exact congrArg some (put_set (j := 5) (by decide))
theorem mr_6 {am : Nat} {M : MS} {h : AH} {i : Nat} (hi : i < 12) : hai (put am M h) 0 (am + 7) (nI i) = some (M.2 6 i) := by
  unfold hai
  rw [show am + 7 = am + 1 + 6 by omega, put_arr (by decide)]
  show (bif Nat.beq 0 0 && hin (nI i) 12 then _ else _) = _
  rw [hin_nI hi (by decide), nI_clamp (by omega)]; rfl
theorem mw_6 {am : Nat} {M : MS} {h : AH} {i : Nat} {v : Int32} (hi : i < 12) : hsi (put am M h) 0 (am + 7) (nI i) v = some (put am (ua M 6 i v) h) := by
  unfold hsi
  rw [show am + 7 = am + 1 + 6 by omega, put_arr (by decide)]
  show (bif Nat.beq 0 0 && hin (nI i) 12 then _ else _) = _
  rw [hin_nI hi (by decide), nI_clamp (by omega)]
  exact congrArg some (put_set (j := 6) (by decide))
theorem mr_7 {am : Nat} {M : MS} {h : AH} {i : Nat} (hi : i < 12) : hai (put am M h) 0 (am + 8) (nI i) = some (M.2 7 i) := by
  unfold hai
  rw [show am + 8 = am + 1 + 7 by omega, put_arr (by decide)]
  show (bif Nat.beq 0 0 && hin (nI i) 12 then _ else _) = _
  rw [hin_nI hi (by decide), nI_clamp (by omega)]; rfl
theorem mw_7 {am : Nat} {M : MS} {h : AH} {i : Nat} {v : Int32} (hi : i < 12) : hsi (put am M h) 0 (am + 8) (nI i) v = some (put am (ua M 7 i v) h) := by
  unfold hsi
  rw [show am + 8 = am + 1 + 7 by omega, put_arr (by decide)]
  show (bif Nat.beq 0 0 && hin (nI i) 12 then _ else _) = _
  rw [hin_nI hi (by decide), nI_clamp (by omega)]
  exact congrArg some (put_set (j := 7) (by decide))
theorem mr_8 {am : Nat} {M : MS} {h : AH} {i : Nat} (hi : i < 12) : hai (put am M h) 0 (am + 9) (nI i) = some (M.2 8 i) := by
  unfold hai
  rw [show am + 9 = am + 1 + 8 by omega, put_arr (by decide)]
  show (bif Nat.beq 0 0 && hin (nI i) 12 then _ else _) = _
  rw [hin_nI hi (by decide), nI_clamp (by omega)]; rfl
theorem mw_8 {am : Nat} {M : MS} {h : AH} {i : Nat} {v : Int32} (hi : i < 12) : hsi (put am M h) 0 (am + 9) (nI i) v = some (put am (ua M 8 i v) h) := by
  unfold hsi
  rw [show am + 9 = am + 1 + 8 by omega, put_arr (by decide)]
  show (bif Nat.beq 0 0 && hin (nI i) 12 then _ else _) = _
  rw [hin_nI hi (by decide), nI_clamp (by omega)]
  exact congrArg some (put_set (j := 8) (by decide))
theorem mr_9 {am : Nat} {M : MS} {h : AH} {i : Nat} (hi : i < 144) : hai (put am M h) 0 (am + 10) (nI i) = some (M.2 9 i) := by
  unfold hai
  rw [show am + 10 = am + 1 + 9 by omega, put_arr (by decide)]
  show (bif Nat.beq 0 0 && hin (nI i) 144 then _ else _) = _
  rw [hin_nI hi (by decide), nI_clamp (by omega)]; rfl
theorem mw_9 {am : Nat} {M : MS} {h : AH} {i : Nat} {v : Int32} (hi : i < 144) : hsi (put am M h) 0 (am + 10) (nI i) v = some (put am (ua M 9 i v) h) := by
  unfold hsi
  rw [show am + 10 = am + 1 + 9 by omega, put_arr (by decide)]
  show (bif Nat.beq 0 0 && hin (nI i) 144 then _ else _) = _
  rw [hin_nI hi (by decide), nI_clamp (by omega)]
  exact congrArg some (put_set (j := 9) (by decide))
theorem mr_10 {am : Nat} {M : MS} {h : AH} {i : Nat} (hi : i < 8) : hai (put am M h) 0 (am + 11) (nI i) = some (M.2 10 i) := by
  unfold hai
  rw [show am + 11 = am + 1 + 10 by omega, put_arr (by decide)]
  show (bif Nat.beq 0 0 && hin (nI i) 8 then _ else _) = _
  rw [hin_nI hi (by decide), nI_clamp (by omega)]; rfl
theorem mw_10 {am : Nat} {M : MS} {h : AH} {i : Nat} {v : Int32} (hi : i < 8) : hsi (put am M h) 0 (am + 11) (nI i) v = some (put am (ua M 10 i v) h) := by
  unfold hsi
  rw [show am + 11 = am + 1 + 10 by omega, put_arr (by decide)]
  show (bif Nat.beq 0 0 && hin (nI i) 8 then _ else _) = _
  rw [hin_nI hi (by decide), nI_clamp (by omega)]
  exact congrArg some (put_set (j := 10) (by decide))
theorem mr_11 {am : Nat} {M : MS} {h : AH} {i : Nat} (hi : i < 8) : hai (put am M h) 0 (am + 12) (nI i) = some (M.2 11 i) := by
  unfold hai
  rw [show am + 12 = am + 1 + 11 by omega, put_arr (by decide)]
  show (bif Nat.beq 0 0 && hin (nI i) 8 then _ else _) = _
  rw [hin_nI hi (by decide), nI_clamp (by omega)]; rfl
theorem mw_11 {am : Nat} {M : MS} {h : AH} {i : Nat} {v : Int32} (hi : i < 8) : hsi (put am M h) 0 (am + 12) (nI i) v = some (put am (ua M 11 i v) h) := by
  unfold hsi
  rw [show am + 12 = am + 1 + 11 by omega, put_arr (by decide)]
  show (bif Nat.beq 0 0 && hin (nI i) 8 then _ else _) = _
  rw [hin_nI hi (by decide), nI_clamp (by omega)]
  exact congrArg some (put_set (j := 11) (by decide))
theorem mr_12 {am : Nat} {M : MS} {h : AH} {i : Nat} (hi : i < 40) : hai (put am M h) 0 (am + 13) (nI i) = some (M.2 12 i) := by
  unfold hai
  rw [show am + 13 = am + 1 + 12 by omega, put_arr (by decide)]
  show (bif Nat.beq 0 0 && hin (nI i) 40 then _ else _) = _
  rw [hin_nI hi (by decide), nI_clamp (by omega)]; rfl
theorem mw_12 {am : Nat} {M : MS} {h : AH} {i : Nat} {v : Int32} (hi : i < 40) : hsi (put am M h) 0 (am + 13) (nI i) v = some (put am (ua M 12 i v) h) := by
  unfold hsi
  rw [show am + 13 = am + 1 + 12 by omega, put_arr (by decide)]
  show (bif Nat.beq 0 0 && hin (nI i) 40 then _ else _) = _
  rw [hin_nI hi (by decide), nI_clamp (by omega)]
  exact congrArg some (put_set (j := 12) (by decide))
theorem mf_0 {am : Nat} {M : MS} {h : AH} : hgf (put am M h) [18] am 0 = some (.int (M.1 0)) := by unfold hgf; rw [put_obj]; rfl
theorem mp_0 {am : Nat} {M : MS} {h : AH} {v : Int32} : hpf (put am M h) [18] am 0 (.int v) = some (put am (us M 0 v) h) := by unfold hpf; rw [put_obj]; exact congrArg some (put_setO (k := 0))
theorem mf_1 {am : Nat} {M : MS} {h : AH} : hgf (put am M h) [18] am 1 = some (.ref (am + 1)) := by unfold hgf; rw [put_obj]; rfl
theorem mf_2 {am : Nat} {M : MS} {h : AH} : hgf (put am M h) [18] am 2 = some (.ref (am + 2)) := by unfold hgf; rw [put_obj]; rfl
theorem mf_3 {am : Nat} {M : MS} {h : AH} : hgf (put am M h) [18] am 3 = some (.int (M.1 3)) := by unfold hgf; rw [put_obj]; rfl
theorem mp_3 {am : Nat} {M : MS} {h : AH} {v : Int32} : hpf (put am M h) [18] am 3 (.int v) = some (put am (us M 3 v) h) := by unfold hpf; rw [put_obj]; exact congrArg some (put_setO (k := 3))
theorem mf_4 {am : Nat} {M : MS} {h : AH} : hgf (put am M h) [18] am 4 = some (.ref (am + 3)) := by unfold hgf; rw [put_obj]; rfl
theorem mf_5 {am : Nat} {M : MS} {h : AH} : hgf (put am M h) [18] am 5 = some (.ref (am + 4)) := by unfold hgf; rw [put_obj]; rfl
theorem mf_6 {am : Nat} {M : MS} {h : AH} : hgf (put am M h) [18] am 6 = some (.int (M.1 6)) := by unfold hgf; rw [put_obj]; rfl
theorem mp_6 {am : Nat} {M : MS} {h : AH} {v : Int32} : hpf (put am M h) [18] am 6 (.int v) = some (put am (us M 6 v) h) := by unfold hpf; rw [put_obj]; exact congrArg some (put_setO (k := 6))
theorem mf_7 {am : Nat} {M : MS} {h : AH} : hgf (put am M h) [18] am 7 = some (.int (M.1 7)) := by unfold hgf; rw [put_obj]; rfl
theorem mp_7 {am : Nat} {M : MS} {h : AH} {v : Int32} : hpf (put am M h) [18] am 7 (.int v) = some (put am (us M 7 v) h) := by unfold hpf; rw [put_obj]; exact congrArg some (put_setO (k := 7))
theorem mf_8 {am : Nat} {M : MS} {h : AH} : hgf (put am M h) [18] am 8 = some (.int (M.1 8)) := by unfold hgf; rw [put_obj]; rfl
theorem mp_8 {am : Nat} {M : MS} {h : AH} {v : Int32} : hpf (put am M h) [18] am 8 (.int v) = some (put am (us M 8 v) h) := by unfold hpf; rw [put_obj]; exact congrArg some (put_setO (k := 8))
theorem mf_9 {am : Nat} {M : MS} {h : AH} : hgf (put am M h) [18] am 9 = some (.int (M.1 9)) := by unfold hgf; rw [put_obj]; rfl
theorem mp_9 {am : Nat} {M : MS} {h : AH} {v : Int32} : hpf (put am M h) [18] am 9 (.int v) = some (put am (us M 9 v) h) := by unfold hpf; rw [put_obj]; exact congrArg some (put_setO (k := 9))
theorem mf_10 {am : Nat} {M : MS} {h : AH} : hgf (put am M h) [18] am 10 = some (.int (M.1 10)) := by unfold hgf; rw [put_obj]; rfl
theorem mp_10 {am : Nat} {M : MS} {h : AH} {v : Int32} : hpf (put am M h) [18] am 10 (.int v) = some (put am (us M 10 v) h) := by unfold hpf; rw [put_obj]; exact congrArg some (put_setO (k := 10))
theorem mf_11 {am : Nat} {M : MS} {h : AH} : hgf (put am M h) [18] am 11 = some (.int (M.1 11)) := by unfold hgf; rw [put_obj]; rfl
theorem mp_11 {am : Nat} {M : MS} {h : AH} {v : Int32} : hpf (put am M h) [18] am 11 (.int v) = some (put am (us M 11 v) h) := by unfold hpf; rw [put_obj]; exact congrArg some (put_setO (k := 11))
theorem mf_12 {am : Nat} {M : MS} {h : AH} : hgf (put am M h) [18] am 12 = some (.int (M.1 12)) := by unfold hgf; rw [put_obj]; rfl
theorem mp_12 {am : Nat} {M : MS} {h : AH} {v : Int32} : hpf (put am M h) [18] am 12 (.int v) = some (put am (us M 12 v) h) := by unfold hpf; rw [put_obj]; exact congrArg some (put_setO (k := 12))
theorem mf_13 {am : Nat} {M : MS} {h : AH} : hgf (put am M h) [18] am 13 = some (.ref (am + 5)) := by unfold hgf; rw [put_obj]; rfl
theorem mf_14 {am : Nat} {M : MS} {h : AH} : hgf (put am M h) [18] am 14 = some (.int (M.1 14)) := by unfold hgf; rw [put_obj]; rfl
theorem mp_14 {am : Nat} {M : MS} {h : AH} {v : Int32} : hpf (put am M h) [18] am 14 (.int v) = some (put am (us M 14 v) h) := by unfold hpf; rw [put_obj]; exact congrArg some (put_setO (k := 14))
theorem mf_15 {am : Nat} {M : MS} {h : AH} : hgf (put am M h) [18] am 15 = some (.int (M.1 15)) := by unfold hgf; rw [put_obj]; rfl
theorem mp_15 {am : Nat} {M : MS} {h : AH} {v : Int32} : hpf (put am M h) [18] am 15 (.int v) = some (put am (us M 15 v) h) := by unfold hpf; rw [put_obj]; exact congrArg some (put_setO (k := 15))
theorem mf_16 {am : Nat} {M : MS} {h : AH} : hgf (put am M h) [18] am 16 = some (.int (M.1 16)) := by unfold hgf; rw [put_obj]; rfl
theorem mp_16 {am : Nat} {M : MS} {h : AH} {v : Int32} : hpf (put am M h) [18] am 16 (.int v) = some (put am (us M 16 v) h) := by unfold hpf; rw [put_obj]; exact congrArg some (put_setO (k := 16))
theorem mf_17 {am : Nat} {M : MS} {h : AH} : hgf (put am M h) [18] am 17 = some (.int (M.1 17)) := by unfold hgf; rw [put_obj]; rfl
theorem mp_17 {am : Nat} {M : MS} {h : AH} {v : Int32} : hpf (put am M h) [18] am 17 (.int v) = some (put am (us M 17 v) h) := by unfold hpf; rw [put_obj]; exact congrArg some (put_setO (k := 17))
theorem mf_18 {am : Nat} {M : MS} {h : AH} : hgf (put am M h) [18] am 18 = some (.ref (am + 6)) := by unfold hgf; rw [put_obj]; rfl
theorem mf_19 {am : Nat} {M : MS} {h : AH} : hgf (put am M h) [18] am 19 = some (.ref (am + 7)) := by unfold hgf; rw [put_obj]; rfl
theorem mf_20 {am : Nat} {M : MS} {h : AH} : hgf (put am M h) [18] am 20 = some (.ref (am + 8)) := by unfold hgf; rw [put_obj]; rfl
theorem mf_21 {am : Nat} {M : MS} {h : AH} : hgf (put am M h) [18] am 21 = some (.ref (am + 9)) := by unfold hgf; rw [put_obj]; rfl
theorem mf_22 {am : Nat} {M : MS} {h : AH} : hgf (put am M h) [18] am 22 = some (.ref (am + 10)) := by unfold hgf; rw [put_obj]; rfl
theorem mf_23 {am : Nat} {M : MS} {h : AH} : hgf (put am M h) [18] am 23 = some (.ref (am + 11)) := by unfold hgf; rw [put_obj]; rfl
theorem mf_24 {am : Nat} {M : MS} {h : AH} : hgf (put am M h) [18] am 24 = some (.ref (am + 12)) := by unfold hgf; rw [put_obj]; rfl
theorem mf_25 {am : Nat} {M : MS} {h : AH} : hgf (put am M h) [18] am 25 = some (.int (M.1 25)) := by unfold hgf; rw [put_obj]; rfl
theorem mp_25 {am : Nat} {M : MS} {h : AH} {v : Int32} : hpf (put am M h) [18] am 25 (.int v) = some (put am (us M 25 v) h) := by unfold hpf; rw [put_obj]; exact congrArg some (put_setO (k := 25))
theorem mf_26 {am : Nat} {M : MS} {h : AH} : hgf (put am M h) [18] am 26 = some (.int (M.1 26)) := by unfold hgf; rw [put_obj]; rfl
theorem mp_26 {am : Nat} {M : MS} {h : AH} {v : Int32} : hpf (put am M h) [18] am 26 (.int v) = some (put am (us M 26 v) h) := by unfold hpf; rw [put_obj]; exact congrArg some (put_setO (k := 26))
theorem mf_27 {am : Nat} {M : MS} {h : AH} : hgf (put am M h) [18] am 27 = some (.ref (am + 13)) := by unfold hgf; rw [put_obj]; rfl
theorem mf_28 {am : Nat} {M : MS} {h : AH} : hgf (put am M h) [18] am 28 = some (.int (M.1 28)) := by unfold hgf; rw [put_obj]; rfl
theorem mp_28 {am : Nat} {M : MS} {h : AH} {v : Int32} : hpf (put am M h) [18] am 28 (.int v) = some (put am (us M 28 v) h) := by unfold hpf; rw [put_obj]; exact congrArg some (put_setO (k := 28))
