/-! ===== strings ===== -/
/-- constants that every start has -/
def KC (h : AH) : Prop := h.2.2.2 4 = .int 1 ∧ (h.2.2.2 9 = .null ∨ ∃ r, h.2.2.2 9 = .ref r)
def StrAt (h : AH) (a : Nat) (w : List Nat) : Prop := ∃ (b : Nat) (bo bo2 : Bool) (hv hz : Value) (f : Nat → Int32), h.1 a = some (bo, .inr (21, [.ref b, .int 0, hv, hz])) ∧ h.1 b = some (bo2, .inl (1, w.length, .inl f)) ∧ (∀ i c, w[i]? = some c → f i = nI c) ∧ (∀ c ∈ w, c < 128) ∧ w.length < 65536
theorem shr0 {x : Int32} : x >>> ((0 : Int32) &&& 31) = x := by rw [show ((0 : Int32) &&& 31) = 0 by decide]; simp
theorem chr_ok : ∀ c : Nat, c < 128 → (((nI c) &&& nI 255).toUInt32 % 65536).toInt32 = nI c := by decide +kernel
theorem chn_ok : ∀ c : Nat, c < 128 → decide (narrow .char (.int (nI c)) = .int (nI c)) = true := by decide +kernel
theorem nz1 : ¬ (1 : Int32) = 0 := by decide
theorem S_coder {d a : Nat} {h : AH} {w : List Nat} (hk : KC h) (hs : StrAt h a w) : exec tTab (d + 1) K_J10_coder [.ref a] h = some (.inl (some (.int 0)), h) := by
  obtain ⟨b, bo, bo2, hv, hz, f, h1, h2, h3, h4, h5⟩ := hs
  have g1 : hgf h [21] a 1 = some (.int 0) := by unfold hgf; rw [h1]; rfl
  simp only [e_J10_coder, r_J10_coder_0, r_J10_coder_3, r_J10_coder_13, r_J10_coder_6, r_J10_coder_10, hk.1, nz1, if_false, g1, Option.bind_some]
  rfl
theorem S_isLatin1 {d a : Nat} {h : AH} {w : List Nat} (hk : KC h) (hs : StrAt h a w) : exec tTab (d + 1) K_J10_isLatin1 [.ref a] h = some (.inl (some (.int (nI 1))), h) := by
  obtain ⟨b, bo, bo2, hv, hz, f, h1, h2, h3, h4, h5⟩ := hs
  have g1 : hgf h [21] a 1 = some (.int 0) := by unfold hgf; rw [h1]; rfl
  simp only [e_J10_isLatin1, r_J10_isLatin1_0, r_J10_isLatin1_3, r_J10_isLatin1_17, r_J10_isLatin1_6, r_J10_isLatin1_10, r_J10_isLatin1_13, hk.1, nz1, if_false, g1, Option.bind_some, not_true_eq_false]
theorem S_length {d a : Nat} {h : AH} {w : List Nat} (hk : KC h) (hs : StrAt h a w) : exec tTab (d + 2) K_J10_length [.ref a] h = some (.inl (some (.int (nI w.length))), h) := by
  have hc := S_coder (d := d) hk hs
  obtain ⟨b, bo, bo2, hv, hz, f, h1, h2, h3, h4, h5⟩ := hs
  have g1 : hgf h [21] a 0 = some (.ref b) := by unfold hgf; rw [h1]; rfl
  have g2 : hal h b = some w.length := by unfold hal; rw [h2]
  have g3 : hci h a = some 21 := by unfold hci; rw [h1]
  simp only [e_J10_length, r_J10_length_0, r_J10_length_4, r_J10_length_5, r_J10_length_9, g1, g2, g3, lk1, hc, aK_ret, Option.bind_some, Option.toList_some, List.cons_append, List.nil_append, shr0]
theorem S_checkIndex4 {d i n : Nat} {v : Value} {h : AH} (hv : v = .null ∨ ∃ r, v = .ref r) (hi : i < n) (hn : n < 2 ^ 31) : exec tTab (d + 1) K_J4_checkIndex [.int (nI i), .int (nI n), v] h = some (.inl (some (.int (nI i))), h) := by
  have e1 : ¬ nI i < 0 := nI_pos (by omega)
  have e2 : nI i < nI n := nI_lt hi hn
  rcases hv with rfl | ⟨r, rfl⟩
  · refine (exec_eq (cd := k_J4_checkIndex) (hd := (fun _ _ => some none)) (L := 3) rfl rfl rfl).trans ?_
    show R_J4_checkIndex d 0 [some (.int (nI i)), some (.int (nI n)), some .null] [] h = _
    simp only [e_J4_checkIndex, r_J4_checkIndex_0, r_J4_checkIndex_4, r_J4_checkIndex_16, e1, e2, if_false, if_true]
  · simp only [e_J4_checkIndex, r_J4_checkIndex_0, r_J4_checkIndex_4, r_J4_checkIndex_16, e1, e2, if_false, if_true]
theorem S_checkIndex {d i n : Nat} {h : AH} (hk : KC h) (hi : i < n) (hn : n < 2 ^ 31) : exec tTab (d + 2) K_J10_checkIndex [.int (nI i), .int (nI n)] h = some (.inl none, h) := by
  have e := S_checkIndex4 (d := d) (h := h) hk.2 hi hn
  rcases hk.2 with h9 | ⟨r, h9⟩ <;> rw [h9] at e <;> simp only [e_J10_checkIndex, r_J10_checkIndex_0, r_J10_checkIndex_5, r_J10_checkIndex_5N, r_J10_checkIndex_8, h9, e, aK_ret, Option.toList_some, List.cons_append, List.nil_append]
theorem S_charAt {d a i c : Nat} {h : AH} {w : List Nat} (hk : KC h) (hs : StrAt h a w) (hi : w[i]? = some c) : exec tTab (d + 4) K_J10_charAt [.ref a, .int (nI i)] h = some (.inl (some (.int (nI c))), h) := by
  have hc := S_isLatin1 (d := d + 2) hk hs
  obtain ⟨b, bo, bo2, hv, hz, f, h1, h2, h3, h4, h5⟩ := hs
  have hlt : i < w.length := (List.getElem?_eq_some_iff.mp hi).1
  have hcw : c < 128 := h4 c (List.mem_of_getElem? hi)
  have g1 : hgf h [21] a 0 = some (.ref b) := by unfold hgf; rw [h1]; rfl
  have g2 : hal h b = some w.length := by unfold hal; rw [h2]
  have g3 : hci h a = some 21 := by unfold hci; rw [h1]
  have g4 : hai h 1 b (nI i) = some (nI c) := by
    unfold hai; rw [h2]; dsimp only
    rw [hin_nI hlt (by omega), nI_clamp (by omega), h3 i c hi]; rfl
  have g5 := S_checkIndex (d := d) (h := h) hk hlt (by omega)
  have g6 : ¬ nI 1 = 0 := by decide
  have g7 : exec tTab (d + 3) K_J12_charAt [.ref b, .int (nI i)] h = some (.inl (some (.int (nI c))), h) := by
    simp only [e_J12_charAt, r_J12_charAt_0, r_J12_charAt_3, r_J12_charAt_6, r_J12_charAt_9, g2, g4, g5, aK_ret, Option.bind_some, Option.toList_none, List.nil_append, chr_ok c hcw, chn_ok c hcw, cond_true]
  simp only [e_J10_charAt, r_J10_charAt_0, r_J10_charAt_4, r_J10_charAt_16, r_J10_charAt_7, r_J10_charAt_11, r_J10_charAt_11N, r_J10_charAt_15, g1, g3, lk1, hc, g6, g7, if_false, aK_ret, Option.bind_some, Option.toList_some, List.cons_append, List.nil_append, chn_ok c hcw, cond_true]
