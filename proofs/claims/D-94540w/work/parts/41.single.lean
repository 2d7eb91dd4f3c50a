/-! ===== PURE: single steps with explicit ends ===== -/
section
variable {env : AEnv} {cd : Nat → Option AOp} {hd : AHd} {pc nx : Nat} {ls : ALs} {st : List Value} {h : AH}
theorem p_const {v : Value} (hc : cd pc = some (aP (f_const v nx))) : aR env cd hd (pc, ls, st, h) = aR env cd hd (nx, ls, v :: st, h) := (aR_eq hc).trans rfl
theorem p_stat {i : Nat} (hc : cd pc = some (aP (f_stat i nx))) : aR env cd hd (pc, ls, st, h) = aR env cd hd (nx, ls, h.2.2.2 i :: st, h) := (aR_eq hc).trans rfl
theorem p_iload {k : Nat} {x : Int32} (hc : cd pc = some (aP (f_iload k nx))) (hl : ls[k]? = some (some (.int x))) : aR env cd hd (pc, ls, st, h) = aR env cd hd (nx, ls, .int x :: st, h) := by
  rw [aR_eq hc]; simp only [aP, f_iload, hl]
theorem p_aload {k a : Nat} (hc : cd pc = some (aP (f_aload k nx))) (hl : ls[k]? = some (some (.ref a))) : aR env cd hd (pc, ls, st, h) = aR env cd hd (nx, ls, .ref a :: st, h) := by
  rw [aR_eq hc]; simp only [aP, f_aload, hl]
theorem p_aloadN {k : Nat} (hc : cd pc = some (aP (f_aload k nx))) (hl : ls[k]? = some (some .null)) : aR env cd hd (pc, ls, st, h) = aR env cd hd (nx, ls, .null :: st, h) := by
  rw [aR_eq hc]; simp only [aP, f_aload, hl]
theorem p_istore {k : Nat} {x : Int32} {ls' : ALs} (hc : cd pc = some (aP (f_istore k nx))) (hb : Nat.blt k ls.length = true) (hl : ls.set k (some (.int x)) = ls') : aR env cd hd (pc, ls, .int x :: st, h) = aR env cd hd (nx, ls', st, h) := by
  subst hl; rw [aR_eq hc]; simp only [aP, f_istore, hb, cond_true]
theorem p_astore {k a : Nat} {ls' : ALs} (hc : cd pc = some (aP (f_astore k nx))) (hb : Nat.blt k ls.length = true) (hl : ls.set k (some (.ref a)) = ls') : aR env cd hd (pc, ls, .ref a :: st, h) = aR env cd hd (nx, ls', st, h) := by
  subst hl; rw [aR_eq hc]; simp only [aP, f_astore, hb, cond_true]
theorem p_astoreN {k : Nat} {ls' : ALs} (hc : cd pc = some (aP (f_astore k nx))) (hb : Nat.blt k ls.length = true) (hl : ls.set k (some .null) = ls') : aR env cd hd (pc, ls, .null :: st, h) = aR env cd hd (nx, ls', st, h) := by
  subst hl; rw [aR_eq hc]; simp only [aP, f_astore, hb, cond_true]
theorem p_iinc {k : Nat} {d x : Int32} {ls' : ALs} (hc : cd pc = some (aP (f_iinc k d nx))) (h0 : ls[k]? = some (some (.int x))) (hl : ls.set k (some (.int (x + d))) = ls') : aR env cd hd (pc, ls, st, h) = aR env cd hd (nx, ls', st, h) := by
  subst hl; rw [aR_eq hc]; simp only [aP, f_iinc, h0]
theorem p_bin {g : Int32 → Int32 → Int32} {x y : Int32} (hc : cd pc = some (aP (f_bin g nx))) : aR env cd hd (pc, ls, .int y :: .int x :: st, h) = aR env cd hd (nx, ls, .int (g x y) :: st, h) := (aR_eq hc).trans rfl
theorem p_un {g : Int32 → Int32} {x : Int32} (hc : cd pc = some (aP (f_un g nx))) : aR env cd hd (pc, ls, .int x :: st, h) = aR env cd hd (nx, ls, .int (g x) :: st, h) := (aR_eq hc).trans rfl
theorem p_i2l {x : Int32} (hc : cd pc = some (aP (f_i2l nx))) : aR env cd hd (pc, ls, .int x :: st, h) = aR env cd hd (nx, ls, .long x.toInt64 :: st, h) := (aR_eq hc).trans rfl
theorem p_lcmp {x y : Int64} (hc : cd pc = some (aP (f_lcmp nx))) : aR env cd hd (pc, ls, .long y :: .long x :: st, h) = aR env cd hd (nx, ls, .int (lg_cmp x y) :: st, h) := (aR_eq hc).trans rfl
theorem p_pop {v : Value} (hc : cd pc = some (aP (f_pop nx))) (h1 : isC1 v = true) : aR env cd hd (pc, ls, v :: st, h) = aR env cd hd (nx, ls, st, h) := by
  rw [aR_eq hc]; simp only [aP, f_pop, h1, cond_true]
theorem p_dup {v : Value} (hc : cd pc = some (aP (f_dup nx))) (h1 : isC1 v = true) : aR env cd hd (pc, ls, v :: st, h) = aR env cd hd (nx, ls, v :: v :: st, h) := by
  rw [aR_eq hc]; simp only [aP, f_dup, h1, cond_true]
theorem p_dupx1 {v w : Value} (hc : cd pc = some (aP (f_dupx1 nx))) (h1 : (isC1 v && isC1 w) = true) : aR env cd hd (pc, ls, v :: w :: st, h) = aR env cd hd (nx, ls, v :: w :: v :: st, h) := by
  rw [aR_eq hc]; simp only [aP, f_dupx1, h1, cond_true]
theorem p_dup2 {v w : Value} (hc : cd pc = some (aP (f_dup2 nx))) (h1 : (isC1 v && isC1 w) = true) : aR env cd hd (pc, ls, v :: w :: st, h) = aR env cd hd (nx, ls, v :: w :: v :: w :: st, h) := by
  rw [aR_eq hc]; simp only [aP, f_dup2, h1, cond_true]
theorem p_goto {t : Nat} (hc : cd pc = some (aP (f_goto t))) : aR env cd hd (pc, ls, st, h) = aR env cd hd (t, ls, st, h) := (aR_eq hc).trans rfl
theorem p_nullR {t a : Nat} (hc : cd pc = some (aP (f_null t nx))) : aR env cd hd (pc, ls, .ref a :: st, h) = aR env cd hd (nx, ls, st, h) := (aR_eq hc).trans rfl
theorem p_nullN {t : Nat} (hc : cd pc = some (aP (f_null t nx))) : aR env cd hd (pc, ls, .null :: st, h) = aR env cd hd (t, ls, st, h) := (aR_eq hc).trans rfl
theorem p_sw {g : Int32 → Nat} {x : Int32} (hc : cd pc = some (aP (f_sw g))) : aR env cd hd (pc, ls, .int x :: st, h) = aR env cd hd (g x, ls, st, h) := (aR_eq hc).trans rfl
theorem p_castN {cis ts : List Nat} (hc : cd pc = some (aP (f_cast cis ts nx))) : aR env cd hd (pc, ls, .null :: st, h) = aR env cd hd (nx, ls, .null :: st, h) := (aR_eq hc).trans rfl
theorem p_new {ci : Nat} {fs : List Value} (hc : cd pc = some (o_new ci fs nx)) : aR env cd hd (pc, ls, st, h) = aR env cd hd (nx, ls, .ref h.2.1 :: st, hnew h (true, .inr (ci, fs)) fs.length) := (aR_eq hc).trans rfl
theorem p_divC {g : Int32 → Int32 → Int32} {x y : Int32} (hc : cd pc = some (aP (f_div g nx))) (hy : (y == 0) = false) : aR env cd hd (pc, ls, .int y :: .int x :: st, h) = aR env cd hd (nx, ls, .int (g x y) :: st, h) := by
  rw [s_div hc, if_neg]
  intro he; subst he; exact absurd hy (by decide)
theorem s_if' {p : Int32 → Prop} {i : ∀ x, Decidable (p x)} {t : Nat} {x : Int32} (hc : cd pc = some (aP (f_if (fun x => decide (p x)) t nx))) : aR env cd hd (pc, ls, .int x :: st, h) = if p x then aR env cd hd (t, ls, st, h) else aR env cd hd (nx, ls, st, h) := (s_if hc).trans bif_dec
theorem s_icmp' {p : Int32 → Int32 → Prop} {i : ∀ x y, Decidable (p x y)} {t : Nat} {x y : Int32} (hc : cd pc = some (aP (f_icmp (fun x y => decide (p x y)) t nx))) : aR env cd hd (pc, ls, .int y :: .int x :: st, h) = if p x y then aR env cd hd (t, ls, st, h) else aR env cd hd (nx, ls, st, h) := (s_icmp hc).trans bif_dec
theorem s_putT {cis : List Nat} {a k : Nat} {ok : Value → Bool} {v : Value} (hc : cd pc = some (o_putf cis k ok nx)) (ho : ok v = true) : aR env cd hd (pc, ls, v :: .ref a :: st, h) = (hpf h cis a k v).bind fun h' => aR env cd hd (nx, ls, st, h') := by
  rw [s_putf hc, ho]; rfl
theorem s_iretT {ok : Int32 → Bool} {x : Int32} (hc : cd pc = some (o_iret ok)) (ho : ok x = true) : aR env cd hd (pc, ls, [.int x], h) = some (.inl (some (.int x)), h) := by
  rw [s_iret hc, ho]; rfl
theorem s_aret {a : Nat} (hc : cd pc = some o_aret) : aR env cd hd (pc, ls, [.ref a], h) = some (.inl (some (.ref a)), h) := (aR_eq hc).trans rfl
theorem s_aretN (hc : cd pc = some o_aret) : aR env cd hd (pc, ls, [.null], h) = some (.inl (some .null), h) := (aR_eq hc).trans rfl
theorem s_vret (hc : cd pc = some o_vret) : aR env cd hd (pc, ls, [], h) = some (.inl none, h) := (aR_eq hc).trans rfl
theorem s_acmp' {t : Nat} {v w : Value} {x y : Option Nat} (hc : cd pc = some (aP (f_acmp t nx))) (hv : v = va_rf y) (hw : w = va_rf x) : aR env cd hd (pc, ls, v :: w :: st, h) = if x = y then aR env cd hd (t, ls, st, h) else aR env cd hd (nx, ls, st, h) := by
  subst hv; subst hw; exact s_acmp hc
def hgC (h : AH) (a : Nat) : Bool := match h.1 a with
  | some (_, .inl (3, _)) => true
  | _ => false
theorem s_getC {i a : Nat} (hc : cd pc = some (aP (f_getC i nx))) (hs : okR st = true) : aR env cd hd (pc, ls, .ref a :: st, h) = bif hgC h a then aR env cd hd (nx, ls, h.2.2.2 i :: st, h) else none := by
  rw [aR_eq hc]
  simp only [aP, f_getC, hgC, hs, cond_true]
  generalize h.1 a = m
  rcases m with _ | ⟨b, ⟨t, k⟩ | ⟨ci, fs⟩⟩
  · rfl
  · match t with
    | 0 => rfl
    | 1 => rfl
    | 2 => rfl
    | 3 => rfl
    | t + 4 => rfl
  · rfl
def hclo (h : AH) (a : Nat) : Option AH := match h.1 a with
  | some (false, .inl (5, n, .inr (.inr f))) => some (hnew h (true, .inl (5, n, .inr (.inr f))) n)
  | _ => none
theorem s_clone {a : Nat} (hc : cd pc = some (o_clone nx)) (hs : okR st = true) : aR env cd hd (pc, ls, .ref a :: st, h) = (hclo h a).bind fun h1 => aR env cd hd (nx, ls, .ref h.2.1 :: st, h1) := by
  rw [aR_eq hc]
  simp only [o_clone, hclo, hs, cond_true]
  generalize h.1 a = m
  rcases m with _ | ⟨_ | _, ⟨t, n, f | f | f⟩ | ⟨ci, fs⟩⟩ <;> first | rfl | (rcases t with _ | _ | _ | _ | _ | _ | t <;> rfl)
def hclB (h : AH) (a : Nat) : Option AH := match h.1 a with
  | some (true, .inl (1, n, .inl f)) => bif fitAll 1 f 0 n then some (hnew h (true, .inl (1, n, .inl f)) n) else none
  | _ => none
theorem s_cloneB {a : Nat} (hc : cd pc = some (o_cloneB nx)) (hs : okR st = true) : aR env cd hd (pc, ls, .ref a :: st, h) = (hclB h a).bind fun h1 => aR env cd hd (nx, ls, .ref h.2.1 :: st, h1) := by
  rw [aR_eq hc]
  simp only [o_cloneB, hclB, hs, Bool.true_and]
  generalize h.1 a = m
  rcases m with _ | ⟨_ | _, ⟨t, n, f | f | f⟩ | ⟨ci, fs⟩⟩ <;> first | rfl | (rcases t with _ | _ | t <;> first | rfl | (simp only [Nat.zero_add]; cases hq : fitAll 1 f 0 n <;> rfl))
end
