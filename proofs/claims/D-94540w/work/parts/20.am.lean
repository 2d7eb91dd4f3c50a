/-! ===== THE ABSTRACT MACHINE: pure data, no machine in sight ===== -/
/-- an array: its type's place in tyT, its length, its contents -/
abbrev AK : Type := Nat × Nat × ((Nat → Int32) ⊕ ((Nat → Int64) ⊕ (Nat → Option Nat)))
/-- a cell: may it be written?; an array, or an object (its class' place in clR, its fields) -/
abbrev AC : Type := Bool × (AK ⊕ (Nat × List Value))
/-- a heap: cells by address; the next address; slots used so far; the constants -/
abbrev AH : Type := (Nat → Option AC) × Nat × Nat × (Nat → Value)
abbrev ALs : Type := List (Option Value)
abbrev AOut : Type := Option Value ⊕ Nat
abbrev AEnv : Type := Nat → List Value → AH → Option (AOut × AH)
abbrev ASt : Type := Nat × ALs × List Value × AH
abbrev AOp : Type := AEnv → ALs → List Value → AH → Option (ASt ⊕ (AOut × AH))
/-- handlers: by pc and class: 'none' nothing is known; 'some none' it goes out; else the pc behind the handler's store, and the local that it stores into -/
abbrev AHd : Type := Nat → Nat → Option (Option (Nat × Nat))
def isC1 (v : Value) : Bool := match v with
  | .long _ => false
  | .double _ => false
  | _ => true
def hset (h : AH) (a : Nat) (c : AC) : AH := (fun x => if x = a then some c else h.1 x, h.2)
def hnew (h : AH) (c : AC) (w : Nat) : AH := (fun x => if x = h.2.1 then some c else h.1 x, h.2.1 + 1, h.2.2.1 + w, h.2.2.2)
def hgf (h : AH) (cis : List Nat) (a k : Nat) : Option Value := match h.1 a with
  | some (_, .inr (ci, fs)) => bif cis.contains ci then fs[k]? else none
  | _ => none
def hpf (h : AH) (cis : List Nat) (a k : Nat) (v : Value) : Option AH := match h.1 a with
  | some (true, .inr (ci, fs)) => bif cis.contains ci && Nat.blt k fs.length then some (hset h a (true, .inr (ci, fs.set k v))) else none
  | _ => none
def hin (i : Int32) (n : Nat) : Bool := !decide (i < 0) && Nat.blt i.toNatClampNeg n
def hai (h : AH) (t a : Nat) (i : Int32) : Option Int32 := match h.1 a with
  | some (_, .inl (t', n, .inl f)) => bif Nat.beq t' t && hin i n then some (f i.toNatClampNeg) else none
  | _ => none
def haj (h : AH) (t a : Nat) (i : Int32) : Option Int64 := match h.1 a with
  | some (_, .inl (t', n, .inr (.inl f))) => bif Nat.beq t' t && hin i n then some (f i.toNatClampNeg) else none
  | _ => none
def haq (h : AH) (t a : Nat) (i : Int32) : Option (Option Nat) := match h.1 a with
  | some (_, .inl (t', n, .inr (.inr f))) => bif Nat.beq t' t && hin i n then some (f i.toNatClampNeg) else none
  | _ => none
def hal (h : AH) (a : Nat) : Option Nat := match h.1 a with
  | some (_, .inl (_, n, _)) => some n
  | _ => none
def hsi (h : AH) (t a : Nat) (i : Int32) (x : Int32) : Option AH := match h.1 a with
  | some (true, .inl (t', n, .inl f)) => bif Nat.beq t' t && hin i n then some (hset h a (true, .inl (t', n, .inl (upd f i.toNatClampNeg x)))) else none
  | _ => none
def hsj (h : AH) (t a : Nat) (i : Int32) (x : Int64) : Option AH := match h.1 a with
  | some (true, .inl (t', n, .inr (.inl f))) => bif Nat.beq t' t && hin i n then some (hset h a (true, .inl (t', n, .inr (.inl (vp_updL f i.toNatClampNeg x))))) else none
  | _ => none
def hsq (h : AH) (t a : Nat) (i : Int32) (x : Option Nat) : Option AH := match h.1 a with
  | some (true, .inl (t', n, .inr (.inr f))) => bif Nat.beq t' t && hin i n then some (hset h a (true, .inl (t', n, .inr (.inr (va_up f i.toNatClampNeg x))))) else none
  | _ => none
def hci (h : AH) (a : Nat) : Option Nat := match h.1 a with
  | some (_, .inr (ci, _)) => some ci
  | _ => none
/-! instructions that don't change the heap -/
abbrev AF : Type := ALs → List Value → AH → Option (Nat × ALs × List Value)
def aP (f : AF) : AOp := fun _ ls st h => match f ls st h with
  | some r => some (.inl (r.1, r.2.1, r.2.2, h))
  | none => none
def f_const (v : Value) (nx : Nat) : AF := fun ls st _ => some (nx, ls, v :: st)
def f_stat (i nx : Nat) : AF := fun ls st h => some (nx, ls, h.2.2.2 i :: st)
def f_iload (k nx : Nat) : AF := fun ls st _ => match ls[k]? with
  | some (some (.int x)) => some (nx, ls, .int x :: st)
  | _ => none
def f_aload (k nx : Nat) : AF := fun ls st _ => match ls[k]? with
  | some (some (.ref a)) => some (nx, ls, .ref a :: st)
  | some (some .null) => some (nx, ls, .null :: st)
  | _ => none
def f_istore (k nx : Nat) : AF := fun ls st _ => match st with
  | .int x :: r => bif Nat.blt k ls.length then some (nx, ls.set k (some (.int x)), r) else none
  | _ => none
def f_astore (k nx : Nat) : AF := fun ls st _ => match st with
  | .ref a :: r => bif Nat.blt k ls.length then some (nx, ls.set k (some (.ref a)), r) else none
  | .null :: r => bif Nat.blt k ls.length then some (nx, ls.set k (some .null), r) else none
  | _ => none
def f_iinc (k : Nat) (d : Int32) (nx : Nat) : AF := fun ls st _ => match ls[k]? with
  | some (some (.int x)) => some (nx, ls.set k (some (.int (x + d))), st)
  | _ => none
def f_bin (g : Int32 → Int32 → Int32) (nx : Nat) : AF := fun ls st _ => match st with
  | .int y :: .int x :: r => some (nx, ls, .int (g x y) :: r)
  | _ => none
def f_div (g : Int32 → Int32 → Int32) (nx : Nat) : AF := fun ls st _ => match st with
  | .int y :: .int x :: r => if y = 0 then none else some (nx, ls, .int (g x y) :: r)
  | _ => none
def f_un (g : Int32 → Int32) (nx : Nat) : AF := fun ls st _ => match st with
  | .int x :: r => some (nx, ls, .int (g x) :: r)
  | _ => none
def f_i2l (nx : Nat) : AF := fun ls st _ => match st with
  | .int x :: r => some (nx, ls, .long x.toInt64 :: r)
  | _ => none
def f_lcmp (nx : Nat) : AF := fun ls st _ => match st with
  | .long y :: .long x :: r => some (nx, ls, .int (lg_cmp x y) :: r)
  | _ => none
def f_pop (nx : Nat) : AF := fun ls st _ => match st with
  | v :: r => bif isC1 v then some (nx, ls, r) else none
  | _ => none
def f_dup (nx : Nat) : AF := fun ls st _ => match st with
  | v :: r => bif isC1 v then some (nx, ls, v :: v :: r) else none
  | _ => none
def f_dupx1 (nx : Nat) : AF := fun ls st _ => match st with
  | v :: w :: r => bif isC1 v && isC1 w then some (nx, ls, v :: w :: v :: r) else none
  | _ => none
def f_dup2 (nx : Nat) : AF := fun ls st _ => match st with
  | v :: w :: r => bif isC1 v && isC1 w then some (nx, ls, v :: w :: v :: w :: r) else none
  | _ => none
def f_goto (t : Nat) : AF := fun ls st _ => some (t, ls, st)
def f_if (g : Int32 → Bool) (t nx : Nat) : AF := fun ls st _ => match st with
  | .int x :: r => some (bif g x then t else nx, ls, r)
  | _ => none
def f_icmp (g : Int32 → Int32 → Bool) (t nx : Nat) : AF := fun ls st _ => match st with
  | .int y :: .int x :: r => some (bif g x y then t else nx, ls, r)
  | _ => none
def f_null (t nx : Nat) : AF := fun ls st _ => match st with
  | .null :: r => some (t, ls, r)
  | .ref _ :: r => some (nx, ls, r)
  | _ => none
def rfOf (v : Value) : Option (Option Nat) := match v with
  | .ref a => some (some a)
  | .null => some none
  | _ => none
def f_acmp (t nx : Nat) : AF := fun ls st _ => match st with
  | y :: x :: r => match rfOf x, rfOf y with
    | some a, some b => some (if a = b then t else nx, ls, r)
    | _, _ => none
  | _ => none
def f_sw (g : Int32 → Nat) : AF := fun ls st _ => match st with
  | .int x :: r => some (g x, ls, r)
  | _ => none
def f_getf (cis : List Nat) (k nx : Nat) : AF := fun ls st h => match st with
  | .ref a :: r => match hgf h cis a k with
    | some v => some (nx, ls, v :: r)
    | none => none
  | _ => none
def f_iald (t nx : Nat) : AF := fun ls st h => match st with
  | .int i :: .ref a :: r => match hai h t a i with
    | some v => some (nx, ls, .int v :: r)
    | none => none
  | _ => none
def f_lald (t nx : Nat) : AF := fun ls st h => match st with
  | .int i :: .ref a :: r => match haj h t a i with
    | some v => some (nx, ls, .long v :: r)
    | none => none
  | _ => none
def f_aald (ts : List Nat) (nx : Nat) : AF := fun ls st h => match st with
  | .int i :: .ref a :: r => match ts.findSome? (fun t => haq h t a i) with
    | some v => some (nx, ls, va_rf v :: r)
    | none => none
  | _ => none
def f_alen (nx : Nat) : AF := fun ls st h => match st with
  | .ref a :: r => match hal h a with
    | some n => some (nx, ls, .int (nI n) :: r)
    | none => none
  | _ => none
/-- checkcast: null, an object of one of these classes, an array of one of these types -/
def f_cast (cis ts : List Nat) (nx : Nat) : AF := fun ls st h => match st with
  | .null :: r => some (nx, ls, .null :: r)
  | .ref a :: r => match h.1 a with
    | some (_, .inr (ci, _)) => bif cis.contains ci then some (nx, ls, .ref a :: r) else none
    | some (true, .inl (t, _)) => bif ts.contains t then some (nx, ls, .ref a :: r) else none
    | _ => none
  | _ => none
/-! instructions that change it -/
def o_putf (cis : List Nat) (k : Nat) (ok : Value → Bool) (nx : Nat) : AOp := fun _ ls st h => match st with
  | v :: .ref a :: r => bif ok v then (match hpf h cis a k v with
    | some h' => some (.inl (nx, ls, r, h'))
    | none => none) else none
  | _ => none
def o_iast (t : Nat) (nar : Int32 → Int32) (nx : Nat) : AOp := fun _ ls st h => match st with
  | .int x :: .int i :: .ref a :: r => match hsi h t a i (nar x) with
    | some h' => some (.inl (nx, ls, r, h'))
    | none => none
  | _ => none
def o_last (t nx : Nat) : AOp := fun _ ls st h => match st with
  | .long x :: .int i :: .ref a :: r => match hsj h t a i x with
    | some h' => some (.inl (nx, ls, r, h'))
    | none => none
  | _ => none
/-- a reference into an array of java.lang.Object (place t): an object that may be written, of a listed class, or an array of a listed type -/
def o_aast (t : Nat) (cis ts : List Nat) (nx : Nat) : AOp := fun _ ls st h => match st with
  | .ref v :: .int i :: .ref a :: r => match h.1 v with
    | some (true, .inr (ci, _)) => bif cis.contains ci then (match hsq h t a i (some v) with
      | some h' => some (.inl (nx, ls, r, h'))
      | none => none) else none
    | some (true, .inl (t', _)) => bif ts.contains t' then (match hsq h t a i (some v) with
      | some h' => some (.inl (nx, ls, r, h'))
      | none => none) else none
    | _ => none
  | _ => none
def o_new (ci : Nat) (fs : List Value) (nx : Nat) : AOp := fun _ ls st h => some (.inl (nx, ls, .ref h.2.1 :: st, hnew h (true, .inr (ci, fs)) fs.length))
def o_make (ci nx : Nat) : AOp := fun _ ls st h => bif Nat.ble (st.map Value.category).sum 8 then some (.inl (nx, ls, .ref h.2.1 :: st, hnew h (true, .inr (ci, [])) 6)) else none
def o_newa (t : Nat) (z : (Nat → Int32) ⊕ ((Nat → Int64) ⊕ (Nat → Option Nat))) (nx : Nat) : AOp := fun _ ls st h => match st with
  | .int n :: r => bif hin n 65537 then some (.inl (nx, ls, .ref h.2.1 :: r, hnew h (true, .inl (t, n.toNatClampNeg, z)) n.toNatClampNeg)) else none
  | _ => none
def aRes (nx : Nat) (ls : ALs) (rest : List Value) (r : Option (AOut × AH)) : Option (ASt ⊕ (AOut × AH)) := match r with
  | none => none
  | some (.inl v, h1) => some (.inl (nx, ls, v.toList ++ rest, h1))
  | some (.inr E, h1) => some (.inr (.inr E, h1))
def okR (rest : List Value) : Bool := Nat.ble (rest.map Value.category).sum 8
def o_callS (y n nx : Nat) : AOp := fun env ls st h => bif Nat.ble n st.length && okR (st.drop n) then aRes nx ls (st.drop n) (env y (st.take n).reverse h) else none
def o_callI (y n nx : Nat) : AOp := fun env ls st h => match st.drop n with
  | .ref b :: rest => bif Nat.ble n st.length && okR rest then aRes nx ls rest (env y (.ref b :: (st.take n).reverse) h) else none
  | _ => none
/-- a call that looks at the receiver: its class' place gives the method -/
def o_callV (sel : Nat → Option Nat) (n nx : Nat) : AOp := fun env ls st h => match st.drop n with
  | .ref b :: rest => match hci h b with
    | some ci => match sel ci with
      | some y => bif Nat.ble n st.length && okR rest then aRes nx ls rest (env y (.ref b :: (st.take n).reverse) h) else none
      | none => none
    | none => none
  | _ => none
def o_athrow (exs : List Nat) : AOp := fun _ _ st h => match st with
  | .ref a :: _ => match h.1 a with
    | some (true, .inr (ci, _)) => bif exs.contains ci then some (.inr (.inr ci, h)) else none
    | _ => none
  | _ => none
def o_iret (ok : Int32 → Bool) : AOp := fun _ _ st h => match st with
  | [.int x] => bif ok x then some (.inr (.inl (some (.int x)), h)) else none
  | _ => none
def o_aret : AOp := fun _ _ st h => match st with
  | [.ref a] => some (.inr (.inl (some (.ref a)), h))
  | [.null] => some (.inr (.inl (some .null), h))
  | _ => none
def o_vret : AOp := fun _ _ st h => match st with
  | [] => some (.inr (.inl none, h))
  | _ => none
/-! runs -/
def arun (env : AEnv) (cd : Nat → Option AOp) (hd : AHd) : Nat → ASt → Option (AOut × AH)
  | 0, _ => none
  | f + 1, s => match cd s.1 with
    | none => none
    | some op => match op env s.2.1 s.2.2.1 s.2.2.2 with
      | none => none
      | some (.inl s') => arun env cd hd f s'
      | some (.inr (.inl v, h)) => some (.inl v, h)
      | some (.inr (.inr E, h)) => match hd s.1 E with
        | none => none
        | some none => some (.inr E, h)
        | some (some q) => arun env cd hd f (q.1, s.2.1.set q.2 none, [], h)
noncomputable def aLim {α : Type} (g : Nat → Option α) : Option α := @dite _ (∃ r f, g f = some r) (Classical.propDecidable _) (fun h => some h.choose) (fun _ => none)
theorem aLim_some {α : Type} {g : Nat → Option α} (hm : ∀ f r, g f = some r → g (f + 1) = some r) {r : α} : aLim g = some r ↔ ∃ f, g f = some r := by
  have hm2 : ∀ k f r, g f = some r → g (f + k) = some r := by
    intro k
    induction k with
    | zero => intro f r h; exact h
    | succ k ih => intro f r h; exact hm _ _ (ih f r h)
  have huniq : ∀ f f' r r', g f = some r → g f' = some r' → r = r' := by
    intro f f' r r' h1 h2
    have a := hm2 f' f r h1
    have b := hm2 f f' r' h2
    rw [Nat.add_comm f' f] at b
    exact Option.some.inj (a.symm.trans b)
  unfold aLim
  by_cases hc : ∃ r f, g f = some r
  · rw [dif_pos hc]
    have hs := hc.choose_spec
    obtain ⟨f0, hf0⟩ := hs
    constructor
    · intro h
      exact ⟨f0, by rw [← Option.some.inj h]; exact hf0⟩
    · rintro ⟨f, hf⟩
      rw [huniq _ _ _ _ hf0 hf]
  · rw [dif_neg hc]
    constructor
    · intro h; cases h
    · rintro ⟨f, hf⟩
      exact absurd ⟨r, f, hf⟩ hc
theorem arun_mono {env : AEnv} {cd : Nat → Option AOp} {hd : AHd} : ∀ (f : Nat) (s : ASt) (r : AOut × AH), arun env cd hd f s = some r → arun env cd hd (f + 1) s = some r := by
  intro f
  induction f with
  | zero => intro s r h; cases h
  | succ f ih =>
    intro s r h
    rw [arun] at h ⊢
    cases hc : cd s.1 with
    | none => rw [hc] at h; cases h
    | some op =>
      rw [hc] at h
      dsimp only at h ⊢
      cases ho : op env s.2.1 s.2.2.1 s.2.2.2 with
      | none => rw [ho] at h; cases h
      | some x =>
        rw [ho] at h
        match x, h with
        | .inl s', h => exact ih s' r h
        | .inr (.inl v, h1), h => exact h
        | .inr (.inr E, h1), h =>
          dsimp only at h ⊢
          match hh : hd s.1 E with
          | none => rw [hh] at h; cases h
          | some none => rw [hh] at h; exact h
          | some (some q) => rw [hh] at h; exact ih _ r h
noncomputable def aR (env : AEnv) (cd : Nat → Option AOp) (hd : AHd) (s : ASt) : Option (AOut × AH) := aLim (fun f => arun env cd hd f s)
theorem aR_some {env : AEnv} {cd : Nat → Option AOp} {hd : AHd} {s : ASt} {r : AOut × AH} : aR env cd hd s = some r ↔ ∃ f, arun env cd hd f s = some r :=
  aLim_some (fun f r h => arun_mono f s r h)
theorem aR_ext {env : AEnv} {cd : Nat → Option AOp} {hd : AHd} {s : ASt} {x : Option (AOut × AH)} (h : ∀ r, (∃ f, arun env cd hd f s = some r) ↔ x = some r) : aR env cd hd s = x := by
  cases hx : x with
  | none =>
    cases hy : aR env cd hd s with
    | none => rfl
    | some r =>
      have := (h r).mp (aR_some.mp hy)
      rw [hx] at this; cases this
  | some r => exact aR_some.mpr ((h r).mpr hx)
/-- a step, as an equation -/
theorem aR_eq {env : AEnv} {cd : Nat → Option AOp} {hd : AHd} {pc : Nat} {ls : ALs} {st : List Value} {h : AH} {op : AOp} (hc : cd pc = some op) :
    aR env cd hd (pc, ls, st, h) = match op env ls st h with
      | none => none
      | some (.inl s') => aR env cd hd s'
      | some (.inr (.inl v, h')) => some (.inl v, h')
      | some (.inr (.inr E, h')) => match hd pc E with
        | none => none
        | some none => some (.inr E, h')
        | some (some q) => aR env cd hd (q.1, ls.set q.2 none, [], h') := by
  have key : ∀ (x : Option (AOut × AH)) (g : Nat → Option (AOut × AH)), (∀ f, arun env cd hd (f + 1) (pc, ls, st, h) = g f) → (∀ r, (∃ f, g f = some r) ↔ x = some r) → aR env cd hd (pc, ls, st, h) = x := by
    intro x g hg hx
    refine aR_ext fun r => ⟨?_, ?_⟩
    · rintro ⟨f, hf⟩
      cases f with
      | zero => cases hf
      | succ f => exact (hx r).mp ⟨f, by rw [← hg f]; exact hf⟩
    · intro h1
      obtain ⟨f, hf⟩ := (hx r).mpr h1
      exact ⟨f + 1, by rw [hg f]; exact hf⟩
  cases ho : op env ls st h with
  | none => exact key _ (fun _ => none) (fun f => by rw [arun]; simp only [hc, ho]) (fun r => ⟨fun ⟨_, q⟩ => q, fun q => ⟨0, q⟩⟩)
  | some z =>
    match z, ho with
    | .inl s', ho => exact key _ (fun f => arun env cd hd f s') (fun f => by rw [arun]; simp only [hc, ho]) (fun r => aR_some.symm)
    | .inr (.inl v, h1), ho => exact key _ (fun _ => some (.inl v, h1)) (fun f => by rw [arun]; simp only [hc, ho]) (fun r => ⟨fun ⟨_, q⟩ => q, fun q => ⟨0, q⟩⟩)
    | .inr (.inr E, h1), ho =>
      dsimp only
      match hh : hd pc E with
      | none => exact key _ (fun _ => none) (fun f => by rw [arun]; simp only [hc, ho, hh]) (fun r => ⟨fun ⟨_, q⟩ => q, fun q => ⟨0, q⟩⟩)
      | some none => exact key _ (fun _ => some (.inr E, h1)) (fun f => by rw [arun]; simp only [hc, ho, hh]) (fun r => ⟨fun ⟨_, q⟩ => q, fun q => ⟨0, q⟩⟩)
      | some (some q) => exact key _ (fun f => arun env cd hd f (q.1, ls.set q.2 none, [], h1)) (fun f => by rw [arun]; simp only [hc, ho, hh]) (fun r => aR_some.symm)
/-- a method: its code, its handlers, its locals -/
abbrev AMth : Type := (Nat → Option AOp) × AHd × Nat
def aEnt (nL : Nat) (as : List Value) : ALs := as.map some ++ List.replicate (nL - as.length) none
noncomputable def exec (T : Nat → AMth) : Nat → AEnv
  | 0 => fun _ _ _ => none
  | d + 1 => fun y as h => bif as.all isC1 && Nat.ble as.length (T y).2.2 then aR (exec T d) (T y).1 (T y).2.1 (0, aEnt (T y).2.2 as, [], h) else none
