/-! THE HEAP AS A FUNCTION: any cells, by address; a method by what it needs ('wp'): hf_.. w args Q, Q the answer and the heap behind it -/
set_option maxRecDepth 100000
abbrev hC : Type := (Nat × List Value) ⊕ (Nat × vp_A)
abbrev hO : Type := Nat → Option (Bool × hC)
abbrev hW : Type := hO × Nat × Nat
abbrev hEnv : Type := va_G × (Nat → ClassId) × (Nat → Nat)
def hTr (E : hEnv) (e : hC) : va_E := match e with
  | .inl o => .inr o
  | .inr x => .inl (E.2.1 x.1, x.2)
def hP (E : hEnv) (A : Nat → Prop) (o : hO) (H : Heap) : Prop := (∀ (a : Nat) (w : Bool) (e : hC), o a = some (w, e) → va_at E.1 gCl (a, hTr E e) H ∧ (w = true → A a)) ∧ ∀ q : Nat, H.size ≤ q → o q = none
def hUp (o : hO) (a : Nat) (e : hC) : hO := fun q => if q = a then some (true, e) else o q
theorem hUp_s {o : hO} {a : Nat} {e : hC} : hUp o a e a = some (true, e) := if_pos rfl
theorem hUp_n {o : hO} {a q : Nat} {e : hC} (h : q ≠ a) : hUp o a e q = o q := if_neg h
abbrev hTys (E : hEnv) : List (ClassId × FieldType) := [(E.2.1 0, .int), (E.2.1 1, .boolean), (E.2.1 2, .byte), (E.2.1 3, .array .int), (E.2.1 4, .object "java/lang/Object"), (E.2.1 5, .object "MirrorDoors$World"), (E.2.1 6, .object "MirrorDoors$Cell"), (E.2.1 7, .long)]
/-- a store, or a new cell, behind it -/
theorem hP_up {E : hEnv} {A : Nat → Prop} {o : hO} {H H1 : Heap} {a : Nat} {e : hC} (h : hP E A o H) (he : va_at E.1 gCl (a, hTr E e) H1) (hA : A a) (hz : H.size ≤ H1.size) (oq : ∀ q : Nat, q < H.size → q ≠ a → H1[q]? = H[q]?) : hP E A (hUp o a e) H1 := by
  refine ⟨fun q w x hx => ?_, fun q hq => ?_⟩
  · by_cases hqa : q = a
    · subst hqa
      rw [hUp_s] at hx
      cases hx
      exact ⟨he, fun _ => hA⟩
    · rw [hUp_n hqa] at hx
      have h1 := h.1 q w x hx
      exact ⟨h1.1.kept (oq q h1.1.lt hqa), h1.2⟩
  · have h2 : a < H1.size := he.lt
    rw [hUp_n (by omega)]
    exact h.2 q (by omega)
/-- nothing known has changed -/
theorem hP_kept {E : hEnv} {A : Nat → Prop} {o : hO} {H H1 : Heap} (h : hP E A o H) (hz : H.size ≤ H1.size) (oq : ∀ q : Nat, q < H.size → H1[q]? = H[q]?) : hP E A o H1 :=
  ⟨fun q w x hx => ⟨(h.1 q w x hx).1.kept (oq q (h.1 q w x hx).1.lt), (h.1 q w x hx).2⟩, fun q hq => h.2 q (by omega)⟩
def obd {α : Type} (o : Option α) (f : α → Prop) : Prop := ∃ x, o = some x ∧ f x
theorem obd_inv {α : Type} {o : Option α} {f : α → Prop} (h : obd o f) : ∃ x, o = some x ∧ f x := h
theorem obd_of {α : Type} {o : Option α} {f : α → Prop} {x : α} (h : o = some x) (hf : f x) : obd o f := ⟨x, h, hf⟩
def hjoin {α : Type} (k : α) (b : α → Prop) : Prop := ∃ k' : α, k' = k ∧ b k'
theorem hjoin_mp {α : Type} {k : α} {b : α → Prop} (h : hjoin k b) : b k := by
  obtain ⟨k', rfl, h⟩ := h
  exact h
/-! reads -/
def hgV (o : hO) (a : Nat) (ci k : Nat) : Option Value := match o a with
  | some (_, .inl (c, fs)) => if c = ci then fs[k]? else none
  | _ => none
def hgI (w : hW) (a : Nat) (ci k : Nat) : Option Int32 := match hgV w.1 a ci k with
  | some (.int x) => some x
  | _ => none
def hgR (w : hW) (a : Nat) (ci k : Nat) : Option (Option Nat) := match hgV w.1 a ci k with
  | some (.ref x) => some (some x)
  | some .null => some none
  | _ => none
def hgP (w : hW) (a : Nat) (ci k : Nat) : Option Nat := match hgV w.1 a ci k with
  | some (.ref x) => some x
  | _ => none
theorem hgV_inv {o : hO} {a ci k : Nat} {v : Value} (h : hgV o a ci k = some v) : ∃ (b : Bool) (fs : List Value), o a = some (b, .inl (ci, fs)) ∧ fs[k]? = some v := by
  unfold hgV at h
  split at h
  · rename_i b c fs e
    by_cases hc : c = ci
    · rw [if_pos hc] at h
      subst hc
      exact ⟨b, fs, e, h⟩
    · rw [if_neg hc] at h
      cases h
  · cases h
theorem hgI_inv {w : hW} {a ci k : Nat} {x : Int32} (h : hgI w a ci k = some x) : ∃ (b : Bool) (fs : List Value), w.1 a = some (b, .inl (ci, fs)) ∧ fs[k]? = some (.int x) := by
  unfold hgI at h
  split at h
  · rename_i y e
    cases h
    exact hgV_inv e
  · cases h
theorem hgP_inv {w : hW} {a ci k : Nat} {x : Nat} (h : hgP w a ci k = some x) : ∃ (b : Bool) (fs : List Value), w.1 a = some (b, .inl (ci, fs)) ∧ fs[k]? = some (.ref x) := by
  unfold hgP at h
  split at h
  · rename_i y e
    cases h
    exact hgV_inv e
  · cases h
theorem hgR_inv {w : hW} {a ci k : Nat} {x : Option Nat} (h : hgR w a ci k = some x) : ∃ (b : Bool) (fs : List Value), w.1 a = some (b, .inl (ci, fs)) ∧ fs[k]? = some (va_rf x) := by
  unfold hgR at h
  split at h
  · rename_i y e
    cases h
    exact hgV_inv e
  · rename_i e
    cases h
    exact hgV_inv e
  · cases h
def hpV (w : hW) (a : Nat) (ci k : Nat) (v : Value) : Option hW := match w.1 a with
  | some (true, .inl (c, fs)) => if c = ci ∧ k < fs.length then some (hUp w.1 a (.inl (ci, fs.set k v)), w.2) else none
  | _ => none
theorem hpV_inv {w w' : hW} {a ci k : Nat} {v : Value} (h : hpV w a ci k v = some w') : ∃ fs : List Value, w.1 a = some (true, .inl (ci, fs)) ∧ k < fs.length ∧ w' = (hUp w.1 a (.inl (ci, fs.set k v)), w.2) := by
  unfold hpV at h
  split at h
  · rename_i c fs e
    by_cases hc : c = ci ∧ k < fs.length
    · rw [if_pos hc] at h
      obtain ⟨hc1, hc2⟩ := hc
      subst hc1
      exact ⟨fs, e, hc2, (Option.some.inj h).symm⟩
    · rw [if_neg hc] at h
      cases h
  · cases h
def haI (t : Nat) (w : hW) (a : Nat) (i : Int32) : Option Int32 := match w.1 a with
  | some (_, .inr (t', n, .inl f)) => if t' = t ∧ ¬ (i < 0 ∨ n ≤ i.toNatClampNeg) then some (f i.toNatClampNeg) else none
  | _ => none
theorem haI_inv {t : Nat} {w : hW} {a : Nat} {i x : Int32} (h : haI t w a i = some x) : ∃ (b : Bool) (n : Nat) (f : Nat → Int32), w.1 a = some (b, .inr (t, n, .inl f)) ∧ ¬ (i < 0 ∨ n ≤ i.toNatClampNeg) ∧ x = f i.toNatClampNeg := by
  unfold haI at h
  split at h
  · rename_i b t' n f e
    obtain ⟨⟨h1, h2⟩, h3⟩ := if_inv h
    subst h1
    exact ⟨b, n, f, e, h2, h3.symm⟩
  · cases h
def haR (w : hW) (a : Nat) (i : Int32) : Option (Option Nat) := match w.1 a with
  | some (_, .inr (t, n, .inr (.inr (.inr (.inr f))))) => if (4 ≤ t ∧ t ≤ 6) ∧ ¬ (i < 0 ∨ n ≤ i.toNatClampNeg) then some (f i.toNatClampNeg) else none
  | _ => none
theorem haR_inv {w : hW} {a : Nat} {i : Int32} {x : Option Nat} (h : haR w a i = some x) : ∃ (b : Bool) (t n : Nat) (f : Nat → Option Nat), w.1 a = some (b, .inr (t, n, .inr (.inr (.inr (.inr f))))) ∧ (4 ≤ t ∧ t ≤ 6) ∧ ¬ (i < 0 ∨ n ≤ i.toNatClampNeg) ∧ x = f i.toNatClampNeg := by
  unfold haR at h
  split at h
  · rename_i b t n f e
    obtain ⟨⟨h1, h2⟩, h3⟩ := if_inv h
    exact ⟨b, t, n, f, e, h1, h2, h3.symm⟩
  · cases h
def haP (w : hW) (a : Nat) (i : Int32) : Option Nat := match haR w a i with
  | some (some x) => some x
  | _ => none
theorem haP_inv {w : hW} {a x : Nat} {i : Int32} (h : haP w a i = some x) : haR w a i = some (some x) := by
  unfold haP at h
  split at h
  · rename_i y e
    cases h
    exact e
  · cases h
/-- a row of bytes or of truth values -/
def haB (w : hW) (a : Nat) (i : Int32) : Option Int32 := match w.1 a with
  | some (_, .inr (t, n, .inl f)) => if (t = 1 ∨ t = 2) ∧ ¬ (i < 0 ∨ n ≤ i.toNatClampNeg) then some (f i.toNatClampNeg) else none
  | _ => none
theorem haB_inv {w : hW} {a : Nat} {i x : Int32} (h : haB w a i = some x) : ∃ (b : Bool) (t n : Nat) (f : Nat → Int32), w.1 a = some (b, .inr (t, n, .inl f)) ∧ (t = 1 ∨ t = 2) ∧ ¬ (i < 0 ∨ n ≤ i.toNatClampNeg) ∧ x = f i.toNatClampNeg := by
  unfold haB at h
  split at h
  · rename_i b t n f e
    obtain ⟨⟨h1, h2⟩, h3⟩ := if_inv h
    exact ⟨b, t, n, f, e, h1, h2, h3.symm⟩
  · cases h
def hsB (w : hW) (a : Nat) (i x : Int32) : Option hW := match w.1 a with
  | some (true, .inr (t, n, .inl f)) => if (t = 1 ∨ t = 2) ∧ ¬ (i < 0 ∨ n ≤ i.toNatClampNeg) then some (hUp w.1 a (.inr (t, n, .inl (upd f i.toNatClampNeg (if t = 1 then vp_nar .boolean x else vp_nar .byte x)))), w.2) else none
  | _ => none
theorem hsB_inv {w w' : hW} {a : Nat} {i x : Int32} (h : hsB w a i x = some w') : ∃ (t n : Nat) (f : Nat → Int32), w.1 a = some (true, .inr (t, n, .inl f)) ∧ (t = 1 ∨ t = 2) ∧ ¬ (i < 0 ∨ n ≤ i.toNatClampNeg) ∧ w' = (hUp w.1 a (.inr (t, n, .inl (upd f i.toNatClampNeg (if t = 1 then vp_nar .boolean x else vp_nar .byte x)))), w.2) := by
  unfold hsB at h
  split at h
  · rename_i t n f e
    obtain ⟨⟨h1, h2⟩, h3⟩ := if_inv h
    exact ⟨t, n, f, e, h1, h2, h3.symm⟩
  · cases h
def hsI (t : Nat) (w : hW) (a : Nat) (i x : Int32) : Option hW := match w.1 a with
  | some (true, .inr (t', n, .inl f)) => if t' = t ∧ ¬ (i < 0 ∨ n ≤ i.toNatClampNeg) then some (hUp w.1 a (.inr (t, n, .inl (upd f i.toNatClampNeg x))), w.2) else none
  | _ => none
theorem hsI_inv {t : Nat} {w w' : hW} {a : Nat} {i x : Int32} (h : hsI t w a i x = some w') : ∃ (n : Nat) (f : Nat → Int32), w.1 a = some (true, .inr (t, n, .inl f)) ∧ ¬ (i < 0 ∨ n ≤ i.toNatClampNeg) ∧ w' = (hUp w.1 a (.inr (t, n, .inl (upd f i.toNatClampNeg x))), w.2) := by
  unfold hsI at h
  split at h
  · rename_i t' n f e
    obtain ⟨⟨h1, h2⟩, h3⟩ := if_inv h
    subst h1
    exact ⟨n, f, e, h2, h3.symm⟩
  · cases h
/-- may an object of the class c lie in an array of the type t -/
def hAsg (t c : Nat) : Bool := (t == 5 && c == 3) || (t == 6 && (4 ≤ c && c ≤ 9)) || (t == 4 && (3 ≤ c && c ≤ 9))
def hElt (o : hO) (t : Nat) (x : Option Nat) : Bool := match x with
  | none => true
  | some b => match o b with
    | some (_, .inl (c, _)) => hAsg t c
    | _ => false
def hsR (w : hW) (a : Nat) (i : Int32) (x : Option Nat) : Option hW := match w.1 a with
  | some (true, .inr (t, n, .inr (.inr (.inr (.inr f))))) => if ((4 ≤ t ∧ t ≤ 6) ∧ hElt w.1 t x = true) ∧ ¬ (i < 0 ∨ n ≤ i.toNatClampNeg) then some (hUp w.1 a (.inr (t, n, .inr (.inr (.inr (.inr (va_up f i.toNatClampNeg x)))))), w.2) else none
  | _ => none
theorem hsR_inv {w w' : hW} {a : Nat} {i : Int32} {x : Option Nat} (h : hsR w a i x = some w') : ∃ (t n : Nat) (f : Nat → Option Nat), w.1 a = some (true, .inr (t, n, .inr (.inr (.inr (.inr f))))) ∧ (4 ≤ t ∧ t ≤ 6) ∧ hElt w.1 t x = true ∧ ¬ (i < 0 ∨ n ≤ i.toNatClampNeg) ∧ w' = (hUp w.1 a (.inr (t, n, .inr (.inr (.inr (.inr (va_up f i.toNatClampNeg x)))))), w.2) := by
  unfold hsR at h
  split at h
  · rename_i t n f e
    obtain ⟨⟨⟨h1, h0⟩, h2⟩, h3⟩ := if_inv h
    exact ⟨t, n, f, e, h1, h0, h2, h3.symm⟩
  · cases h
def hLen (w : hW) (a : Nat) : Option Int32 := match w.1 a with
  | some (_, .inr (t, n, _)) => if t < 8 then some (nI n) else none
  | _ => none
theorem hLen_inv {w : hW} {a : Nat} {x : Int32} (h : hLen w a = some x) : ∃ (b : Bool) (t n : Nat) (f : _), w.1 a = some (b, .inr (t, n, f)) ∧ t < 8 ∧ x = nI n := by
  unfold hLen at h
  split at h
  · rename_i b t n f e
    obtain ⟨h1, h2⟩ := if_inv h
    exact ⟨b, t, n, f, e, h1, h2.symm⟩
  · cases h
def hNew (w : hW) (e : hC) (n : Nat) (f : Nat → hW → Prop) : Prop := 1 ≤ w.2.1 ∧ n ≤ w.2.2 ∧ ∀ q : Nat, w.1 q = none → f q (hUp w.1 q e, w.2.1 - 1, w.2.2 - n)
def hNewI (t : Nat) (w : hW) (n : Int32) (f : Nat → hW → Prop) : Prop := (¬ n < 0 ∧ n.toNatClampNeg ≤ 1000000) ∧ hNew w (.inr (t, n.toNatClampNeg, .inl (fun _ => 0))) n.toNatClampNeg f
def hNewR (t : Nat) (w : hW) (n : Int32) (f : Nat → hW → Prop) : Prop := (¬ n < 0 ∧ n.toNatClampNeg ≤ 1000000) ∧ hNew w (.inr (t, n.toNatClampNeg, .inr (.inr (.inr (.inr (fun _ => none)))))) n.toNatClampNeg f
/-- the world of a walk: the heap, and the room that is left -/
def hS (E : hEnv) (A : Nat → Prop) (H0 : Heap) (cb sb : Nat) (w : hW) (H : Heap) (locs : List Loc) : Prop := (hP E A w.1 H ∧ va_S A H0 H locs) ∧ w.2.1 ≤ cb ∧ w.2.2 ≤ sb
abbrev hQi (E : hEnv) (A : Nat → Prop) (Q : Int32 → hO → Prop) : Array Value → State → Outcome → State → Prop := va_Qi Q (fun o t => hP E A o t.heap) A
abbrev hQv (E : hEnv) (A : Nat → Prop) (Q : hO → Prop) : Array Value → State → Outcome → State → Prop := va_Qv Q (fun o t => hP E A o t.heap) A
abbrev hQp (E : hEnv) (A : Nat → Prop) (Q : Nat → hO → Prop) : Array Value → State → Outcome → State → Prop := va_Qr (fun _ => True) (fun o a t => Q a o ∧ hP E A o t.heap) A
abbrev hQr (E : hEnv) (A : Nat → Prop) (Q : Option Nat → hO → Prop) : Array Value → State → Outcome → State → Prop := va_Qq Q (fun o t => hP E A o t.heap) A
theorem va_rf_cat (r : Option Nat) : (va_rf r).category = 1 := by cases r <;> rfl
