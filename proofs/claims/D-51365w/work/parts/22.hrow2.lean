/-! THE HEAP'S ROWS: arrays, ends, calls -/
set_option maxRecDepth 100000
/-- a call: room for it, and what is left behind it -/
def hcall (w : hW) (f : Nat → Nat → Prop) : Prop := ∃ c1 s1 : Nat, c1 ≤ w.2.1 ∧ s1 ≤ w.2.2 ∧ f c1 s1
def hret (w : hW) (c1 s1 : Nat) (o : hO) (f : hW → Prop) : Prop := f (o, w.2.1 - c1, w.2.2 - s1)
theorem hret_mp {w : hW} {c1 s1 : Nat} {f : hW → Prop} {o : hO} {w' : hW} (h : hret w c1 s1 o f) (e : w' = (o, w.2.1 - c1, w.2.2 - s1)) : f w' := by
  subst e
  exact h
theorem hj0_inv {f : Prop} {b : (Prop) → Prop} (h : hjoin f b) : ∃ k : Prop, (k → f) ∧ b k := ⟨f, fun  h => h, hjoin_mp h⟩
theorem hj1_inv {α0 : Type} {f : α0 → Prop} {b : (α0 → Prop) → Prop} (h : hjoin f b) : ∃ k : α0 → Prop, (∀ x0, k x0 → f x0) ∧ b k := ⟨f, fun _ h => h, hjoin_mp h⟩
theorem hj2_inv {α0 : Type} {α1 : Type} {f : α0 → α1 → Prop} {b : (α0 → α1 → Prop) → Prop} (h : hjoin f b) : ∃ k : α0 → α1 → Prop, (∀ x0 x1, k x0 x1 → f x0 x1) ∧ b k := ⟨f, fun _ _ h => h, hjoin_mp h⟩
theorem hj3_inv {α0 : Type} {α1 : Type} {α2 : Type} {f : α0 → α1 → α2 → Prop} {b : (α0 → α1 → α2 → Prop) → Prop} (h : hjoin f b) : ∃ k : α0 → α1 → α2 → Prop, (∀ x0 x1 x2, k x0 x1 x2 → f x0 x1 x2) ∧ b k := ⟨f, fun _ _ _ h => h, hjoin_mp h⟩
theorem hj4_inv {α0 : Type} {α1 : Type} {α2 : Type} {α3 : Type} {f : α0 → α1 → α2 → α3 → Prop} {b : (α0 → α1 → α2 → α3 → Prop) → Prop} (h : hjoin f b) : ∃ k : α0 → α1 → α2 → α3 → Prop, (∀ x0 x1 x2 x3, k x0 x1 x2 x3 → f x0 x1 x2 x3) ∧ b k := ⟨f, fun _ _ _ _ h => h, hjoin_mp h⟩
theorem hj5_inv {α0 : Type} {α1 : Type} {α2 : Type} {α3 : Type} {α4 : Type} {f : α0 → α1 → α2 → α3 → α4 → Prop} {b : (α0 → α1 → α2 → α3 → α4 → Prop) → Prop} (h : hjoin f b) : ∃ k : α0 → α1 → α2 → α3 → α4 → Prop, (∀ x0 x1 x2 x3 x4, k x0 x1 x2 x3 x4 → f x0 x1 x2 x3 x4) ∧ b k := ⟨f, fun _ _ _ _ _ h => h, hjoin_mp h⟩
theorem hj6_inv {α0 : Type} {α1 : Type} {α2 : Type} {α3 : Type} {α4 : Type} {α5 : Type} {f : α0 → α1 → α2 → α3 → α4 → α5 → Prop} {b : (α0 → α1 → α2 → α3 → α4 → α5 → Prop) → Prop} (h : hjoin f b) : ∃ k : α0 → α1 → α2 → α3 → α4 → α5 → Prop, (∀ x0 x1 x2 x3 x4 x5, k x0 x1 x2 x3 x4 x5 → f x0 x1 x2 x3 x4 x5) ∧ b k := ⟨f, fun _ _ _ _ _ _ h => h, hjoin_mp h⟩
theorem hj7_inv {α0 : Type} {α1 : Type} {α2 : Type} {α3 : Type} {α4 : Type} {α5 : Type} {α6 : Type} {f : α0 → α1 → α2 → α3 → α4 → α5 → α6 → Prop} {b : (α0 → α1 → α2 → α3 → α4 → α5 → α6 → Prop) → Prop} (h : hjoin f b) : ∃ k : α0 → α1 → α2 → α3 → α4 → α5 → α6 → Prop, (∀ x0 x1 x2 x3 x4 x5 x6, k x0 x1 x2 x3 x4 x5 x6 → f x0 x1 x2 x3 x4 x5 x6) ∧ b k := ⟨f, fun _ _ _ _ _ _ _ h => h, hjoin_mp h⟩
def hOpt {α : Type} (r : Option α) (n : Prop) (f : α → Prop) : Prop := (r = none ∧ n) ∨ ∃ x, r = some x ∧ f x
theorem hOpt_inv {α : Type} {r : Option α} {n : Prop} {f : α → Prop} (h : hOpt r n f) : (r = none ∧ n) ∨ ∃ x, r = some x ∧ f x := h
theorem hcall_inv {w : hW} {f : Nat → Nat → Prop} (h : hcall w f) : ∃ c1 s1 : Nat, c1 ≤ w.2.1 ∧ s1 ≤ w.2.2 ∧ f c1 s1 := h
theorem hcall_of {w : hW} {f : Nat → Nat → Prop} (c1 s1 : Nat) (h1 : c1 ≤ w.2.1) (h2 : s1 ≤ w.2.2) (h : f c1 s1) : hcall w f := ⟨c1, s1, h1, h2, h⟩
theorem hret_of {w : hW} {c1 s1 : Nat} {f : hW → Prop} {o : hO} (h : f (o, w.2.1 - c1, w.2.2 - s1)) : hret w c1 s1 o f := h
theorem hjoin_of {α : Type} {k : α} {b : α → Prop} (h : b k) : hjoin k b := ⟨k, rfl, h⟩
theorem hOpt_none {α : Type} {n : Prop} {f : α → Prop} (h : n) : hOpt none n f := Or.inl ⟨rfl, h⟩
theorem hOpt_some {α : Type} {n : Prop} {f : α → Prop} {x : α} (h : f x) : hOpt (some x) n f := Or.inr ⟨x, rfl, h⟩
def hIf (c a b : Prop) : Prop := (c ∧ a) ∨ (¬ c ∧ b)
theorem hIf_pos {c a b : Prop} (hc : c) : hIf c a b = a := propext ⟨fun h => h.elim (fun z => z.2) (fun z => absurd hc z.1), fun h => Or.inl ⟨hc, h⟩⟩
theorem hIf_neg {c a b : Prop} (hc : ¬ c) : hIf c a b = b := propext ⟨fun h => h.elim (fun z => absurd z.1 hc) (fun z => z.2), fun h => Or.inr ⟨hc, h⟩⟩
theorem hIf_of {c a b : Prop} (h1 : c → a) (h2 : ¬ c → b) : hIf c a b := (Classical.em c).elim (fun hc => Or.inl ⟨hc, h1 hc⟩) (fun hc => Or.inr ⟨hc, h2 hc⟩)
def haL (t : Nat) (w : hW) (a : Nat) (i : Int32) : Option Int64 := match w.1 a with
  | some (_, .inr (t', n, .inr (.inl f))) => if t' = t ∧ ¬ (i < 0 ∨ n ≤ i.toNatClampNeg) then some (f i.toNatClampNeg) else none
  | _ => none
theorem haL_inv {t : Nat} {w : hW} {a : Nat} {i : Int32} {x : Int64} (h : haL t w a i = some x) : ∃ (b : Bool) (n : Nat) (f : Nat → Int64), w.1 a = some (b, .inr (t, n, .inr (.inl f))) ∧ ¬ (i < 0 ∨ n ≤ i.toNatClampNeg) ∧ x = f i.toNatClampNeg := by
  unfold haL at h
  split at h
  · rename_i b t' n f e
    obtain ⟨⟨h1, h2⟩, h3⟩ := if_inv h
    subst h1
    exact ⟨b, n, f, e, h2, h3.symm⟩
  · cases h
def hsL (t : Nat) (w : hW) (a : Nat) (i : Int32) (x : Int64) : Option hW := match w.1 a with
  | some (true, .inr (t', n, .inr (.inl f))) => if t' = t ∧ ¬ (i < 0 ∨ n ≤ i.toNatClampNeg) then some (hUp w.1 a (.inr (t, n, .inr (.inl (vp_updL f i.toNatClampNeg x)))), w.2) else none
  | _ => none
theorem hsL_inv {t : Nat} {w w' : hW} {a : Nat} {i : Int32} {x : Int64} (h : hsL t w a i x = some w') : ∃ (n : Nat) (f : Nat → Int64), w.1 a = some (true, .inr (t, n, .inr (.inl f))) ∧ ¬ (i < 0 ∨ n ≤ i.toNatClampNeg) ∧ w' = (hUp w.1 a (.inr (t, n, .inr (.inl (vp_updL f i.toNatClampNeg x)))), w.2) := by
  unfold hsL at h
  split at h
  · rename_i t' n f e
    obtain ⟨⟨h1, h2⟩, h3⟩ := if_inv h
    subst h1
    exact ⟨n, f, e, h2, h3.symm⟩
  · cases h
/-- an object's class -/
def hCls (w : hW) (a : Nat) : Option Nat := match w.1 a with
  | some (_, .inl (c, _)) => some c
  | _ => none
theorem hCls_inv {w : hW} {a c : Nat} (h : hCls w a = some c) : ∃ (b : Bool) (fs : List Value), w.1 a = some (b, .inl (c, fs)) := by
  unfold hCls at h
  split at h
  · rename_i b c' fs e
    cases h
    exact ⟨b, fs, e⟩
  · cases h
def hIs (w : hW) (a c : Nat) : Option Unit := if hCls w a = some c then some () else none
theorem hIs_inv {w : hW} {a c : Nat} {u : Unit} (h : hIs w a c = some u) : ∃ (b : Bool) (fs : List Value), w.1 a = some (b, .inl (c, fs)) := hCls_inv (if_inv h).1
/-- is it a cell -/
def hIsC (w : hW) (a : Nat) : Option Unit := match hCls w a with
  | some c => if 4 ≤ c ∧ c ≤ 9 then some () else none
  | none => none
theorem hIsC_inv {w : hW} {a : Nat} {u : Unit} (h : hIsC w a = some u) : ∃ (c : Nat) (b : Bool) (fs : List Value), (c = 4 ∨ c = 5 ∨ c = 6 ∨ c = 7 ∨ c = 8 ∨ c = 9) ∧ w.1 a = some (b, .inl (c, fs)) := by
  unfold hIsC at h
  split at h
  · rename_i c e
    obtain ⟨b, fs, e2⟩ := hCls_inv e
    exact ⟨c, b, fs, by have := (if_inv h).1; omega, e2⟩
  · cases h
/-- instanceof, among the cells' classes -/
def hInst (c : Nat) (w : hW) (a : Nat) : Option Int32 := match hCls w a with
  | some c' => if 4 ≤ c' ∧ c' ≤ 9 then some (if c' = c then 1 else 0) else none
  | none => none
theorem hInst_inv {c : Nat} {w : hW} {a : Nat} {x : Int32} (h : hInst c w a = some x) : ∃ (c' : Nat) (b : Bool) (fs : List Value), (c' = 4 ∨ c' = 5 ∨ c' = 6 ∨ c' = 7 ∨ c' = 8 ∨ c' = 9) ∧ w.1 a = some (b, .inl (c', fs)) ∧ x = if c' = c then 1 else 0 := by
  unfold hInst at h
  split at h
  · rename_i c' e
    obtain ⟨b, fs, e2⟩ := hCls_inv e
    obtain ⟨h1, h2⟩ := if_inv h
    exact ⟨c', b, fs, by omega, e2, h2.symm⟩
  · cases h
section HR2
variable {p : Program} {l : Launch} {e : Env} {R : Room} {s : State} {m : MethodId} {args : Array Value} {below : List Frame} {meth : Method} {c : Code} {H : Heap} {locs : List Loc} {cells slots : Nat} {Q : State → Prop}
variable {pc nL cb sb mc ms index c1 s1 : Nat} {ls : Array Slot} {rest st0 : List Value} {cc : ByteArray} {E : hEnv} {A : Nat → Prop} {w w' : hW} {a : Nat} {own : String}
theorem h_iald (F : CallFix p m c cc nL s args lw_all own) (hK : hK E A s) (S : hS E A s.heap cb sb w H locs) {i v : Int32} (h : haI 0 w a i = some v) (hdg : decode cc pc = .ok (.iaload, 1))
    (kk : W p l e R s m args below meth c H locs cells slots Q (F0 m (pc + 1) ls (.int v :: rest))) : W p l e R s m args below meth c H locs cells slots Q (F0 m pc ls (.int i :: .ref a :: rest)) := by
  obtain ⟨b, n, f, ho, h2, rfl⟩ := haI_inv h
  exact va_iald F.1 F.2.1 hK.1 (va_P1 (S.1.1.1 a b _ ho).1) 0 0 rfl rfl h2 hdg kk
theorem h_bald (F : CallFix p m c cc nL s args lw_all own) (hK : hK E A s) (S : hS E A s.heap cb sb w H locs) {i v : Int32} (h : haB w a i = some v) (hdg : decode cc pc = .ok (.baload, 1))
    (kk : W p l e R s m args below meth c H locs cells slots Q (F0 m (pc + 1) ls (.int v :: rest))) : W p l e R s m args below meth c H locs cells slots Q (F0 m pc ls (.int i :: .ref a :: rest)) := by
  obtain ⟨b, t, n, f, ho, ht, h2, rfl⟩ := haB_inv h
  rcases ht with rfl | rfl
  · exact va_zald F.1 F.2.1 hK.1 (va_P1 (S.1.1.1 a b _ ho).1) 0 1 rfl rfl h2 hdg kk
  · exact va_bald F.1 F.2.1 hK.1 (va_P1 (S.1.1.1 a b _ ho).1) 0 2 rfl rfl h2 hdg kk
theorem h_lald (F : CallFix p m c cc nL s args lw_all own) (hK : hK E A s) (S : hS E A s.heap cb sb w H locs) {i : Int32} {v : Int64} (h : haL 7 w a i = some v) (hdg : decode cc pc = .ok (.laload, 1))
    (kk : W p l e R s m args below meth c H locs cells slots Q (F0 m (pc + 1) ls (.long v :: rest))) : W p l e R s m args below meth c H locs cells slots Q (F0 m pc ls (.int i :: .ref a :: rest)) := by
  obtain ⟨b, n, f, ho, h2, rfl⟩ := haL_inv h
  exact va_lald F.1 F.2.1 hK.1 (va_P1 (S.1.1.1 a b _ ho).1) 0 7 rfl rfl h2 hdg kk
theorem h_aaldR (F : CallFix p m c cc nL s args lw_all own) (hK : hK E A s) (S : hS E A s.heap cb sb w H locs) {i : Int32} {v : Option Nat} (h : haR w a i = some v) (hdg : decode cc pc = .ok (.aaload, 1))
    (kk : W p l e R s m args below meth c H locs cells slots Q (F0 m (pc + 1) ls (va_rf v :: rest))) : W p l e R s m args below meth c H locs cells slots Q (F0 m pc ls (.int i :: .ref a :: rest)) := by
  obtain ⟨b, t, n, f, ho, ht, h2, rfl⟩ := haR_inv h
  have h3 : t = 4 ∨ t = 5 ∨ t = 6 := by omega
  rcases h3 with rfl | rfl | rfl
  · exact va_aldq (C := "java/lang/Object") F.1 F.2.1 hK.1 (va_P1 (S.1.1.1 a b _ ho).1) 0 4 rfl rfl h2 hdg kk
  · exact va_aldq (C := "MirrorDoors$World") F.1 F.2.1 hK.1 (va_P1 (S.1.1.1 a b _ ho).1) 0 5 rfl rfl h2 hdg kk
  · exact va_aldq (C := "MirrorDoors$Cell") F.1 F.2.1 hK.1 (va_P1 (S.1.1.1 a b _ ho).1) 0 6 rfl rfl h2 hdg kk
theorem h_aald (F : CallFix p m c cc nL s args lw_all own) (hK : hK E A s) (S : hS E A s.heap cb sb w H locs) {i : Int32} {v : Nat} (h : haP w a i = some v) (hdg : decode cc pc = .ok (.aaload, 1))
    (kk : W p l e R s m args below meth c H locs cells slots Q (F0 m (pc + 1) ls (.ref v :: rest))) : W p l e R s m args below meth c H locs cells slots Q (F0 m pc ls (.int i :: .ref a :: rest)) :=
  h_aaldR F hK S (haP_inv h) hdg kk
theorem h_alen (F : CallFix p m c cc nL s args lw_all own) (hK : hK E A s) (S : hS E A s.heap cb sb w H locs) {v : Int32} (h : hLen w a = some v) (hdg : decode cc pc = .ok (.arraylength, 1))
    (kk : W p l e R s m args below meth c H locs cells slots Q (F0 m (pc + 1) ls (.int v :: rest))) : W p l e R s m args below meth c H locs cells slots Q (F0 m pc ls (.ref a :: rest)) := by
  obtain ⟨b, t, n, f, ho, ht, rfl⟩ := hLen_inv h
  have hat := (S.1.1.1 a b _ ho).1
  have h8 : t = 0 ∨ t = 1 ∨ t = 2 ∨ t = 3 ∨ t = 4 ∨ t = 5 ∨ t = 6 ∨ t = 7 := by omega
  rcases h8 with rfl | rfl | rfl | rfl | rfl | rfl | rfl | rfl
  · exact va_alen F.1 F.2.1 hK.1 (va_P1 hat) 0 0 rfl rfl rfl hdg kk
  · exact va_alen F.1 F.2.1 hK.1 (va_P1 hat) 0 1 rfl rfl rfl hdg kk
  · exact va_alen F.1 F.2.1 hK.1 (va_P1 hat) 0 2 rfl rfl rfl hdg kk
  · exact va_alen F.1 F.2.1 hK.1 (va_P1 hat) 0 3 rfl rfl rfl hdg kk
  · exact va_alen F.1 F.2.1 hK.1 (va_P1 hat) 0 4 rfl rfl rfl hdg kk
  · exact va_alen F.1 F.2.1 hK.1 (va_P1 hat) 0 5 rfl rfl rfl hdg kk
  · exact va_alen F.1 F.2.1 hK.1 (va_P1 hat) 0 6 rfl rfl rfl hdg kk
  · exact va_alen F.1 F.2.1 hK.1 (va_P1 hat) 0 7 rfl rfl rfl hdg kk
end HR2
