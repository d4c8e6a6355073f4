/-! THE MODEL'S WORLD: one object and its arrays, by numbers: g 0 the fields, g j the array j -/
set_option maxRecDepth 100000
abbrev gCl : List vw_C := [(RX9, TX9, 31), (RX1, TX1, 7), (RX2, TX2, 12), (RX3, TX3, 9), (RX5, TX5, 1), (RX6, TX6, 2), (RX7, TX7, 6), (RX8, TX8, 3), (RX12, TX12, 2), (RX13, TX13, 2), (RX10, TX10, 6), (RX11, TX11, 8), (RJ1, TJ1, 3), (RJ18, TJ18, 3), (RJ3, TJ3, 4), (RJ4, TJ4, 4)]
abbrev mS : Type := Nat → Nat → Int32
abbrev mEnv : Type := va_G × (Nat → ClassId) × (Nat → Nat) × (Nat → Nat) × (Nat → Nat)
abbrev mad (E : mEnv) (j : Nat) : Nat := E.2.2.1 j
def mTy (j : Nat) : Nat := match j with
  | 0 => 4
  | 2 => 3
  | 3 => 3
  | 4 => 1
  | 7 => 3
  | 10 => 1
  | 12 => 2
  | 13 => 1
  | 17 => 1
  | n => if n < 36 then 0 else 5
def mLen (j : Nat) : Nat := match j with
  | 2 => 10
  | 3 => 2
  | 4 => 2
  | 7 => 4
  | 8 => 4
  | 9 => 4
  | 10 => 4
  | 11 => 600
  | 12 => 110
  | 13 => 400
  | 14 => 400
  | 15 => 400
  | 16 => 400
  | 17 => 400
  | 18 => 2
  | 19 => 400
  | _ => 606
def mFv (E : mEnv) (g : mS) (k : Nat) : Value := match k with
  | 1 => .ref (mad E 1)
  | 2 => .ref (mad E 2)
  | 4 => .ref (mad E 3)
  | 5 => .ref (mad E 4)
  | 6 => .ref (mad E 5)
  | 7 => .ref (mad E 6)
  | 8 => .ref (mad E 7)
  | 9 => .ref (mad E 8)
  | 10 => .ref (mad E 9)
  | 11 => .ref (mad E 10)
  | 12 => .ref (mad E 11)
  | 14 => .ref (mad E 12)
  | 16 => .ref (mad E 13)
  | 17 => .ref (mad E 14)
  | 18 => .ref (mad E 15)
  | 19 => .ref (mad E 16)
  | 20 => .ref (mad E 17)
  | 21 => .ref (mad E 18)
  | 22 => .ref (mad E 19)
  | n => .int (g 0 n)
def mCell (E : mEnv) (g : mS) (j : Nat) : va_E :=
  if mTy j = 0 then .inl (E.2.1 0, mLen j, .inl (g j)) else if mTy j = 1 then .inl (E.2.1 1, mLen j, .inl (g j)) else if mTy j = 2 then .inl (E.2.1 2, mLen j, .inl (g j))
  else if mTy j = 3 then .inl (E.2.1 3, mLen j, .inr (.inr (.inr (.inr (fun i => some (mad E (g j i).toNatClampNeg)))))) else .inr (0, (List.range 31).map (mFv E g))
def mW (E : mEnv) (g : mS) : va_W := (List.range 36).map fun j => (mad E j, mCell E g j)
def mP (E : mEnv) (g : mS) (H : Heap) : Prop := va_P E.1 gCl (mW E g) H
def mInj (E : mEnv) : Prop := ∀ i j : Nat, i < 36 → j < 36 → mad E i = mad E j → i = j
def mA (E : mEnv) : Nat → Prop := fun q => ∃ j : Nat, j < 36 ∧ q = mad E j
abbrev mTys (E : mEnv) : List (ClassId × FieldType) := [(E.2.1 0, .int), (E.2.1 1, .boolean), (E.2.1 2, .byte), (E.2.1 3, .array .int)]
/-- what the tables say of the arrays of arrays, and the texts that stay -/
def mOver (E : mEnv) (s : State) : Prop := ∃ (kA kC : Class), s.vm.classes[E.2.1 3]? = some kA ∧ kA.kind = .array (E.2.1 0) (.array .int) ∧ s.vm.classes[E.2.1 0]? = some kC
def mK (E : mEnv) (s : State) : Prop := va_K E.1 gCl (mTys E) s ∧ mOver E s
theorem mKm (E : mEnv) : gKm (mK E) (mA E) := by
  intro u U hW _ _ h
  refine ⟨va_K.moved hW.alike h.1, ?_⟩
  obtain ⟨kA, kC, h1, h2, h3⟩ := h.2
  obtain ⟨kA', a1, a2⟩ := hW.alike.2.2 _ _ h1
  obtain ⟨kC', b1, b2⟩ := hW.alike.2.2 _ _ h3
  exact ⟨kA', kC', a1, by rw [a2]; exact h2, b1⟩
def mUp (g : mS) (j i : Nat) (v : Int32) : mS := fun a => if a = j then upd (g j) i v else g a
theorem mUp_s {g : mS} {j i : Nat} {v : Int32} : mUp g j i v j = upd (g j) i v := if_pos rfl
theorem mUp_n {g : mS} {j i a : Nat} {v : Int32} (h : a ≠ j) : mUp g j i v a = g a := if_neg h
theorem mW_len (E : mEnv) (g : mS) : (mW E g).length = 36 := by simp [mW]
theorem mW_at (E : mEnv) (g : mS) {j : Nat} (hj : j < 36) : (mW E g)[j]? = some (mad E j, mCell E g j) := by
  simp [mW, hj]
theorem mTy_lt {j k : Nat} (h : mTy j = k) (hk : k < 5) : j < 36 := by
  by_cases hj : j < 36
  · exact hj
  · have : mTy j = 5 := by
      unfold mTy
      split <;> first | omega | (rw [if_neg hj])
    omega
theorem mD {E : mEnv} (hE : mInj E) (g : mS) : va_D (mA E) (mW E g) := by
  have key : ∀ (k : Nat) (q : Nat × va_E), (mW E g)[k]? = some q → k < 36 ∧ q.1 = mad E k := by
    intro k q h
    have hk : k < 36 := by rw [← mW_len E g]; exact (List.getElem?_eq_some_iff.mp h).1
    rw [mW_at E g hk] at h
    cases h
    exact ⟨hk, rfl⟩
  refine ⟨fun i j p q hi hj e => ?_, fun k q hk => ?_⟩
  · obtain ⟨a1, a2⟩ := key i p hi
    obtain ⟨b1, b2⟩ := key j q hj
    exact hE i j a1 b1 (by rw [← a2, ← b2]; exact e)
  · obtain ⟨a1, a2⟩ := key k q hk
    exact ⟨k, a1, a2⟩
theorem mCell_i {E : mEnv} {g : mS} {j : Nat} (h : mTy j = 0) : mCell E g j = .inl (E.2.1 0, mLen j, .inl (g j)) := by simp [mCell, h]
theorem mCell_z {E : mEnv} {g : mS} {j : Nat} (h : mTy j = 1) : mCell E g j = .inl (E.2.1 1, mLen j, .inl (g j)) := by simp [mCell, h]
theorem mCell_b {E : mEnv} {g : mS} {j : Nat} (h : mTy j = 2) : mCell E g j = .inl (E.2.1 2, mLen j, .inl (g j)) := by simp [mCell, h]
theorem mCell_r {E : mEnv} {g : mS} {j : Nat} (h : mTy j = 3) : mCell E g j = .inl (E.2.1 3, mLen j, .inr (.inr (.inr (.inr (fun i => some (mad E (g j i).toNatClampNeg)))))) := by simp [mCell, h]
theorem mCell_0 {E : mEnv} {g : mS} : mCell E g 0 = .inr (0, (List.range 31).map (mFv E g)) := by simp [mCell, mTy]
theorem mTy_c : ∀ k : Nat, k < 36 → k ≠ 0 → mTy k = 0 ∨ mTy k = 1 ∨ mTy k = 2 ∨ mTy k = 3 := by decide +kernel
theorem mCell_eq {E : mEnv} {g g' : mS} {k : Nat} (hk : k < 36) (h0 : k ≠ 0) (h : g' k = g k) : mCell E g' k = mCell E g k := by
  rcases mTy_c k hk h0 with e | e | e | e
  · rw [mCell_i e, mCell_i e, h]
  · rw [mCell_z e, mCell_z e, h]
  · rw [mCell_b e, mCell_b e, h]
  · rw [mCell_r e, mCell_r e, h]
theorem mFv_eq {E : mEnv} {g g' : mS} (h : g' 0 = g 0) : mFv E g' = mFv E g := by
  funext k
  unfold mFv
  split <;> first | rfl | rw [h]
theorem mCell_eq0 {E : mEnv} {g g' : mS} (h : g' 0 = g 0) : mCell E g' 0 = mCell E g 0 := by
  rw [mCell_0, mCell_0, mFv_eq h]
/-- a store into one cell -/
theorem mW_set {E : mEnv} {g g' : mS} {j : Nat} {x : va_E} (hx : mCell E g' j = x) (ho : ∀ a : Nat, a ≠ j → g' a = g a) : (mW E g).set j (mad E j, x) = mW E g' := by
  apply List.ext_getElem?
  intro k
  by_cases hl : k < 36
  · by_cases hk : k = j
    · subst hk
      rw [List.getElem?_set_self (by rw [mW_len]; exact hl), mW_at E g' hl, hx]
    · rw [List.getElem?_set_ne (Ne.symm hk), mW_at E g hl, mW_at E g' hl]
      by_cases h0 : k = 0
      · subst h0
        rw [mCell_eq0 (ho 0 hk)]
      · rw [mCell_eq hl h0 (ho k hk)]
  · rw [List.getElem?_eq_none (by rw [List.length_set, mW_len]; omega), List.getElem?_eq_none (by rw [mW_len]; omega)]
theorem mFv_up (E : mEnv) (g : mS) (k : Nat) (v : Int32) (hs : mFv E (mUp g 0 k v) k = .int v) : ((List.range 31).map (mFv E g)).set k (.int v) = (List.range 31).map (mFv E (mUp g 0 k v)) := by
  apply List.ext_getElem?
  intro a
  by_cases hl : a < 31
  · by_cases ha : a = k
    · subst ha
      rw [List.getElem?_set_self (by simp; exact hl)]
      simp [hl, hs]
    · rw [List.getElem?_set_ne (Ne.symm ha)]
      have e : mFv E (mUp g 0 k v) a = mFv E g a := by
        unfold mFv
        split <;> first | rfl | (rw [mUp_s]; simp [upd, ha])
      simp [hl, e]
  · rw [List.getElem?_eq_none (by simp; omega), List.getElem?_eq_none (by simp; omega)]
def mIn (g : mS) (j : Nat) (i : Int32) (t : Nat) : Prop := mTy j = t ∧ ¬ (i < 0 ∨ mLen j ≤ i.toNatClampNeg)
def rdI (g : mS) (j : Nat) (i : Int32) : Option Int32 := if mTy j = 0 ∧ ¬ (i < 0 ∨ mLen j ≤ i.toNatClampNeg) then some (g j i.toNatClampNeg) else none
def rdZ (g : mS) (j : Nat) (i : Int32) : Option Int32 := if mTy j = 1 ∧ ¬ (i < 0 ∨ mLen j ≤ i.toNatClampNeg) then some (g j i.toNatClampNeg) else none
def rdB (g : mS) (j : Nat) (i : Int32) : Option Int32 := if mTy j = 2 ∧ ¬ (i < 0 ∨ mLen j ≤ i.toNatClampNeg) then some (g j i.toNatClampNeg) else none
def rdR (g : mS) (j : Nat) (i : Int32) : Option Nat := if mTy j = 3 ∧ ¬ (i < 0 ∨ mLen j ≤ i.toNatClampNeg) then some (g j i.toNatClampNeg).toNatClampNeg else none
def wrI (g : mS) (j : Nat) (i v : Int32) : Option mS := if mTy j = 0 ∧ ¬ (i < 0 ∨ mLen j ≤ i.toNatClampNeg) then some (mUp g j i.toNatClampNeg v) else none
def wrZ (g : mS) (j : Nat) (i v : Int32) : Option mS := if mTy j = 1 ∧ ¬ (i < 0 ∨ mLen j ≤ i.toNatClampNeg) then some (mUp g j i.toNatClampNeg (vp_nar .boolean v)) else none
def wrB (g : mS) (j : Nat) (i v : Int32) : Option mS := if mTy j = 2 ∧ ¬ (i < 0 ∨ mLen j ≤ i.toNatClampNeg) then some (mUp g j i.toNatClampNeg (vp_nar .byte v)) else none
def wrR (g : mS) (j : Nat) (i : Int32) (J : Nat) : Option mS := if (mTy j = 3 ∧ mTy J = 0) ∧ ¬ (i < 0 ∨ mLen j ≤ i.toNatClampNeg) then some (mUp g j i.toNatClampNeg (nI J)) else none
def wrF (g : mS) (k : Nat) (v : Int32) : Option mS := some (mUp g 0 k v)
theorem if_inv {α : Type} {c : Prop} [Decidable c] {a r : α} (h : (if c then some a else none) = some r) : c ∧ a = r := by
  by_cases hc : c
  · rw [if_pos hc] at h
    exact ⟨hc, Option.some.inj h⟩
  · rw [if_neg hc] at h
    cases h
section MR
variable {p : Program} {l : Launch} {e : Env} {R : Room} {s : State} {m : MethodId} {args : Array Value} {below : List Frame} {meth : Method} {c : Code} {H : Heap} {locs : List Loc} {cells slots : Nat} {Q : State → Prop}
variable {pc nL : Nat} {ls : Array Slot} {rest : List Value} {cc : ByteArray} {E : mEnv} {g g' : mS}
theorem m_recv (hK : mK E s) (S : gS (mA E) s.heap (mP E g) H locs) : gRecv s H RX9 (mad E 0) :=
  va_recv hK.1 S.1 (ci := 0) (q0 := 0) rfl (by rw [mW_at E g (by omega), mCell_0])
theorem m_get (F : CallFix p m c cc nL s args lw_all RX9) (hK : mK E s) (S : gS (mA E) s.heap (mP E g) H locs) {k index : Nat} {v : Value} (hk : k < 31) (hlink : Cond.fieldLink RX9 index RX9 (TX9 k).2.1 (TX9 k).2.2.1 ∈ lw_all) (ho : (TX9 k).1 = RX9) (hv : mFv E g k = v) (hdg : decode cc pc = .ok (.getfield index, 3))
    (kk : W p l e R s m args below meth c H locs cells slots Q (F0 m (pc + 3) ls (v :: rest))) : W p l e R s m args below meth c H locs cells slots Q (F0 m pc ls (.ref (mad E 0) :: rest)) :=
  va_get (C := RX9) (T := TX9) (N := 31) (ci := 0) (ref := RX9) F.1 F.2.1 F.2.2.2.2 in_X9 F.2.2.2.1 hK.1 S.1 0 (by rw [mW_at E g (by omega), mCell_0]) rfl k hk (F.2.2.2.2 _ hlink) (fun x h => by rw [ho] at h; exact h) (v := v) (by rw [List.getElem?_map, List.getElem?_range hk]; exact congrArg some hv) hdg kk
theorem m_put (hE : mInj E) (F : CallFix p m c cc nL s args lw_all RX9) (hK : mK E s) (S : gS (mA E) s.heap (mP E g) H locs) {k index : Nat} {v : Int32} (hw : wrF g k v = some g') (hk : k < 31) (hlink : Cond.fieldLink RX9 index RX9 (TX9 k).2.1 (TX9 k).2.2.1 ∈ lw_all) (ho : (TX9 k).1 = RX9) (hfin : (TX9 k).2.2.2 = false) (hd : parseFieldDescriptor (TX9 k).2.2.1 = some .int) (hs : mFv E (mUp g 0 k v) k = .int v) (hdg : decode cc pc = .ok (.putfield index, 3))
    (kk : ∀ (H1 : Heap) (locs1 : List Loc), gS (mA E) s.heap (mP E g') H1 locs1 → W p l e R s m args below meth c H1 locs1 cells slots Q (F0 m (pc + 3) ls rest)) : W p l e R s m args below meth c H locs cells slots Q (F0 m pc ls (.int v :: .ref (mad E 0) :: rest)) := by
  cases hw
  refine va_put (C := RX9) (T := TX9) (N := 31) (ci := 0) (ref := RX9) F.1 F.2.1 F.2.2.2.2 in_X9 tyX9 tyX9_ok nmX9 F.2.2.2.1 hK.1 S.1 (mD hE g) S.2 0 (fs := (List.range 31).map (mFv E g)) (by rw [mW_at E g (by omega), mCell_0]) rfl k hk (F.2.2.2.2 _ hlink) (fun x h => by rw [ho] at h; exact h) hfin (ty := .int) (v := .int v) hd rfl rfl (by simp; exact hk) hdg fun H1 locs1 hP hD hS => kk H1 locs1 ⟨?_, hS⟩
  rw [mFv_up E g k v hs, mW_set (g' := mUp g 0 k v) mCell_0 (fun a h => mUp_n h)] at hP
  exact hP
theorem m_iald (F : CallFix p m c cc nL s args lw_all RX9) (hK : mK E s) (S : gS (mA E) s.heap (mP E g) H locs) {j : Nat} {i v : Int32} (hr : rdI g j i = some v) (hdg : decode cc pc = .ok (.iaload, 1))
    (kk : W p l e R s m args below meth c H locs cells slots Q (F0 m (pc + 1) ls (.int v :: rest))) : W p l e R s m args below meth c H locs cells slots Q (F0 m pc ls (.int i :: .ref (mad E j) :: rest)) := by
  obtain ⟨⟨h1, h2⟩, rfl⟩ := if_inv hr
  exact va_iald F.1 F.2.1 hK.1 S.1 j 0 (by rw [mW_at E g (mTy_lt h1 (by omega)), mCell_i h1]) rfl h2 hdg kk
theorem m_zald (F : CallFix p m c cc nL s args lw_all RX9) (hK : mK E s) (S : gS (mA E) s.heap (mP E g) H locs) {j : Nat} {i v : Int32} (hr : rdZ g j i = some v) (hdg : decode cc pc = .ok (.baload, 1))
    (kk : W p l e R s m args below meth c H locs cells slots Q (F0 m (pc + 1) ls (.int v :: rest))) : W p l e R s m args below meth c H locs cells slots Q (F0 m pc ls (.int i :: .ref (mad E j) :: rest)) := by
  obtain ⟨⟨h1, h2⟩, rfl⟩ := if_inv hr
  exact va_zald F.1 F.2.1 hK.1 S.1 j 1 (by rw [mW_at E g (mTy_lt h1 (by omega)), mCell_z h1]) rfl h2 hdg kk
theorem m_bald (F : CallFix p m c cc nL s args lw_all RX9) (hK : mK E s) (S : gS (mA E) s.heap (mP E g) H locs) {j : Nat} {i v : Int32} (hr : rdB g j i = some v) (hdg : decode cc pc = .ok (.baload, 1))
    (kk : W p l e R s m args below meth c H locs cells slots Q (F0 m (pc + 1) ls (.int v :: rest))) : W p l e R s m args below meth c H locs cells slots Q (F0 m pc ls (.int i :: .ref (mad E j) :: rest)) := by
  obtain ⟨⟨h1, h2⟩, rfl⟩ := if_inv hr
  exact va_bald F.1 F.2.1 hK.1 S.1 j 2 (by rw [mW_at E g (mTy_lt h1 (by omega)), mCell_b h1]) rfl h2 hdg kk
theorem m_aald (F : CallFix p m c cc nL s args lw_all RX9) (hK : mK E s) (S : gS (mA E) s.heap (mP E g) H locs) {j v : Nat} {i : Int32} (hr : rdR g j i = some v) (hdg : decode cc pc = .ok (.aaload, 1))
    (kk : W p l e R s m args below meth c H locs cells slots Q (F0 m (pc + 1) ls (.ref (mad E v) :: rest))) : W p l e R s m args below meth c H locs cells slots Q (F0 m pc ls (.int i :: .ref (mad E j) :: rest)) := by
  obtain ⟨⟨h1, h2⟩, rfl⟩ := if_inv hr
  have hlt : i.toNatClampNeg < mLen j := Nat.not_le.mp fun q => h2 (Or.inr q)
  have hc : H[mad E j]? = some (vp_cell (E.2.1 3) (mLen j, .inr (.inr (.inr (.inr (fun i => some (mad E (g j i).toNatClampNeg))))))) := S.1 j (mad E j, mCell E g j) (mW_at E g (mTy_lt h1 (by omega))) |> fun z => by rw [mCell_r h1] at z; exact z
  exact W.aald (v := .ref (mad E (g j i.toNatClampNeg).toNatClampNeg)) (ty := .array .int) F.1 F.2.1 hc ((hK.1.2 3 _ rfl).1 (mLen j) (fun k => va_rf (some (mad E (g j k).toNatClampNeg)))) rfl (fun q => by cases q) (by show ¬ (i < 0 ∨ (arrV _ _ _).slots.size ≤ _); rw [arrV_size]; exact h2) (by show (arrV _ _ _).slots[_]? = _; rw [arrV_read _ _ hlt]; rfl) rfl rfl hdg kk
theorem m_iast (hE : mInj E) (F : CallFix p m c cc nL s args lw_all RX9) (hK : mK E s) (S : gS (mA E) s.heap (mP E g) H locs) {j : Nat} {i v : Int32} (hr : wrI g j i v = some g') (hdg : decode cc pc = .ok (.iastore, 1))
    (kk : ∀ (H1 : Heap) (locs1 : List Loc), gS (mA E) s.heap (mP E g') H1 locs1 → W p l e R s m args below meth c H1 locs1 cells slots Q (F0 m (pc + 1) ls rest)) : W p l e R s m args below meth c H locs cells slots Q (F0 m pc ls (.int v :: .int i :: .ref (mad E j) :: rest)) := by
  obtain ⟨⟨h1, h2⟩, rfl⟩ := if_inv hr
  refine va_iast F.1 F.2.1 hK.1 S.1 (mD hE g) S.2 j 0 (by rw [mW_at E g (mTy_lt h1 (by omega)), mCell_i h1]) rfl h2 hdg fun H1 locs1 hP hD hS => kk H1 locs1 ⟨?_, hS⟩
  rw [mW_set (g' := mUp g j i.toNatClampNeg v) (by rw [mCell_i h1, mUp_s]) (fun a h => mUp_n h)] at hP
  exact hP
theorem m_zast (hE : mInj E) (F : CallFix p m c cc nL s args lw_all RX9) (hK : mK E s) (S : gS (mA E) s.heap (mP E g) H locs) {j : Nat} {i v : Int32} (hr : wrZ g j i v = some g') (hdg : decode cc pc = .ok (.bastore, 1))
    (kk : ∀ (H1 : Heap) (locs1 : List Loc), gS (mA E) s.heap (mP E g') H1 locs1 → W p l e R s m args below meth c H1 locs1 cells slots Q (F0 m (pc + 1) ls rest)) : W p l e R s m args below meth c H locs cells slots Q (F0 m pc ls (.int v :: .int i :: .ref (mad E j) :: rest)) := by
  obtain ⟨⟨h1, h2⟩, rfl⟩ := if_inv hr
  refine va_zast F.1 F.2.1 hK.1 S.1 (mD hE g) S.2 j 1 (by rw [mW_at E g (mTy_lt h1 (by omega)), mCell_z h1]) rfl h2 hdg fun H1 locs1 hP hD hS => kk H1 locs1 ⟨?_, hS⟩
  rw [mW_set (g' := mUp g j i.toNatClampNeg (vp_nar .boolean v)) (by rw [mCell_z h1, mUp_s]) (fun a h => mUp_n h)] at hP
  exact hP
theorem m_bast (hE : mInj E) (F : CallFix p m c cc nL s args lw_all RX9) (hK : mK E s) (S : gS (mA E) s.heap (mP E g) H locs) {j : Nat} {i v : Int32} (hr : wrB g j i v = some g') (hdg : decode cc pc = .ok (.bastore, 1))
    (kk : ∀ (H1 : Heap) (locs1 : List Loc), gS (mA E) s.heap (mP E g') H1 locs1 → W p l e R s m args below meth c H1 locs1 cells slots Q (F0 m (pc + 1) ls rest)) : W p l e R s m args below meth c H locs cells slots Q (F0 m pc ls (.int v :: .int i :: .ref (mad E j) :: rest)) := by
  obtain ⟨⟨h1, h2⟩, rfl⟩ := if_inv hr
  refine va_bast F.1 F.2.1 hK.1 S.1 (mD hE g) S.2 j 2 (by rw [mW_at E g (mTy_lt h1 (by omega)), mCell_b h1]) rfl h2 hdg fun H1 locs1 hP hD hS => kk H1 locs1 ⟨?_, hS⟩
  rw [mW_set (g' := mUp g j i.toNatClampNeg (vp_nar .byte v)) (by rw [mCell_b h1, mUp_s]) (fun a h => mUp_n h)] at hP
  exact hP
theorem m_aast (hE : mInj E) (F : CallFix p m c cc nL s args lw_all RX9) (hK : mK E s) (S : gS (mA E) s.heap (mP E g) H locs) {j J : Nat} {i : Int32} (hr : wrR g j i J = some g') (hdg : decode cc pc = .ok (.aastore, 1))
    (kk : ∀ (H1 : Heap) (locs1 : List Loc), gS (mA E) s.heap (mP E g') H1 locs1 → W p l e R s m args below meth c H1 locs1 cells slots Q (F0 m (pc + 1) ls rest)) : W p l e R s m args below meth c H locs cells slots Q (F0 m pc ls (.ref (mad E J) :: .int i :: .ref (mad E j) :: rest)) := by
  obtain ⟨⟨⟨h1, hJ⟩, h2⟩, rfl⟩ := if_inv hr
  have hlt : i.toNatClampNeg < mLen j := Nat.not_le.mp fun q => h2 (Or.inr q)
  have hj := mTy_lt h1 (by omega)
  have hJl := mTy_lt hJ (by omega)
  have hc : H[mad E j]? = some (vp_cell (E.2.1 3) (mLen j, .inr (.inr (.inr (.inr (fun i => some (mad E (g j i).toNatClampNeg))))))) := S.1 j (mad E j, mCell E g j) (mW_at E g hj) |> fun z => by rw [mCell_r h1] at z; exact z
  have hc2 : H[mad E J]? = some (vp_cell (E.2.1 0) (mLen J, .inl (g J))) := S.1 J (mad E J, mCell E g J) (mW_at E g hJl) |> fun z => by rw [mCell_i hJ] at z; exact z
  obtain ⟨kA, kC, k1, k2, k3⟩ := hK.2
  refine W.aast F.1 F.2.1 hc (fun q h => by cases h) (fun h => by cases h) k1 k2 rfl k3 ⟨fun q => h2 (Or.inl q), by show _ < (arrV _ _ _).slots.size; rw [arrV_size]; exact hlt⟩ hc2 (fun q h => by cases h) k3 (va_asg _ _) rfl rfl hdg fun H1 e1 z oq => ?_
  have hS := S.2.put (k := i.toNatClampNeg) z oq ⟨j, hj, rfl⟩
  refine kk H1 _ ⟨?_, hS⟩
  have hP := va_P.set (p := j) (e := .inl (E.2.1 3, mLen j, .inr (.inr (.inr (.inr (fun k => some (mad E (mUp g j i.toNatClampNeg (nI J) j k).toNatClampNeg))))))) S.1 (mD hE g) (mW_at E g hj) (by
    show H1[mad E j]? = some (vp_cell _ _)
    rw [e1, vp_cell_q, vp_cell_q, arrV_store]
    congr 2
    funext q
    by_cases hq : q = i.toNatClampNeg
    · subst hq
      simp [updV, mUp_s, upd, va_rf, nI_clamp (show J < 2 ^ 31 by omega)]
    · simp [updV, mUp_s, upd, hq]) oq
  rw [mW_set (g' := mUp g j i.toNatClampNeg (nI J)) (by rw [mCell_r h1]) (fun a h => mUp_n h)] at hP
  exact hP
end MR
