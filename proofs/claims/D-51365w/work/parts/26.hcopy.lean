/-! THE HEAP'S ROWS: copies -/
set_option maxRecDepth 100000
def hCpB (w : hW) (a0 : Nat) (sp : Int32) (a : Nat) (dp n : Int32) : Option hW := match w.1 a0, w.1 a with
  | some (_, .inr (t0, n0, .inl f)), some (true, .inr (t1, n1, .inl g)) => if (t0 = 2 ∧ t1 = 2) ∧ (¬ sp < 0 ∧ ¬ dp < 0 ∧ ¬ n < 0 ∧ sp.toNatClampNeg + n.toNatClampNeg ≤ n0 ∧ dp.toNatClampNeg + n.toNatClampNeg ≤ n1) ∧ (∀ i, i < n.toNatClampNeg → fits .byte (.int (f (sp.toNatClampNeg + i))) = true) then some (hUp w.1 a (.inr (2, n1, .inl (va_cpy f g sp.toNatClampNeg dp.toNatClampNeg n.toNatClampNeg))), w.2) else none
  | _, _ => none
theorem hCpB_inv {w w' : hW} {a0 a : Nat} {sp dp n : Int32} (h : hCpB w a0 sp a dp n = some w') : ∃ (b : Bool) (n0 n1 : Nat) (f g : Nat → Int32), w.1 a0 = some (b, .inr (2, n0, .inl f)) ∧ w.1 a = some (true, .inr (2, n1, .inl g)) ∧ (¬ sp < 0 ∧ ¬ dp < 0 ∧ ¬ n < 0 ∧ sp.toNatClampNeg + n.toNatClampNeg ≤ n0 ∧ dp.toNatClampNeg + n.toNatClampNeg ≤ n1) ∧ (∀ i, i < n.toNatClampNeg → fits .byte (.int (f (sp.toNatClampNeg + i))) = true) ∧ w' = (hUp w.1 a (.inr (2, n1, .inl (va_cpy f g sp.toNatClampNeg dp.toNatClampNeg n.toNatClampNeg))), w.2) := by
  unfold hCpB at h
  split at h
  · rename_i b t0 n0 f t1 n1 g e1 e2
    obtain ⟨⟨⟨h1, h1'⟩, h2, h3⟩, h4⟩ := if_inv h
    subst h1 h1'
    exact ⟨b, n0, n1, f, g, e1, e2, h2, h3, h4.symm⟩
  · cases h
/-- all of a row's elements are of one class, which may lie in the other row -/
def hElts (o : hO) (t c : Nat) (f : Nat → Option Nat) (sp n : Nat) : Bool := hAsg t c && (List.range n).all fun i => match f (sp + i) with
  | none => true
  | some y => match o y with
    | some (_, .inl (c', _)) => c' == c
    | _ => false
theorem hElts_inv {o : hO} {t c : Nat} {f : Nat → Option Nat} {sp n : Nat} (h : hElts o t c f sp n = true) : hAsg t c = true ∧ ∀ i, i < n → ∀ y, f (sp + i) = some y → ∃ (b : Bool) (fs : List Value), o y = some (b, .inl (c, fs)) := by
  unfold hElts at h
  rw [Bool.and_eq_true, List.all_eq_true] at h
  refine ⟨h.1, fun i hi y hy => ?_⟩
  have h2 := h.2 i (List.mem_range.mpr hi)
  rw [hy] at h2
  simp only at h2
  split at h2
  · rename_i b c' fs e
    rw [e, eq_of_beq h2]
    exact ⟨b, fs, rfl⟩
  · cases h2
/-- with the elements' class -/
def hCpR (c : Nat) (w : hW) (a0 : Nat) (sp : Int32) (a : Nat) (dp n : Int32) : Option hW := match w.1 a0, w.1 a with
  | some (_, .inr (t0, n0, .inr (.inr (.inr (.inr f))))), some (true, .inr (t1, n1, .inr (.inr (.inr (.inr g))))) => if (t0 = 4 ∧ t1 = 4) ∧ (¬ sp < 0 ∧ ¬ dp < 0 ∧ ¬ n < 0 ∧ sp.toNatClampNeg + n.toNatClampNeg ≤ n0 ∧ dp.toNatClampNeg + n.toNatClampNeg ≤ n1) ∧ hElts w.1 4 c f sp.toNatClampNeg n.toNatClampNeg = true then some (hUp w.1 a (.inr (4, n1, .inr (.inr (.inr (.inr (va_cpy f g sp.toNatClampNeg dp.toNatClampNeg n.toNatClampNeg)))))), w.2) else none
  | _, _ => none
theorem hCpR_inv {c : Nat} {w w' : hW} {a0 a : Nat} {sp dp n : Int32} (h : hCpR c w a0 sp a dp n = some w') : ∃ (b : Bool) (n0 n1 : Nat) (f g : Nat → Option Nat), w.1 a0 = some (b, .inr (4, n0, .inr (.inr (.inr (.inr f))))) ∧ w.1 a = some (true, .inr (4, n1, .inr (.inr (.inr (.inr g))))) ∧ (¬ sp < 0 ∧ ¬ dp < 0 ∧ ¬ n < 0 ∧ sp.toNatClampNeg + n.toNatClampNeg ≤ n0 ∧ dp.toNatClampNeg + n.toNatClampNeg ≤ n1) ∧ hElts w.1 4 c f sp.toNatClampNeg n.toNatClampNeg = true ∧ w' = (hUp w.1 a (.inr (4, n1, .inr (.inr (.inr (.inr (va_cpy f g sp.toNatClampNeg dp.toNatClampNeg n.toNatClampNeg)))))), w.2) := by
  unfold hCpR at h
  split at h
  · rename_i b t0 n0 f t1 n1 g e1 e2
    obtain ⟨⟨⟨h1, h1'⟩, h2, h3⟩, h4⟩ := if_inv h
    subst h1 h1'
    exact ⟨b, n0, n1, f, g, e1, e2, h2, h3, h4.symm⟩
  · cases h
/-- a clone of a row of bytes -/
def hClB (w : hW) (a : Nat) (f : Nat → hW → Prop) : Prop := ∃ (b : Bool) (n : Nat) (g : Nat → Int32), w.1 a = some (b, .inr (2, n, .inl g)) ∧ (∀ i, i < n → fits .byte (.int (g i)) = true) ∧ hNew w (.inr (2, n, .inl g)) n f
section HR6
variable {p : Program} {l : Launch} {e : Env} {R : Room} {s : State} {m : MethodId} {args : Array Value} {below : List Frame} {meth : Method} {c : Code} {H : Heap} {locs : List Loc} {cells slots : Nat} {Q : State → Prop}
variable {pc nL cb sb index : Nat} {ls : Array Slot} {rest : List Value} {cc : ByteArray} {E : hEnv} {A : Nat → Prop} {w w' : hW} {a a0 : Nat} {own : String}
theorem h_nn (z : Int32) (hz : ¬ z < 0) : z.toInt = (z.toNatClampNeg : Int) := by
  have hz0 : (0 : Int) ≤ z.toInt := by
    have := Int32.not_lt.mp hz
    simpa using Int32.le_iff_toInt_le.mp this
  show z.toInt = ((z.toInt.toNat : Nat) : Int)
  omega
/-- a cell is written whole, behind it -/
theorem hS_cell {e1 : hC} {x : Cell} {L : List Loc} (S : hS E A s.heap cb sb w H locs) (hA : A a) (hl : a < H.size) (hat : va_at E.1 gCl (a, hTr E e1) (H.setIfInBounds a x)) (hL : ∀ z ∈ L, z.base = a) : hS E A s.heap cb sb (hUp w.1 a e1, w.2) (H.setIfInBounds a x) (locs ++ L) := by
  have oq : ∀ q : Nat, q ≠ a → (H.setIfInBounds a x)[q]? = H[q]? := fun q hq => by simp [Array.getElem?_setIfInBounds, Ne.symm hq]
  refine ⟨⟨hP_up S.1.1 hat hA (by simp) (fun q _ h => oq q h), ⟨by simp; exact S.1.2.1, fun q g1 g2 => ?_, fun q hq => ?_⟩⟩, S.2⟩
  · rw [oq q (fun e => g2 (by rw [e]; exact hA))]
    exact S.1.2.2.1 q g1 g2
  · rcases List.mem_append.mp hq with h | h
    · exact S.1.2.2.2 q h
    · rw [hL q h]
      exact hA
theorem h_copyB {sp dp n : Int32} (F : CallFix p m c cc nL s args lw_all own) (hK : hK E A s) (S : hS E A s.heap cb sb w H locs) (h : hCpB w a0 sp a dp n = some w') (hls : ls.size = nL) (hlink : Cond.methodLink own index arraycopyName ∈ lw_all) (hnat : Cond.native arraycopyName ∈ lw_all) (hstat : Cond.static arraycopyName ∈ lw_all) (hini : Cond.initialized "java/lang/System" ∈ lw_all)
    (hframes : 1 ≤ R.frames) (hlocals : (rest.map fun v => v.category).sum + (nativeFrameWords "java/lang/System" "arraycopy" 5 + 11) ≤ R.locals) (hdg : decode cc pc = .ok (.invokestatic index, 3))
    (kk : ∀ (H1 : Heap) (locs1 : List Loc), hS E A s.heap cb sb w' H1 locs1 → W p l e R s m args below meth c H1 locs1 (cb - w'.2.1) (sb - w'.2.2) Q (F0 m (pc + 3) ls rest)) : W p l e R s m args below meth c H locs (cb - w.2.1) (sb - w.2.2) Q (F0 m pc ls (.int n :: .int dp :: .ref a :: .int sp :: .ref a0 :: rest)) := by
  obtain ⟨b, n0, n1, f, g, ho0, ho1, ⟨h1, h2, h3, h4, h5⟩, hfit, rfl⟩ := hCpB_inv h
  intro T hT X
  have hat1 := S.1.1.1 a true _ ho1
  have hc0 : H[a0]? = some (vp_cell (E.2.1 2) (n0, .inl f)) := (S.1.1.1 a0 b _ ho0).1
  have hc1 : H[a]? = some (vp_cell (E.2.1 2) (n1, .inl g)) := hat1.1
  obtain ⟨-, k0, hk0, cm0, hkk0⟩ := (hK.1.2 2 _ rfl).1 n0 (fun j => .int (f j))
  obtain ⟨-, k1, hk1, cm1, hkk1⟩ := (hK.1.2 2 _ rfl).1 n1 (fun j => .int (g j))
  obtain ⟨vm', X', step⟩ := X.arraycopy F.1 F.2.2.2.1 (F.2.2.2.2 _ hlink) (F.2.2.2.2 _ hnat) (F.2.2.2.2 _ hstat) (F.2.2.2.2 _ hini) (src := a0) (dst := a) (cs := vp_cell (E.2.1 2) (n0, .inl f)) (cd := vp_cell (E.2.1 2) (n1, .inl g)) (srcPos := sp) (destPos := dp) (n := n) (by rw [hT]; exact hc0) (by rw [hT]; exact hc1)
    (fun _ h => by cases h) (fun _ h => by cases h) (fun h => by cases h) (fun h => by cases h) hk0 hk1 hkk0 hkk1 (by simp [refKind]) h1 h2 h3
    (by rw [h_nn sp h1, h_nn n h3]; show ¬ _ > ((arrV (E.2.1 2) n0 (fun j => .int (f j))).slots.size : Int); rw [arrV_size]; omega)
    (by rw [h_nn dp h2, h_nn n h3]; show ¬ _ > ((arrV (E.2.1 2) n1 (fun j => .int (g j))).slots.size : Int); rw [arrV_size]; omega)
    (fun vm₁ hal i hi => by
      have e : (vp_cell (E.2.1 2) (n0, .inl f)).slots.getD (sp.toNatClampNeg + i) .null = .int (f (sp.toNatClampNeg + i)) := by
        show (arrV (E.2.1 2) n0 (fun j => .int (f j))).slots.getD _ _ = _
        rw [Array.getD_eq_getD_getElem?, arrV_read _ _ (by omega)]
        rfl
      rw [e]
      exact ⟨hfit i hi, trivial⟩)
    (g := F0 m pc ls (.int n :: .int dp :: .ref a :: .int sp :: .ref a0 :: rest)) rfl (by rw [F.2.2.1]; exact hls) (rest := rest) rfl (by rw [F.2.1]; exact hdg) hframes (by show 2 * 0 + _ + _ ≤ _; omega)
  have e1 : copied (vp_cell (E.2.1 2) (n0, .inl f)) (vp_cell (E.2.1 2) (n1, .inl g)) sp dp n = vp_cell (E.2.1 2) (n1, .inl (va_cpy f g sp.toNatClampNeg dp.toNatClampNeg n.toNatClampNeg)) := by
    rw [vp_cell_i, vp_cell_i, vp_cell_i]
    exact va_copied (fun z => .int (z)) (E.2.1 2) (E.2.1 2) f g h4
  rw [e1] at X' step
  have hl : a < H.size := (Array.getElem?_eq_some_iff.mp hc1).1
  have hheap : ((T.setVm vm').setCell a (vp_cell (E.2.1 2) (n1, .inl (va_cpy f g sp.toNatClampNeg dp.toNatClampNeg n.toNatClampNeg)))).heap = H.setIfInBounds a (vp_cell (E.2.1 2) (n1, .inl (va_cpy f g sp.toNatClampNeg dp.toNatClampNeg n.toNatClampNeg))) := by rw [← hT]; rfl
  obtain ⟨t, b1, b2⟩ := kk _ _ (hS_cell S (hat1.2 rfl) hl (e1 := .inr (2, n1, .inl (va_cpy f g sp.toNatClampNeg dp.toNatClampNeg n.toNatClampNeg))) (show (H.setIfInBounds a _)[a]? = some _ by simp [Array.getElem?_setIfInBounds, hl]) (fun z hz => by obtain ⟨u, -, hu⟩ := List.mem_map.mp hz; rw [← hu])) _ hheap X'
  exact ⟨t, step t b1, b2⟩
theorem h_copyR {ce : Nat} {sp dp n : Int32} (F : CallFix p m c cc nL s args lw_all own) (hK : hK E A s) (S : hS E A s.heap cb sb w H locs) (h : hCpR ce w a0 sp a dp n = some w') (hls : ls.size = nL) (hlink : Cond.methodLink own index arraycopyName ∈ lw_all) (hnat : Cond.native arraycopyName ∈ lw_all) (hstat : Cond.static arraycopyName ∈ lw_all) (hini : Cond.initialized "java/lang/System" ∈ lw_all)
    (hframes : 1 ≤ R.frames) (hlocals : (rest.map fun v => v.category).sum + (nativeFrameWords "java/lang/System" "arraycopy" 5 + 11) ≤ R.locals) (hdg : decode cc pc = .ok (.invokestatic index, 3))
    (kk : ∀ (H1 : Heap) (locs1 : List Loc), hS E A s.heap cb sb w' H1 locs1 → W p l e R s m args below meth c H1 locs1 (cb - w'.2.1) (sb - w'.2.2) Q (F0 m (pc + 3) ls rest)) : W p l e R s m args below meth c H locs (cb - w.2.1) (sb - w.2.2) Q (F0 m pc ls (.int n :: .int dp :: .ref a :: .int sp :: .ref a0 :: rest)) := by
  obtain ⟨b, n0, n1, f, g, ho0, ho1, ⟨h1, h2, h3, h4, h5⟩, hfit, rfl⟩ := hCpR_inv h
  intro T hT X
  have hat1 := S.1.1.1 a true _ ho1
  have hc0 : H[a0]? = some (vp_cell (E.2.1 4) (n0, .inr (.inr (.inr (.inr f))))) := (S.1.1.1 a0 b _ ho0).1
  have hc1 : H[a]? = some (vp_cell (E.2.1 4) (n1, .inr (.inr (.inr (.inr g))))) := hat1.1
  obtain ⟨-, k0, hk0, cm0, hkk0⟩ := (hK.1.2 4 _ rfl).1 n0 (fun j => va_rf (f j))
  obtain ⟨-, k1, hk1, cm1, hkk1⟩ := (hK.1.2 4 _ rfl).1 n1 (fun j => va_rf (g j))
  obtain ⟨vm', X', step⟩ := X.arraycopy F.1 F.2.2.2.1 (F.2.2.2.2 _ hlink) (F.2.2.2.2 _ hnat) (F.2.2.2.2 _ hstat) (F.2.2.2.2 _ hini) (src := a0) (dst := a) (cs := vp_cell (E.2.1 4) (n0, .inr (.inr (.inr (.inr f))))) (cd := vp_cell (E.2.1 4) (n1, .inr (.inr (.inr (.inr g))))) (srcPos := sp) (destPos := dp) (n := n) (by rw [hT]; exact hc0) (by rw [hT]; exact hc1)
    (fun _ h => by cases h) (fun _ h => by cases h) (fun h => by cases h) (fun h => by cases h) hk0 hk1 hkk0 hkk1 rfl h1 h2 h3
    (by rw [h_nn sp h1, h_nn n h3]; show ¬ _ > ((arrV (E.2.1 4) n0 (fun j => va_rf (f j))).slots.size : Int); rw [arrV_size]; omega)
    (by rw [h_nn dp h2, h_nn n h3]; show ¬ _ > ((arrV (E.2.1 4) n1 (fun j => va_rf (g j))).slots.size : Int); rw [arrV_size]; omega)
    (fun vm₁ hal i hi => by
      have e : (vp_cell (E.2.1 4) (n0, .inr (.inr (.inr (.inr f))))).slots.getD (sp.toNatClampNeg + i) .null = va_rf (f (sp.toNatClampNeg + i)) := by
        show (arrV (E.2.1 4) n0 (fun j => va_rf (f j))).slots.getD _ _ = _
        rw [Array.getD_eq_getD_getElem?, arrV_read _ _ (by omega)]
        rfl
      rw [e]
      obtain ⟨hel1, hel2⟩ := hElts_inv hfit
      cases hy : f (sp.toNatClampNeg + i) with
      | none => exact ⟨rfl, trivial⟩
      | some y =>
        obtain ⟨b2, fs2, hob⟩ := hel2 i hi y hy
        have hlt := hAsg_lt hel1
        obtain ⟨r, hr⟩ : ∃ r, gCl[ce]? = some r := ⟨_, List.getElem?_eq_getElem (by simpa using hlt)⟩
        obtain ⟨cellV, g1, g2, g3⟩ := h_recv hK S (ci := ce) (r := r) hr ⟨b2, fs2, hob⟩
        obtain ⟨kA, comp, r1, r2, r3, -⟩ := (hK.1.2 4 _ rfl).2
        cases hk1.symm.trans r1
        cases hkk1.symm.trans r2
        have hr1 := (hK.1.1 ce r hr).2.1
        have hcls : cellV.cls = E.1.1 ce := Option.some.inj (g3.symm.trans hr1)
        obtain ⟨kC, hkC, -⟩ := Vm.findClass_spec g3
        obtain ⟨kE, hkE, -⟩ := Vm.findClass_spec r3
        obtain ⟨kC', hkC', -⟩ := hal.2.2 _ _ hkC
        obtain ⟨kE', hkE', -⟩ := hal.2.2 _ _ hkE
        refine ⟨rfl, cellV, (show T.heap[y]? = some cellV by rw [hT]; exact g1), (fun q h => by rw [h] at g2; cases g2), ⟨kC', hkC'⟩, ?_, ?_⟩
        · exact ⟨kE', hkE'⟩
        · show vm₁.assignable _ _ = true
          rw [hal.assignable, hcls]
          exact hAsg_ok hK (t := 4) rfl hr hel1 r3)
    (g := F0 m pc ls (.int n :: .int dp :: .ref a :: .int sp :: .ref a0 :: rest)) rfl (by rw [F.2.2.1]; exact hls) (rest := rest) rfl (by rw [F.2.1]; exact hdg) hframes (by show 2 * 0 + _ + _ ≤ _; omega)
  have e1 : copied (vp_cell (E.2.1 4) (n0, .inr (.inr (.inr (.inr f))))) (vp_cell (E.2.1 4) (n1, .inr (.inr (.inr (.inr g))))) sp dp n = vp_cell (E.2.1 4) (n1, .inr (.inr (.inr (.inr (va_cpy f g sp.toNatClampNeg dp.toNatClampNeg n.toNatClampNeg))))) := by
    rw [vp_cell_q, vp_cell_q, vp_cell_q]
    exact va_copied (fun z => va_rf (z)) (E.2.1 4) (E.2.1 4) f g h4
  rw [e1] at X' step
  have hl : a < H.size := (Array.getElem?_eq_some_iff.mp hc1).1
  have hheap : ((T.setVm vm').setCell a (vp_cell (E.2.1 4) (n1, .inr (.inr (.inr (.inr (va_cpy f g sp.toNatClampNeg dp.toNatClampNeg n.toNatClampNeg))))))).heap = H.setIfInBounds a (vp_cell (E.2.1 4) (n1, .inr (.inr (.inr (.inr (va_cpy f g sp.toNatClampNeg dp.toNatClampNeg n.toNatClampNeg)))))) := by rw [← hT]; rfl
  obtain ⟨t, b1, b2⟩ := kk _ _ (hS_cell S (hat1.2 rfl) hl (e1 := .inr (4, n1, .inr (.inr (.inr (.inr (va_cpy f g sp.toNatClampNeg dp.toNatClampNeg n.toNatClampNeg)))))) (show (H.setIfInBounds a _)[a]? = some _ by simp [Array.getElem?_setIfInBounds, hl]) (fun z hz => by obtain ⟨u, -, hu⟩ := List.mem_map.mp hz; rw [← hu])) _ hheap X'
  exact ⟨t, step t b1, b2⟩
theorem h_clone {f : Nat → hW → Prop} (F : CallFix p m c cc nL s args lw_all own) (hK : hK E A s) (S : hS E A s.heap cb sb w H locs) (hrc : R.cells = cb) (hrs : R.slots = sb) (h : hClB w a f) (hls : ls.size = nL) (hlink : Cond.methodLink own index ⟨"[B", "clone", "()Ljava/lang/Object;"⟩ ∈ lw_all) (hsame : Cond.sameMethod "[B" "java/lang/Object" "clone" "()Ljava/lang/Object;" ∈ lw_all)
    (hnat : Cond.native ⟨"java/lang/Object", "clone", "()Ljava/lang/Object;"⟩ ∈ lw_all) (hinst : Cond.instanceMethod ⟨"java/lang/Object", "clone", "()Ljava/lang/Object;"⟩ ∈ lw_all) (hsel : Cond.selects "[B" ⟨"[B", "clone", "()Ljava/lang/Object;"⟩ ⟨"java/lang/Object", "clone", "()Ljava/lang/Object;"⟩ ∈ lw_all) (hcl : va_Nw (.castable "[B" "java/lang/Cloneable") s)
    (hframes : 1 ≤ R.frames) (hlocals : (rest.map fun v => v.category).sum + 14 ≤ R.locals) (hdg : decode cc pc = .ok (.invokevirtual index, 3))
    (kk : ∀ (q : Nat) (w' : hW) (H1 : Heap), f q w' → hS E A s.heap cb sb w' H1 locs → W p l e R s m args below meth c H1 locs (cb - w'.2.1) (sb - w'.2.2) Q (F0 m (pc + 3) ls (.ref q :: rest))) : W p l e R s m args below meth c H locs (cb - w.2.1) (sb - w.2.2) Q (F0 m pc ls (.ref a :: rest)) := by
  obtain ⟨b, n, g, ho, hfit, hnew⟩ := h
  have hq := hnew
  obtain ⟨g1, g2, -⟩ := hq
  have hb1 := S.2.1
  have hb2 := S.2.2
  have hnm := va_nm_byte (hK.1.2 2 _ rfl).2
  have hcell : H[a]? = some (vp_cell (E.2.1 2) (n, .inl g)) := (S.1.1.1 a b _ ho).1
  obtain ⟨c0, t0', f1, f2, f3⟩ := Cond.castable_spec (va_Nw.use (A := args) rfl hcl)
  cases hnm.symm.trans f1
  have hsz : (vp_cell (E.2.1 2) (n, .inl g)).slots.size = n := arrV_size _ _ _
  intro T hT X
  obtain ⟨-, kA, hkA, comp, hkind⟩ := State.isArrayOf_alike X.warmed.alike ((hK.1.2 2 _ rfl).1 0 (fun _ => .null))
  obtain ⟨-, kS, hkS, compS, hkindS⟩ := (hK.1.2 2 _ rfl).1 0 (fun _ => .null)
  obtain ⟨vm', X', st⟩ := X.cloneArray F.1 F.2.2.2.1 (F.2.2.2.2 _ hlink) (F.2.2.2.2 _ hsame) (F.2.2.2.2 _ hnat) (F.2.2.2.2 _ hinst) (F.2.2.2.2 _ hsel) (a := a) (cell := vp_cell (E.2.1 2) (n, .inl g)) (by rw [hT]; exact hcell) (fun k h => by cases h) (fun h => by cases h) hnm f2 f3
    (fun i v hv => by
      have hk' : T.vm.classes[E.2.1 2]? = some kA := hkA
      have hv' : (arrV (E.2.1 2) n (fun j => .int (g j))).slots[i]? = some v := hv
      have hi : i < n := by
        have z := (Array.getElem?_eq_some_iff.mp hv').1
        rwa [arrV_size] at z
      rw [arrV_read _ _ hi] at hv'
      cases hv'
      simpa [State.fitsSlot, State.slotType?, hk', hkind, vp_cell_i, arrV] using hfit i hi)
    (g := F0 m pc ls (.ref a :: rest)) rfl (by rw [F.2.2.1]; exact hls) rfl (by rw [F.2.1]; exact hdg) hframes (by show 2 * 0 + _ + 14 ≤ _; omega) (by omega) (by rw [hsz]; omega) (hloader := Vm.clonesLoader_of_array hkS hkindS)
  rw [hsz] at X'
  generalize hH1 : H.push (vp_cell (E.2.1 2) (n, .inl g)) = H1
  have z1 : H1.size = H.size + 1 := by rw [← hH1, Array.size_push]
  have e1 : H1[H.size]? = some (vp_cell (E.2.1 2) (n, .inl g)) := by rw [← hH1, Array.getElem?_push_size]
  have o1 : ∀ q : Nat, q < H.size → H1[q]? = H[q]? := fun q hq => by rw [← hH1, Array.getElem?_push, if_neg (Nat.ne_of_lt hq)]
  obtain ⟨-, -, w', hf, hS1, y1, y2⟩ := hS_new hK S hnew (H1 := H1) e1 z1 o1
  obtain ⟨t, b1, b2⟩ := W.widen y1 y2 (kk H.size w' H1 hf hS1) _ (by rw [← hH1, ← hT]; rfl) X'
  rw [← hT] at b1
  exact ⟨t, st t b1, b2⟩
end HR6
