/-! THE HEAP'S ROWS: stores, new arrays, ends, calls -/
set_option maxRecDepth 100000
def bN (x : Int32) : Int32 := vp_nar .byte x
theorem hTy_obj (E : hEnv) {t : Nat} (ht : 4 ≤ t ∧ t ≤ 6) : ∃ C : String, (hTys E)[t]? = some (E.2.1 t, .object C) := by
  have h3 : t = 4 ∨ t = 5 ∨ t = 6 := by omega
  rcases h3 with rfl | rfl | rfl
  · exact ⟨_, rfl⟩
  · exact ⟨_, rfl⟩
  · exact ⟨_, rfl⟩
section HR3
variable {p : Program} {l : Launch} {e : Env} {R : Room} {s : State} {m : MethodId} {args : Array Value} {below : List Frame} {meth : Method} {c : Code} {H : Heap} {locs : List Loc} {cells slots : Nat} {Q : State → Prop}
variable {pc nL cb sb mc ms index c1 s1 : Nat} {ls : Array Slot} {rest st0 : List Value} {cc : ByteArray} {E : hEnv} {A : Nat → Prop} {w w' : hW} {a : Nat} {own : String}
theorem h_iast (F : CallFix p m c cc nL s args lw_all own) (hK : hK E A s) (S : hS E A s.heap cb sb w H locs) {i v : Int32} (h : hsI 0 w a i v = some w') (hdg : decode cc pc = .ok (.iastore, 1))
    (kk : ∀ (H1 : Heap) (locs1 : List Loc), hS E A s.heap cb sb w' H1 locs1 → W p l e R s m args below meth c H1 locs1 (cb - w'.2.1) (sb - w'.2.2) Q (F0 m (pc + 1) ls rest)) : W p l e R s m args below meth c H locs (cb - w.2.1) (sb - w.2.2) Q (F0 m pc ls (.int v :: .int i :: .ref a :: rest)) := by
  obtain ⟨n, f, ho, h2, rfl⟩ := hsI_inv h
  have hat := S.1.1.1 a true _ ho
  refine W.iast F.1 F.2.1 hat.1 ((hK.1.2 0 _ rfl).1 n (fun k => .int (f k))) (fun q => by cases q) (by show ¬ (i < 0 ∨ (arrV _ _ _).slots.size ≤ _); rw [arrV_size]; exact h2) rfl rfl hdg fun H1 e1 z oq => kk H1 _ (hS_up S (hat.2 rfl) ?_ z oq)
  show H1[a]? = some (vp_cell _ _)
  rw [e1, vp_cell_i, vp_cell_i, arrV_store]
  congr 2
  funext q
  by_cases hq : q = i.toNatClampNeg
  · subst hq
    simp [updV, upd]
  · simp [updV, upd, hq]
theorem h_bast (F : CallFix p m c cc nL s args lw_all own) (hK : hK E A s) (S : hS E A s.heap cb sb w H locs) {i v : Int32} (h : hsB w a i v = some w') (hdg : decode cc pc = .ok (.bastore, 1))
    (kk : ∀ (H1 : Heap) (locs1 : List Loc), hS E A s.heap cb sb w' H1 locs1 → W p l e R s m args below meth c H1 locs1 (cb - w'.2.1) (sb - w'.2.2) Q (F0 m (pc + 1) ls rest)) : W p l e R s m args below meth c H locs (cb - w.2.1) (sb - w.2.2) Q (F0 m pc ls (.int v :: .int i :: .ref a :: rest)) := by
  obtain ⟨t, n, f, ho, ht, h2, rfl⟩ := hsB_inv h
  have hat := S.1.1.1 a true _ ho
  rcases ht with rfl | rfl
  · refine W.zast F.1 F.2.1 hat.1 ((hK.1.2 1 _ rfl).1 n (fun k => .int (f k))) (fun q => by cases q) (by show ¬ (i < 0 ∨ (arrV _ _ _).slots.size ≤ _); rw [arrV_size]; exact h2) rfl rfl hdg fun H1 e1 z oq => kk H1 _ (hS_up S (hat.2 rfl) ?_ z oq)
    show H1[a]? = some (vp_cell _ _)
    rw [e1, vp_cell_i, vp_cell_i, arrV_store]
    congr 2
    funext q
    by_cases hq : q = i.toNatClampNeg
    · subst hq
      simp [updV, upd]
      exact zN_eq v
    · simp [updV, upd, hq]
  · refine W.bast F.1 F.2.1 hat.1 ((hK.1.2 2 _ rfl).1 n (fun k => .int (f k))) (fun q => by cases q) (by show ¬ (i < 0 ∨ (arrV _ _ _).slots.size ≤ _); rw [arrV_size]; exact h2) rfl rfl hdg fun H1 e1 z oq => kk H1 _ (hS_up S (hat.2 rfl) ?_ z oq)
    show H1[a]? = some (vp_cell _ _)
    rw [e1, vp_cell_i, vp_cell_i, arrV_store]
    congr 2
    funext q
    by_cases hq : q = i.toNatClampNeg
    · subst hq
      simp [updV, upd]
      rfl
    · simp [updV, upd, hq]
theorem h_last (F : CallFix p m c cc nL s args lw_all own) (hK : hK E A s) (S : hS E A s.heap cb sb w H locs) {i : Int32} {v : Int64} (h : hsL 7 w a i v = some w') (hdg : decode cc pc = .ok (.lastore, 1))
    (kk : ∀ (H1 : Heap) (locs1 : List Loc), hS E A s.heap cb sb w' H1 locs1 → W p l e R s m args below meth c H1 locs1 (cb - w'.2.1) (sb - w'.2.2) Q (F0 m (pc + 1) ls rest)) : W p l e R s m args below meth c H locs (cb - w.2.1) (sb - w.2.2) Q (F0 m pc ls (.long v :: .int i :: .ref a :: rest)) := by
  obtain ⟨n, f, ho, h2, rfl⟩ := hsL_inv h
  have hat := S.1.1.1 a true _ ho
  refine W.last F.1 F.2.1 hat.1 ((hK.1.2 7 _ rfl).1 n (fun k => .long (f k))) (fun q => by cases q) (by show ¬ (i < 0 ∨ (arrV _ _ _).slots.size ≤ _); rw [arrV_size]; exact h2) rfl rfl hdg fun H1 e1 z oq => kk H1 _ (hS_up S (hat.2 rfl) ?_ z oq)
  show H1[a]? = some (vp_cell _ _)
  rw [e1, vp_cell_l, vp_cell_l, arrV_store]
  congr 2
  funext q
  by_cases hq : q = i.toNatClampNeg
  · subst hq
    simp [updV, vp_updL]
  · simp [updV, vp_updL, hq]
theorem h_aastN (F : CallFix p m c cc nL s args lw_all own) (hK : hK E A s) (S : hS E A s.heap cb sb w H locs) {i : Int32} (h : hsR w a i none = some w') (hdg : decode cc pc = .ok (.aastore, 1))
    (kk : ∀ (H1 : Heap) (locs1 : List Loc), hS E A s.heap cb sb w' H1 locs1 → W p l e R s m args below meth c H1 locs1 (cb - w'.2.1) (sb - w'.2.2) Q (F0 m (pc + 1) ls rest)) : W p l e R s m args below meth c H locs (cb - w.2.1) (sb - w.2.2) Q (F0 m pc ls (.null :: .int i :: .ref a :: rest)) := by
  obtain ⟨t, n, f, ho, ht0, -, h2, rfl⟩ := hsR_inv h
  obtain ⟨C, ht⟩ := hTy_obj E ht0
  have hat := S.1.1.1 a true _ ho
  refine va_WaastN (C := C) F.1 F.2.1 hat.1 ((hK.1.2 t _ ht).1 n (fun j => va_rf (f j))) (fun q => by cases q) (by show ¬ (i < 0 ∨ (arrV _ _ _).slots.size ≤ _); rw [arrV_size]; exact h2) rfl rfl hdg fun H1 e1 z oq => kk H1 _ (hS_up S (hat.2 rfl) ?_ z oq)
  show H1[a]? = some (vp_cell _ _)
  rw [e1, vp_cell_q, vp_cell_q, arrV_store]
  congr 2
  funext q
  by_cases hq : q = i.toNatClampNeg
  · subst hq
    simp [updV, va_up, va_rf]
  · simp [updV, va_up, hq]
theorem hElt_inv {o : hO} {t x : Nat} (h : hElt o t (some x) = true) : ∃ (c : Nat) (b : Bool) (fs : List Value), o x = some (b, .inl (c, fs)) ∧ hAsg t c = true := by
  unfold hElt at h
  split at h
  · rename_i e; cases e
  · rename_i b e
    cases e
    split at h
    · rename_i b2 c fs e2
      exact ⟨c, b2, fs, e2, h⟩
    · cases h
theorem hAsg_lt {t c : Nat} (h : hAsg t c = true) : c < 16 := by
  simp [hAsg] at h
  omega
theorem h_aast (F : CallFix p m c cc nL s args lw_all own) (hK : hK E A s) (S : hS E A s.heap cb sb w H locs) {i : Int32} {x : Nat} (h : hsR w a i (some x) = some w') (hdg : decode cc pc = .ok (.aastore, 1))
    (kk : ∀ (H1 : Heap) (locs1 : List Loc), hS E A s.heap cb sb w' H1 locs1 → W p l e R s m args below meth c H1 locs1 (cb - w'.2.1) (sb - w'.2.2) Q (F0 m (pc + 1) ls rest)) : W p l e R s m args below meth c H locs (cb - w.2.1) (sb - w.2.2) Q (F0 m pc ls (.ref x :: .int i :: .ref a :: rest)) := by
  obtain ⟨t, n, f, ho, ht0, hE, h2, rfl⟩ := hsR_inv h
  obtain ⟨C, ht⟩ := hTy_obj E ht0
  obtain ⟨ci, b, fs, hx, hg⟩ := hElt_inv hE
  have hat := S.1.1.1 a true _ ho
  have hlt : i.toNatClampNeg < n := Nat.not_le.mp fun q => h2 (Or.inr q)
  obtain ⟨kA, comp, k1, k2, k3, -⟩ := (hK.1.2 t _ ht).2
  obtain ⟨r, hr, cellV, g1, g2, g3, -⟩ := (S.1.1.1 x b _ hx).1
  have hcls := (hK.1.1 ci r hr).2
  obtain ⟨kC, hkC, -⟩ := hcls.2
  obtain ⟨kD, hkD, -⟩ := Vm.findClass_spec k3
  refine W.aast F.1 F.2.1 hat.1 (fun q h => by cases h) (fun h => by cases h) k1 k2 rfl hkD ⟨fun q => h2 (Or.inl q), by show _ < (arrV _ _ _).slots.size; rw [arrV_size]; exact hlt⟩ g1 (fun q h => by rw [g3] at h; cases h) (by rw [g2]; exact hkC) (by rw [g2]; exact hAsg_ok hK ht hr hg k3) rfl rfl hdg fun H1 e1 z oq => kk H1 _ (hS_up S (hat.2 rfl) ?_ z oq)
  show H1[a]? = some (vp_cell _ _)
  rw [e1, vp_cell_q, vp_cell_q, arrV_store]
  congr 2
  funext q
  by_cases hq : q = i.toNatClampNeg
  · subst hq
    simp [updV, va_up, va_rf]
  · simp [updV, va_up, hq]
/-- a new cell, behind it -/
theorem hS_new {H1 : Heap} {e1 : hC} {N : Nat} {f : Nat → hW → Prop} (hK : hK E A s) (S : hS E A s.heap cb sb w H locs) (hw : hNew w e1 N f) (hat : va_at E.1 gCl (H.size, hTr E e1) H1) (hz : H1.size = H.size + 1) (o1 : ∀ q : Nat, q < H.size → H1[q]? = H[q]?) :
    cb - w.2.1 + 1 ≤ cb ∧ sb - w.2.2 + N ≤ sb ∧ ∃ w' : hW, f H.size w' ∧ hS E A s.heap cb sb w' H1 locs ∧ cb - w.2.1 + 1 ≤ cb - w'.2.1 ∧ sb - w.2.2 + N ≤ sb - w'.2.2 := by
  obtain ⟨h1, h2, h3⟩ := hw
  have hb1 := S.2.1
  have hb2 := S.2.2
  refine ⟨by omega, by omega, (hUp w.1 H.size e1, w.2.1 - 1, w.2.2 - N), h3 H.size (S.1.1.2 _ (Nat.le_refl _)), ⟨⟨hP_up S.1.1 hat (hK.2.2.2 _ S.1.2.1) (by omega) (fun q h _ => o1 q h), ⟨Nat.le_trans S.1.2.1 (by omega), fun x g1 g2 => (o1 x (Nat.lt_of_lt_of_le g1 S.1.2.1)).trans (S.1.2.2.1 x g1 g2), S.1.2.2.2⟩⟩, ?_, ?_⟩, ?_, ?_⟩
  · show w.2.1 - 1 ≤ cb
    omega
  · show w.2.2 - N ≤ sb
    omega
  · show _ ≤ cb - (w.2.1 - 1)
    omega
  · show _ ≤ sb - (w.2.2 - N)
    omega
theorem h_newI (t : Nat) {atype : ArrayType} {ty : FieldType} {n : Int32} (F : CallFix p m c cc nL s args lw_all own) (hK : hK E A s) (S : hS E A s.heap cb sb w H locs) (hrc : R.cells = cb) (hrs : R.slots = sb) {f : Nat → hW → Prop} (hw : hNewI t w n f) (hty : newarray.typeOf atype = ty) (hbt : componentBytes ty ≤ 8) (harr : Cond.arrayClass ty ∈ lw_all)
    (hnm : ∀ cA : ClassId, s.vm.findClass ("[" ++ ty.toString) = some cA → cA = E.2.1 t) (hdf : ∀ (cA : ClassId) (N : Nat), vp_cell cA (N, .inl (fun _ => 0)) = arrV cA N (fun _ => defaultValue ty)) (hdg : decode cc pc = .ok (.newarray atype, 2))
    (kk : ∀ (q : Nat) (w' : hW) (H1 : Heap), f q w' → hS E A s.heap cb sb w' H1 locs → W p l e R s m args below meth c H1 locs (cb - w'.2.1) (sb - w'.2.2) Q (F0 m (pc + 2) ls (.ref q :: rest))) : W p l e R s m args below meth c H locs (cb - w.2.1) (sb - w.2.2) Q (F0 m pc ls (.int n :: rest)) := by
  subst hty
  obtain ⟨⟨h1, h2⟩, h3⟩ := hw
  have hq := h3
  obtain ⟨g1, g2, -⟩ := hq
  have hb1 := S.2.1
  have hb2 := S.2.2
  refine va_newaK F.1 F.2.1 (F.2.2.2.2 _ harr) rfl hdg rfl h1 rfl (Nat.le_trans (Nat.mul_le_mul h2 hbt) (by omega)) (by omega) (by omega) rfl fun H1 cA e1 z1 o1 hAr hNm => ?_
  have hc := hnm cA hNm
  subst hc
  obtain ⟨-, -, w', hf, hS, y1, y2⟩ := hS_new hK S h3 (H1 := H1) (by show H1[H.size]? = some (vp_cell _ _); rw [hdf]; exact e1) z1 o1
  exact W.widen y1 y2 (kk H.size w' H1 hf hS)
theorem h_newR (t : Nat) {C : String} {cA : ClassId} (ht : (hTys E)[t]? = some (cA, .object C)) (hcA : cA = E.2.1 t) {n : Int32} (F : CallFix p m c cc nL s args lw_all own) (hK : hK E A s) (S : hS E A s.heap cb sb w H locs) (hrc : R.cells = cb) (hrs : R.slots = sb) {f : Nat → hW → Prop} (hw : hNewR t w n f) (hcl : Cond.classLink own index C ∈ lw_all) (hao : va_AO C s) (hdg : decode cc pc = .ok (.anewarray index, 3))
    (kk : ∀ (q : Nat) (w' : hW) (H1 : Heap), f q w' → hS E A s.heap cb sb w' H1 locs → W p l e R s m args below meth c H1 locs (cb - w'.2.1) (sb - w'.2.2) Q (F0 m (pc + 3) ls (.ref q :: rest))) : W p l e R s m args below meth c H locs (cb - w.2.1) (sb - w.2.2) Q (F0 m pc ls (.int n :: rest)) := by
  subst hcA
  obtain ⟨⟨h1, h2⟩, h3⟩ := hw
  have hq := h3
  obtain ⟨g1, g2, -⟩ := hq
  have hb1 := S.2.1
  have hb2 := S.2.2
  obtain ⟨-, -, -, -, -, hnm0⟩ := (hK.1.2 t _ ht).2
  refine W.anew F.1 F.2.1 F.2.2.2.1 (F.2.2.2.2 _ hcl) (va_AO.use hao) rfl hdg rfl h1 (Nat.le_trans (Nat.mul_le_mul_right 4 h2) (by omega)) (by omega) (by omega) fun cB kA comp f1 f2 f3 f4 => ?_
  have hc : cB = E.2.1 t := Option.some.inj (f1.symm.trans hnm0)
  subst hc
  generalize hH1 : H.push ({ cls := E.2.1 t, slots := Array.replicate n.toNatClampNeg .null, vm := .none } : Cell) = H1
  have z1 : H1.size = H.size + 1 := by rw [← hH1, Array.size_push]
  have e1 : H1[H.size]? = some (arrV (E.2.1 t) n.toNatClampNeg (fun _ => .null)) := by rw [← hH1, Array.getElem?_push_size, ← arrV_new]
  have o1 : ∀ q : Nat, q < H.size → H1[q]? = H[q]? := fun q hq => by rw [← hH1, Array.getElem?_push, if_neg (Nat.ne_of_lt hq)]
  obtain ⟨-, -, w', hf, hS, y1, y2⟩ := hS_new hK S h3 (H1 := H1) (by show H1[H.size]? = some (vp_cell _ _); rw [vp_cell_q]; exact e1) z1 o1
  exact W.widen y1 y2 (kk H.size w' H1 hf hS)
end HR3
