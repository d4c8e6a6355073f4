/-! THE HEAP'S ROWS -/
set_option maxRecDepth 100000
def nwCl : List (String × String) := [("MirrorDoors$Empty", "MirrorDoors$Cell"), ("MirrorDoors$Solid", "MirrorDoors$Cell"), ("MirrorDoors$Mirror", "MirrorDoors$Cell"), ("MirrorDoors$Door", "MirrorDoors$Cell"), ("MirrorDoors$Gate", "MirrorDoors$Cell"), ("MirrorDoors$Portal", "MirrorDoors$Cell"),
  ("MirrorDoors$Empty", "java/lang/Object"), ("MirrorDoors$Solid", "java/lang/Object"), ("MirrorDoors$Mirror", "java/lang/Object"), ("MirrorDoors$Door", "java/lang/Object"), ("MirrorDoors$Gate", "java/lang/Object"), ("MirrorDoors$Portal", "java/lang/Object"), ("MirrorDoors$World", "java/lang/Object")]
/-- String constants: own class, entry, text, number of the text -/
def hStrs : List (String × Nat × String × Nat) := [("MirrorDoors", 38, "", 0), ("MirrorDoors$Reader", 194, "board", 1), ("MirrorDoors$Reader", 196, "lamp", 2), ("MirrorDoors$Reader", 159, "turn", 3), ("MirrorDoors$Reader", 148, "mirror", 4), ("MirrorDoors$Reader", 150, "half", 5), ("MirrorDoors$Reader", 152, "door", 6), ("MirrorDoors$Reader", 154, "portal", 7), ("MirrorDoors$Reader", 164, "wall", 8), ("MirrorDoors$Reader", 166, "gate", 9), ("MirrorDoors$Reader", 168, "lock", 10), ("MirrorDoors$Reader", 170, "limit", 11), ("MirrorDoors$Reader", 104, "slash", 12), ("MirrorDoors$Reader", 110, "back", 13), ("MirrorDoors$Reader", 118, "of", 14), ("MirrorDoors", 358, "/", 15), ("MirrorDoors", 343, "()", 16), ("MirrorDoors", 351, "[]", 17), ("MirrorDoors", 353, "urdl", 18),
  ("MirrorDoorsModel", 260, "board", 1), ("MirrorDoorsModel", 273, "lamp", 2), ("MirrorDoorsModel", 280, "turn", 3), ("MirrorDoorsModel", 285, "wall", 8), ("MirrorDoorsModel", 293, "mirror", 4), ("MirrorDoorsModel", 295, "half", 5), ("MirrorDoorsModel", 316, "back", 13), ("MirrorDoorsModel", 318, "slash", 12), ("MirrorDoorsModel", 320, "of", 14), ("MirrorDoorsModel", 300, "door", 6), ("MirrorDoorsModel", 305, "gate", 9), ("MirrorDoorsModel", 307, "portal", 7), ("MirrorDoorsModel", 312, "lock", 10), ("MirrorDoorsModel", 314, "limit", 11)]
/-- private members of the class above StringBuilder -/
def hPriv : List MethodName := [⟨"java/lang/AbstractStringBuilder", "ensureCapacityInternal", "(I)V"⟩, ⟨"java/lang/AbstractStringBuilder", "newCapacity", "(I)I"⟩, ⟨"java/lang/AbstractStringBuilder", "putStringAt", "(ILjava/lang/String;)V"⟩, ⟨"java/lang/AbstractStringBuilder", "inflateIfNeededFor", "(Ljava/lang/String;)V"⟩]
/-- words of throws -/
def nwDx : List MethodName := [⟨"java/lang/RuntimeException", "<init>", "()V"⟩, ⟨"java/lang/Exception", "<init>", "()V"⟩, ⟨"java/lang/Throwable", "<init>", "()V"⟩]
def nwCx : List (String × String) := [("java/lang/IllegalArgumentException", "java/lang/IllegalArgumentException"), ("java/lang/IndexOutOfBoundsException", "java/lang/IndexOutOfBoundsException"), ("java/util/NoSuchElementException", "java/util/NoSuchElementException"), ("MirrorDoors$TextException", "MirrorDoors$TextException")]
/-- words that hold all through -/
def hK1 (s : State) : Prop := (∀ q ∈ nwFl, va_Nw (.fieldLinkNest q.1 q.2.1 q.2.2.1 q.2.2.2.1 q.2.2.2.2.1 q.2.2.2.2.2) s) ∧ (∀ q ∈ nwMl, va_Nw (.methodLinkNest q.1 q.2.1 q.2.2.1 q.2.2.2) s) ∧ (∀ q ∈ nwNl, va_Nc q.1 q.2 s) ∧ (∀ q ∈ nwDl, va_Nw (.declares q) s) ∧ (∀ q ∈ nwCl, va_Nw (.castable q.1 q.2) s)
  ∧ va_AO "java/lang/Object" s ∧ va_AO "MirrorDoors$World" s ∧ va_AO "MirrorDoors$Cell" s ∧ (∀ q ∈ nwDx, va_Nw (.declares q) s) ∧ ∀ q ∈ nwCx, va_Nw (.castable q.1 q.2) s
/-- statics; places 0 DX, 1 DY, 2 ArrayList's empty row, from 10 on the String constants by their texts' numbers -/
def hK2 (E : hEnv) (A : Nat → Prop) (s : State) : Prop := (va_Z "MirrorDoors" "DX" "[I" (.ref (E.2.2 0)) A s s.heap ∧ va_Z "MirrorDoors" "DY" "[I" (.ref (E.2.2 1)) A s s.heap ∧ va_Z "java/util/ArrayList" "DEFAULTCAPACITY_EMPTY_ELEMENTDATA" "[Ljava/lang/Object;" (.ref (E.2.2 2)) A s s.heap ∧ va_Z "java/lang/String" "COMPACT_STRINGS" "Z" (.int 1) A s s.heap)
  ∧ vx_Zq "jdk/internal/util/Preconditions" "SIOOBE_FORMATTER" "Ljava/util/function/BiFunction;" A s s.heap ∧ vx_Zq Bundle.tN "UNASSIGNED_STACK" Bundle.steD A s s.heap ∧ vx_Zq Bundle.tN "SUPPRESSED_SENTINEL" Bundle.listD A s s.heap
  ∧ (∀ q ∈ hStrs, vk_R q.1 q.2.1 q.2.2.1 (E.2.2 (10 + q.2.2.2)) s) ∧ va_Mi "[Ljava/lang/Object;" (E.2.2 3) s ∧ va_Dc s ∧ va_Nw (.castable "[B" "java/lang/Cloneable") s ∧ (∀ y ∈ hPriv, (Cond.selects "java/lang/StringBuilder" y y).before #[] s = true)
  ∧ va_Fw "MirrorDoors$Ray" ⟨"MirrorDoors$Sink", "goes", "(II)V"⟩ yX2_goes s ∧ va_T .int (E.2.2 0) 4 (fun j => .int (dxV j)) A s s.heap ∧ va_T .int (E.2.2 1) 4 (fun j => .int (dyV j)) A s s.heap
def hK (E : hEnv) (A : Nat → Prop) (s : State) : Prop := va_K E.1 gCl (hTys E) s ∧ hK1 s ∧ hK2 E A s ∧ ∀ q : Nat, s.heap.size ≤ q → A q
theorem hKm (E : hEnv) (A : Nat → Prop) : gKm (hK E A) A := by
  intro u U hW hz hq h
  obtain ⟨h1, ⟨a1, a2, a3, a4, a5, a6, a7, a8, a9, a10⟩, ⟨⟨b1, b2, b3, b4⟩, b5, b6, b7, b8, b9, b10, b11, b12, b13, b14, b15⟩, h4⟩ := h
  refine ⟨va_K.moved hW.alike h1, ⟨fun q hq => va_Nw.warmF hW (a1 q hq), fun q hq => va_Nw.warmM hW (a2 q hq), fun q hq => va_Nc.moved hW.alike (a3 q hq), fun q hq => va_Nw.warmD hW (a4 q hq), fun q hq => va_Nw.warmC hW (a5 q hq), a6.moved hW.alike, a7.moved hW.alike, a8.moved hW.alike, fun q hq => va_Nw.warmD hW (a9 q hq), fun q hq => va_Nw.warmC hW (a10 q hq)⟩,
    ⟨⟨(b1.moved hW.alike).kept hq, (b2.moved hW.alike).kept hq, (b3.moved hW.alike).kept hq, (b4.moved hW.alike).kept hq⟩, (b5.moved hW.alike).kept hq, (b6.moved hW.alike).kept hq, (b7.moved hW.alike).kept hq, fun q hq => (b8 q hq).warm hW, b9.moved hW.alike, b10.moved hW.alike, va_Nw.warmC hW b11, fun y hy => word_at hW (Or.inl (by first | rfl | simp [Cond.onTables, Cond.keeps, Cond.steady])) (b12 y hy), va_Fw.moved (by decide) hW.alike b13, (b14.moved hW.alike).kept hq, (b15.moved hW.alike).kept hq⟩, fun q hq => h4 q (Nat.le_trans hz hq)⟩
theorem hAsg_ok {E : hEnv} {A : Nat → Prop} {s : State} (hK : hK E A s) {t c : Nat} {T : String} {cA : ClassId} {r : vw_C} (ht : (hTys E)[t]? = some (cA, .object T)) (hc : gCl[c]? = some r) (h : hAsg t c = true) {comp : ClassId} (h1 : s.vm.findClass T = some comp) : s.vm.assignable (E.1.1 c) comp = true := by
  have hr := (hK.1.1 c r hc).2.1
  have key : ∀ i : Nat, ∀ q : String × String, nwCl[i]? = some q → q = (r.1, T) → s.vm.assignable (E.1.1 c) comp = true := fun i q hi he => vb_asgC (by have z := hK.2.1.2.2.2.2.1 q (List.mem_of_getElem? hi); rw [he] at z; exact z) comp _ h1 hr
  have hh : (t = 5 ∧ c = 3) ∨ (t = 6 ∧ (c = 4 ∨ c = 5 ∨ c = 6 ∨ c = 7 ∨ c = 8 ∨ c = 9)) ∨ (t = 4 ∧ (c = 3 ∨ c = 4 ∨ c = 5 ∨ c = 6 ∨ c = 7 ∨ c = 8 ∨ c = 9)) := by
    simp [hAsg] at h
    omega
  rcases hh with ⟨rfl, rfl⟩ | ⟨rfl, hh⟩ | ⟨rfl, hh⟩
  · cases ht
    cases hc
    cases h1.symm.trans hr
    exact va_asg _ _
  · cases ht
    rcases hh with rfl | rfl | rfl | rfl | rfl | rfl <;> cases hc
    · exact key 0 _ rfl rfl
    · exact key 1 _ rfl rfl
    · exact key 2 _ rfl rfl
    · exact key 3 _ rfl rfl
    · exact key 4 _ rfl rfl
    · exact key 5 _ rfl rfl
  · cases ht
    rcases hh with rfl | rfl | rfl | rfl | rfl | rfl | rfl <;> cases hc
    · exact key 12 _ rfl rfl
    · exact key 6 _ rfl rfl
    · exact key 7 _ rfl rfl
    · exact key 8 _ rfl rfl
    · exact key 9 _ rfl rfl
    · exact key 10 _ rfl rfl
    · exact key 11 _ rfl rfl
section HR
variable {p : Program} {l : Launch} {e : Env} {R : Room} {s : State} {m : MethodId} {args : Array Value} {below : List Frame} {meth : Method} {c : Code} {H : Heap} {locs : List Loc} {cells slots : Nat} {Q : State → Prop}
variable {pc nL cb sb mc ms : Nat} {ls : Array Slot} {rest st0 : List Value} {cc : ByteArray} {E : hEnv} {A : Nat → Prop} {w w' : hW} {a : Nat} {own ref C host : String} {T : u_T} {N ci index k : Nat} {fs : List Value} {b : Bool}
theorem h_recv (hK : hK E A s) (S : hS E A s.heap cb sb w H locs) {r : vw_C} (hc : gCl[ci]? = some r) (h : ∃ (b : Bool) (fs : List Value), w.1 a = some (b, .inl (ci, fs))) : gRecv s H r.1 a := by
  obtain ⟨b, fs, h⟩ := h
  exact va_recv hK.1 (va_P1 (S.1.1.1 a b _ h).1) (ci := ci) (q0 := 0) hc rfl
theorem h_get (F : CallFix p m c cc nL s args lw_all own) (hK : hK E A s) (S : hS E A s.heap cb sb w H locs) (ho : w.1 a = some (b, .inl (ci, fs))) (hc : gCl[ci]? = some (C, T, N)) (hin : ∀ w ∈ u_ws C T N, w ∈ lw_all) (hk : k < N) (hlink : Cond.fieldLink own index ref (T k).2.1 (T k).2.2.1 ∈ lw_all)
    (hsame : ∀ x, s.fieldFound? (T k).1 (T k).2.1 (T k).2.2.1 = some x → s.fieldFound? ref (T k).2.1 (T k).2.2.1 = some x) {v : Value} (hv : fs[k]? = some v) (hdg : decode cc pc = .ok (.getfield index, 3))
    (kk : W p l e R s m args below meth c H locs cells slots Q (F0 m (pc + 3) ls (v :: rest))) : W p l e R s m args below meth c H locs cells slots Q (F0 m pc ls (.ref a :: rest)) :=
  c_get F hK.1 (S.1.1.1 a b _ ho).1 hc hin hk hlink hsame hv hdg kk
theorem h_getN (F : CallFix p m c cc nL s args lw_all own) (hK : hK E A s) (S : hS E A s.heap cb sb w H locs) (ho : w.1 a = some (b, .inl (ci, fs))) (hc : gCl[ci]? = some (C, T, N)) (hin : ∀ w ∈ u_ws C T N, w ∈ lw_all) (hk : k < N) (hlink : va_Nw (.fieldLinkNest own index ref (T k).2.1 (T k).2.2.1 host) s)
    (hsame : ∀ x, s.fieldFound? (T k).1 (T k).2.1 (T k).2.2.1 = some x → s.fieldFound? ref (T k).2.1 (T k).2.2.1 = some x) {v : Value} (hv : fs[k]? = some v) (hdg : decode cc pc = .ok (.getfield index, 3))
    (kk : W p l e R s m args below meth c H locs cells slots Q (F0 m (pc + 3) ls (v :: rest))) : W p l e R s m args below meth c H locs cells slots Q (F0 m pc ls (.ref a :: rest)) :=
  c_getN F hK.1 (S.1.1.1 a b _ ho).1 hc hin hk hlink hsame hv hdg kk
theorem hS_up {H1 : Heap} {i : Nat} {e1 : hC} (S : hS E A s.heap cb sb w H locs) (hA : A a) (hat : va_at E.1 gCl (a, hTr E e1) H1) (hz : H1.size = H.size) (oq : ∀ q : Nat, q ≠ a → H1[q]? = H[q]?) : hS E A s.heap cb sb (hUp w.1 a e1, w.2) H1 (locs ++ [⟨a, i⟩]) :=
  ⟨⟨hP_up S.1.1 hat hA (by omega) (fun q _ h => oq q h), S.1.2.put hz oq hA⟩, S.2⟩
theorem h_put (F : CallFix p m c cc nL s args lw_all own) (hK : hK E A s) (S : hS E A s.heap cb sb w H locs) {v : Value} (hw : hpV w a ci k v = some w') (hc : gCl[ci]? = some (C, T, N)) (hin : ∀ w ∈ u_ws C T N, w ∈ lw_all) (ty0 : Nat → FieldType) (hty : ∀ k, k < N → parseFieldDescriptor (T k).2.2.1 = some (ty0 k)) (hnm : ∀ a, a < N → ∀ b, b < N → a ≠ b → (T a).2.1 ≠ (T b).2.1) (hk : k < N) (hlink : Cond.fieldLink own index ref (T k).2.1 (T k).2.2.1 ∈ lw_all)
    (hsame : ∀ x, s.fieldFound? (T k).1 (T k).2.1 (T k).2.2.1 = some x → s.fieldFound? ref (T k).2.1 (T k).2.2.1 = some x) (hfin : (T k).2.2.2 = false) {ty : FieldType} (hd : parseFieldDescriptor (T k).2.2.1 = some ty) (hn : narrow ty v = v) (hfit : fits ty v = true) (hdg : decode cc pc = .ok (.putfield index, 3))
    (kk : ∀ (H1 : Heap) (locs1 : List Loc), hS E A s.heap cb sb w' H1 locs1 → W p l e R s m args below meth c H1 locs1 (cb - w'.2.1) (sb - w'.2.2) Q (F0 m (pc + 3) ls rest)) : W p l e R s m args below meth c H locs (cb - w.2.1) (sb - w.2.2) Q (F0 m pc ls (v :: .ref a :: rest)) := by
  obtain ⟨fs, h1, h2, rfl⟩ := hpV_inv hw
  have h3 := S.1.1.1 a true _ h1
  exact c_put F hK.1 h3.1 hc hin ty0 hty hnm hk hlink hsame hfin hd hn hfit h2 hdg fun H1 i hat hz oq => kk H1 _ (hS_up S (h3.2 rfl) hat hz oq)
theorem h_putN (F : CallFix p m c cc nL s args lw_all own) (hK : hK E A s) (S : hS E A s.heap cb sb w H locs) {v : Value} (hw : hpV w a ci k v = some w') (hc : gCl[ci]? = some (C, T, N)) (hin : ∀ w ∈ u_ws C T N, w ∈ lw_all) (ty0 : Nat → FieldType) (hty : ∀ k, k < N → parseFieldDescriptor (T k).2.2.1 = some (ty0 k)) (hnm : ∀ a, a < N → ∀ b, b < N → a ≠ b → (T a).2.1 ≠ (T b).2.1) (hk : k < N) (hlink : va_Nw (.fieldLinkNest own index ref (T k).2.1 (T k).2.2.1 host) s)
    (hsame : ∀ x, s.fieldFound? (T k).1 (T k).2.1 (T k).2.2.1 = some x → s.fieldFound? ref (T k).2.1 (T k).2.2.1 = some x) (hfin : (T k).2.2.2 = false) {ty : FieldType} (hd : parseFieldDescriptor (T k).2.2.1 = some ty) (hn : narrow ty v = v) (hfit : fits ty v = true) (hdg : decode cc pc = .ok (.putfield index, 3))
    (kk : ∀ (H1 : Heap) (locs1 : List Loc), hS E A s.heap cb sb w' H1 locs1 → W p l e R s m args below meth c H1 locs1 (cb - w'.2.1) (sb - w'.2.2) Q (F0 m (pc + 3) ls rest)) : W p l e R s m args below meth c H locs (cb - w.2.1) (sb - w.2.2) Q (F0 m pc ls (v :: .ref a :: rest)) := by
  obtain ⟨fs, h1, h2, rfl⟩ := hpV_inv hw
  have h3 := S.1.1.1 a true _ h1
  exact c_putN F hK.1 h3.1 hc hin ty0 hty hnm hk hlink hsame hfin hd hn hfit h2 hdg fun H1 i hat hz oq => kk H1 _ (hS_up S (h3.2 rfl) hat hz oq)
/-- a final field, in its class's constructor -/
theorem h_putF (F : CallFix p m c cc nL s args lw_all own) (hK : hK E A s) (S : hS E A s.heap cb sb w H locs) {v : Value} (hw : hpV w a ci k v = some w') (hc : gCl[ci]? = some (C, T, N)) (hin : ∀ w ∈ u_ws C T N, w ∈ lw_all) (ty0 : Nat → FieldType) (hty : ∀ k, k < N → parseFieldDescriptor (T k).2.2.1 = some (ty0 k)) (hnm : ∀ a, a < N → ∀ b, b < N → a ≠ b → (T a).2.1 ≠ (T b).2.1) (hk : k < N) (hlink : Cond.fieldLink own index ref (T k).2.1 (T k).2.2.1 ∈ lw_all)
    (hsame : ∀ x, s.fieldFound? (T k).1 (T k).2.1 (T k).2.2.1 = some x → s.fieldFound? ref (T k).2.1 (T k).2.2.1 = some x) (hfin : (T k).2.2.2 = true) (hin2 : meth.name = "<init>") (hdecl : (T k).1 = own) {ty : FieldType} (hd : parseFieldDescriptor (T k).2.2.1 = some ty) (hn : narrow ty v = v) (hfit : fits ty v = true) (hdg : decode cc pc = .ok (.putfield index, 3))
    (kk : ∀ (H1 : Heap) (locs1 : List Loc), hS E A s.heap cb sb w' H1 locs1 → W p l e R s m args below meth c H1 locs1 (cb - w'.2.1) (sb - w'.2.2) Q (F0 m (pc + 3) ls rest)) : W p l e R s m args below meth c H locs (cb - w.2.1) (sb - w.2.2) Q (F0 m pc ls (v :: .ref a :: rest)) := by
  obtain ⟨fs, h1, hl, rfl⟩ := hpV_inv hw
  have h3 := S.1.1.1 a true _ h1
  have hts := F.2.2.2.2
  have hown := F.2.2.2.1
  have hap := va_apart (own := own) hts hin ty0 hty hnm hK.1 hc
  obtain ⟨r, z1, cell, q1, q2, q3, q4⟩ := h3.1
  have hr : r = (C, T, N) := Option.some.inj (z1.symm.trans hc)
  subst hr
  obtain ⟨hSl, hfc, kC, hkC, hkind⟩ := hK.1.1 ci _ hc
  obtain ⟨cf, kf, fi, f, hi, hsl⟩ := hSl k hk
  have hlay := hts _ (hin _ (u_in_lay hk))
  unfold u_lay at hlay
  rw [if_pos hfin] at hlay
  have hst := (u_facts hfc hkC (u_lays hts hin hk) hi).1
  have hcf : m.cls = cf := by
    obtain ⟨_, _, c', _, _, _, -, -, hf', -, -, -, hown2, -⟩ := Cond.laysFinal_spec hlay
    have e1 : c' = cf := by have := hi.symm.trans hf'; simp at this; exact this.1.symm
    rw [hdecl] at hown2
    rw [← e1]; exact Option.some.inj (hown.symm.trans hown2)
  have h6 := u_fits hfc hkC hkind (Or.inr hlay) hi hd hn hfit
  refine W.putFinK F.1 F.2.1 hown (hts _ hlink) (hsame _ hi) hst hcf hin2 (by rw [q2]; exact h6) q1 q3 (by rw [hsl]; exact k2_hasslot (q4 k hk)) rfl rfl hdg fun H' e1 e2 e3 => ?_
  rw [hsl] at e1 ⊢
  exact kk H' _ (hS_up S (h3.2 rfl) ⟨_, hc, t_OB.to (V := updV (vp_V fs) k v) ⟨_, e1, q2, q3, t_set q4 hap hk v⟩ (fun j _ => vp_updV_set hl v j)⟩ e2 e3)
theorem h_new (F : CallFix p m c cc nL s args lw_all own) (hK : hK E A s) (S : hS E A s.heap cb sb w H locs) (hrc : R.cells = cb) (hrs : R.slots = sb) (ty : Nat → FieldType) (hty : ∀ k, k < N → parseFieldDescriptor (T k).2.2.1 = some (ty k)) (hcl : Cond.classLink own index C ∈ lw_all) (hinst : Cond.instantiable C N ∈ lw_all) (hini : Cond.initialized C ∈ lw_all) (hin : ∀ w ∈ u_ws C T N, w ∈ lw_all)
    (hc : gCl[ci]? = some (C, T, N)) (hfs : ∀ j, j < N → defaultValue (ty j) = vp_V fs j) {f : Nat → hW → Prop} (hw : hNew w (.inl (ci, fs)) N f) (hdg : decode cc pc = .ok (.new index, 3))
    (kk : ∀ (q : Nat) (w' : hW) (H1 : Heap), f q w' → hS E A s.heap cb sb w' H1 locs → W p l e R s m args below meth c H1 locs (cb - w'.2.1) (sb - w'.2.2) Q (F0 m (pc + 3) ls (.ref q :: rest))) : W p l e R s m args below meth c H locs (cb - w.2.1) (sb - w.2.2) Q (F0 m pc ls rest) := by
  obtain ⟨h1, h2, h3⟩ := hw
  have hb1 := S.2.1
  have hb2 := S.2.2
  have hKn := hK.1.1 ci _ hc
  refine W.newcK F.1 F.2.1 F.2.2.2.1 (F.2.2.2.2 _ hcl) (F.2.2.2.2 _ hinst) (F.2.2.2.2 _ hini) rfl hdg (by omega) (by omega) hKn.2.1 rfl fun H1 kC hkC e1 z1 o1 => ?_
  refine W.widen (k := cb - (w.2.1 - 1)) (n := sb - (w.2.2 - N)) (by omega) (by omega) ?_
  refine kk H.size (hUp w.1 H.size (.inl (ci, fs)), w.2.1 - 1, w.2.2 - N) H1 (h3 H.size (S.1.1.2 _ (Nat.le_refl _))) ⟨⟨hP_up S.1.1 ⟨_, hc, (u_born ty F.2.2.2.2 hin hKn hkC e1 hty).to hfs⟩ (hK.2.2.2 _ S.1.2.1) (by omega) (fun q h _ => o1 q h), ⟨Nat.le_trans S.1.2.1 (by omega), fun x g1 g2 => (o1 x (Nat.lt_of_lt_of_le g1 S.1.2.1)).trans (S.1.2.2.1 x g1 g2), S.1.2.2.2⟩⟩, ?_, ?_⟩
  · show w.2.1 - 1 ≤ cb
    omega
  · show w.2.2 - N ≤ sb
    omega
end HR
