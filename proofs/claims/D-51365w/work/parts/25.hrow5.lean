/-! THE HEAP'S ROWS: narrow fields, a cell's place, constructors, classes -/
set_option maxRecDepth 100000
def g00 : mS := fun _ _ => 0
theorem ifo_inv {α : Type} {P : Prop} [Decidable P] {o : Option α} {y : α} (h : (if P then o else none) = some y) : P ∧ o = some y := by
  by_cases hp : P
  · rw [if_pos hp] at h
    exact ⟨hp, h⟩
  · rw [if_neg hp] at h
    cases h
def hpZ (w : hW) (a ci k : Nat) (v : Int32) : Option hW := if zN v = v ∧ fits .boolean (.int v) = true then hpV w a ci k (.int v) else none
theorem hpZ_inv {w w' : hW} {a ci k : Nat} {v : Int32} (h : hpZ w a ci k v = some w') : (zN v = v ∧ fits .boolean (.int v) = true) ∧ hpV w a ci k (.int v) = some w' := ifo_inv h
def hpB (w : hW) (a ci k : Nat) (v : Int32) : Option hW := if bN v = v ∧ fits .byte (.int v) = true then hpV w a ci k (.int v) else none
theorem hpB_inv {w w' : hW} {a ci k : Nat} {v : Int32} (h : hpB w a ci k v = some w') : (bN v = v ∧ fits .byte (.int v) = true) ∧ hpV w a ci k (.int v) = some w' := ifo_inv h
/-- the place of a cell, whatever its class -/
def hgC (w : hW) (a : Nat) : Option Int32 := match w.1 a with
  | some (_, .inl (c, fs)) => if 4 ≤ c ∧ c ≤ 9 then (match (fs[0]? : Option Value) with | some (Value.int x) => some x | _ => none) else none
  | _ => none
theorem hgC_inv {w : hW} {a : Nat} {x : Int32} (h : hgC w a = some x) : ∃ (c : Nat) (b : Bool) (fs : List Value), (c = 4 ∨ c = 5 ∨ c = 6 ∨ c = 7 ∨ c = 8 ∨ c = 9) ∧ w.1 a = some (b, .inl (c, fs)) ∧ fs[0]? = some (.int x) := by
  unfold hgC at h
  split at h
  · rename_i b c fs e
    obtain ⟨h1, h2⟩ := ifo_inv h
    split at h2
    · rename_i y e2
      cases h2
      exact ⟨c, b, fs, by omega, e, e2⟩
    · cases h2
  · cases h
def hpC (w : hW) (a : Nat) (v : Int32) : Option hW := match hCls w a with
  | some c => if 4 ≤ c ∧ c ≤ 9 then hpV w a c 0 (.int v) else none
  | none => none
theorem hpC_inv {w w' : hW} {a : Nat} {v : Int32} (h : hpC w a v = some w') : ∃ c : Nat, (c = 4 ∨ c = 5 ∨ c = 6 ∨ c = 7 ∨ c = 8 ∨ c = 9) ∧ hpV w a c 0 (.int v) = some w' := by
  unfold hpC at h
  split at h
  · rename_i c e
    obtain ⟨h1, h2⟩ := ifo_inv h
    exact ⟨c, by omega, h2⟩
  · cases h
theorem h_metI {l : Launch} {y : MethodName} {cc : ByteArray} {nL fr lo : Nat} {ret : Option FieldType} {As : List Value} {E : hEnv} {A : Nat → Prop} {w : hW} {Qa : Array Value → State → Outcome → State → Prop} {own : String} (hy : plainFor y = true) (ho : y.cls = own) (hn : y.name = "<init>") (hl : (lg_sl As).length ≤ nL)
    (body : ∀ (p : Program) (e : Env) (s : State) (m : MethodId) (args : Array Value) (below : List Frame) (meth : Method) (c : Code) (ls : Array Slot) (cb sb : Nat), CallFix p m c cc nL s args lw_all own → meth.sig.returnType = ret → meth.locks = false → meth.name = "<init>" → hK E A s → hS E A s.heap cb sb w s.heap [] → lv_has ls nL (lv_args 0 As) →
      W p l e { frames := fr, cells := cb, slots := sb, locals := lo } s m args below meth c s.heap [] (cb - w.2.1) (sb - w.2.2) (MQ below Qa args s cb sb A) (F0 m 0 ls [])) : Met l y (ws_ y cc nL ret) { frames := fr, cells := w.2.1, slots := w.2.2, locals := lo } (va_Pc As (gPre (hK E A) (hP E A w.1))) Qa w.2.1 w.2.2 A := by
  refine va_MetF (cc := cc) (maxL := nL) (ret := ret) hy rfl ?_
  intro p e s m args below meth c s₁ B hml hv
  obtain ⟨rfl, hP, hK⟩ := hv
  have hts := atoms_spec (ws := ws_ y cc nL ret) B.pre
  have hts : ∀ w ∈ lw_all, w.before _ s = true := fun w h => hts w (List.mem_cons_of_mem _ h)
  have hown : s.vm.findClass y.cls = some m.cls := findClass_of_methodNamed B.named
  rw [ho] at hown
  rw [lg_entry_eq]
  have := body p e s m _ below meth c _ w.2.1 w.2.2 ⟨B.exec, B.bytes, hml, hown, hts⟩ B.returns B.notSynchronized ((name_of_methodNamed B.named B.method).1.trans hn) hK ⟨⟨hP, va_S.rf⟩, Nat.le_refl _, Nat.le_refl _⟩ (lv_entry As hl)
  rw [Nat.sub_self, Nat.sub_self] at this
  exact this
section HR5
variable {p : Program} {l : Launch} {e : Env} {R : Room} {s : State} {m : MethodId} {args : Array Value} {below : List Frame} {meth : Method} {c : Code} {H : Heap} {locs : List Loc} {cells slots : Nat} {Q : State → Prop}
variable {pc nL cb sb index : Nat} {ls : Array Slot} {rest : List Value} {cc : ByteArray} {E : hEnv} {A : Nat → Prop} {w : hW} {a : Nat} {own : String}
theorem h_inst6 (F : CallFix p m c cc nL s args lw_all own) (hK : hK E A s) (S : hS E A s.heap cb sb w H locs) {x : Int32} (h : hInst 6 w a = some x) (hcl : Cond.classLink own index "MirrorDoors$Mirror" ∈ lw_all) (hdg : decode cc pc = .ok (.instanceof index, 3)) (kk : W p l e R s m args below meth c H locs cells slots Q (F0 m (pc + 3) ls (.int x :: rest))) : W p l e R s m args below meth c H locs cells slots Q (F0 m pc ls (.ref a :: rest)) := by
  obtain ⟨c', b, fs, hc, ho, rfl⟩ := hInst_inv h
  rcases hc with rfl | rfl | rfl | rfl | rfl | rfl
  · exact va_instNo F.1 F.2.1 F.2.2.2.1 (F.2.2.2.2 _ hcl) (hK.2.1.2.2.1 _ (List.mem_of_getElem? (i := 1) rfl)) (h_recv hK S (ci := 4) rfl ⟨b, fs, ho⟩) hdg kk
  · exact va_instNo F.1 F.2.1 F.2.2.2.1 (F.2.2.2.2 _ hcl) (hK.2.1.2.2.1 _ (List.mem_of_getElem? (i := 4) rfl)) (h_recv hK S (ci := 5) rfl ⟨b, fs, ho⟩) hdg kk
  · exact va_instS F.1 F.2.1 F.2.2.2.1 (F.2.2.2.2 _ hcl) (hK.1.1 6 _ rfl).2 (h_recv hK S (ci := 6) rfl ⟨b, fs, ho⟩) hdg kk
  · exact va_instNo F.1 F.2.1 F.2.2.2.1 (F.2.2.2.2 _ hcl) (hK.2.1.2.2.1 _ (List.mem_of_getElem? (i := 0) rfl)) (h_recv hK S (ci := 7) rfl ⟨b, fs, ho⟩) hdg kk
  · exact va_instNo F.1 F.2.1 F.2.2.2.1 (F.2.2.2.2 _ hcl) (hK.2.1.2.2.1 _ (List.mem_of_getElem? (i := 2) rfl)) (h_recv hK S (ci := 8) rfl ⟨b, fs, ho⟩) hdg kk
  · exact va_instNo F.1 F.2.1 F.2.2.2.1 (F.2.2.2.2 _ hcl) (hK.2.1.2.2.1 _ (List.mem_of_getElem? (i := 3) rfl)) (h_recv hK S (ci := 9) rfl ⟨b, fs, ho⟩) hdg kk
theorem h_inst7 (F : CallFix p m c cc nL s args lw_all own) (hK : hK E A s) (S : hS E A s.heap cb sb w H locs) {x : Int32} (h : hInst 7 w a = some x) (hcl : Cond.classLink own index "MirrorDoors$Door" ∈ lw_all) (hdg : decode cc pc = .ok (.instanceof index, 3)) (kk : W p l e R s m args below meth c H locs cells slots Q (F0 m (pc + 3) ls (.int x :: rest))) : W p l e R s m args below meth c H locs cells slots Q (F0 m pc ls (.ref a :: rest)) := by
  obtain ⟨c', b, fs, hc, ho, rfl⟩ := hInst_inv h
  rcases hc with rfl | rfl | rfl | rfl | rfl | rfl
  · exact va_instNo F.1 F.2.1 F.2.2.2.1 (F.2.2.2.2 _ hcl) (hK.2.1.2.2.1 _ (List.mem_of_getElem? (i := 5) rfl)) (h_recv hK S (ci := 4) rfl ⟨b, fs, ho⟩) hdg kk
  · exact va_instNo F.1 F.2.1 F.2.2.2.1 (F.2.2.2.2 _ hcl) (hK.2.1.2.2.1 _ (List.mem_of_getElem? (i := 9) rfl)) (h_recv hK S (ci := 5) rfl ⟨b, fs, ho⟩) hdg kk
  · exact va_instNo F.1 F.2.1 F.2.2.2.1 (F.2.2.2.2 _ hcl) (hK.2.1.2.2.1 _ (List.mem_of_getElem? (i := 7) rfl)) (h_recv hK S (ci := 6) rfl ⟨b, fs, ho⟩) hdg kk
  · exact va_instS F.1 F.2.1 F.2.2.2.1 (F.2.2.2.2 _ hcl) (hK.1.1 7 _ rfl).2 (h_recv hK S (ci := 7) rfl ⟨b, fs, ho⟩) hdg kk
  · exact va_instNo F.1 F.2.1 F.2.2.2.1 (F.2.2.2.2 _ hcl) (hK.2.1.2.2.1 _ (List.mem_of_getElem? (i := 6) rfl)) (h_recv hK S (ci := 8) rfl ⟨b, fs, ho⟩) hdg kk
  · exact va_instNo F.1 F.2.1 F.2.2.2.1 (F.2.2.2.2 _ hcl) (hK.2.1.2.2.1 _ (List.mem_of_getElem? (i := 8) rfl)) (h_recv hK S (ci := 9) rfl ⟨b, fs, ho⟩) hdg kk
theorem h_inst8 (F : CallFix p m c cc nL s args lw_all own) (hK : hK E A s) (S : hS E A s.heap cb sb w H locs) {x : Int32} (h : hInst 8 w a = some x) (hcl : Cond.classLink own index "MirrorDoors$Gate" ∈ lw_all) (hdg : decode cc pc = .ok (.instanceof index, 3)) (kk : W p l e R s m args below meth c H locs cells slots Q (F0 m (pc + 3) ls (.int x :: rest))) : W p l e R s m args below meth c H locs cells slots Q (F0 m pc ls (.ref a :: rest)) := by
  obtain ⟨c', b, fs, hc, ho, rfl⟩ := hInst_inv h
  rcases hc with rfl | rfl | rfl | rfl | rfl | rfl
  · exact va_instNo F.1 F.2.1 F.2.2.2.1 (F.2.2.2.2 _ hcl) (hK.2.1.2.2.1 _ (List.mem_of_getElem? (i := 11) rfl)) (h_recv hK S (ci := 4) rfl ⟨b, fs, ho⟩) hdg kk
  · exact va_instNo F.1 F.2.1 F.2.2.2.1 (F.2.2.2.2 _ hcl) (hK.2.1.2.2.1 _ (List.mem_of_getElem? (i := 14) rfl)) (h_recv hK S (ci := 5) rfl ⟨b, fs, ho⟩) hdg kk
  · exact va_instNo F.1 F.2.1 F.2.2.2.1 (F.2.2.2.2 _ hcl) (hK.2.1.2.2.1 _ (List.mem_of_getElem? (i := 12) rfl)) (h_recv hK S (ci := 6) rfl ⟨b, fs, ho⟩) hdg kk
  · exact va_instNo F.1 F.2.1 F.2.2.2.1 (F.2.2.2.2 _ hcl) (hK.2.1.2.2.1 _ (List.mem_of_getElem? (i := 10) rfl)) (h_recv hK S (ci := 7) rfl ⟨b, fs, ho⟩) hdg kk
  · exact va_instS F.1 F.2.1 F.2.2.2.1 (F.2.2.2.2 _ hcl) (hK.1.1 8 _ rfl).2 (h_recv hK S (ci := 8) rfl ⟨b, fs, ho⟩) hdg kk
  · exact va_instNo F.1 F.2.1 F.2.2.2.1 (F.2.2.2.2 _ hcl) (hK.2.1.2.2.1 _ (List.mem_of_getElem? (i := 13) rfl)) (h_recv hK S (ci := 9) rfl ⟨b, fs, ho⟩) hdg kk
theorem h_cast {ci N : Nat} {C : String} {T : u_T} {u : Unit} (F : CallFix p m c cc nL s args lw_all own) (hK : hK E A s) (S : hS E A s.heap cb sb w H locs) (h : hIs w a ci = some u) (hc : gCl[ci]? = some (C, T, N)) (hcl : Cond.classLink own index C ∈ lw_all) (hdg : decode cc pc = .ok (.checkcast index, 3)) (kk : W p l e R s m args below meth c H locs cells slots Q (F0 m (pc + 3) ls (.ref a :: rest))) : W p l e R s m args below meth c H locs cells slots Q (F0 m pc ls (.ref a :: rest)) :=
  va_castS F.1 F.2.1 F.2.2.2.1 (F.2.2.2.2 _ hcl) (hK.1.1 ci _ hc).2 (h_recv hK S hc (hIs_inv h)) hdg kk
theorem h_castC {u : Unit} (F : CallFix p m c cc nL s args lw_all own) (hK : hK E A s) (S : hS E A s.heap cb sb w H locs) (h : hIsC w a = some u) (hcl : Cond.classLink own index "MirrorDoors$Cell" ∈ lw_all) (hdg : decode cc pc = .ok (.checkcast index, 3)) (kk : W p l e R s m args below meth c H locs cells slots Q (F0 m (pc + 3) ls (.ref a :: rest))) : W p l e R s m args below meth c H locs cells slots Q (F0 m pc ls (.ref a :: rest)) := by
  obtain ⟨c', b, fs, hc, ho⟩ := hIsC_inv h
  rcases hc with rfl | rfl | rfl | rfl | rfl | rfl
  · exact va_castY F.1 F.2.1 F.2.2.2.1 (F.2.2.2.2 _ hcl) (hK.2.1.2.2.2.2.1 _ (List.mem_of_getElem? (i := 0) rfl)) (h_recv hK S (ci := 4) rfl ⟨b, fs, ho⟩) hdg kk
  · exact va_castY F.1 F.2.1 F.2.2.2.1 (F.2.2.2.2 _ hcl) (hK.2.1.2.2.2.2.1 _ (List.mem_of_getElem? (i := 1) rfl)) (h_recv hK S (ci := 5) rfl ⟨b, fs, ho⟩) hdg kk
  · exact va_castY F.1 F.2.1 F.2.2.2.1 (F.2.2.2.2 _ hcl) (hK.2.1.2.2.2.2.1 _ (List.mem_of_getElem? (i := 2) rfl)) (h_recv hK S (ci := 6) rfl ⟨b, fs, ho⟩) hdg kk
  · exact va_castY F.1 F.2.1 F.2.2.2.1 (F.2.2.2.2 _ hcl) (hK.2.1.2.2.2.2.1 _ (List.mem_of_getElem? (i := 3) rfl)) (h_recv hK S (ci := 7) rfl ⟨b, fs, ho⟩) hdg kk
  · exact va_castY F.1 F.2.1 F.2.2.2.1 (F.2.2.2.2 _ hcl) (hK.2.1.2.2.2.2.1 _ (List.mem_of_getElem? (i := 4) rfl)) (h_recv hK S (ci := 8) rfl ⟨b, fs, ho⟩) hdg kk
  · exact va_castY F.1 F.2.1 F.2.2.2.1 (F.2.2.2.2 _ hcl) (hK.2.1.2.2.2.2.1 _ (List.mem_of_getElem? (i := 5) rfl)) (h_recv hK S (ci := 9) rfl ⟨b, fs, ho⟩) hdg kk
end HR5
