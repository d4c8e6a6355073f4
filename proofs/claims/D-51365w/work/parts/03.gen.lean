/-! GENERIC: pictures of a heap, calls between contracts that are told by pictures -/
set_option maxRecDepth 100000
theorem nar_bool (x : Int32) : ∃ y : Int32, narrow .boolean (.int x) = .int y := ⟨_, rfl⟩
def zN (x : Int32) : Int32 := vp_nar .boolean x
theorem zN_eq (x : Int32) : narrow .boolean (.int x) = .int (zN x) := rfl
theorem zN_0 : zN 0 = 0 := by decide +kernel
theorem zN_1 : zN 1 = 1 := by decide +kernel
abbrev gPre (K : State → Prop) (P : Heap → Prop) (U : State) : Prop := P U.heap ∧ K U
def gS (A : Nat → Prop) (H0 : Heap) (P : Heap → Prop) (H : Heap) (locs : List Loc) : Prop := P H ∧ va_S A H0 H locs
/-- what is known of the tables and of the cells that no method of the module writes -/
def gKm (K : State → Prop) (A : Nat → Prop) : Prop := ∀ u U : State, u.WarmedH U.vm → u.heap.size ≤ U.heap.size → (∀ q : Nat, q < u.heap.size → ¬ A q → U.heap[q]? = u.heap[q]?) → K u → K U
theorem gBlind {K : State → Prop} {P : Heap → Prop} {av : List Value} {A : Nat → Prop} (hK : gKm K A) : FrameBlind (va_Pc av (gPre K P)) := by
  intro a U g mk q
  obtain ⟨q0, q1, q2⟩ := q
  exact ⟨q0, q1, hK U (U.calling g mk a) (State.WarmedH.refl U) (Nat.le_refl _) (fun _ _ _ => rfl) q2⟩
abbrev gQi (r : Int32) (P' : Heap → Prop) (A : Nat → Prop) : Array Value → State → Outcome → State → Prop := va_Qi (fun (v : Int32) (_ : Unit) => v = r) (fun _ t => P' t.heap) A
abbrev gQv (P' : Heap → Prop) (A : Nat → Prop) : Array Value → State → Outcome → State → Prop := va_Qv (fun (_ : Unit) => True) (fun _ t => P' t.heap) A
abbrev gQf (r : UInt32) (P' : Heap → Prop) (A : Nat → Prop) : Array Value → State → Outcome → State → Prop := va_Qf (fun (v : UInt32) (_ : Unit) => v = r) (fun _ t => P' t.heap) A
abbrev gQd (r : UInt64) (P' : Heap → Prop) (A : Nat → Prop) : Array Value → State → Outcome → State → Prop := va_Qd (fun (v : UInt64) (_ : Unit) => v = r) (fun _ t => P' t.heap) A
section GC
variable {p : Program} {l : Launch} {e : Env} {R : Room} {s : State} {m : MethodId} {args : Array Value} {below : List Frame} {meth : Method} {c : Code} {H : Heap} {locs : List Loc} {cells slots : Nat} {Q : State → Prop}
variable {pc : Nat} {ls : Array Slot} {rest st0 : List Value} {A : Nat → Prop} {mc ms n nL maxL index : Nat} {cc bytes : ByteArray} {K : State → Prop} {P P' : Heap → Prop} {own C : String} {y : MethodName} {ret : Option FieldType} {ws : List Cond} {rm : Room} {As : List Value} {b : Nat}
/-- an object's class and cell, for a call through it -/
def gRecv (s : State) (H : Heap) (C : String) (b : Nat) : Prop := ∃ cellB : Cell, H[b]? = some cellB ∧ cellB.vm.isStatics = false ∧ s.vm.findClass C = some cellB.cls
theorem g_runV {Qa : Array Value → State → Outcome → State → Prop} (F : CallFix p m c cc nL s args lw_all own) (hK : K s) (hKm : gKm K A) (S : gS A s.heap P H locs) (M : Met l y ws rm (va_Pc (.ref b :: As) (gPre K P)) Qa mc ms A)
    (cw : CallW R s args own C index y bytes maxL ret ws rm mc ms n) (hrv : gRecv s H C b) (hn : As.length = n) (hl : ls.size = nL) (hst : st0 = As.reverse ++ .ref b :: rest) (hW : (rest.map fun v => v.category).sum ≤ 8) (hdg : decode cc pc = .ok (.invokevirtual index, 3)) (hf : cells + mc ≤ R.cells ∧ slots + ms ≤ R.slots) :
    va_Run p l e R s m args below meth c H locs cells slots mc ms (F0 m pc ls st0) rest (Qa (Value.ref b :: As).toArray) A :=
  va_runV (g := F0 m pc ls st0) F M cw ⟨gBlind hKm, hrv, fun U hU hW => ⟨rfl, by rw [hU]; exact S.1, hKm s U hW (by rw [hU]; exact S.2.1) (by rw [hU]; exact S.2.2.1) hK⟩⟩ rfl hn hl hst (lv_room hW) hdg hf
theorem g_runS {Qa : Array Value → State → Outcome → State → Prop} (F : CallFix p m c cc nL s args lw_all own) (hK : K s) (hKm : gKm K A) (S : gS A s.heap P H locs) (M : Met l y ws rm (va_Pc As (gPre K P)) Qa mc ms A)
    (cw : CallB R s args own index y bytes maxL ret ws rm mc ms n ∧ (Cond.static y).before args s = true) (hn : As.length = n) (hl : ls.size = nL) (hst : st0 = As.reverse ++ rest) (hW : (rest.map fun v => v.category).sum ≤ 8) (hdg : decode cc pc = .ok (.invokestatic index, 3)) (hf : cells + mc ≤ R.cells ∧ slots + ms ≤ R.slots) :
    va_Run p l e R s m args below meth c H locs cells slots mc ms (F0 m pc ls st0) rest (Qa As.toArray) A :=
  va_runS (g := F0 m pc ls st0) F M cw ⟨gBlind hKm, fun U hU hW => ⟨rfl, by rw [hU]; exact S.1, hKm s U hW (by rw [hU]; exact S.2.1) (by rw [hU]; exact S.2.2.1) hK⟩⟩ rfl hn hl hst (lv_room hW) hdg hf
theorem g_ki {r : Int32} {a : Array Value} (hr : va_Run p l e R s m args below meth c H locs cells slots mc ms (F0 m pc ls st0) rest (gQi r P' A a) A) (S : gS A s.heap P H locs)
    (kk : ∀ (H1 : Heap) (locs1 : List Loc), gS A s.heap P' H1 locs1 → W p l e R s m args below meth c H1 locs1 (cells + mc) (slots + ms) Q (F0 m (pc + 3) ls (.int r :: rest))) : W p l e R s m args below meth c H locs cells slots Q (F0 m pc ls st0) := by
  refine va_calli hr S.2 (fun q _ h => h) (fun q h => h) fun r1 u t H1 locs1 ht hvm hp hB hz hk hS => ?_
  rw [hp]
  exact kk H1 locs1 ⟨by rw [← ht]; exact hB, hS⟩
theorem g_kv {a : Array Value} (hr : va_Run p l e R s m args below meth c H locs cells slots mc ms (F0 m pc ls st0) rest (gQv P' A a) A) (S : gS A s.heap P H locs)
    (kk : ∀ (H1 : Heap) (locs1 : List Loc), gS A s.heap P' H1 locs1 → W p l e R s m args below meth c H1 locs1 (cells + mc) (slots + ms) Q (F0 m (pc + 3) ls rest)) : W p l e R s m args below meth c H locs cells slots Q (F0 m pc ls st0) :=
  va_callv hr S.2 (fun q _ h => h) (fun q h => h) fun u t H1 locs1 ht hvm hp hB hz hk hS => kk H1 locs1 ⟨by rw [← ht]; exact hB, hS⟩
theorem g_kf {r : UInt32} {a : Array Value} (hr : va_Run p l e R s m args below meth c H locs cells slots mc ms (F0 m pc ls st0) rest (gQf r P' A a) A) (S : gS A s.heap P H locs)
    (kk : ∀ (H1 : Heap) (locs1 : List Loc), gS A s.heap P' H1 locs1 → W p l e R s m args below meth c H1 locs1 (cells + mc) (slots + ms) Q (F0 m (pc + 3) ls (.float r :: rest))) : W p l e R s m args below meth c H locs cells slots Q (F0 m pc ls st0) := by
  refine va_callf hr S.2 (fun q _ h => h) (fun q h => h) fun r1 u t H1 locs1 ht hvm hp hB hz hk hS => ?_
  rw [hp]
  exact kk H1 locs1 ⟨by rw [← ht]; exact hB, hS⟩
theorem g_kd {r : UInt64} {a : Array Value} (hr : va_Run p l e R s m args below meth c H locs cells slots mc ms (F0 m pc ls st0) rest (gQd r P' A a) A) (S : gS A s.heap P H locs)
    (kk : ∀ (H1 : Heap) (locs1 : List Loc), gS A s.heap P' H1 locs1 → W p l e R s m args below meth c H1 locs1 (cells + mc) (slots + ms) Q (F0 m (pc + 3) ls (.double r :: rest))) : W p l e R s m args below meth c H locs cells slots Q (F0 m pc ls st0) := by
  refine va_calld hr S.2 (fun q _ h => h) (fun q h => h) fun r1 u t H1 locs1 ht hvm hp hB hz hk hS => ?_
  rw [hp]
  exact kk H1 locs1 ⟨by rw [← ht]; exact hB, hS⟩
/-! ends -/
theorem g_zretN {Qc : Array Value → State → Outcome → State → Prop} {free : Addr → Prop} {v v' : Int32} {ty : FieldType} (hexec : p.tables.exec = Jvm.exec) (hb : c.code = cc) (hr : meth.sig.returnType = some ty) (hn : narrow ty (.int v) = .int v')
    (hq : ∀ t : State, t.heap = H → s.WarmedH t.vm → Qc args s (.returned (some (.int v'))) t) (hf : ∀ q ∈ locs, free q.base) (hdg : decode cc pc = .ok (.ireturn, 1)) (hlocks : meth.locks = false) : W p l e R s m args below meth c H locs cells slots (MQ below Qc args s cells slots free) (F0 m pc ls [.int v]) := by
  intro T hT X
  obtain ⟨fs, hret, hrun, hended, hW, hframe⟩ := X.leave (v := some (.int v')) (fun h => by rw [hr] at h; cases h)
  have hmeth' : T.vm.method? m = some meth := X.method'
  refine ⟨T.setFrames fs, ?_, .returned (some (.int v')), hrun, hended, hq _ hT hW, locs, ⟨⟨_, rfl⟩, hW, hframe⟩, hf⟩
  jvm_step X.here [X.here.top, hexec, hb, hdg, hmeth', hr, hn]
  (try refine ⟨rfl, ?_⟩); (try refine ⟨rfl, ?_⟩)
  first | (intro acts; rw [hret _ acts rfl rfl rfl]) | rw [hret _ _ rfl rfl rfl]
  exact Steps.refl _
theorem g_iret {r v : Int32} (F : CallFix p m c cc nL s args lw_all own) (hr : meth.sig.returnType = some .int) (hlk : meth.locks = false) (S : gS A s.heap P H locs) (hv : v = r) (hdg : decode cc pc = .ok (.ireturn, 1)) : W p l e R s m args below meth c H locs cells slots (MQ below (gQi r P A) args s cells slots A) (F0 m pc ls [.int v]) := by
  subst hv
  exact W.iret F.1 F.2.1 hr (fun t ht hW => ⟨⟨v, (), rfl, rfl, by show P t.heap; rw [ht]; exact S.1⟩, S.2.F ht⟩) S.2.2.2 hdg hlk
theorem g_zret {r v : Int32} (F : CallFix p m c cc nL s args lw_all own) (hr : meth.sig.returnType = some .boolean) (hlk : meth.locks = false) (S : gS A s.heap P H locs) (hv : zN v = r) (hdg : decode cc pc = .ok (.ireturn, 1)) : W p l e R s m args below meth c H locs cells slots (MQ below (gQi r P A) args s cells slots A) (F0 m pc ls [.int v]) := by
  subst hv
  exact g_zretN F.1 F.2.1 hr (zN_eq v) (fun t ht hW => ⟨⟨zN v, (), rfl, rfl, by show P t.heap; rw [ht]; exact S.1⟩, S.2.F ht⟩) S.2.2.2 hdg hlk
theorem g_vret (F : CallFix p m c cc nL s args lw_all own) (hr : meth.sig.returnType = none) (hlk : meth.locks = false) (S : gS A s.heap P H locs) (hdg : decode cc pc = .ok (.return_, 1)) : W p l e R s m args below meth c H locs cells slots (MQ below (gQv P A) args s cells slots A) (F0 m pc ls []) :=
  W.vret F.1 F.2.1 hr (fun t ht hW => ⟨⟨(), rfl, trivial, by show P t.heap; rw [ht]; exact S.1⟩, S.2.F ht⟩) S.2.2.2 hdg hlk
theorem g_fret {r v : UInt32} (F : CallFix p m c cc nL s args lw_all own) (hr : meth.sig.returnType = some .float) (hlk : meth.locks = false) (S : gS A s.heap P H locs) (hv : v = r) (hdg : decode cc pc = .ok (.freturn, 1)) : W p l e R s m args below meth c H locs cells slots (MQ below (gQf r P A) args s cells slots A) (F0 m pc ls [.float v]) := by
  subst hv
  exact W.fret F.1 F.2.1 hr (fun t ht hW => ⟨⟨v, (), rfl, rfl, by show P t.heap; rw [ht]; exact S.1⟩, S.2.F ht⟩) S.2.2.2 hdg hlk
theorem g_dret {r v : UInt64} (F : CallFix p m c cc nL s args lw_all own) (hr : meth.sig.returnType = some .double) (hlk : meth.locks = false) (S : gS A s.heap P H locs) (hv : v = r) (hdg : decode cc pc = .ok (.dreturn, 1)) : W p l e R s m args below meth c H locs cells slots (MQ below (gQd r P A) args s cells slots A) (F0 m pc ls [.double v]) := by
  subst hv
  exact W.dret F.1 F.2.1 hr (fun t ht hW => ⟨⟨v, (), rfl, rfl, by show P t.heap; rw [ht]; exact S.1⟩, S.2.F ht⟩) S.2.2.2 hdg hlk
end GC
/-- a contract out of a walk of its body -/
theorem g_met {l : Launch} {y : MethodName} {cc : ByteArray} {nL : Nat} {ret : Option FieldType} {rm : Room} {As : List Value} {K : State → Prop} {P : Heap → Prop} {A : Nat → Prop} {Qa : Array Value → State → Outcome → State → Prop} {mc ms : Nat} {own : String} (hy : plainName y.cls = true) (ho : y.cls = own) (hl : (lg_sl As).length ≤ nL)
    (body : ∀ (p : Program) (e : Env) (s : State) (m : MethodId) (args : Array Value) (below : List Frame) (meth : Method) (c : Code) (ls : Array Slot), CallFix p m c cc nL s args lw_all own → meth.sig.returnType = ret → meth.locks = false → K s → gS A s.heap P s.heap [] → lv_has ls nL (lv_args 0 As) →
      W p l e rm s m args below meth c s.heap [] 0 0 (MQ below Qa args s mc ms A) (F0 m 0 ls [])) : Met l y (ws_ y cc nL ret) rm (va_Pc As (gPre K P)) Qa mc ms A := by
  refine Met.ofW (cc := cc) (maxL := nL) (ret := ret) hy rfl ?_
  intro p e s m args below meth c s₁ B hml hv
  obtain ⟨rfl, hP, hK⟩ := hv
  have hts := atoms_spec (ws := ws_ y cc nL ret) B.pre
  have hts : ∀ w ∈ lw_all, w.before _ s = true := fun w h => hts w (List.mem_cons_of_mem _ h)
  have hown : s.vm.findClass y.cls = some m.cls := findClass_of_methodNamed B.named
  rw [ho] at hown
  rw [lg_entry_eq]
  exact body p e s m _ below meth c _ ⟨B.exec, B.bytes, hml, hown, hts⟩ B.returns B.notSynchronized hK ⟨hP, va_S.rf⟩ (lv_entry As hl)
/-! binds of several answers -/
def bd1 {a0 γ : Type} (o : Option a0) (f : a0 → Option γ) : Option γ := match o with
  | none => none
  | some x => f x
theorem bd1_some {a0 γ : Type} (x : a0) (f : a0 → Option γ) : bd1 (some x) f = f x := rfl
theorem bd1_inv {a0 γ : Type} {o : Option a0} {f : a0 → Option γ} {r : γ} (h : bd1 o f = some r) : ∃ x, o = some x ∧ f x = some r := by
  cases o with
  | none => cases h
  | some x => exact ⟨x, rfl, h⟩
def bd2 {a0 a1 γ : Type} (o : Option (a0 × a1)) (f : a0 → a1 → Option γ) : Option γ := match o with
  | none => none
  | some (x0, x1) => f x0 x1
theorem bd2_some {a0 a1 γ : Type} (x0 : a0) (x1 : a1) (f : a0 → a1 → Option γ) : bd2 (some (x0, x1)) f = f x0 x1 := rfl
theorem bd2_inv {a0 a1 γ : Type} {o : Option (a0 × a1)} {f : a0 → a1 → Option γ} {r : γ} (h : bd2 o f = some r) : ∃ x0 x1, o = some (x0, x1) ∧ f x0 x1 = some r := by
  cases o with
  | none => cases h
  | some x =>
    obtain ⟨x0, x1⟩ := x
    exact ⟨x0, x1, rfl, h⟩
def bd3 {a0 a1 a2 γ : Type} (o : Option (a0 × a1 × a2)) (f : a0 → a1 → a2 → Option γ) : Option γ := match o with
  | none => none
  | some (x0, x1, x2) => f x0 x1 x2
theorem bd3_some {a0 a1 a2 γ : Type} (x0 : a0) (x1 : a1) (x2 : a2) (f : a0 → a1 → a2 → Option γ) : bd3 (some (x0, x1, x2)) f = f x0 x1 x2 := rfl
theorem bd3_inv {a0 a1 a2 γ : Type} {o : Option (a0 × a1 × a2)} {f : a0 → a1 → a2 → Option γ} {r : γ} (h : bd3 o f = some r) : ∃ x0 x1 x2, o = some (x0, x1, x2) ∧ f x0 x1 x2 = some r := by
  cases o with
  | none => cases h
  | some x =>
    obtain ⟨x0, x1, x2⟩ := x
    exact ⟨x0, x1, x2, rfl, h⟩
def bd4 {a0 a1 a2 a3 γ : Type} (o : Option (a0 × a1 × a2 × a3)) (f : a0 → a1 → a2 → a3 → Option γ) : Option γ := match o with
  | none => none
  | some (x0, x1, x2, x3) => f x0 x1 x2 x3
theorem bd4_some {a0 a1 a2 a3 γ : Type} (x0 : a0) (x1 : a1) (x2 : a2) (x3 : a3) (f : a0 → a1 → a2 → a3 → Option γ) : bd4 (some (x0, x1, x2, x3)) f = f x0 x1 x2 x3 := rfl
theorem bd4_inv {a0 a1 a2 a3 γ : Type} {o : Option (a0 × a1 × a2 × a3)} {f : a0 → a1 → a2 → a3 → Option γ} {r : γ} (h : bd4 o f = some r) : ∃ x0 x1 x2 x3, o = some (x0, x1, x2, x3) ∧ f x0 x1 x2 x3 = some r := by
  cases o with
  | none => cases h
  | some x =>
    obtain ⟨x0, x1, x2, x3⟩ := x
    exact ⟨x0, x1, x2, x3, rfl, h⟩
def bd5 {a0 a1 a2 a3 a4 γ : Type} (o : Option (a0 × a1 × a2 × a3 × a4)) (f : a0 → a1 → a2 → a3 → a4 → Option γ) : Option γ := match o with
  | none => none
  | some (x0, x1, x2, x3, x4) => f x0 x1 x2 x3 x4
theorem bd5_some {a0 a1 a2 a3 a4 γ : Type} (x0 : a0) (x1 : a1) (x2 : a2) (x3 : a3) (x4 : a4) (f : a0 → a1 → a2 → a3 → a4 → Option γ) : bd5 (some (x0, x1, x2, x3, x4)) f = f x0 x1 x2 x3 x4 := rfl
theorem bd5_inv {a0 a1 a2 a3 a4 γ : Type} {o : Option (a0 × a1 × a2 × a3 × a4)} {f : a0 → a1 → a2 → a3 → a4 → Option γ} {r : γ} (h : bd5 o f = some r) : ∃ x0 x1 x2 x3 x4, o = some (x0, x1, x2, x3, x4) ∧ f x0 x1 x2 x3 x4 = some r := by
  cases o with
  | none => cases h
  | some x =>
    obtain ⟨x0, x1, x2, x3, x4⟩ := x
    exact ⟨x0, x1, x2, x3, x4, rfl, h⟩
def bd6 {a0 a1 a2 a3 a4 a5 γ : Type} (o : Option (a0 × a1 × a2 × a3 × a4 × a5)) (f : a0 → a1 → a2 → a3 → a4 → a5 → Option γ) : Option γ := match o with
  | none => none
  | some (x0, x1, x2, x3, x4, x5) => f x0 x1 x2 x3 x4 x5
theorem bd6_some {a0 a1 a2 a3 a4 a5 γ : Type} (x0 : a0) (x1 : a1) (x2 : a2) (x3 : a3) (x4 : a4) (x5 : a5) (f : a0 → a1 → a2 → a3 → a4 → a5 → Option γ) : bd6 (some (x0, x1, x2, x3, x4, x5)) f = f x0 x1 x2 x3 x4 x5 := rfl
theorem bd6_inv {a0 a1 a2 a3 a4 a5 γ : Type} {o : Option (a0 × a1 × a2 × a3 × a4 × a5)} {f : a0 → a1 → a2 → a3 → a4 → a5 → Option γ} {r : γ} (h : bd6 o f = some r) : ∃ x0 x1 x2 x3 x4 x5, o = some (x0, x1, x2, x3, x4, x5) ∧ f x0 x1 x2 x3 x4 x5 = some r := by
  cases o with
  | none => cases h
  | some x =>
    obtain ⟨x0, x1, x2, x3, x4, x5⟩ := x
    exact ⟨x0, x1, x2, x3, x4, x5, rfl, h⟩
def bd7 {a0 a1 a2 a3 a4 a5 a6 γ : Type} (o : Option (a0 × a1 × a2 × a3 × a4 × a5 × a6)) (f : a0 → a1 → a2 → a3 → a4 → a5 → a6 → Option γ) : Option γ := match o with
  | none => none
  | some (x0, x1, x2, x3, x4, x5, x6) => f x0 x1 x2 x3 x4 x5 x6
theorem bd7_some {a0 a1 a2 a3 a4 a5 a6 γ : Type} (x0 : a0) (x1 : a1) (x2 : a2) (x3 : a3) (x4 : a4) (x5 : a5) (x6 : a6) (f : a0 → a1 → a2 → a3 → a4 → a5 → a6 → Option γ) : bd7 (some (x0, x1, x2, x3, x4, x5, x6)) f = f x0 x1 x2 x3 x4 x5 x6 := rfl
theorem bd7_inv {a0 a1 a2 a3 a4 a5 a6 γ : Type} {o : Option (a0 × a1 × a2 × a3 × a4 × a5 × a6)} {f : a0 → a1 → a2 → a3 → a4 → a5 → a6 → Option γ} {r : γ} (h : bd7 o f = some r) : ∃ x0 x1 x2 x3 x4 x5 x6, o = some (x0, x1, x2, x3, x4, x5, x6) ∧ f x0 x1 x2 x3 x4 x5 x6 = some r := by
  cases o with
  | none => cases h
  | some x =>
    obtain ⟨x0, x1, x2, x3, x4, x5, x6⟩ := x
    exact ⟨x0, x1, x2, x3, x4, x5, x6, rfl, h⟩
def bd8 {a0 a1 a2 a3 a4 a5 a6 a7 γ : Type} (o : Option (a0 × a1 × a2 × a3 × a4 × a5 × a6 × a7)) (f : a0 → a1 → a2 → a3 → a4 → a5 → a6 → a7 → Option γ) : Option γ := match o with
  | none => none
  | some (x0, x1, x2, x3, x4, x5, x6, x7) => f x0 x1 x2 x3 x4 x5 x6 x7
theorem bd8_some {a0 a1 a2 a3 a4 a5 a6 a7 γ : Type} (x0 : a0) (x1 : a1) (x2 : a2) (x3 : a3) (x4 : a4) (x5 : a5) (x6 : a6) (x7 : a7) (f : a0 → a1 → a2 → a3 → a4 → a5 → a6 → a7 → Option γ) : bd8 (some (x0, x1, x2, x3, x4, x5, x6, x7)) f = f x0 x1 x2 x3 x4 x5 x6 x7 := rfl
theorem bd8_inv {a0 a1 a2 a3 a4 a5 a6 a7 γ : Type} {o : Option (a0 × a1 × a2 × a3 × a4 × a5 × a6 × a7)} {f : a0 → a1 → a2 → a3 → a4 → a5 → a6 → a7 → Option γ} {r : γ} (h : bd8 o f = some r) : ∃ x0 x1 x2 x3 x4 x5 x6 x7, o = some (x0, x1, x2, x3, x4, x5, x6, x7) ∧ f x0 x1 x2 x3 x4 x5 x6 x7 = some r := by
  cases o with
  | none => cases h
  | some x =>
    obtain ⟨x0, x1, x2, x3, x4, x5, x6, x7⟩ := x
    exact ⟨x0, x1, x2, x3, x4, x5, x6, x7, rfl, h⟩
def bd9 {a0 a1 a2 a3 a4 a5 a6 a7 a8 γ : Type} (o : Option (a0 × a1 × a2 × a3 × a4 × a5 × a6 × a7 × a8)) (f : a0 → a1 → a2 → a3 → a4 → a5 → a6 → a7 → a8 → Option γ) : Option γ := match o with
  | none => none
  | some (x0, x1, x2, x3, x4, x5, x6, x7, x8) => f x0 x1 x2 x3 x4 x5 x6 x7 x8
theorem bd9_some {a0 a1 a2 a3 a4 a5 a6 a7 a8 γ : Type} (x0 : a0) (x1 : a1) (x2 : a2) (x3 : a3) (x4 : a4) (x5 : a5) (x6 : a6) (x7 : a7) (x8 : a8) (f : a0 → a1 → a2 → a3 → a4 → a5 → a6 → a7 → a8 → Option γ) : bd9 (some (x0, x1, x2, x3, x4, x5, x6, x7, x8)) f = f x0 x1 x2 x3 x4 x5 x6 x7 x8 := rfl
theorem bd9_inv {a0 a1 a2 a3 a4 a5 a6 a7 a8 γ : Type} {o : Option (a0 × a1 × a2 × a3 × a4 × a5 × a6 × a7 × a8)} {f : a0 → a1 → a2 → a3 → a4 → a5 → a6 → a7 → a8 → Option γ} {r : γ} (h : bd9 o f = some r) : ∃ x0 x1 x2 x3 x4 x5 x6 x7 x8, o = some (x0, x1, x2, x3, x4, x5, x6, x7, x8) ∧ f x0 x1 x2 x3 x4 x5 x6 x7 x8 = some r := by
  cases o with
  | none => cases h
  | some x =>
    obtain ⟨x0, x1, x2, x3, x4, x5, x6, x7, x8⟩ := x
    exact ⟨x0, x1, x2, x3, x4, x5, x6, x7, x8, rfl, h⟩
def bd10 {a0 a1 a2 a3 a4 a5 a6 a7 a8 a9 γ : Type} (o : Option (a0 × a1 × a2 × a3 × a4 × a5 × a6 × a7 × a8 × a9)) (f : a0 → a1 → a2 → a3 → a4 → a5 → a6 → a7 → a8 → a9 → Option γ) : Option γ := match o with
  | none => none
  | some (x0, x1, x2, x3, x4, x5, x6, x7, x8, x9) => f x0 x1 x2 x3 x4 x5 x6 x7 x8 x9
theorem bd10_some {a0 a1 a2 a3 a4 a5 a6 a7 a8 a9 γ : Type} (x0 : a0) (x1 : a1) (x2 : a2) (x3 : a3) (x4 : a4) (x5 : a5) (x6 : a6) (x7 : a7) (x8 : a8) (x9 : a9) (f : a0 → a1 → a2 → a3 → a4 → a5 → a6 → a7 → a8 → a9 → Option γ) : bd10 (some (x0, x1, x2, x3, x4, x5, x6, x7, x8, x9)) f = f x0 x1 x2 x3 x4 x5 x6 x7 x8 x9 := rfl
theorem bd10_inv {a0 a1 a2 a3 a4 a5 a6 a7 a8 a9 γ : Type} {o : Option (a0 × a1 × a2 × a3 × a4 × a5 × a6 × a7 × a8 × a9)} {f : a0 → a1 → a2 → a3 → a4 → a5 → a6 → a7 → a8 → a9 → Option γ} {r : γ} (h : bd10 o f = some r) : ∃ x0 x1 x2 x3 x4 x5 x6 x7 x8 x9, o = some (x0, x1, x2, x3, x4, x5, x6, x7, x8, x9) ∧ f x0 x1 x2 x3 x4 x5 x6 x7 x8 x9 = some r := by
  cases o with
  | none => cases h
  | some x =>
    obtain ⟨x0, x1, x2, x3, x4, x5, x6, x7, x8, x9⟩ := x
    exact ⟨x0, x1, x2, x3, x4, x5, x6, x7, x8, x9, rfl, h⟩
def bs0 {ρ  γ : Type} (o : Option (ρ ⊕ (Unit))) (fr : ρ → Option γ) (f : Option γ) : Option γ := match o with
  | none => none
  | some (.inl r) => fr r
  | some (.inr _) => f 
theorem bs0_inl {ρ  γ : Type} (r : ρ) (fr : ρ → Option γ) (f : Option γ) : bs0 (some (.inl r)) fr f = fr r := rfl
theorem bs0_inr {ρ  γ : Type}  (fr : ρ → Option γ) (f : Option γ) : bs0 (some (.inr ())) fr f = f  := rfl
theorem bs0_inv {ρ  γ : Type} {o : Option (ρ ⊕ (Unit))} {fr : ρ → Option γ} {f : Option γ} {z : γ} (h : bs0 o fr f = some z) : (∃ r, o = some (.inl r) ∧ fr r = some z) ∨ (o = some (.inr ()) ∧ f  = some z) := by
  rcases o with _ | r | x
  · cases h
  · exact Or.inl ⟨r, rfl, h⟩
  · cases x
    exact Or.inr ⟨rfl, h⟩
def bs1 {ρ a0 γ : Type} (o : Option (ρ ⊕ (a0))) (fr : ρ → Option γ) (f : a0 → Option γ) : Option γ := match o with
  | none => none
  | some (.inl r) => fr r
  | some (.inr x0) => f x0
theorem bs1_inl {ρ a0 γ : Type} (r : ρ) (fr : ρ → Option γ) (f : a0 → Option γ) : bs1 (some (.inl r)) fr f = fr r := rfl
theorem bs1_inr {ρ a0 γ : Type} (x0 : a0) (fr : ρ → Option γ) (f : a0 → Option γ) : bs1 (some (.inr x0)) fr f = f x0 := rfl
theorem bs1_inv {ρ a0 γ : Type} {o : Option (ρ ⊕ (a0))} {fr : ρ → Option γ} {f : a0 → Option γ} {z : γ} (h : bs1 o fr f = some z) : (∃ r, o = some (.inl r) ∧ fr r = some z) ∨ (∃ x0, o = some (.inr x0) ∧ f x0 = some z) := by
  rcases o with _ | r | x
  · cases h
  · exact Or.inl ⟨r, rfl, h⟩
  · skip
    exact Or.inr ⟨x, rfl, h⟩
def bs2 {ρ a0 a1 γ : Type} (o : Option (ρ ⊕ (a0 × a1))) (fr : ρ → Option γ) (f : a0 → a1 → Option γ) : Option γ := match o with
  | none => none
  | some (.inl r) => fr r
  | some (.inr (x0, x1)) => f x0 x1
theorem bs2_inl {ρ a0 a1 γ : Type} (r : ρ) (fr : ρ → Option γ) (f : a0 → a1 → Option γ) : bs2 (some (.inl r)) fr f = fr r := rfl
theorem bs2_inr {ρ a0 a1 γ : Type} (x0 : a0) (x1 : a1) (fr : ρ → Option γ) (f : a0 → a1 → Option γ) : bs2 (some (.inr (x0, x1))) fr f = f x0 x1 := rfl
theorem bs2_inv {ρ a0 a1 γ : Type} {o : Option (ρ ⊕ (a0 × a1))} {fr : ρ → Option γ} {f : a0 → a1 → Option γ} {z : γ} (h : bs2 o fr f = some z) : (∃ r, o = some (.inl r) ∧ fr r = some z) ∨ (∃ x0 x1, o = some (.inr (x0, x1)) ∧ f x0 x1 = some z) := by
  rcases o with _ | r | x
  · cases h
  · exact Or.inl ⟨r, rfl, h⟩
  · obtain ⟨x0, x1⟩ := x
    exact Or.inr ⟨x0, x1, rfl, h⟩
def bs3 {ρ a0 a1 a2 γ : Type} (o : Option (ρ ⊕ (a0 × a1 × a2))) (fr : ρ → Option γ) (f : a0 → a1 → a2 → Option γ) : Option γ := match o with
  | none => none
  | some (.inl r) => fr r
  | some (.inr (x0, x1, x2)) => f x0 x1 x2
theorem bs3_inl {ρ a0 a1 a2 γ : Type} (r : ρ) (fr : ρ → Option γ) (f : a0 → a1 → a2 → Option γ) : bs3 (some (.inl r)) fr f = fr r := rfl
theorem bs3_inr {ρ a0 a1 a2 γ : Type} (x0 : a0) (x1 : a1) (x2 : a2) (fr : ρ → Option γ) (f : a0 → a1 → a2 → Option γ) : bs3 (some (.inr (x0, x1, x2))) fr f = f x0 x1 x2 := rfl
theorem bs3_inv {ρ a0 a1 a2 γ : Type} {o : Option (ρ ⊕ (a0 × a1 × a2))} {fr : ρ → Option γ} {f : a0 → a1 → a2 → Option γ} {z : γ} (h : bs3 o fr f = some z) : (∃ r, o = some (.inl r) ∧ fr r = some z) ∨ (∃ x0 x1 x2, o = some (.inr (x0, x1, x2)) ∧ f x0 x1 x2 = some z) := by
  rcases o with _ | r | x
  · cases h
  · exact Or.inl ⟨r, rfl, h⟩
  · obtain ⟨x0, x1, x2⟩ := x
    exact Or.inr ⟨x0, x1, x2, rfl, h⟩
def bs4 {ρ a0 a1 a2 a3 γ : Type} (o : Option (ρ ⊕ (a0 × a1 × a2 × a3))) (fr : ρ → Option γ) (f : a0 → a1 → a2 → a3 → Option γ) : Option γ := match o with
  | none => none
  | some (.inl r) => fr r
  | some (.inr (x0, x1, x2, x3)) => f x0 x1 x2 x3
theorem bs4_inl {ρ a0 a1 a2 a3 γ : Type} (r : ρ) (fr : ρ → Option γ) (f : a0 → a1 → a2 → a3 → Option γ) : bs4 (some (.inl r)) fr f = fr r := rfl
theorem bs4_inr {ρ a0 a1 a2 a3 γ : Type} (x0 : a0) (x1 : a1) (x2 : a2) (x3 : a3) (fr : ρ → Option γ) (f : a0 → a1 → a2 → a3 → Option γ) : bs4 (some (.inr (x0, x1, x2, x3))) fr f = f x0 x1 x2 x3 := rfl
theorem bs4_inv {ρ a0 a1 a2 a3 γ : Type} {o : Option (ρ ⊕ (a0 × a1 × a2 × a3))} {fr : ρ → Option γ} {f : a0 → a1 → a2 → a3 → Option γ} {z : γ} (h : bs4 o fr f = some z) : (∃ r, o = some (.inl r) ∧ fr r = some z) ∨ (∃ x0 x1 x2 x3, o = some (.inr (x0, x1, x2, x3)) ∧ f x0 x1 x2 x3 = some z) := by
  rcases o with _ | r | x
  · cases h
  · exact Or.inl ⟨r, rfl, h⟩
  · obtain ⟨x0, x1, x2, x3⟩ := x
    exact Or.inr ⟨x0, x1, x2, x3, rfl, h⟩
def bs5 {ρ a0 a1 a2 a3 a4 γ : Type} (o : Option (ρ ⊕ (a0 × a1 × a2 × a3 × a4))) (fr : ρ → Option γ) (f : a0 → a1 → a2 → a3 → a4 → Option γ) : Option γ := match o with
  | none => none
  | some (.inl r) => fr r
  | some (.inr (x0, x1, x2, x3, x4)) => f x0 x1 x2 x3 x4
theorem bs5_inl {ρ a0 a1 a2 a3 a4 γ : Type} (r : ρ) (fr : ρ → Option γ) (f : a0 → a1 → a2 → a3 → a4 → Option γ) : bs5 (some (.inl r)) fr f = fr r := rfl
theorem bs5_inr {ρ a0 a1 a2 a3 a4 γ : Type} (x0 : a0) (x1 : a1) (x2 : a2) (x3 : a3) (x4 : a4) (fr : ρ → Option γ) (f : a0 → a1 → a2 → a3 → a4 → Option γ) : bs5 (some (.inr (x0, x1, x2, x3, x4))) fr f = f x0 x1 x2 x3 x4 := rfl
theorem bs5_inv {ρ a0 a1 a2 a3 a4 γ : Type} {o : Option (ρ ⊕ (a0 × a1 × a2 × a3 × a4))} {fr : ρ → Option γ} {f : a0 → a1 → a2 → a3 → a4 → Option γ} {z : γ} (h : bs5 o fr f = some z) : (∃ r, o = some (.inl r) ∧ fr r = some z) ∨ (∃ x0 x1 x2 x3 x4, o = some (.inr (x0, x1, x2, x3, x4)) ∧ f x0 x1 x2 x3 x4 = some z) := by
  rcases o with _ | r | x
  · cases h
  · exact Or.inl ⟨r, rfl, h⟩
  · obtain ⟨x0, x1, x2, x3, x4⟩ := x
    exact Or.inr ⟨x0, x1, x2, x3, x4, rfl, h⟩
def bs6 {ρ a0 a1 a2 a3 a4 a5 γ : Type} (o : Option (ρ ⊕ (a0 × a1 × a2 × a3 × a4 × a5))) (fr : ρ → Option γ) (f : a0 → a1 → a2 → a3 → a4 → a5 → Option γ) : Option γ := match o with
  | none => none
  | some (.inl r) => fr r
  | some (.inr (x0, x1, x2, x3, x4, x5)) => f x0 x1 x2 x3 x4 x5
theorem bs6_inl {ρ a0 a1 a2 a3 a4 a5 γ : Type} (r : ρ) (fr : ρ → Option γ) (f : a0 → a1 → a2 → a3 → a4 → a5 → Option γ) : bs6 (some (.inl r)) fr f = fr r := rfl
theorem bs6_inr {ρ a0 a1 a2 a3 a4 a5 γ : Type} (x0 : a0) (x1 : a1) (x2 : a2) (x3 : a3) (x4 : a4) (x5 : a5) (fr : ρ → Option γ) (f : a0 → a1 → a2 → a3 → a4 → a5 → Option γ) : bs6 (some (.inr (x0, x1, x2, x3, x4, x5))) fr f = f x0 x1 x2 x3 x4 x5 := rfl
theorem bs6_inv {ρ a0 a1 a2 a3 a4 a5 γ : Type} {o : Option (ρ ⊕ (a0 × a1 × a2 × a3 × a4 × a5))} {fr : ρ → Option γ} {f : a0 → a1 → a2 → a3 → a4 → a5 → Option γ} {z : γ} (h : bs6 o fr f = some z) : (∃ r, o = some (.inl r) ∧ fr r = some z) ∨ (∃ x0 x1 x2 x3 x4 x5, o = some (.inr (x0, x1, x2, x3, x4, x5)) ∧ f x0 x1 x2 x3 x4 x5 = some z) := by
  rcases o with _ | r | x
  · cases h
  · exact Or.inl ⟨r, rfl, h⟩
  · obtain ⟨x0, x1, x2, x3, x4, x5⟩ := x
    exact Or.inr ⟨x0, x1, x2, x3, x4, x5, rfl, h⟩
abbrev irm (x y : Int32) : Int32 := x - x / y * y
def FUEL : Nat := 100000
abbrev ush (x y : Int32) : Int32 := (x.toUInt32 >>> (y.toUInt32 &&& Int32.toUInt32 31)).toInt32
def ck32 (x : UInt32) : Option UInt32 := if x &&& 0x7fffffff ≤ 0x7f800000 then some x else none
def ck64 (x : UInt64) : Option UInt64 := if x &&& 0x7fffffffffffffff ≤ 0x7ff0000000000000 then some x else none
theorem ck32_inv {x y : UInt32} (h : ck32 x = some y) : vf_n32 x ∧ x = y := by
  by_cases hc : x &&& 0x7fffffff ≤ 0x7f800000
  · rw [ck32, if_pos hc] at h
    exact ⟨hc, Option.some.inj h⟩
  · rw [ck32, if_neg hc] at h
    cases h
theorem ck64_inv {x y : UInt64} (h : ck64 x = some y) : vf_n64 x ∧ x = y := by
  by_cases hc : x &&& 0x7fffffffffffffff ≤ 0x7ff0000000000000
  · rw [ck64, if_pos hc] at h
    exact ⟨hc, Option.some.inj h⟩
  · rw [ck64, if_neg hc] at h
    cases h
