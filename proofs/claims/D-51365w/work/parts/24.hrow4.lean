/-! THE HEAP'S ROWS: ends, calls, contracts -/
set_option maxRecDepth 100000
def chN (x : Int32) : Int32 := vp_nar .char x
abbrev hQf (E : hEnv) (A : Nat → Prop) (Q : UInt32 → hO → Prop) : Array Value → State → Outcome → State → Prop := va_Qf Q (fun o t => hP E A o t.heap) A
abbrev hQd (E : hEnv) (A : Nat → Prop) (Q : UInt64 → hO → Prop) : Array Value → State → Outcome → State → Prop := va_Qd Q (fun o t => hP E A o t.heap) A
/-- a contract out of a walk of its body -/
theorem h_met {l : Launch} {y : MethodName} {cc : ByteArray} {nL fr lo : Nat} {ret : Option FieldType} {As : List Value} {E : hEnv} {A : Nat → Prop} {w : hW} {Qa : Array Value → State → Outcome → State → Prop} {own : String} (hy : plainFor y = true) (ho : y.cls = own) (hl : (lg_sl As).length ≤ nL)
    (body : ∀ (p : Program) (e : Env) (s : State) (m : MethodId) (args : Array Value) (below : List Frame) (meth : Method) (c : Code) (ls : Array Slot) (cb sb : Nat), CallFix p m c cc nL s args lw_all own → meth.sig.returnType = ret → meth.locks = false → hK E A s → hS E A s.heap cb sb w s.heap [] → lv_has ls nL (lv_args 0 As) →
      W p l e { frames := fr, cells := cb, slots := sb, locals := lo } s m args below meth c s.heap [] (cb - w.2.1) (sb - w.2.2) (MQ below Qa args s cb sb A) (F0 m 0 ls [])) : Met l y (ws_ y cc nL ret) { frames := fr, cells := w.2.1, slots := w.2.2, locals := lo } (va_Pc As (gPre (hK E A) (hP E A w.1))) Qa w.2.1 w.2.2 A := by
  refine va_MetF (cc := cc) (maxL := nL) (ret := ret) hy rfl ?_
  intro p e s m args below meth c s₁ B hml hv
  obtain ⟨rfl, hP, hK⟩ := hv
  have hts := atoms_spec (ws := ws_ y cc nL ret) B.pre
  have hts : ∀ w ∈ lw_all, w.before _ s = true := fun w h => hts w (List.mem_cons_of_mem _ h)
  have hown : s.vm.findClass y.cls = some m.cls := findClass_of_methodNamed B.named
  rw [ho] at hown
  rw [lg_entry_eq]
  have := body p e s m _ below meth c _ w.2.1 w.2.2 ⟨B.exec, B.bytes, hml, hown, hts⟩ B.returns B.notSynchronized hK ⟨⟨hP, va_S.rf⟩, Nat.le_refl _, Nat.le_refl _⟩ (lv_entry As hl)
  rw [Nat.sub_self, Nat.sub_self] at this
  exact this
section HR4
variable {p : Program} {l : Launch} {e : Env} {R : Room} {s : State} {m : MethodId} {args : Array Value} {below : List Frame} {meth : Method} {c : Code} {H : Heap} {locs : List Loc} {cells slots : Nat} {Q : State → Prop}
variable {pc n nL maxL cb sb mc ms index c1 s1 : Nat} {ls : Array Slot} {rest st0 : List Value} {cc bytes : ByteArray} {E : hEnv} {A : Nat → Prop} {w w' : hW} {a b : Nat} {own C host : String} {K : State → Prop} {P P' : Heap → Prop} {y : MethodName} {ret : Option FieldType} {ws : List Cond} {rm : Room} {As : List Value}
theorem h_iret {Q' : Int32 → hO → Prop} {v : Int32} (F : CallFix p m c cc nL s args lw_all own) (hr : meth.sig.returnType = some .int) (hlk : meth.locks = false) (S : hS E A s.heap cb sb w H locs) (hq : Q' v w.1) (hdg : decode cc pc = .ok (.ireturn, 1)) : W p l e R s m args below meth c H locs (cb - w.2.1) (sb - w.2.2) (MQ below (hQi E A Q') args s cb sb A) (F0 m pc ls [.int v]) :=
  W.widen (Nat.sub_le _ _) (Nat.sub_le _ _) (W.iret F.1 F.2.1 hr (fun t ht hW => ⟨⟨v, w.1, rfl, hq, by show hP E A w.1 t.heap; rw [ht]; exact S.1.1⟩, S.1.2.F ht⟩) S.1.2.2.2 hdg hlk)
theorem h_zret {Q' : Int32 → hO → Prop} {v : Int32} (F : CallFix p m c cc nL s args lw_all own) (hr : meth.sig.returnType = some .boolean) (hlk : meth.locks = false) (S : hS E A s.heap cb sb w H locs) (hq : Q' (zN v) w.1) (hdg : decode cc pc = .ok (.ireturn, 1)) : W p l e R s m args below meth c H locs (cb - w.2.1) (sb - w.2.2) (MQ below (hQi E A Q') args s cb sb A) (F0 m pc ls [.int v]) :=
  W.widen (Nat.sub_le _ _) (Nat.sub_le _ _) (g_zretN F.1 F.2.1 hr rfl (fun t ht hW => ⟨⟨zN v, w.1, rfl, hq, by show hP E A w.1 t.heap; rw [ht]; exact S.1.1⟩, S.1.2.F ht⟩) S.1.2.2.2 hdg hlk)
theorem h_bret {Q' : Int32 → hO → Prop} {v : Int32} (F : CallFix p m c cc nL s args lw_all own) (hr : meth.sig.returnType = some .byte) (hlk : meth.locks = false) (S : hS E A s.heap cb sb w H locs) (hq : Q' (bN v) w.1) (hdg : decode cc pc = .ok (.ireturn, 1)) : W p l e R s m args below meth c H locs (cb - w.2.1) (sb - w.2.2) (MQ below (hQi E A Q') args s cb sb A) (F0 m pc ls [.int v]) :=
  W.widen (Nat.sub_le _ _) (Nat.sub_le _ _) (g_zretN F.1 F.2.1 hr rfl (fun t ht hW => ⟨⟨bN v, w.1, rfl, hq, by show hP E A w.1 t.heap; rw [ht]; exact S.1.1⟩, S.1.2.F ht⟩) S.1.2.2.2 hdg hlk)
theorem h_cret {Q' : Int32 → hO → Prop} {v : Int32} (F : CallFix p m c cc nL s args lw_all own) (hr : meth.sig.returnType = some .char) (hlk : meth.locks = false) (S : hS E A s.heap cb sb w H locs) (hq : Q' (chN v) w.1) (hdg : decode cc pc = .ok (.ireturn, 1)) : W p l e R s m args below meth c H locs (cb - w.2.1) (sb - w.2.2) (MQ below (hQi E A Q') args s cb sb A) (F0 m pc ls [.int v]) :=
  W.widen (Nat.sub_le _ _) (Nat.sub_le _ _) (g_zretN F.1 F.2.1 hr rfl (fun t ht hW => ⟨⟨chN v, w.1, rfl, hq, by show hP E A w.1 t.heap; rw [ht]; exact S.1.1⟩, S.1.2.F ht⟩) S.1.2.2.2 hdg hlk)
theorem h_fret {Q' : UInt32 → hO → Prop} {v : UInt32} (F : CallFix p m c cc nL s args lw_all own) (hr : meth.sig.returnType = some .float) (hlk : meth.locks = false) (S : hS E A s.heap cb sb w H locs) (hq : Q' v w.1) (hdg : decode cc pc = .ok (.freturn, 1)) : W p l e R s m args below meth c H locs (cb - w.2.1) (sb - w.2.2) (MQ below (hQf E A Q') args s cb sb A) (F0 m pc ls [.float v]) :=
  W.widen (Nat.sub_le _ _) (Nat.sub_le _ _) (W.fret F.1 F.2.1 hr (fun t ht hW => ⟨⟨v, w.1, rfl, hq, by show hP E A w.1 t.heap; rw [ht]; exact S.1.1⟩, S.1.2.F ht⟩) S.1.2.2.2 hdg hlk)
theorem h_dret {Q' : UInt64 → hO → Prop} {v : UInt64} (F : CallFix p m c cc nL s args lw_all own) (hr : meth.sig.returnType = some .double) (hlk : meth.locks = false) (S : hS E A s.heap cb sb w H locs) (hq : Q' v w.1) (hdg : decode cc pc = .ok (.dreturn, 1)) : W p l e R s m args below meth c H locs (cb - w.2.1) (sb - w.2.2) (MQ below (hQd E A Q') args s cb sb A) (F0 m pc ls [.double v]) :=
  W.widen (Nat.sub_le _ _) (Nat.sub_le _ _) (W.dret F.1 F.2.1 hr (fun t ht hW => ⟨⟨v, w.1, rfl, hq, by show hP E A w.1 t.heap; rw [ht]; exact S.1.1⟩, S.1.2.F ht⟩) S.1.2.2.2 hdg hlk)
theorem h_vret {Q' : hO → Prop} (F : CallFix p m c cc nL s args lw_all own) (hr : meth.sig.returnType = none) (hlk : meth.locks = false) (S : hS E A s.heap cb sb w H locs) (hq : Q' w.1) (hdg : decode cc pc = .ok (.return_, 1)) : W p l e R s m args below meth c H locs (cb - w.2.1) (sb - w.2.2) (MQ below (hQv E A Q') args s cb sb A) (F0 m pc ls []) :=
  W.widen (Nat.sub_le _ _) (Nat.sub_le _ _) (W.vret F.1 F.2.1 hr (fun t ht hW => ⟨⟨w.1, rfl, hq, by show hP E A w.1 t.heap; rw [ht]; exact S.1.1⟩, S.1.2.F ht⟩) S.1.2.2.2 hdg hlk)
theorem h_aret {Q' : Nat → hO → Prop} {v : Nat} {rt : FieldType} (F : CallFix p m c cc nL s args lw_all own) (hr : meth.sig.returnType = some rt) (hrt : (∃ n, rt = .object n) ∨ ∃ t, rt = .array t) (hlk : meth.locks = false) (S : hS E A s.heap cb sb w H locs) (hq : Q' v w.1) (hdg : decode cc pc = .ok (.areturn, 1)) : W p l e R s m args below meth c H locs (cb - w.2.1) (sb - w.2.2) (MQ below (hQp E A Q') args s cb sb A) (F0 m pc ls [.ref v]) :=
  W.widen (Nat.sub_le _ _) (Nat.sub_le _ _) (W.aret F.1 F.2.1 hr hrt (Or.inr ⟨v, rfl⟩) (fun t ht hW => ⟨⟨w.1, v, rfl, trivial, hq, by show hP E A w.1 t.heap; rw [ht]; exact S.1.1⟩, S.1.2.F ht⟩) S.1.2.2.2 hdg hlk)
/-! runs -/
theorem g_runI {Qa : Array Value → State → Outcome → State → Prop} (F : CallFix p m c cc nL s args lw_all own) (hK : K s) (hKm : gKm K A) (S : gS A s.heap P H locs) (M : Met l y ws rm (va_Pc (.ref b :: As) (gPre K P)) Qa mc ms A)
    (cw : CallB R s args own index y bytes maxL none ws rm mc ms n ∧ y.name = "<init>" ∧ (Cond.instanceMethod y).before args s = true) (hn : As.length = n) (hl : ls.size = nL) (hst : st0 = As.reverse ++ .ref b :: rest) (hW : (rest.map fun v => v.category).sum ≤ 8) (hdg : decode cc pc = .ok (.invokespecial index, 3)) (hf : cells + mc ≤ R.cells ∧ slots + ms ≤ R.slots) :
    va_Run p l e R s m args below meth c H locs cells slots mc ms (F0 m pc ls st0) rest (Qa (Value.ref b :: As).toArray) A :=
  va_runI (g := F0 m pc ls st0) F M cw ⟨gBlind hKm, fun U hU hW => ⟨rfl, by rw [hU]; exact S.1, hKm s U hW (by rw [hU]; exact S.2.1) (by rw [hU]; exact S.2.2.1) hK⟩⟩ rfl hn hl hst (lv_room hW) hdg hf
theorem g_runIN {Qa : Array Value → State → Outcome → State → Prop} (F : CallFix p m c cc nL s args lw_all own) (hK : K s) (hKm : gKm K A) (S : gS A s.heap P H locs) (M : Met l y ws rm (va_Pc (.ref b :: As) (gPre K P)) Qa mc ms A)
    (cw : va_CN R s args own index y host bytes maxL none ws rm mc ms n ∧ y.name = "<init>" ∧ (Cond.instanceMethod y).before args s = true) (hn : As.length = n) (hl : ls.size = nL) (hst : st0 = As.reverse ++ .ref b :: rest) (hW : (rest.map fun v => v.category).sum ≤ 8) (hdg : decode cc pc = .ok (.invokespecial index, 3)) (hf : cells + mc ≤ R.cells ∧ slots + ms ≤ R.slots) :
    va_Run p l e R s m args below meth c H locs cells slots mc ms (F0 m pc ls st0) rest (Qa (Value.ref b :: As).toArray) A :=
  va_runIN (g := F0 m pc ls st0) F M cw ⟨gBlind hKm, fun U hU hW => ⟨rfl, by rw [hU]; exact S.1, hKm s U hW (by rw [hU]; exact S.2.1) (by rw [hU]; exact S.2.2.1) hK⟩⟩ rfl hn hl hst (lv_room hW) hdg hf
theorem g_runVN {Qa : Array Value → State → Outcome → State → Prop} (F : CallFix p m c cc nL s args lw_all own) (hK : K s) (hKm : gKm K A) (S : gS A s.heap P H locs) (M : Met l y ws rm (va_Pc (.ref b :: As) (gPre K P)) Qa mc ms A)
    (cw : va_CN R s args own index y host bytes maxL ret ws rm mc ms n ∧ (Cond.instanceMethod y).before args s = true ∧ (Cond.selects C y y).before args s = true) (hrv : gRecv s H C b) (hn : As.length = n) (hl : ls.size = nL) (hst : st0 = As.reverse ++ .ref b :: rest) (hW : (rest.map fun v => v.category).sum ≤ 8) (hdg : decode cc pc = .ok (.invokevirtual index, 3)) (hf : cells + mc ≤ R.cells ∧ slots + ms ≤ R.slots) :
    va_Run p l e R s m args below meth c H locs cells slots mc ms (F0 m pc ls st0) rest (Qa (Value.ref b :: As).toArray) A :=
  va_runVN (g := F0 m pc ls st0) F M cw ⟨gBlind hKm, hrv, fun U hU hW => ⟨rfl, by rw [hU]; exact S.1, hKm s U hW (by rw [hU]; exact S.2.1) (by rw [hU]; exact S.2.2.1) hK⟩⟩ rfl hn hl hst (lv_room hW) hdg hf
/-! behind a call -/
theorem h_left (S : hS E A s.heap cb sb w H locs) (h1 : c1 ≤ w.2.1) (h2 : s1 ≤ w.2.2) : cb - w.2.1 + c1 ≤ cb ∧ sb - w.2.2 + s1 ≤ sb := by
  have h3 := S.2.1
  have h4 := S.2.2
  omega
theorem h_behind {o : hO} {H1 : Heap} {locs1 : List Loc} (S : hS E A s.heap cb sb w H locs) (h1 : c1 ≤ w.2.1) (h2 : s1 ≤ w.2.2) (hp : hP E A o H1) (hS1 : va_S A s.heap H1 locs1) : hS E A s.heap cb sb (o, w.2.1 - c1, w.2.2 - s1) H1 locs1 ∧ cb - w.2.1 + c1 ≤ cb - (w.2.1 - c1) ∧ sb - w.2.2 + s1 ≤ sb - (w.2.2 - s1) := by
  have h3 := S.2.1
  have h4 := S.2.2
  refine ⟨⟨⟨hp, hS1⟩, ?_, ?_⟩, by omega, by omega⟩
  · show w.2.1 - c1 ≤ cb
    omega
  · show w.2.2 - s1 ≤ sb
    omega
theorem h_ki {Q' : Int32 → hO → Prop} {a : Array Value} (hr : va_Run p l e R s m args below meth c H locs (cb - w.2.1) (sb - w.2.2) c1 s1 (F0 m pc ls st0) rest (hQi E A Q' a) A) (S : hS E A s.heap cb sb w H locs) (h1 : c1 ≤ w.2.1) (h2 : s1 ≤ w.2.2)
    (kk : ∀ (v : Int32) (o : hO) (w' : hW) (H1 : Heap) (locs1 : List Loc), w' = (o, w.2.1 - c1, w.2.2 - s1) → Q' v o → hS E A s.heap cb sb w' H1 locs1 → W p l e R s m args below meth c H1 locs1 (cb - w'.2.1) (sb - w'.2.2) Q (F0 m (pc + 3) ls (.int v :: rest))) : W p l e R s m args below meth c H locs (cb - w.2.1) (sb - w.2.2) Q (F0 m pc ls st0) := by
  refine va_calli hr S.1.2 (fun q _ h => h) (fun q h => h) fun r u t H1 locs1 ht hvm hp hB hz hk hS => ?_
  obtain ⟨g1, g2, g3⟩ := h_behind S h1 h2 (by rw [← ht]; exact hB) hS
  exact W.widen g2 g3 (kk r u _ H1 locs1 rfl hp g1)
theorem h_kf {Q' : UInt32 → hO → Prop} {a : Array Value} (hr : va_Run p l e R s m args below meth c H locs (cb - w.2.1) (sb - w.2.2) c1 s1 (F0 m pc ls st0) rest (hQf E A Q' a) A) (S : hS E A s.heap cb sb w H locs) (h1 : c1 ≤ w.2.1) (h2 : s1 ≤ w.2.2)
    (kk : ∀ (v : UInt32) (o : hO) (w' : hW) (H1 : Heap) (locs1 : List Loc), w' = (o, w.2.1 - c1, w.2.2 - s1) → Q' v o → hS E A s.heap cb sb w' H1 locs1 → W p l e R s m args below meth c H1 locs1 (cb - w'.2.1) (sb - w'.2.2) Q (F0 m (pc + 3) ls (.float v :: rest))) : W p l e R s m args below meth c H locs (cb - w.2.1) (sb - w.2.2) Q (F0 m pc ls st0) := by
  refine va_callf hr S.1.2 (fun q _ h => h) (fun q h => h) fun r u t H1 locs1 ht hvm hp hB hz hk hS => ?_
  obtain ⟨g1, g2, g3⟩ := h_behind S h1 h2 (by rw [← ht]; exact hB) hS
  exact W.widen g2 g3 (kk r u _ H1 locs1 rfl hp g1)
theorem h_kd {Q' : UInt64 → hO → Prop} {a : Array Value} (hr : va_Run p l e R s m args below meth c H locs (cb - w.2.1) (sb - w.2.2) c1 s1 (F0 m pc ls st0) rest (hQd E A Q' a) A) (S : hS E A s.heap cb sb w H locs) (h1 : c1 ≤ w.2.1) (h2 : s1 ≤ w.2.2)
    (kk : ∀ (v : UInt64) (o : hO) (w' : hW) (H1 : Heap) (locs1 : List Loc), w' = (o, w.2.1 - c1, w.2.2 - s1) → Q' v o → hS E A s.heap cb sb w' H1 locs1 → W p l e R s m args below meth c H1 locs1 (cb - w'.2.1) (sb - w'.2.2) Q (F0 m (pc + 3) ls (.double v :: rest))) : W p l e R s m args below meth c H locs (cb - w.2.1) (sb - w.2.2) Q (F0 m pc ls st0) := by
  refine va_calld hr S.1.2 (fun q _ h => h) (fun q h => h) fun r u t H1 locs1 ht hvm hp hB hz hk hS => ?_
  obtain ⟨g1, g2, g3⟩ := h_behind S h1 h2 (by rw [← ht]; exact hB) hS
  exact W.widen g2 g3 (kk r u _ H1 locs1 rfl hp g1)
theorem h_kv {Q' : hO → Prop} {a : Array Value} (hr : va_Run p l e R s m args below meth c H locs (cb - w.2.1) (sb - w.2.2) c1 s1 (F0 m pc ls st0) rest (hQv E A Q' a) A) (S : hS E A s.heap cb sb w H locs) (h1 : c1 ≤ w.2.1) (h2 : s1 ≤ w.2.2)
    (kk : ∀ (o : hO) (w' : hW) (H1 : Heap) (locs1 : List Loc), w' = (o, w.2.1 - c1, w.2.2 - s1) → Q' o → hS E A s.heap cb sb w' H1 locs1 → W p l e R s m args below meth c H1 locs1 (cb - w'.2.1) (sb - w'.2.2) Q (F0 m (pc + 3) ls (rest))) : W p l e R s m args below meth c H locs (cb - w.2.1) (sb - w.2.2) Q (F0 m pc ls st0) := by
  refine va_callv hr S.1.2 (fun q _ h => h) (fun q h => h) fun u t H1 locs1 ht hvm hp hB hz hk hS => ?_
  obtain ⟨g1, g2, g3⟩ := h_behind S h1 h2 (by rw [← ht]; exact hB) hS
  exact W.widen g2 g3 (kk u _ H1 locs1 rfl hp g1)
theorem h_kp {Q' : Nat → hO → Prop} {a : Array Value} (hr : va_Run p l e R s m args below meth c H locs (cb - w.2.1) (sb - w.2.2) c1 s1 (F0 m pc ls st0) rest (hQp E A Q' a) A) (S : hS E A s.heap cb sb w H locs) (h1 : c1 ≤ w.2.1) (h2 : s1 ≤ w.2.2)
    (kk : ∀ (v : Nat) (o : hO) (w' : hW) (H1 : Heap) (locs1 : List Loc), w' = (o, w.2.1 - c1, w.2.2 - s1) → Q' v o → hS E A s.heap cb sb w' H1 locs1 → W p l e R s m args below meth c H1 locs1 (cb - w'.2.1) (sb - w'.2.2) Q (F0 m (pc + 3) ls (.ref v :: rest))) : W p l e R s m args below meth c H locs (cb - w.2.1) (sb - w.2.2) Q (F0 m pc ls st0) := by
  refine va_callr hr S.1.2 (fun q _ h => h) (fun q h => h) fun u ra t H1 locs1 ht hvm hp hB hz hk hS => ?_
  obtain ⟨g1, g2, g3⟩ := h_behind S h1 h2 (by rw [← ht]; exact hB.2) hS
  exact W.widen g2 g3 (kk ra u _ H1 locs1 rfl hB.1 g1)
end HR4
