/-! THROWS -/
set_option maxRecDepth 100000
abbrev hXC (E : hEnv) (A : Nat → Prop) (QX : String → hO → Prop) : String → State → State → Prop := vx_X (S := hO) (fun _ => True) (fun En o t => QX En o ∧ hP E A o t.heap) A
def hthr (w : hW) (En : String) (QX : String → hO → Prop) : Prop := 1 ≤ w.2.1 ∧ 6 ≤ w.2.2 ∧ QX En w.1
theorem va_S_F2 {A : Nat → Prop} {s t : State} {H : Heap} {locs : List Loc} (S : va_S A s.heap H locs) (hz : H.size ≤ t.heap.size) (hk : ∀ q : Nat, q < H.size → t.heap[q]? = H[q]?) : va_F A s t :=
  ⟨Nat.le_trans S.1 hz, fun q h1 h2 => (hk q (Nat.lt_of_lt_of_le h1 S.1)).trans (S.2.1 q h1 h2)⟩
/-- a contract out of a walk of its body, which may throw -/
theorem hx_met {l : Launch} {y : MethodName} {cc : ByteArray} {nL fr lo : Nat} {ret : Option FieldType} {As : List Value} {E : hEnv} {A : Nat → Prop} {w : hW} {Qa : Array Value → State → Outcome → State → Prop} {XC : String → State → State → Prop} {own : String} (hy : plainName y.cls = true) (ho : y.cls = own) (hl : (lg_sl As).length ≤ nL)
    (body : ∀ (p : Program) (e : Env) (s : State) (m : MethodId) (args : Array Value) (below : List Frame) (meth : Method) (c : Code) (ls : Array Slot) (cb sb : Nat), CallFix p m c cc nL s args lw_all own → meth.sig.returnType = ret → meth.locks = false → (∀ x ∈ c.exceptionTable.toList, False) → hK E A s → hS E A s.heap cb sb w s.heap [] → lv_has ls nL (lv_args 0 As) →
      W p l e { frames := fr, cells := cb, slots := sb, locals := lo } s m args below meth c s.heap [] (cb - w.2.1) (sb - w.2.2) (vx_MQ below Qa XC args s cb sb A) (F0 m 0 ls [])) : vx_Met l y (ws_ y cc nL ret) { frames := fr, cells := w.2.1, slots := w.2.2, locals := lo } (va_Pc As (gPre (hK E A) (hP E A w.1))) Qa XC w.2.1 w.2.2 A := by
  refine vx_ofW (cc := cc) (maxL := nL) (ret := ret) hy rfl ?_
  intro p e s m args below meth c s₁ B hml ht hv
  obtain ⟨rfl, hP, hK⟩ := hv
  have hts := atoms_spec (ws := ws_ y cc nL ret) B.pre
  have hts : ∀ w ∈ lw_all, w.before _ s = true := fun w h => hts w (List.mem_cons_of_mem _ h)
  have hown : s.vm.findClass y.cls = some m.cls := findClass_of_methodNamed B.named
  rw [ho] at hown
  rw [lg_entry_eq]
  have := body p e s m _ below meth c _ w.2.1 w.2.2 ⟨B.exec, B.bytes, hml, hown, hts⟩ B.returns B.notSynchronized ht hK ⟨⟨hP, va_S.rf⟩, Nat.le_refl _, Nat.le_refl _⟩ (lv_entry As hl)
  rw [Nat.sub_self, Nat.sub_self] at this
  exact this
section XR
variable {p : Program} {l : Launch} {e : Env} {R : Room} {s : State} {m : MethodId} {args : Array Value} {below : List Frame} {meth : Method} {c : Code} {H : Heap} {locs : List Loc} {cells slots : Nat} {Q : State → Prop}
variable {pc n nL maxL cb sb mc ms index c1 s1 : Nat} {ls : Array Slot} {rest st0 : List Value} {cc bytes : ByteArray} {E : hEnv} {A : Nat → Prop} {w w' : hW} {a b : Nat} {own C host : String} {Qa : Array Value → State → Outcome → State → Prop}
theorem xat_IAE : (vx_at0 "MirrorDoors" 3 "java/lang/IllegalArgumentException" ["java/lang/RuntimeException", "java/lang/Exception"]).filter (fun w => !goodWord w) = [.declares ⟨"java/lang/RuntimeException", "<init>", "()V"⟩, .declares ⟨"java/lang/Exception", "<init>", "()V"⟩, .declares ⟨"java/lang/Throwable", "<init>", "()V"⟩, .castable "java/lang/IllegalArgumentException" "java/lang/IllegalArgumentException"] := by decide +kernel
theorem xin_IAE : ((vx_at0 "MirrorDoors" 3 "java/lang/IllegalArgumentException" ["java/lang/RuntimeException", "java/lang/Exception"]).filter goodWord).all (fun w => decide (w ∈ lw_all)) = true := by decide +kernel
theorem h_throwIAE {QX : String → hO → Prop} (hst : l.stackTraces = false) (F : CallFix p m c cc nL s args lw_all "MirrorDoors") (hlk : meth.locks = false) (hK : hK E A s) (S : hS E A s.heap cb sb w H locs) (ht : ∀ x ∈ c.exceptionTable.toList, False) (hrc : R.cells = cb) (hrs : R.slots = sb) (h : hthr w "java/lang/IllegalArgumentException" QX) (hls : ls.size = nL) (hR : 5 < R.frames ∧ (rest.map fun v => v.category).sum + (13 * 3 + 42) ≤ R.locals)
    (d0 : decode cc pc = .ok (.new 1, 3)) (d3 : decode cc (pc + 3) = .ok (.dup, 1)) (d4 : decode cc (pc + 4) = .ok (.invokespecial 3, 3)) (d7 : decode cc (pc + 7) = .ok (.athrow, 1)) : W p l e R s m args below meth c H locs (cb - w.2.1) (sb - w.2.2) (vx_MQ below Qa (hXC E A QX) args s cb sb A) (F0 m pc ls rest) := by
  obtain ⟨g1, g2, g3⟩ := h
  have hb1 := S.2.1
  have hb2 := S.2.2
  refine vx_throw0 (own := "MirrorDoors") (cls := "java/lang/IllegalArgumentException") (names := ["java/lang/RuntimeException", "java/lang/Exception"]) F.1 F.2.1 hst F.2.2.2.1 (by decide +kernel) (by decide +kernel) (F.2.2.2.2 _ q1501) (F.2.2.2.2 _ q136) ?_ ?_ hK.2.2.1.2.2.1 hK.2.2.1.2.2.2.1 S.1.2 (hls.trans F.2.2.1.symm) d0 d3 d4 d7 (fun x hx => (ht x hx).elim) hR.1 hR.2 (by omega) (by omega) hlk (fun t hal hz hk => ⟨w.1, trivial, ⟨g3, hP_kept S.1.1 hz hk⟩, va_S_F2 S.1.2 hz hk⟩) S.1.2.2.2 (by omega) (by omega)
  · refine vx_hat (B := [.declares ⟨"java/lang/RuntimeException", "<init>", "()V"⟩, .declares ⟨"java/lang/Exception", "<init>", "()V"⟩, .declares ⟨"java/lang/Throwable", "<init>", "()V"⟩, .castable "java/lang/IllegalArgumentException" "java/lang/IllegalArgumentException"]) (fun w hw => F.2.2.2.2 w (of_decide_eq_true (List.all_eq_true.mp xin_IAE w hw))) (fun w hw => by rw [xat_IAE] at hw; exact hw) ?_
    exact vx_c (va_Nw.use rfl (hK.2.1.2.2.2.2.2.2.2.2.1 _ (List.mem_of_getElem? (i := 0) rfl))) (vx_c (va_Nw.use rfl (hK.2.1.2.2.2.2.2.2.2.2.1 _ (List.mem_of_getElem? (i := 1) rfl))) (vx_c (va_Nw.use rfl (hK.2.1.2.2.2.2.2.2.2.2.1 _ (List.mem_of_getElem? (i := 2) rfl))) (vx_c (va_Nw.use rfl (hK.2.1.2.2.2.2.2.2.2.2.2 _ (List.mem_of_getElem? (i := 0) rfl))) vx_n)))
  · decide +kernel
theorem xat_IOE : (vx_at0 "MirrorDoors" 106 "java/lang/IndexOutOfBoundsException" ["java/lang/RuntimeException", "java/lang/Exception"]).filter (fun w => !goodWord w) = [.declares ⟨"java/lang/RuntimeException", "<init>", "()V"⟩, .declares ⟨"java/lang/Exception", "<init>", "()V"⟩, .declares ⟨"java/lang/Throwable", "<init>", "()V"⟩, .castable "java/lang/IndexOutOfBoundsException" "java/lang/IndexOutOfBoundsException"] := by decide +kernel
theorem xin_IOE : ((vx_at0 "MirrorDoors" 106 "java/lang/IndexOutOfBoundsException" ["java/lang/RuntimeException", "java/lang/Exception"]).filter goodWord).all (fun w => decide (w ∈ lw_all)) = true := by decide +kernel
theorem h_throwIOE {QX : String → hO → Prop} (hst : l.stackTraces = false) (F : CallFix p m c cc nL s args lw_all "MirrorDoors") (hlk : meth.locks = false) (hK : hK E A s) (S : hS E A s.heap cb sb w H locs) (ht : ∀ x ∈ c.exceptionTable.toList, False) (hrc : R.cells = cb) (hrs : R.slots = sb) (h : hthr w "java/lang/IndexOutOfBoundsException" QX) (hls : ls.size = nL) (hR : 5 < R.frames ∧ (rest.map fun v => v.category).sum + (13 * 3 + 42) ≤ R.locals)
    (d0 : decode cc pc = .ok (.new 104, 3)) (d3 : decode cc (pc + 3) = .ok (.dup, 1)) (d4 : decode cc (pc + 4) = .ok (.invokespecial 106, 3)) (d7 : decode cc (pc + 7) = .ok (.athrow, 1)) : W p l e R s m args below meth c H locs (cb - w.2.1) (sb - w.2.2) (vx_MQ below Qa (hXC E A QX) args s cb sb A) (F0 m pc ls rest) := by
  obtain ⟨g1, g2, g3⟩ := h
  have hb1 := S.2.1
  have hb2 := S.2.2
  refine vx_throw0 (own := "MirrorDoors") (cls := "java/lang/IndexOutOfBoundsException") (names := ["java/lang/RuntimeException", "java/lang/Exception"]) F.1 F.2.1 hst F.2.2.2.1 (by decide +kernel) (by decide +kernel) (F.2.2.2.2 _ q1460) (F.2.2.2.2 _ q145) ?_ ?_ hK.2.2.1.2.2.1 hK.2.2.1.2.2.2.1 S.1.2 (hls.trans F.2.2.1.symm) d0 d3 d4 d7 (fun x hx => (ht x hx).elim) hR.1 hR.2 (by omega) (by omega) hlk (fun t hal hz hk => ⟨w.1, trivial, ⟨g3, hP_kept S.1.1 hz hk⟩, va_S_F2 S.1.2 hz hk⟩) S.1.2.2.2 (by omega) (by omega)
  · refine vx_hat (B := [.declares ⟨"java/lang/RuntimeException", "<init>", "()V"⟩, .declares ⟨"java/lang/Exception", "<init>", "()V"⟩, .declares ⟨"java/lang/Throwable", "<init>", "()V"⟩, .castable "java/lang/IndexOutOfBoundsException" "java/lang/IndexOutOfBoundsException"]) (fun w hw => F.2.2.2.2 w (of_decide_eq_true (List.all_eq_true.mp xin_IOE w hw))) (fun w hw => by rw [xat_IOE] at hw; exact hw) ?_
    exact vx_c (va_Nw.use rfl (hK.2.1.2.2.2.2.2.2.2.2.1 _ (List.mem_of_getElem? (i := 0) rfl))) (vx_c (va_Nw.use rfl (hK.2.1.2.2.2.2.2.2.2.2.1 _ (List.mem_of_getElem? (i := 1) rfl))) (vx_c (va_Nw.use rfl (hK.2.1.2.2.2.2.2.2.2.2.1 _ (List.mem_of_getElem? (i := 2) rfl))) (vx_c (va_Nw.use rfl (hK.2.1.2.2.2.2.2.2.2.2.2 _ (List.mem_of_getElem? (i := 1) rfl))) vx_n)))
  · decide +kernel
theorem xat_NSE : (vx_at0 "MirrorDoors" 248 "java/util/NoSuchElementException" ["java/lang/RuntimeException", "java/lang/Exception"]).filter (fun w => !goodWord w) = [.declares ⟨"java/lang/RuntimeException", "<init>", "()V"⟩, .declares ⟨"java/lang/Exception", "<init>", "()V"⟩, .declares ⟨"java/lang/Throwable", "<init>", "()V"⟩, .castable "java/util/NoSuchElementException" "java/util/NoSuchElementException"] := by decide +kernel
theorem xin_NSE : ((vx_at0 "MirrorDoors" 248 "java/util/NoSuchElementException" ["java/lang/RuntimeException", "java/lang/Exception"]).filter goodWord).all (fun w => decide (w ∈ lw_all)) = true := by decide +kernel
theorem h_throwNSE {QX : String → hO → Prop} (hst : l.stackTraces = false) (F : CallFix p m c cc nL s args lw_all "MirrorDoors") (hlk : meth.locks = false) (hK : hK E A s) (S : hS E A s.heap cb sb w H locs) (ht : ∀ x ∈ c.exceptionTable.toList, False) (hrc : R.cells = cb) (hrs : R.slots = sb) (h : hthr w "java/util/NoSuchElementException" QX) (hls : ls.size = nL) (hR : 5 < R.frames ∧ (rest.map fun v => v.category).sum + (13 * 3 + 42) ≤ R.locals)
    (d0 : decode cc pc = .ok (.new 246, 3)) (d3 : decode cc (pc + 3) = .ok (.dup, 1)) (d4 : decode cc (pc + 4) = .ok (.invokespecial 248, 3)) (d7 : decode cc (pc + 7) = .ok (.athrow, 1)) : W p l e R s m args below meth c H locs (cb - w.2.1) (sb - w.2.2) (vx_MQ below Qa (hXC E A QX) args s cb sb A) (F0 m pc ls rest) := by
  obtain ⟨g1, g2, g3⟩ := h
  have hb1 := S.2.1
  have hb2 := S.2.2
  refine vx_throw0 (own := "MirrorDoors") (cls := "java/util/NoSuchElementException") (names := ["java/lang/RuntimeException", "java/lang/Exception"]) F.1 F.2.1 hst F.2.2.2.1 (by decide +kernel) (by decide +kernel) (F.2.2.2.2 _ q1660) (F.2.2.2.2 _ q142) ?_ ?_ hK.2.2.1.2.2.1 hK.2.2.1.2.2.2.1 S.1.2 (hls.trans F.2.2.1.symm) d0 d3 d4 d7 (fun x hx => (ht x hx).elim) hR.1 hR.2 (by omega) (by omega) hlk (fun t hal hz hk => ⟨w.1, trivial, ⟨g3, hP_kept S.1.1 hz hk⟩, va_S_F2 S.1.2 hz hk⟩) S.1.2.2.2 (by omega) (by omega)
  · refine vx_hat (B := [.declares ⟨"java/lang/RuntimeException", "<init>", "()V"⟩, .declares ⟨"java/lang/Exception", "<init>", "()V"⟩, .declares ⟨"java/lang/Throwable", "<init>", "()V"⟩, .castable "java/util/NoSuchElementException" "java/util/NoSuchElementException"]) (fun w hw => F.2.2.2.2 w (of_decide_eq_true (List.all_eq_true.mp xin_NSE w hw))) (fun w hw => by rw [xat_NSE] at hw; exact hw) ?_
    exact vx_c (va_Nw.use rfl (hK.2.1.2.2.2.2.2.2.2.2.1 _ (List.mem_of_getElem? (i := 0) rfl))) (vx_c (va_Nw.use rfl (hK.2.1.2.2.2.2.2.2.2.2.1 _ (List.mem_of_getElem? (i := 1) rfl))) (vx_c (va_Nw.use rfl (hK.2.1.2.2.2.2.2.2.2.2.1 _ (List.mem_of_getElem? (i := 2) rfl))) (vx_c (va_Nw.use rfl (hK.2.1.2.2.2.2.2.2.2.2.2 _ (List.mem_of_getElem? (i := 2) rfl))) vx_n)))
  · decide +kernel
theorem hx_ki {QX : String → hO → Prop} {Q' : Int32 → hO → Prop} {a : Array Value} (F : CallFix p m c cc nL s args lw_all own) (hlk : meth.locks = false) (ht : ∀ x ∈ c.exceptionTable.toList, False) (hr : vx_Run p l e R s m args below meth c H locs (cb - w.2.1) (sb - w.2.2) c1 s1 (F0 m pc ls st0) rest (hQi E A Q' a) (hXC E A QX) A) (S : hS E A s.heap cb sb w H locs) (h1 : c1 ≤ w.2.1) (h2 : s1 ≤ w.2.2)
    (kk : ∀ (v : Int32) (o : hO) (w' : hW) (H1 : Heap) (locs1 : List Loc), w' = (o, w.2.1 - c1, w.2.2 - s1) → Q' v o → hS E A s.heap cb sb w' H1 locs1 → W p l e R s m args below meth c H1 locs1 (cb - w'.2.1) (sb - w'.2.2) (vx_MQ below Qa (hXC E A QX) args s cb sb A) (F0 m (pc + 3) ls (.int v :: rest))) : W p l e R s m args below meth c H locs (cb - w.2.1) (sb - w.2.2) (vx_MQ below Qa (hXC E A QX) args s cb sb A) (F0 m pc ls st0) := by
  refine vx_calli hr S.1.2 (fun q _ h => h) (fun q h => h) (fun q _ h => h) (fun En ce q9 u t H1 locs1 ht1 hvm hp hB hz hk hS h5 h6 h7 => ?_) fun r u t H1 locs1 ht hvm hp hB hz hk hS => ?_
  · have h3 := S.2.1
    have h4 := S.2.2
    exact vx_out (fun x hx => (ht x hx).elim) hlk h5 h6 h7 (fun t' ht' _ => ⟨u, trivial, ⟨hB.1, by rw [ht', ← ht1]; exact hB.2⟩, va_S.F hS ht'⟩) hS.2.2 (by omega) (by omega)
  · obtain ⟨g1, g2, g3⟩ := h_behind S h1 h2 (by rw [← ht]; exact hB) hS
    exact W.widen g2 g3 (kk r u _ H1 locs1 rfl hp g1)
theorem hx_kv {QX : String → hO → Prop} {Q' : hO → Prop} {a : Array Value} (F : CallFix p m c cc nL s args lw_all own) (hlk : meth.locks = false) (ht : ∀ x ∈ c.exceptionTable.toList, False) (hr : vx_Run p l e R s m args below meth c H locs (cb - w.2.1) (sb - w.2.2) c1 s1 (F0 m pc ls st0) rest (hQv E A Q' a) (hXC E A QX) A) (S : hS E A s.heap cb sb w H locs) (h1 : c1 ≤ w.2.1) (h2 : s1 ≤ w.2.2)
    (kk : ∀ (o : hO) (w' : hW) (H1 : Heap) (locs1 : List Loc), w' = (o, w.2.1 - c1, w.2.2 - s1) → Q' o → hS E A s.heap cb sb w' H1 locs1 → W p l e R s m args below meth c H1 locs1 (cb - w'.2.1) (sb - w'.2.2) (vx_MQ below Qa (hXC E A QX) args s cb sb A) (F0 m (pc + 3) ls (rest))) : W p l e R s m args below meth c H locs (cb - w.2.1) (sb - w.2.2) (vx_MQ below Qa (hXC E A QX) args s cb sb A) (F0 m pc ls st0) := by
  refine vx_callv hr S.1.2 (fun q _ h => h) (fun q h => h) (fun q _ h => h) (fun En ce q9 u t H1 locs1 ht1 hvm hp hB hz hk hS h5 h6 h7 => ?_) fun u t H1 locs1 ht hvm hp hB hz hk hS => ?_
  · have h3 := S.2.1
    have h4 := S.2.2
    exact vx_out (fun x hx => (ht x hx).elim) hlk h5 h6 h7 (fun t' ht' _ => ⟨u, trivial, ⟨hB.1, by rw [ht', ← ht1]; exact hB.2⟩, va_S.F hS ht'⟩) hS.2.2 (by omega) (by omega)
  · obtain ⟨g1, g2, g3⟩ := h_behind S h1 h2 (by rw [← ht]; exact hB) hS
    exact W.widen g2 g3 (kk u _ H1 locs1 rfl hp g1)
theorem hx_kp {QX : String → hO → Prop} {Q' : Nat → hO → Prop} {a : Array Value} (F : CallFix p m c cc nL s args lw_all own) (hlk : meth.locks = false) (ht : ∀ x ∈ c.exceptionTable.toList, False) (hr : vx_Run p l e R s m args below meth c H locs (cb - w.2.1) (sb - w.2.2) c1 s1 (F0 m pc ls st0) rest (hQp E A Q' a) (hXC E A QX) A) (S : hS E A s.heap cb sb w H locs) (h1 : c1 ≤ w.2.1) (h2 : s1 ≤ w.2.2)
    (kk : ∀ (v : Nat) (o : hO) (w' : hW) (H1 : Heap) (locs1 : List Loc), w' = (o, w.2.1 - c1, w.2.2 - s1) → Q' v o → hS E A s.heap cb sb w' H1 locs1 → W p l e R s m args below meth c H1 locs1 (cb - w'.2.1) (sb - w'.2.2) (vx_MQ below Qa (hXC E A QX) args s cb sb A) (F0 m (pc + 3) ls (.ref v :: rest))) : W p l e R s m args below meth c H locs (cb - w.2.1) (sb - w.2.2) (vx_MQ below Qa (hXC E A QX) args s cb sb A) (F0 m pc ls st0) := by
  have h3 := S.2.1
  have h4 := S.2.2
  intro T hT X
  rcases hr T hT X with ⟨v, st₀, t, T', L, h0, X', hL, e1, e2, ⟨⟨u, ra, hv, hp, hB1, hB2⟩, hF⟩, st⟩ | ⟨q, st₀, t, T', L, En, ce, h0, X', hL, e1, e2, ⟨u, hp, ⟨hB1, hB2⟩, hF⟩, hce, hcv, hcl, st⟩
  · cases hv
    obtain ⟨k1, k2, k3⟩ := vx_keep h0 e1 S.1.2 (fun q _ h => h) (fun q h => h) hL hF
    obtain ⟨g1, g2, g3⟩ := h_behind S h1 h2 (by rw [e1]; exact hB2) k3
    obtain ⟨t2, a1, b1⟩ := W.widen g2 g3 (kk ra u _ T'.heap (locs ++ L) rfl hB1 g1) T' rfl X'
    exact ⟨t2, st t2 a1, b1⟩
  · obtain ⟨k1, k2, k3⟩ := vx_keep h0 e1 S.1.2 (fun q _ h => h) (fun q h => h) hL hF
    have h9 : vx_W p l e R s m args below meth c T'.heap (locs ++ L) (cb - w.2.1 + c1) (sb - w.2.2 + s1) (vx_MQ below Qa (hXC E A QX) args s cb sb A) (F0 m pc ls rest) q := vx_out (fun x hx => (ht x hx).elim) hlk (by rw [e1]; exact hce) hcv hcl (fun t' ht' _ => ⟨u, trivial, ⟨hB1, by rw [ht', e1]; exact hB2⟩, va_S.F k3 ht'⟩) k3.2.2 (by omega) (by omega)
    obtain ⟨t2, a1, b1⟩ := h9 T' rfl X'
    exact ⟨t2, st.trans a1, b1⟩
end XR
