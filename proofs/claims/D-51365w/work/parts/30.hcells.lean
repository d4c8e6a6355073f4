/-! HEAP MODE: the cells -/
set_option maxRecDepth 100000
def i2cN (x : Int32) : Int32 := (x.toUInt32 % 65536).toInt32
theorem h_selP {y : MethodName} {C : String} {s : State} {args : Array Value} {n : Nat} (hy : y.cls ≠ "java/lang/invoke/MethodHandle" ∧ y.cls ≠ "java/lang/invoke/VarHandle")
    (hins : (Cond.instantiable C n).before args s = true) (hpriv : (Cond.privateMethod y).before args s = true) (hinst : (Cond.instanceMethod y).before args s = true) {y0 : MethodName} (h0 : y0.cls = y.cls) (hsel0 : (Cond.selects C y0 y0).before args s = true) :
    (Cond.selects C y y).before args s = true := by
  obtain ⟨_, _, m0, -, -, hn0, -, k0, hk0, hi0⟩ := Cond.selects_spec hsel0
  obtain ⟨c, k, hc, hk, -, hniab, -, -⟩ := Cond.instantiable_spec hins
  obtain ⟨mk, methM, hnamed, hmethM, -, -⟩ := Cond.instanceMethod_spec hinst
  have hfound : s.methodFound? y.cls y.name y.desc = some mk := State.methodFound?_of_named hnamed hy
  have hsel : selectMethod {} s.vm c mk = .method mk := selectMethod_private hmethM (Cond.privateMethod_at hpriv mk methM hnamed hmethM)
  have hm : m0.cls = mk.cls := by
    have z := findClass_of_methodNamed hn0
    rw [h0, findClass_of_methodNamed hnamed] at z
    exact (Option.some.inj z).symm
  rw [hm] at hk0
  simp only [Cond.before, Cond.holds, Cond.value, hc, hfound, hnamed, hsel, hk0]
  simp
  exact hi0
theorem gw_SU {own : String} {idx : Nat} {y : MethodName} {b : ByteArray} {L : Nat} {r : Option FieldType} (h1 : Cond.methodLink own idx y ∈ lw_all) (h2 : Cond.sameMethod y.cls y.cls y.name y.desc ∈ lw_all) (h3 : Cond.superclass own y.cls ∈ lw_all) (h4 : Cond.instanceMethod y ∈ lw_all) (h5 : Cond.initialized y.cls ∈ lw_all) (h6 : Cond.code y b L r ∈ lw_all) : GoodIn lw_all (va_wsSU own idx y (ws_ y b L r)) := by
  refine lw_app ?_ (lw_meth h6)
  intro w hw
  simp only [List.mem_cons, List.not_mem_nil, or_false] at hw
  rcases hw with e | e | e | e | e <;> rw [e] <;> assumption
theorem g_runSU {p : Program} {l : Launch} {e : Env} {R : Room} {s : State} {m : MethodId} {args : Array Value} {below : List Frame} {meth : Method} {c : Code} {H : Heap} {locs : List Loc} {cells slots pc nL mc ms n index maxL b : Nat} {ls : Array Slot} {rest st0 As : List Value} {cc bytes : ByteArray} {A : Nat → Prop} {K : State → Prop} {P : Heap → Prop} {own C : String} {y : MethodName} {ret : Option FieldType} {ws : List Cond} {rm : Room} {cC : ClassId} {Qa : Array Value → State → Outcome → State → Prop} (hat : ClassAt s C cC) (F : CallFix p m c cc nL s args lw_all own) (hK : K s) (hKm : gKm K A) (S : gS A s.heap P H locs) (M : Met l y ws rm (va_Pc (.ref b :: As) (gPre K P)) Qa mc ms A)
    (cw : va_CS R s args own index y bytes maxL ret ws rm mc ms n) (hrv : gRecv s H C b) (hn : As.length = n) (hl : ls.size = nL) (hst : st0 = As.reverse ++ .ref b :: rest) (hWt : (rest.map fun v => v.category).sum ≤ 8) (hdg : decode cc pc = .ok (.invokespecial index, 3)) (hf : cells + mc ≤ R.cells ∧ slots + ms ≤ R.slots) :
    va_Run p l e R s m args below meth c H locs cells slots mc ms (F0 m pc ls st0) rest (Qa (Value.ref b :: As).toArray) A :=
  va_runSU (g := F0 m pc ls st0) hat F M cw ⟨gBlind hKm, hrv, fun U hU hW => ⟨rfl, by rw [hU]; exact S.1, hKm s U hW (by rw [hU]; exact S.2.1) (by rw [hU]; exact S.2.2.1) hK⟩⟩ rfl hn hl hst (lv_room hWt) hdg hf
theorem h_Zq {C n d : String} {A : Nat → Prop} {U : State} {H : Heap} (h : va_Zq C n d A U H) : ∃ r : Option Nat, va_Z C n d (va_rf r) A U H := by
  rcases h with h | ⟨t, h⟩
  · exact ⟨none, h⟩
  · exact ⟨some t, h⟩
theorem h_ldcwS {p : Program} {l : Launch} {e : Env} {R : Room} {s : State} {m : MethodId} {args : Array Value} {below : List Frame} {meth : Method} {c : Code} {H : Heap} {locs : List Loc} {cells slots : Nat} {Q : State → Prop} {pc : Nat} {ls : Array Slot} {rest : List Value} {cc : ByteArray} (hexec : p.tables.exec = Jvm.exec) (hb : c.code = cc) {own tx : String} {index q : Nat} (hown : s.vm.findClass own = some m.cls) (hZ : vk_R own index tx q s) (hdg : decode cc pc = .ok (.ldc_w index, 3))
    (k : W p l e R s m args below meth c H locs cells slots Q (F0 m (pc + 3) ls (.ref q :: rest))) : W p l e R s m args below meth c H locs cells slots Q (F0 m pc ls rest) := by
  intro T hT X
  obtain ⟨t, a1, b1⟩ := k T hT X
  exact ⟨t, X.ldcStringW hexec hown (text := tx) (a := q) hZ.1 hZ.2 (g := F0 m pc ls rest) rfl (by rw [hb]; exact hdg) t a1, b1⟩
theorem h_obj {p : Program} {l : Launch} {e : Env} {R : Room} {s : State} {m : MethodId} {args : Array Value} {below : List Frame} {meth : Method} {c : Code} {H : Heap} {locs : List Loc} {cells slots : Nat} {Q : State → Prop} {pc nL a index : Nat} {ls : Array Slot} {rest : List Value} {cc : ByteArray} {own : String} (F : CallFix p m c cc nL s args lw_all own) (hlink : Cond.methodLink own index Lib.objectInit ∈ lw_all) (hls : ls.size = nL) (hdg : decode cc pc = .ok (.invokespecial index, 3)) (hframes : 1 ≤ R.frames) (hlocals : (rest.map fun v => v.category).sum + 12 ≤ R.locals)
    (kk : W p l e R s m args below meth c H locs cells slots Q (F0 m (pc + 3) ls rest)) : W p l e R s m args below meth c H locs cells slots Q (F0 m pc ls (.ref a :: rest)) :=
  W.objInit F.1 F.2.1 F.2.2.2.1 (F.2.2.2.2 _ hlink) (F.2.2.2.2 _ q154) (F.2.2.2.2 _ q155) (g := F0 m pc ls (.ref a :: rest)) rfl (hls.trans F.2.2.1.symm) rfl hdg hframes (by show 2 * 0 + _ + 12 ≤ _; omega) kk
/-- a row of objects -/
def hIsA (w : hW) (a : Nat) : Option Unit := match w.1 a with
  | some (_, .inr (t, _)) => if t = 4 then some () else none
  | _ => none
theorem hIsA_recv {s : State} {E : hEnv} {A : Nat → Prop} {H H0 : Heap} {locs : List Loc} {cb sb a : Nat} {w : hW} {u : Unit} (hK : hK E A s) (S : hS E A H0 cb sb w H locs) (h : hIsA w a = some u) : ∃ cell : Cell, H[a]? = some cell ∧ cell.vm.isStatics = false ∧ s.vm.findClass "[Ljava/lang/Object;" = some cell.cls := by
  unfold hIsA at h
  split at h
  · rename_i b t x e
    obtain ⟨h1, -⟩ := if_inv h
    subst h1
    have hat : H[a]? = some (vp_cell (E.2.1 4) x) := (S.1.1.1 a b _ e).1
    obtain ⟨-, -, -, -, -, hnm⟩ := (hK.1.2 4 _ rfl).2
    have hn2 : s.vm.findClass "[Ljava/lang/Object;" = some (E.2.1 4) := by
      have e2 : "[" ++ (FieldType.object "java/lang/Object").toString = "[Ljava/lang/Object;" := by decide +kernel
      rw [← e2]
      exact hnm
    refine ⟨_, hat, ?_, ?_⟩
    · obtain ⟨n, f | f | f | f | f⟩ := x <;> rfl
    · rw [hn2]
      obtain ⟨n, f | f | f | f | f⟩ := x <;> rfl
  · cases h
theorem h_newaI {p : Program} {l : Launch} {e : Env} {s : State} {m : MethodId} {args : Array Value} {below : List Frame} {meth : Method} {c : Code} {R : Room} {H : Heap} {locs : List Loc} {cb sb pc nL : Nat} {Q : State → Prop} {ls : Array Slot} {rest : List Value} {cc : ByteArray} {E : hEnv} {A : Nat → Prop} {w : hW} {own : String} {n : Int32} (F : CallFix p m c cc nL s args lw_all own) (hK : hK E A s) (S : hS E A s.heap cb sb w H locs) (hrc : R.cells = cb) (hrs : R.slots = sb) {f : Nat → hW → Prop} (hw : hNewI 0 w n f) (hdg : decode cc pc = .ok (.newarray .int, 2)) (kk : ∀ (q : Nat) (w' : hW) (H1 : Heap), f q w' → hS E A s.heap cb sb w' H1 locs → W p l e R s m args below meth c H1 locs (cb - w'.2.1) (sb - w'.2.2) Q (F0 m (pc + 2) ls (.ref q :: rest))) : W p l e R s m args below meth c H locs (cb - w.2.1) (sb - w.2.2) Q (F0 m pc ls (.int n :: rest)) :=
  h_newI 0 (ty := .int) F hK S hrc hrs hw rfl (by decide) q202 (fun cA h => Option.some.inj (h.symm.trans (hK.1.2 0 _ rfl).2)) (fun _ _ => rfl) hdg kk
theorem h_newaZ {p : Program} {l : Launch} {e : Env} {s : State} {m : MethodId} {args : Array Value} {below : List Frame} {meth : Method} {c : Code} {R : Room} {H : Heap} {locs : List Loc} {cb sb pc nL : Nat} {Q : State → Prop} {ls : Array Slot} {rest : List Value} {cc : ByteArray} {E : hEnv} {A : Nat → Prop} {w : hW} {own : String} {n : Int32} (F : CallFix p m c cc nL s args lw_all own) (hK : hK E A s) (S : hS E A s.heap cb sb w H locs) (hrc : R.cells = cb) (hrs : R.slots = sb) {f : Nat → hW → Prop} (hw : hNewI 1 w n f) (hdg : decode cc pc = .ok (.newarray .boolean, 2)) (kk : ∀ (q : Nat) (w' : hW) (H1 : Heap), f q w' → hS E A s.heap cb sb w' H1 locs → W p l e R s m args below meth c H1 locs (cb - w'.2.1) (sb - w'.2.2) Q (F0 m (pc + 2) ls (.ref q :: rest))) : W p l e R s m args below meth c H locs (cb - w.2.1) (sb - w.2.2) Q (F0 m pc ls (.int n :: rest)) :=
  h_newI 1 (ty := .boolean) F hK S hrc hrs hw rfl (by decide) q1998 (fun cA h => Option.some.inj (h.symm.trans (hK.1.2 1 _ rfl).2)) (fun _ _ => rfl) hdg kk
theorem h_newaB {p : Program} {l : Launch} {e : Env} {s : State} {m : MethodId} {args : Array Value} {below : List Frame} {meth : Method} {c : Code} {R : Room} {H : Heap} {locs : List Loc} {cb sb pc nL : Nat} {Q : State → Prop} {ls : Array Slot} {rest : List Value} {cc : ByteArray} {E : hEnv} {A : Nat → Prop} {w : hW} {own : String} {n : Int32} (F : CallFix p m c cc nL s args lw_all own) (hK : hK E A s) (S : hS E A s.heap cb sb w H locs) (hrc : R.cells = cb) (hrs : R.slots = sb) {f : Nat → hW → Prop} (hw : hNewI 2 w n f) (hdg : decode cc pc = .ok (.newarray .byte, 2)) (kk : ∀ (q : Nat) (w' : hW) (H1 : Heap), f q w' → hS E A s.heap cb sb w' H1 locs → W p l e R s m args below meth c H1 locs (cb - w'.2.1) (sb - w'.2.2) Q (F0 m (pc + 2) ls (.ref q :: rest))) : W p l e R s m args below meth c H locs (cb - w.2.1) (sb - w.2.2) Q (F0 m pc ls (.int n :: rest)) :=
  h_newI 2 (ty := .byte) F hK S hrc hrs hw rfl (by decide) q225 (fun cA h => Option.some.inj (h.symm.trans (hK.1.2 2 _ rfl).2)) (fun _ _ => rfl) hdg kk
def hIsB (w : hW) (a : Nat) : Option Unit := match w.1 a with
  | some (_, .inr (t, _)) => if t = 2 then some () else none
  | _ => none
theorem h_castB {p : Program} {l : Launch} {e : Env} {s : State} {m : MethodId} {args : Array Value} {below : List Frame} {meth : Method} {c : Code} {R : Room} {H : Heap} {locs : List Loc} {cb sb pc nL : Nat} {Q : State → Prop} {ls : Array Slot} {rest : List Value} {cc : ByteArray} {E : hEnv} {A : Nat → Prop} {w : hW} {own : String} {index a : Nat} {u : Unit} (F : CallFix p m c cc nL s args lw_all own) (hK : hK E A s) (S : hS E A s.heap cb sb w H locs) (h : hIsB w a = some u) (hcl : Cond.classLink own index "[B" ∈ lw_all) (hdg : decode cc pc = .ok (.checkcast index, 3)) (kk : W p l e R s m args below meth c H locs (cb - w.2.1) (sb - w.2.2) Q (F0 m (pc + 3) ls (.ref a :: rest))) : W p l e R s m args below meth c H locs (cb - w.2.1) (sb - w.2.2) Q (F0 m pc ls (.ref a :: rest)) := by
  unfold hIsB at h
  split at h
  · rename_i b t x e
    obtain ⟨h1, -⟩ := if_inv h
    subst h1
    refine va_castA F.1 F.2.1 F.2.2.2.1 (F.2.2.2.2 _ hcl) (va_P1 (S.1.1.1 a b _ e).1) 0 rfl ?_ hdg kk
    exact va_nm_byte (hK.1.2 2 _ rfl).2
  · cases h
theorem h_castO {p : Program} {l : Launch} {e : Env} {s : State} {m : MethodId} {args : Array Value} {below : List Frame} {meth : Method} {c : Code} {R : Room} {H : Heap} {locs : List Loc} {cb sb pc nL : Nat} {Q : State → Prop} {ls : Array Slot} {rest : List Value} {cc : ByteArray} {E : hEnv} {A : Nat → Prop} {w : hW} {own : String} {index a : Nat} {u : Unit} (F : CallFix p m c cc nL s args lw_all own) (hK : hK E A s) (S : hS E A s.heap cb sb w H locs) (h : hIsA w a = some u) (hcl : Cond.classLink own index "[Ljava/lang/Object;" ∈ lw_all) (hdg : decode cc pc = .ok (.checkcast index, 3)) (kk : W p l e R s m args below meth c H locs (cb - w.2.1) (sb - w.2.2) Q (F0 m (pc + 3) ls (.ref a :: rest))) : W p l e R s m args below meth c H locs (cb - w.2.1) (sb - w.2.2) Q (F0 m pc ls (.ref a :: rest)) := by
  unfold hIsA at h
  split at h
  · rename_i b t x e
    obtain ⟨h1, -⟩ := if_inv h
    subst h1
    refine va_castA F.1 F.2.1 F.2.2.2.1 (F.2.2.2.2 _ hcl) (va_P1 (S.1.1.1 a b _ e).1) 0 rfl ?_ hdg kk
    obtain ⟨-, -, -, -, -, hnm⟩ := (hK.1.2 4 _ rfl).2
    have e2 : "[" ++ (FieldType.object "java/lang/Object").toString = "[Ljava/lang/Object;" := by decide +kernel
    rw [← e2]
    exact hnm
  · cases h
theorem hp_X4_9 {p : Program} {l : Launch} {e : Env} {s : State} {m : MethodId} {args : Array Value} {below : List Frame} {meth : Method} {c : Code} {R : Room} {H : Heap} {locs : List Loc} {cb sb pc nL : Nat} {Q : State → Prop} {ls : Array Slot} {rest : List Value} {cc : ByteArray} {E : hEnv} {A : Nat → Prop} {w : hW} {a : Nat} {w' : hW} {v : Int32} (F : CallFix p m c cc nL s args lw_all RX4) (hK : hK E A s) (S : hS E A s.heap cb sb w H locs) (hin : meth.name = "<init>") (h : hpC w a v = some w') (hdg : decode cc pc = .ok (.putfield 9, 3)) (kk : ∀ (H1 : Heap) (locs1 : List Loc), hS E A s.heap cb sb w' H1 locs1 → W p l e R s m args below meth c H1 locs1 (cb - w'.2.1) (sb - w'.2.2) Q (F0 m (pc + 3) ls rest)) : W p l e R s m args below meth c H locs (cb - w.2.1) (sb - w.2.2) Q (F0 m pc ls (.int v :: .ref a :: rest)) := by
  obtain ⟨ci, hc, h⟩ := hpC_inv h
  rcases hc with rfl | rfl | rfl | rfl | rfl | rfl
  · exact h_putF F hK S h (ci := 4) (C := RX5) (T := TX5) (N := 1) (k := 0) rfl in_X5 tyX5 tyX5_ok nmX5 (by decide) q290 (fun x h => h) rfl hin rfl (ty := .int) (by decide +kernel) rfl rfl hdg kk
  · exact h_putF F hK S h (ci := 5) (C := RX6) (T := TX6) (N := 2) (k := 0) rfl in_X6 tyX6 tyX6_ok nmX6 (by decide) q290 (fun x h => h) rfl hin rfl (ty := .int) (by decide +kernel) rfl rfl hdg kk
  · exact h_putF F hK S h (ci := 6) (C := RX7) (T := TX7) (N := 6) (k := 0) rfl in_X7 tyX7 tyX7_ok nmX7 (by decide) q290 (fun x h => h) rfl hin rfl (ty := .int) (by decide +kernel) rfl rfl hdg kk
  · exact h_putF F hK S h (ci := 7) (C := RX8) (T := TX8) (N := 3) (k := 0) rfl in_X8 tyX8 tyX8_ok nmX8 (by decide) q290 (fun x h => h) rfl hin rfl (ty := .int) (by decide +kernel) rfl rfl hdg kk
  · exact h_putF F hK S h (ci := 8) (C := RX12) (T := TX12) (N := 2) (k := 0) rfl in_X12 tyX12 tyX12_ok nmX12 (by decide) q290 (fun x h => h) rfl hin rfl (ty := .int) (by decide +kernel) rfl rfl hdg kk
  · exact h_putF F hK S h (ci := 9) (C := RX13) (T := TX13) (N := 2) (k := 0) rfl in_X13 tyX13 tyX13_ok nmX13 (by decide) q290 (fun x h => h) rfl hin rfl (ty := .int) (by decide +kernel) rfl rfl hdg kk
def hf_X4_init (pl : Nat → Nat) (w : hW) (a0 : Nat) (x1 : Int32) (Q : hO → Prop) : Prop :=
  obd (hpC w a0 x1) fun w1 =>
  Q w1.1
abbrev hrm_X4_init (c s : Nat) : Room := { frames := 1, cells := c, slots := s, locals := 20 }
set_option maxHeartbeats 4000000 in
set_option maxRecDepth 100000 in
theorem hmet_X4_init (l : Launch) (E : hEnv) (A : Nat → Prop) (w : hW) (a0 : Nat) (x1 : Int32) (Q : hO → Prop) (h : hf_X4_init E.2.2 w a0 x1 Q) : Met l yX4_init (ws_ yX4_init cX4_init 2 (none)) (hrm_X4_init w.2.1 w.2.2) (va_Pc [.ref a0, .int x1] (gPre (hK E A) (hP E A w.1))) (hQv E A Q) w.2.1 w.2.2 A := by
  refine h_metI (own := RX4) (by decide +kernel) rfl (by rfl) (Nat.le_of_ble_eq_true rfl) ?_
  intro p e s m args below meth c ls cb sb F hr hlk hin hK S hl
  have hx := F.1
  have hb := F.2.1
  have hl : lv_has ls 2 [(0, .ref a0), (1, .int x1)] := hl
  unfold hf_X4_init at h
  refine lv_aload_n hx hb dX4_init_0 rfl (lv_at hl 0 rfl) ?_
  refine h_obj F q289 hl.1 dX4_init_1 (Nat.le_of_ble_eq_true rfl) (Nat.le_of_ble_eq_true rfl) ?_
  refine lv_aload_n hx hb dX4_init_4 rfl (lv_at hl 0 rfl) ?_
  refine lv_iload_n hx hb dX4_init_5 rfl (lv_at hl 1 rfl) ?_
  obtain ⟨w1, e2, h⟩ := obd_inv h
  refine hp_X4_9 F hK S (by assumption) e2 dX4_init_6 (fun H locs S => ?_)
  exact h_vret F hr hlk S h dX4_init_9
def hf_X4_form (pl : Nat → Nat) (w : hW) (a0 : Nat) (Q : Int32 → hO → Prop) : Prop :=
  Q (-1) w.1
abbrev hrm_X4_form (c s : Nat) : Room := { frames := 0, cells := c, slots := s, locals := 0 }
set_option maxHeartbeats 4000000 in
set_option maxRecDepth 100000 in
theorem hmet_X4_form (l : Launch) (E : hEnv) (A : Nat → Prop) (w : hW) (a0 : Nat) (Q : Int32 → hO → Prop) (h : hf_X4_form E.2.2 w a0 Q) : Met l yX4_form (ws_ yX4_form cX4_form 1 (some .int)) (hrm_X4_form w.2.1 w.2.2) (va_Pc [.ref a0] (gPre (hK E A) (hP E A w.1))) (hQi E A Q) w.2.1 w.2.2 A := by
  refine h_met (own := RX4) (by decide +kernel) rfl (Nat.le_of_ble_eq_true rfl) ?_
  intro p e s m args below meth c ls cb sb F hr hlk hK S hl
  have hx := F.1
  have hb := F.2.1
  have hl : lv_has ls 1 [(0, .ref a0)] := hl
  unfold hf_X4_form at h
  refine lv_iconst (v := (-1)) hx hb dX4_form_0 (by decide) ?_
  exact h_iret F hr hlk S h dX4_form_1
def hf_X4_owner (pl : Nat → Nat) (w : hW) (a0 : Nat) (Q : Int32 → hO → Prop) : Prop :=
  Q (-1) w.1
abbrev hrm_X4_owner (c s : Nat) : Room := { frames := 0, cells := c, slots := s, locals := 0 }
set_option maxHeartbeats 4000000 in
set_option maxRecDepth 100000 in
theorem hmet_X4_owner (l : Launch) (E : hEnv) (A : Nat → Prop) (w : hW) (a0 : Nat) (Q : Int32 → hO → Prop) (h : hf_X4_owner E.2.2 w a0 Q) : Met l yX4_owner (ws_ yX4_owner cX4_owner 1 (some .int)) (hrm_X4_owner w.2.1 w.2.2) (va_Pc [.ref a0] (gPre (hK E A) (hP E A w.1))) (hQi E A Q) w.2.1 w.2.2 A := by
  refine h_met (own := RX4) (by decide +kernel) rfl (Nat.le_of_ble_eq_true rfl) ?_
  intro p e s m args below meth c ls cb sb F hr hlk hK S hl
  have hx := F.1
  have hb := F.2.1
  have hl : lv_has ls 1 [(0, .ref a0)] := hl
  unfold hf_X4_owner at h
  refine lv_iconst (v := (-1)) hx hb dX4_owner_0 (by decide) ?_
  exact h_iret F hr hlk S h dX4_owner_1
theorem hcl_X4_init_X5_1 {p : Program} {l : Launch} {e : Env} {s : State} {m : MethodId} {args : Array Value} {below : List Frame} {meth : Method} {c : Code} {R : Room} {H : Heap} {locs : List Loc} {cb sb pc nL : Nat} {Q : State → Prop} {ls : Array Slot} {rest : List Value} {cc : ByteArray} {E : hEnv} {A : Nat → Prop} {w : hW} {a0 : Nat} {x1 : Int32} {Q' : hO → Prop} {c1 s1 : Nat} (F : CallFix p m c cc nL s args lw_all RX5) (hK : hK E A s) (S : hS E A s.heap cb sb w H locs) (h1 : c1 ≤ w.2.1) (h2 : s1 ≤ w.2.2) (h : hf_X4_init E.2.2 (w.1, c1, s1) a0 x1 Q') (hrc : R.cells = cb) (hrs : R.slots = sb) (hls : ls.size = nL) (hWt : (rest.map fun v => v.category).sum ≤ 8) (hR : 1 + 1 ≤ R.frames ∧ 8 + (2 + 11) + 20 ≤ R.locals) (hdg : decode cc pc = .ok (.invokespecial 1, 3))
    (kk : ∀ (o : hO) (w' : hW) (H1 : Heap) (locs1 : List Loc), w' = (o, w.2.1 - c1, w.2.2 - s1) → Q' o → hS E A s.heap cb sb w' H1 locs1 → W p l e R s m args below meth c H1 locs1 (cb - w'.2.1) (sb - w'.2.2) Q (F0 m (pc + 3) ls (rest))) : W p l e R s m args below meth c H locs (cb - w.2.1) (sb - w.2.2) Q (F0 m pc ls (.int x1 :: .ref a0 :: rest)) :=
  h_kv (g_runI F hK (hKm E A) S.1 (hmet_X4_init l E A (w.1, c1, s1) a0 x1 Q' h) (cwI 1 F.2.2.2.2 (lw_meth q288) rfl rfl rfl (F.2.2.2.2 _ q116) (F.2.2.2.2 _ q286) (F.2.2.2.2 _ q287) rfl (by decide +kernel) hR) rfl hls rfl hWt hdg ⟨by rw [hrc]; exact (h_left S h1 h2).1, by rw [hrs]; exact (h_left S h1 h2).2⟩) S h1 h2 kk
def hf_X5_init (pl : Nat → Nat) (w : hW) (a0 : Nat) (x1 : Int32) (Q : hO → Prop) : Prop :=
  hcall w fun n1 n2 => hf_X4_init pl (w.1, n1, n2) a0 x1 fun o4 => hret w n1 n2 o4 fun w3 =>
  Q w3.1
abbrev hrm_X5_init (c s : Nat) : Room := { frames := 2, cells := c, slots := s, locals := 41 }
set_option maxHeartbeats 4000000 in
set_option maxRecDepth 100000 in
theorem hmet_X5_init (l : Launch) (E : hEnv) (A : Nat → Prop) (w : hW) (a0 : Nat) (x1 : Int32) (Q : hO → Prop) (h : hf_X5_init E.2.2 w a0 x1 Q) : Met l yX5_init (ws_ yX5_init cX5_init 2 (none)) (hrm_X5_init w.2.1 w.2.2) (va_Pc [.ref a0, .int x1] (gPre (hK E A) (hP E A w.1))) (hQv E A Q) w.2.1 w.2.2 A := by
  refine h_metI (own := RX5) (by decide +kernel) rfl (by rfl) (Nat.le_of_ble_eq_true rfl) ?_
  intro p e s m args below meth c ls cb sb F hr hlk hin hK S hl
  have hx := F.1
  have hb := F.2.1
  have hl : lv_has ls 2 [(0, .ref a0), (1, .int x1)] := hl
  unfold hf_X5_init at h
  refine lv_aload_n hx hb dX5_init_0 rfl (lv_at hl 0 rfl) ?_
  refine lv_iload_n hx hb dX5_init_1 rfl (lv_at hl 1 rfl) ?_
  obtain ⟨n1, n2, h1, h2, h⟩ := hcall_inv h
  refine hcl_X4_init_X5_1 F hK S h1 h2 h rfl rfl hl.1 (Nat.le_of_ble_eq_true rfl) ⟨Nat.le_of_ble_eq_true rfl, Nat.le_of_ble_eq_true rfl⟩ dX5_init_2 (fun o4 w3 H locs hw h S => ?_)
  replace h := hret_mp h hw
  clear hw h1 h2
  exact h_vret F hr hlk S h dX5_init_5
def hf_X5_kind (pl : Nat → Nat) (w : hW) (a0 : Nat) (Q : Int32 → hO → Prop) : Prop :=
  Q 0 w.1
abbrev hrm_X5_kind (c s : Nat) : Room := { frames := 0, cells := c, slots := s, locals := 0 }
set_option maxHeartbeats 4000000 in
set_option maxRecDepth 100000 in
theorem hmet_X5_kind (l : Launch) (E : hEnv) (A : Nat → Prop) (w : hW) (a0 : Nat) (Q : Int32 → hO → Prop) (h : hf_X5_kind E.2.2 w a0 Q) : Met l yX5_kind (ws_ yX5_kind cX5_kind 1 (some .int)) (hrm_X5_kind w.2.1 w.2.2) (va_Pc [.ref a0] (gPre (hK E A) (hP E A w.1))) (hQi E A Q) w.2.1 w.2.2 A := by
  refine h_met (own := RX5) (by decide +kernel) rfl (Nat.le_of_ble_eq_true rfl) ?_
  intro p e s m args below meth c ls cb sb F hr hlk hK S hl
  have hx := F.1
  have hb := F.2.1
  have hl : lv_has ls 1 [(0, .ref a0)] := hl
  unfold hf_X5_kind at h
  refine lv_iconst (v := 0) hx hb dX5_kind_0 (by decide) ?_
  exact h_iret F hr hlk S h dX5_kind_1
def hf_X5_twin (pl : Nat → Nat) (w : hW) (a0 : Nat) (Q : Nat → hO → Prop) : Prop :=
  Q a0 w.1
abbrev hrm_X5_twin (c s : Nat) : Room := { frames := 0, cells := c, slots := s, locals := 0 }
set_option maxHeartbeats 4000000 in
set_option maxRecDepth 100000 in
theorem hmet_X5_twin (l : Launch) (E : hEnv) (A : Nat → Prop) (w : hW) (a0 : Nat) (Q : Nat → hO → Prop) (h : hf_X5_twin E.2.2 w a0 Q) : Met l yX5_twin (ws_ yX5_twin cX5_twin 1 (some (.object "MirrorDoors$Cell"))) (hrm_X5_twin w.2.1 w.2.2) (va_Pc [.ref a0] (gPre (hK E A) (hP E A w.1))) (hQp E A Q) w.2.1 w.2.2 A := by
  refine h_met (own := RX5) (by decide +kernel) rfl (Nat.le_of_ble_eq_true rfl) ?_
  intro p e s m args below meth c ls cb sb F hr hlk hK S hl
  have hx := F.1
  have hb := F.2.1
  have hl : lv_has ls 1 [(0, .ref a0)] := hl
  unfold hf_X5_twin at h
  refine lv_aload_n hx hb dX5_twin_0 rfl (lv_at hl 0 rfl) ?_
  exact h_aret F hr (Or.inl ⟨_, rfl⟩) hlk S h dX5_twin_1
theorem hcl_X4_init_X6_9 {p : Program} {l : Launch} {e : Env} {s : State} {m : MethodId} {args : Array Value} {below : List Frame} {meth : Method} {c : Code} {R : Room} {H : Heap} {locs : List Loc} {cb sb pc nL : Nat} {Q : State → Prop} {ls : Array Slot} {rest : List Value} {cc : ByteArray} {E : hEnv} {A : Nat → Prop} {w : hW} {a0 : Nat} {x1 : Int32} {Q' : hO → Prop} {c1 s1 : Nat} (F : CallFix p m c cc nL s args lw_all RX6) (hK : hK E A s) (S : hS E A s.heap cb sb w H locs) (h1 : c1 ≤ w.2.1) (h2 : s1 ≤ w.2.2) (h : hf_X4_init E.2.2 (w.1, c1, s1) a0 x1 Q') (hrc : R.cells = cb) (hrs : R.slots = sb) (hls : ls.size = nL) (hWt : (rest.map fun v => v.category).sum ≤ 8) (hR : 1 + 1 ≤ R.frames ∧ 8 + (2 + 11) + 20 ≤ R.locals) (hdg : decode cc pc = .ok (.invokespecial 9, 3))
    (kk : ∀ (o : hO) (w' : hW) (H1 : Heap) (locs1 : List Loc), w' = (o, w.2.1 - c1, w.2.2 - s1) → Q' o → hS E A s.heap cb sb w' H1 locs1 → W p l e R s m args below meth c H1 locs1 (cb - w'.2.1) (sb - w'.2.2) Q (F0 m (pc + 3) ls (rest))) : W p l e R s m args below meth c H locs (cb - w.2.1) (sb - w.2.2) Q (F0 m pc ls (.int x1 :: .ref a0 :: rest)) :=
  h_kv (g_runI F hK (hKm E A) S.1 (hmet_X4_init l E A (w.1, c1, s1) a0 x1 Q' h) (cwI 1 F.2.2.2.2 (lw_meth q288) rfl rfl rfl (F.2.2.2.2 _ q116) (F.2.2.2.2 _ q311) (F.2.2.2.2 _ q287) rfl (by decide +kernel) hR) rfl hls rfl hWt hdg ⟨by rw [hrc]; exact (h_left S h1 h2).1, by rw [hrs]; exact (h_left S h1 h2).2⟩) S h1 h2 kk
theorem hp_X6_14 {p : Program} {l : Launch} {e : Env} {s : State} {m : MethodId} {args : Array Value} {below : List Frame} {meth : Method} {c : Code} {R : Room} {H : Heap} {locs : List Loc} {cb sb pc nL : Nat} {Q : State → Prop} {ls : Array Slot} {rest : List Value} {cc : ByteArray} {E : hEnv} {A : Nat → Prop} {w : hW} {a : Nat} {w' : hW} {v : Int32} (F : CallFix p m c cc nL s args lw_all RX6) (hK : hK E A s) (S : hS E A s.heap cb sb w H locs) (hin : meth.name = "<init>") (h : hpV w a 5 1 (.int v) = some w') (hdg : decode cc pc = .ok (.putfield 14, 3)) (kk : ∀ (H1 : Heap) (locs1 : List Loc), hS E A s.heap cb sb w' H1 locs1 → W p l e R s m args below meth c H1 locs1 (cb - w'.2.1) (sb - w'.2.2) Q (F0 m (pc + 3) ls rest)) : W p l e R s m args below meth c H locs (cb - w.2.1) (sb - w.2.2) Q (F0 m pc ls (.int v :: .ref a :: rest)) :=
  h_putF F hK S h (ci := 5) (C := RX6) (T := TX6) (N := 2) (k := 1) rfl in_X6 tyX6 tyX6_ok nmX6 (by decide) q312 (fun x h => h) rfl hin rfl (ty := .int) (by decide +kernel) rfl rfl hdg kk
def hf_X6_init (pl : Nat → Nat) (w : hW) (a0 : Nat) (x1 : Int32) (x2 : Int32) (Q : hO → Prop) : Prop :=
  hcall w fun n1 n2 => hf_X4_init pl (w.1, n1, n2) a0 x1 fun o4 => hret w n1 n2 o4 fun w3 =>
  obd (hpV w3 a0 5 1 (.int x2)) fun w5 =>
  Q w5.1
abbrev hrm_X6_init (c s : Nat) : Room := { frames := 2, cells := c, slots := s, locals := 41 }
set_option maxHeartbeats 4000000 in
set_option maxRecDepth 100000 in
theorem hmet_X6_init (l : Launch) (E : hEnv) (A : Nat → Prop) (w : hW) (a0 : Nat) (x1 : Int32) (x2 : Int32) (Q : hO → Prop) (h : hf_X6_init E.2.2 w a0 x1 x2 Q) : Met l yX6_init (ws_ yX6_init cX6_init 3 (none)) (hrm_X6_init w.2.1 w.2.2) (va_Pc [.ref a0, .int x1, .int x2] (gPre (hK E A) (hP E A w.1))) (hQv E A Q) w.2.1 w.2.2 A := by
  refine h_metI (own := RX6) (by decide +kernel) rfl (by rfl) (Nat.le_of_ble_eq_true rfl) ?_
  intro p e s m args below meth c ls cb sb F hr hlk hin hK S hl
  have hx := F.1
  have hb := F.2.1
  have hl : lv_has ls 3 [(0, .ref a0), (1, .int x1), (2, .int x2)] := hl
  unfold hf_X6_init at h
  refine lv_aload_n hx hb dX6_init_0 rfl (lv_at hl 0 rfl) ?_
  refine lv_iload_n hx hb dX6_init_1 rfl (lv_at hl 1 rfl) ?_
  obtain ⟨n1, n2, h1, h2, h⟩ := hcall_inv h
  refine hcl_X4_init_X6_9 F hK S h1 h2 h rfl rfl hl.1 (Nat.le_of_ble_eq_true rfl) ⟨Nat.le_of_ble_eq_true rfl, Nat.le_of_ble_eq_true rfl⟩ dX6_init_2 (fun o4 w3 H locs hw h S => ?_)
  replace h := hret_mp h hw
  clear hw h1 h2
  refine lv_aload_n hx hb dX6_init_5 rfl (lv_at hl 0 rfl) ?_
  refine lv_iload_n hx hb dX6_init_6 rfl (lv_at hl 2 rfl) ?_
  obtain ⟨w5, e6, h⟩ := obd_inv h
  refine hp_X6_14 F hK S (by assumption) e6 dX6_init_7 (fun H locs S => ?_)
  exact h_vret F hr hlk S h dX6_init_10
theorem hcl_X6_init_X6_3 {p : Program} {l : Launch} {e : Env} {s : State} {m : MethodId} {args : Array Value} {below : List Frame} {meth : Method} {c : Code} {R : Room} {H : Heap} {locs : List Loc} {cb sb pc nL : Nat} {Q : State → Prop} {ls : Array Slot} {rest : List Value} {cc : ByteArray} {E : hEnv} {A : Nat → Prop} {w : hW} {a0 : Nat} {x1 : Int32} {x2 : Int32} {Q' : hO → Prop} {c1 s1 : Nat} (F : CallFix p m c cc nL s args lw_all RX6) (hK : hK E A s) (S : hS E A s.heap cb sb w H locs) (h1 : c1 ≤ w.2.1) (h2 : s1 ≤ w.2.2) (h : hf_X6_init E.2.2 (w.1, c1, s1) a0 x1 x2 Q') (hrc : R.cells = cb) (hrs : R.slots = sb) (hls : ls.size = nL) (hWt : (rest.map fun v => v.category).sum ≤ 8) (hR : 2 + 1 ≤ R.frames ∧ 8 + (3 + 11) + 41 ≤ R.locals) (hdg : decode cc pc = .ok (.invokespecial 3, 3))
    (kk : ∀ (o : hO) (w' : hW) (H1 : Heap) (locs1 : List Loc), w' = (o, w.2.1 - c1, w.2.2 - s1) → Q' o → hS E A s.heap cb sb w' H1 locs1 → W p l e R s m args below meth c H1 locs1 (cb - w'.2.1) (sb - w'.2.2) Q (F0 m (pc + 3) ls (rest))) : W p l e R s m args below meth c H locs (cb - w.2.1) (sb - w.2.2) Q (F0 m pc ls (.int x2 :: .int x1 :: .ref a0 :: rest)) :=
  h_kv (g_runI F hK (hKm E A) S.1 (hmet_X6_init l E A (w.1, c1, s1) a0 x1 x2 Q' h) (cwI 2 F.2.2.2.2 (lw_meth q310) rfl rfl rfl (F.2.2.2.2 _ q118) (F.2.2.2.2 _ q1043) (F.2.2.2.2 _ q309) rfl (by decide +kernel) hR) rfl hls rfl hWt hdg ⟨by rw [hrc]; exact (h_left S h1 h2).1, by rw [hrs]; exact (h_left S h1 h2).2⟩) S h1 h2 kk
def hf_X6_init_2 (pl : Nat → Nat) (w : hW) (a0 : Nat) (x1 : Int32) (Q : hO → Prop) : Prop :=
  hcall w fun n1 n2 => hf_X6_init pl (w.1, n1, n2) a0 x1 (-1) fun o4 => hret w n1 n2 o4 fun w3 =>
  Q w3.1
abbrev hrm_X6_init_2 (c s : Nat) : Room := { frames := 3, cells := c, slots := s, locals := 63 }
set_option maxHeartbeats 4000000 in
set_option maxRecDepth 100000 in
theorem hmet_X6_init_2 (l : Launch) (E : hEnv) (A : Nat → Prop) (w : hW) (a0 : Nat) (x1 : Int32) (Q : hO → Prop) (h : hf_X6_init_2 E.2.2 w a0 x1 Q) : Met l yX6_init_2 (ws_ yX6_init_2 cX6_init_2 2 (none)) (hrm_X6_init_2 w.2.1 w.2.2) (va_Pc [.ref a0, .int x1] (gPre (hK E A) (hP E A w.1))) (hQv E A Q) w.2.1 w.2.2 A := by
  refine h_metI (own := RX6) (by decide +kernel) rfl (by rfl) (Nat.le_of_ble_eq_true rfl) ?_
  intro p e s m args below meth c ls cb sb F hr hlk hin hK S hl
  have hx := F.1
  have hb := F.2.1
  have hl : lv_has ls 2 [(0, .ref a0), (1, .int x1)] := hl
  unfold hf_X6_init_2 at h
  refine lv_aload_n hx hb dX6_init_2_0 rfl (lv_at hl 0 rfl) ?_
  refine lv_iload_n hx hb dX6_init_2_1 rfl (lv_at hl 1 rfl) ?_
  refine lv_iconst (v := (-1)) hx hb dX6_init_2_2 (by decide) ?_
  obtain ⟨n1, n2, h1, h2, h⟩ := hcall_inv h
  refine hcl_X6_init_X6_3 F hK S h1 h2 h rfl rfl hl.1 (Nat.le_of_ble_eq_true rfl) ⟨Nat.le_of_ble_eq_true rfl, Nat.le_of_ble_eq_true rfl⟩ dX6_init_2_3 (fun o4 w3 H locs hw h S => ?_)
  replace h := hret_mp h hw
  clear hw h1 h2
  exact h_vret F hr hlk S h dX6_init_2_6
theorem hg_X6_14 {p : Program} {l : Launch} {e : Env} {s : State} {m : MethodId} {args : Array Value} {below : List Frame} {meth : Method} {c : Code} {R : Room} {H : Heap} {locs : List Loc} {cb sb pc nL : Nat} {Q : State → Prop} {ls : Array Slot} {rest : List Value} {cc : ByteArray} {E : hEnv} {A : Nat → Prop} {w : hW} {a : Nat} {v : Int32} (F : CallFix p m c cc nL s args lw_all RX6) (hK : hK E A s) (S : hS E A s.heap cb sb w H locs) (h : hgI w a 5 1 = some v) (hdg : decode cc pc = .ok (.getfield 14, 3)) (kk : W p l e R s m args below meth c H locs (cb - w.2.1) (sb - w.2.2) Q (F0 m (pc + 3) ls (.int v :: rest))) : W p l e R s m args below meth c H locs (cb - w.2.1) (sb - w.2.2) Q (F0 m pc ls (.ref a :: rest)) := by
  obtain ⟨b, fs, ho, hv⟩ := hgI_inv h
  exact h_get F hK S ho (ci := 5) (C := RX6) (T := TX6) (N := 2) (k := 1) rfl in_X6 (by decide) q312 (fun x h => h) hv hdg kk
def hf_X6_kind (pl : Nat → Nat) (w : hW) (a0 : Nat) (Q : Int32 → hO → Prop) : Prop :=
  obd (hgI w a0 5 1) fun v1 =>
  hjoin (fun (v4 : Int32) =>
    Q v4 w.1) fun k6 =>
  hIf (v1 = (-1)) (
    k6 1) <|
    k6 7
abbrev hrm_X6_kind (c s : Nat) : Room := { frames := 0, cells := c, slots := s, locals := 0 }
set_option maxHeartbeats 4000000 in
set_option maxRecDepth 100000 in
theorem hmet_X6_kind (l : Launch) (E : hEnv) (A : Nat → Prop) (w : hW) (a0 : Nat) (Q : Int32 → hO → Prop) (h : hf_X6_kind E.2.2 w a0 Q) : Met l yX6_kind (ws_ yX6_kind cX6_kind 1 (some .int)) (hrm_X6_kind w.2.1 w.2.2) (va_Pc [.ref a0] (gPre (hK E A) (hP E A w.1))) (hQi E A Q) w.2.1 w.2.2 A := by
  refine h_met (own := RX6) (by decide +kernel) rfl (Nat.le_of_ble_eq_true rfl) ?_
  intro p e s m args below meth c ls cb sb F hr hlk hK S hl
  have hx := F.1
  have hb := F.2.1
  have hl : lv_has ls 1 [(0, .ref a0)] := hl
  unfold hf_X6_kind at h
  refine lv_aload_n hx hb dX6_kind_0 rfl (lv_at hl 0 rfl) ?_
  obtain ⟨v1, e2, h⟩ := obd_inv h
  refine hg_X6_14 F hK S e2 dX6_kind_1 ?_
  refine lv_iconst (v := (-1)) hx hb dX6_kind_4 (by decide) ?_
  obtain ⟨k6, hk6, h⟩ := hj1_inv h
  have hJ14 : ∀ (v4 : Int32) (H : Heap) (locs : List Loc) (ls : Array Slot), k6 v4 → hS E A s.heap cb sb w H locs → lv_has ls 1 [] → W p l e (hrm_X6_kind cb sb) s m args below meth c H locs (cb - w.2.1) (sb - w.2.2) (MQ below (hQi E A Q) args s cb sb A) (F0 m 14 ls [.int v4]) := by
    intro v4 H locs ls h S hl
    replace h := hk6 _ h
    exact h_iret F hr hlk S h dX6_kind_14
  clear hk6
  refine lv_icmp_ne (tgt := 12) hx hb dX6_kind_5 (by decide) (fun c3 => ?_) (fun c3 => ?_)
  · rw [hIf_neg c3] at h
    refine lv_bipush (v := 7) hx hb dX6_kind_12 (by decide) ?_
    exact hJ14 _ _ _ _ h S (lv_sub hl [] rfl)
  · rw [hIf_pos c3] at h
    refine lv_iconst (v := 1) hx hb dX6_kind_8 (by decide) ?_
    refine lv_goto (tgt := 14) hx hb dX6_kind_9 (by decide) ?_
    exact hJ14 _ _ _ _ h S (lv_sub hl [] rfl)
def hf_X6_form (pl : Nat → Nat) (w : hW) (a0 : Nat) (Q : Int32 → hO → Prop) : Prop :=
  obd (hgI w a0 5 1) fun v1 =>
  Q v1 w.1
abbrev hrm_X6_form (c s : Nat) : Room := { frames := 0, cells := c, slots := s, locals := 0 }
set_option maxHeartbeats 4000000 in
set_option maxRecDepth 100000 in
theorem hmet_X6_form (l : Launch) (E : hEnv) (A : Nat → Prop) (w : hW) (a0 : Nat) (Q : Int32 → hO → Prop) (h : hf_X6_form E.2.2 w a0 Q) : Met l yX6_form (ws_ yX6_form cX6_form 1 (some .int)) (hrm_X6_form w.2.1 w.2.2) (va_Pc [.ref a0] (gPre (hK E A) (hP E A w.1))) (hQi E A Q) w.2.1 w.2.2 A := by
  refine h_met (own := RX6) (by decide +kernel) rfl (Nat.le_of_ble_eq_true rfl) ?_
  intro p e s m args below meth c ls cb sb F hr hlk hK S hl
  have hx := F.1
  have hb := F.2.1
  have hl : lv_has ls 1 [(0, .ref a0)] := hl
  unfold hf_X6_form at h
  refine lv_aload_n hx hb dX6_form_0 rfl (lv_at hl 0 rfl) ?_
  obtain ⟨v1, e2, h⟩ := obd_inv h
  refine hg_X6_14 F hK S e2 dX6_form_1 ?_
  exact h_iret F hr hlk S h dX6_form_4
def hf_X6_twin (pl : Nat → Nat) (w : hW) (a0 : Nat) (Q : Nat → hO → Prop) : Prop :=
  Q a0 w.1
abbrev hrm_X6_twin (c s : Nat) : Room := { frames := 0, cells := c, slots := s, locals := 0 }
set_option maxHeartbeats 4000000 in
set_option maxRecDepth 100000 in
theorem hmet_X6_twin (l : Launch) (E : hEnv) (A : Nat → Prop) (w : hW) (a0 : Nat) (Q : Nat → hO → Prop) (h : hf_X6_twin E.2.2 w a0 Q) : Met l yX6_twin (ws_ yX6_twin cX6_twin 1 (some (.object "MirrorDoors$Cell"))) (hrm_X6_twin w.2.1 w.2.2) (va_Pc [.ref a0] (gPre (hK E A) (hP E A w.1))) (hQp E A Q) w.2.1 w.2.2 A := by
  refine h_met (own := RX6) (by decide +kernel) rfl (Nat.le_of_ble_eq_true rfl) ?_
  intro p e s m args below meth c ls cb sb F hr hlk hK S hl
  have hx := F.1
  have hb := F.2.1
  have hl : lv_has ls 1 [(0, .ref a0)] := hl
  unfold hf_X6_twin at h
  refine lv_aload_n hx hb dX6_twin_0 rfl (lv_at hl 0 rfl) ?_
  exact h_aret F hr (Or.inl ⟨_, rfl⟩) hlk S h dX6_twin_1
theorem hcl_X4_init_X7_1 {p : Program} {l : Launch} {e : Env} {s : State} {m : MethodId} {args : Array Value} {below : List Frame} {meth : Method} {c : Code} {R : Room} {H : Heap} {locs : List Loc} {cb sb pc nL : Nat} {Q : State → Prop} {ls : Array Slot} {rest : List Value} {cc : ByteArray} {E : hEnv} {A : Nat → Prop} {w : hW} {a0 : Nat} {x1 : Int32} {Q' : hO → Prop} {c1 s1 : Nat} (F : CallFix p m c cc nL s args lw_all RX7) (hK : hK E A s) (S : hS E A s.heap cb sb w H locs) (h1 : c1 ≤ w.2.1) (h2 : s1 ≤ w.2.2) (h : hf_X4_init E.2.2 (w.1, c1, s1) a0 x1 Q') (hrc : R.cells = cb) (hrs : R.slots = sb) (hls : ls.size = nL) (hWt : (rest.map fun v => v.category).sum ≤ 8) (hR : 1 + 1 ≤ R.frames ∧ 8 + (2 + 11) + 20 ≤ R.locals) (hdg : decode cc pc = .ok (.invokespecial 1, 3))
    (kk : ∀ (o : hO) (w' : hW) (H1 : Heap) (locs1 : List Loc), w' = (o, w.2.1 - c1, w.2.2 - s1) → Q' o → hS E A s.heap cb sb w' H1 locs1 → W p l e R s m args below meth c H1 locs1 (cb - w'.2.1) (sb - w'.2.2) Q (F0 m (pc + 3) ls (rest))) : W p l e R s m args below meth c H locs (cb - w.2.1) (sb - w.2.2) Q (F0 m pc ls (.int x1 :: .ref a0 :: rest)) :=
  h_kv (g_runI F hK (hKm E A) S.1 (hmet_X4_init l E A (w.1, c1, s1) a0 x1 Q' h) (cwI 1 F.2.2.2.2 (lw_meth q288) rfl rfl rfl (F.2.2.2.2 _ q116) (F.2.2.2.2 _ q323) (F.2.2.2.2 _ q287) rfl (by decide +kernel) hR) rfl hls rfl hWt hdg ⟨by rw [hrc]; exact (h_left S h1 h2).1, by rw [hrs]; exact (h_left S h1 h2).2⟩) S h1 h2 kk
theorem hp_X7_7 {p : Program} {l : Launch} {e : Env} {s : State} {m : MethodId} {args : Array Value} {below : List Frame} {meth : Method} {c : Code} {R : Room} {H : Heap} {locs : List Loc} {cb sb pc nL : Nat} {Q : State → Prop} {ls : Array Slot} {rest : List Value} {cc : ByteArray} {E : hEnv} {A : Nat → Prop} {w : hW} {a : Nat} {w' : hW} {v : Int32} (F : CallFix p m c cc nL s args lw_all RX7) (hK : hK E A s) (S : hS E A s.heap cb sb w H locs) (hin : meth.name = "<init>") (h : hpZ w a 6 1 v = some w') (hdg : decode cc pc = .ok (.putfield 7, 3)) (kk : ∀ (H1 : Heap) (locs1 : List Loc), hS E A s.heap cb sb w' H1 locs1 → W p l e R s m args below meth c H1 locs1 (cb - w'.2.1) (sb - w'.2.2) Q (F0 m (pc + 3) ls rest)) : W p l e R s m args below meth c H locs (cb - w.2.1) (sb - w.2.2) Q (F0 m pc ls (.int v :: .ref a :: rest)) :=
  h_putF F hK S (hpZ_inv h).2 (ci := 6) (C := RX7) (T := TX7) (N := 6) (k := 1) rfl in_X7 tyX7 tyX7_ok nmX7 (by decide) q324 (fun x h => h) rfl hin rfl (ty := .boolean) (by decide +kernel) (congrArg Value.int (hpZ_inv h).1.1) (hpZ_inv h).1.2 hdg kk
theorem hp_X7_13 {p : Program} {l : Launch} {e : Env} {s : State} {m : MethodId} {args : Array Value} {below : List Frame} {meth : Method} {c : Code} {R : Room} {H : Heap} {locs : List Loc} {cb sb pc nL : Nat} {Q : State → Prop} {ls : Array Slot} {rest : List Value} {cc : ByteArray} {E : hEnv} {A : Nat → Prop} {w : hW} {a : Nat} {w' : hW} {v : Int32} (F : CallFix p m c cc nL s args lw_all RX7) (hK : hK E A s) (S : hS E A s.heap cb sb w H locs) (h : hpV w a 6 3 (.int v) = some w') (hdg : decode cc pc = .ok (.putfield 13, 3)) (kk : ∀ (H1 : Heap) (locs1 : List Loc), hS E A s.heap cb sb w' H1 locs1 → W p l e R s m args below meth c H1 locs1 (cb - w'.2.1) (sb - w'.2.2) Q (F0 m (pc + 3) ls rest)) : W p l e R s m args below meth c H locs (cb - w.2.1) (sb - w.2.2) Q (F0 m pc ls (.int v :: .ref a :: rest)) :=
  h_put F hK S h (ci := 6) (C := RX7) (T := TX7) (N := 6) (k := 3) rfl in_X7 tyX7 tyX7_ok nmX7 (by decide) q329 (fun x h => h) rfl (ty := .int) (by decide +kernel) rfl rfl hdg kk
theorem hp_X7_17 {p : Program} {l : Launch} {e : Env} {s : State} {m : MethodId} {args : Array Value} {below : List Frame} {meth : Method} {c : Code} {R : Room} {H : Heap} {locs : List Loc} {cb sb pc nL : Nat} {Q : State → Prop} {ls : Array Slot} {rest : List Value} {cc : ByteArray} {E : hEnv} {A : Nat → Prop} {w : hW} {a : Nat} {w' : hW} {v : Int32} (F : CallFix p m c cc nL s args lw_all RX7) (hK : hK E A s) (S : hS E A s.heap cb sb w H locs) (hin : meth.name = "<init>") (h : hpV w a 6 2 (.int v) = some w') (hdg : decode cc pc = .ok (.putfield 17, 3)) (kk : ∀ (H1 : Heap) (locs1 : List Loc), hS E A s.heap cb sb w' H1 locs1 → W p l e R s m args below meth c H1 locs1 (cb - w'.2.1) (sb - w'.2.2) Q (F0 m (pc + 3) ls rest)) : W p l e R s m args below meth c H locs (cb - w.2.1) (sb - w.2.2) Q (F0 m pc ls (.int v :: .ref a :: rest)) :=
  h_putF F hK S h (ci := 6) (C := RX7) (T := TX7) (N := 6) (k := 2) rfl in_X7 tyX7 tyX7_ok nmX7 (by decide) q326 (fun x h => h) rfl hin rfl (ty := .int) (by decide +kernel) rfl rfl hdg kk
def hf_X7_init (pl : Nat → Nat) (w : hW) (a0 : Nat) (x1 : Int32) (x2 : Int32) (x3 : Int32) (x4 : Int32) (Q : hO → Prop) : Prop :=
  hcall w fun n1 n2 => hf_X4_init pl (w.1, n1, n2) a0 x1 fun o4 => hret w n1 n2 o4 fun w3 =>
  obd (hpZ w3 a0 6 1 x2) fun w5 =>
  obd (hpV w5 a0 6 3 (.int x3)) fun w7 =>
  obd (hpV w7 a0 6 2 (.int x4)) fun w9 =>
  Q w9.1
abbrev hrm_X7_init (c s : Nat) : Room := { frames := 2, cells := c, slots := s, locals := 41 }
set_option maxHeartbeats 4000000 in
set_option maxRecDepth 100000 in
theorem hmet_X7_init (l : Launch) (E : hEnv) (A : Nat → Prop) (w : hW) (a0 : Nat) (x1 : Int32) (x2 : Int32) (x3 : Int32) (x4 : Int32) (Q : hO → Prop) (h : hf_X7_init E.2.2 w a0 x1 x2 x3 x4 Q) : Met l yX7_init (ws_ yX7_init cX7_init 5 (none)) (hrm_X7_init w.2.1 w.2.2) (va_Pc [.ref a0, .int x1, .int x2, .int x3, .int x4] (gPre (hK E A) (hP E A w.1))) (hQv E A Q) w.2.1 w.2.2 A := by
  refine h_metI (own := RX7) (by decide +kernel) rfl (by rfl) (Nat.le_of_ble_eq_true rfl) ?_
  intro p e s m args below meth c ls cb sb F hr hlk hin hK S hl
  have hx := F.1
  have hb := F.2.1
  have hl : lv_has ls 5 [(0, .ref a0), (1, .int x1), (2, .int x2), (3, .int x3), (4, .int x4)] := hl
  unfold hf_X7_init at h
  refine lv_aload_n hx hb dX7_init_0 rfl (lv_at hl 0 rfl) ?_
  refine lv_iload_n hx hb dX7_init_1 rfl (lv_at hl 1 rfl) ?_
  obtain ⟨n1, n2, h1, h2, h⟩ := hcall_inv h
  refine hcl_X4_init_X7_1 F hK S h1 h2 h rfl rfl hl.1 (Nat.le_of_ble_eq_true rfl) ⟨Nat.le_of_ble_eq_true rfl, Nat.le_of_ble_eq_true rfl⟩ dX7_init_2 (fun o4 w3 H locs hw h S => ?_)
  replace h := hret_mp h hw
  clear hw h1 h2
  refine lv_aload_n hx hb dX7_init_5 rfl (lv_at hl 0 rfl) ?_
  refine lv_iload_n hx hb dX7_init_6 rfl (lv_at hl 2 rfl) ?_
  obtain ⟨w5, e6, h⟩ := obd_inv h
  refine hp_X7_7 F hK S (by assumption) e6 dX7_init_7 (fun H locs S => ?_)
  refine lv_aload_n hx hb dX7_init_10 rfl (lv_at hl 0 rfl) ?_
  refine lv_iload_n hx hb dX7_init_11 rfl (lv_at hl 3 rfl) ?_
  obtain ⟨w7, e8, h⟩ := obd_inv h
  refine hp_X7_13 F hK S e8 dX7_init_12 (fun H locs S => ?_)
  refine lv_aload_n hx hb dX7_init_15 rfl (lv_at hl 0 rfl) ?_
  refine lv_iload hx hb dX7_init_16 (lv_at hl 4 rfl) ?_
  obtain ⟨w9, e10, h⟩ := obd_inv h
  refine hp_X7_17 F hK S (by assumption) e10 dX7_init_18 (fun H locs S => ?_)
  exact h_vret F hr hlk S h dX7_init_21
theorem hg_X7_7 {p : Program} {l : Launch} {e : Env} {s : State} {m : MethodId} {args : Array Value} {below : List Frame} {meth : Method} {c : Code} {R : Room} {H : Heap} {locs : List Loc} {cb sb pc nL : Nat} {Q : State → Prop} {ls : Array Slot} {rest : List Value} {cc : ByteArray} {E : hEnv} {A : Nat → Prop} {w : hW} {a : Nat} {v : Int32} (F : CallFix p m c cc nL s args lw_all RX7) (hK : hK E A s) (S : hS E A s.heap cb sb w H locs) (h : hgI w a 6 1 = some v) (hdg : decode cc pc = .ok (.getfield 7, 3)) (kk : W p l e R s m args below meth c H locs (cb - w.2.1) (sb - w.2.2) Q (F0 m (pc + 3) ls (.int v :: rest))) : W p l e R s m args below meth c H locs (cb - w.2.1) (sb - w.2.2) Q (F0 m pc ls (.ref a :: rest)) := by
  obtain ⟨b, fs, ho, hv⟩ := hgI_inv h
  exact h_get F hK S ho (ci := 6) (C := RX7) (T := TX7) (N := 6) (k := 1) rfl in_X7 (by decide) q324 (fun x h => h) hv hdg kk
def hf_X7_kind (pl : Nat → Nat) (w : hW) (a0 : Nat) (Q : Int32 → hO → Prop) : Prop :=
  obd (hgI w a0 6 1) fun v1 =>
  hjoin (fun (v4 : Int32) =>
    Q v4 w.1) fun k6 =>
  hIf (v1 = 0) (
    k6 2) <|
    k6 3
abbrev hrm_X7_kind (c s : Nat) : Room := { frames := 0, cells := c, slots := s, locals := 0 }
set_option maxHeartbeats 4000000 in
set_option maxRecDepth 100000 in
theorem hmet_X7_kind (l : Launch) (E : hEnv) (A : Nat → Prop) (w : hW) (a0 : Nat) (Q : Int32 → hO → Prop) (h : hf_X7_kind E.2.2 w a0 Q) : Met l yX7_kind (ws_ yX7_kind cX7_kind 1 (some .int)) (hrm_X7_kind w.2.1 w.2.2) (va_Pc [.ref a0] (gPre (hK E A) (hP E A w.1))) (hQi E A Q) w.2.1 w.2.2 A := by
  refine h_met (own := RX7) (by decide +kernel) rfl (Nat.le_of_ble_eq_true rfl) ?_
  intro p e s m args below meth c ls cb sb F hr hlk hK S hl
  have hx := F.1
  have hb := F.2.1
  have hl : lv_has ls 1 [(0, .ref a0)] := hl
  unfold hf_X7_kind at h
  refine lv_aload_n hx hb dX7_kind_0 rfl (lv_at hl 0 rfl) ?_
  obtain ⟨v1, e2, h⟩ := obd_inv h
  refine hg_X7_7 F hK S e2 dX7_kind_1 ?_
  obtain ⟨k6, hk6, h⟩ := hj1_inv h
  have hJ12 : ∀ (v4 : Int32) (H : Heap) (locs : List Loc) (ls : Array Slot), k6 v4 → hS E A s.heap cb sb w H locs → lv_has ls 1 [] → W p l e (hrm_X7_kind cb sb) s m args below meth c H locs (cb - w.2.1) (sb - w.2.2) (MQ below (hQi E A Q) args s cb sb A) (F0 m 12 ls [.int v4]) := by
    intro v4 H locs ls h S hl
    replace h := hk6 _ h
    exact h_iret F hr hlk S h dX7_kind_12
  clear hk6
  refine lv_if_eq (tgt := 11) hx hb dX7_kind_4 (by decide) (fun c3 => ?_) (fun c3 => ?_)
  · rw [hIf_pos c3] at h
    refine lv_iconst (v := 2) hx hb dX7_kind_11 (by decide) ?_
    exact hJ12 _ _ _ _ h S (lv_sub hl [] rfl)
  · rw [hIf_neg c3] at h
    refine lv_iconst (v := 3) hx hb dX7_kind_7 (by decide) ?_
    refine lv_goto (tgt := 12) hx hb dX7_kind_8 (by decide) ?_
    exact hJ12 _ _ _ _ h S (lv_sub hl [] rfl)
theorem hg_X7_13 {p : Program} {l : Launch} {e : Env} {s : State} {m : MethodId} {args : Array Value} {below : List Frame} {meth : Method} {c : Code} {R : Room} {H : Heap} {locs : List Loc} {cb sb pc nL : Nat} {Q : State → Prop} {ls : Array Slot} {rest : List Value} {cc : ByteArray} {E : hEnv} {A : Nat → Prop} {w : hW} {a : Nat} {v : Int32} (F : CallFix p m c cc nL s args lw_all RX7) (hK : hK E A s) (S : hS E A s.heap cb sb w H locs) (h : hgI w a 6 3 = some v) (hdg : decode cc pc = .ok (.getfield 13, 3)) (kk : W p l e R s m args below meth c H locs (cb - w.2.1) (sb - w.2.2) Q (F0 m (pc + 3) ls (.int v :: rest))) : W p l e R s m args below meth c H locs (cb - w.2.1) (sb - w.2.2) Q (F0 m pc ls (.ref a :: rest)) := by
  obtain ⟨b, fs, ho, hv⟩ := hgI_inv h
  exact h_get F hK S ho (ci := 6) (C := RX7) (T := TX7) (N := 6) (k := 3) rfl in_X7 (by decide) q329 (fun x h => h) hv hdg kk
def hf_X7_form (pl : Nat → Nat) (w : hW) (a0 : Nat) (Q : Int32 → hO → Prop) : Prop :=
  obd (hgI w a0 6 3) fun v1 =>
  Q v1 w.1
abbrev hrm_X7_form (c s : Nat) : Room := { frames := 0, cells := c, slots := s, locals := 0 }
set_option maxHeartbeats 4000000 in
set_option maxRecDepth 100000 in
theorem hmet_X7_form (l : Launch) (E : hEnv) (A : Nat → Prop) (w : hW) (a0 : Nat) (Q : Int32 → hO → Prop) (h : hf_X7_form E.2.2 w a0 Q) : Met l yX7_form (ws_ yX7_form cX7_form 1 (some .int)) (hrm_X7_form w.2.1 w.2.2) (va_Pc [.ref a0] (gPre (hK E A) (hP E A w.1))) (hQi E A Q) w.2.1 w.2.2 A := by
  refine h_met (own := RX7) (by decide +kernel) rfl (Nat.le_of_ble_eq_true rfl) ?_
  intro p e s m args below meth c ls cb sb F hr hlk hK S hl
  have hx := F.1
  have hb := F.2.1
  have hl : lv_has ls 1 [(0, .ref a0)] := hl
  unfold hf_X7_form at h
  refine lv_aload_n hx hb dX7_form_0 rfl (lv_at hl 0 rfl) ?_
  obtain ⟨v1, e2, h⟩ := obd_inv h
  refine hg_X7_13 F hK S e2 dX7_form_1 ?_
  exact h_iret F hr hlk S h dX7_form_4
theorem hg_X7_17 {p : Program} {l : Launch} {e : Env} {s : State} {m : MethodId} {args : Array Value} {below : List Frame} {meth : Method} {c : Code} {R : Room} {H : Heap} {locs : List Loc} {cb sb pc nL : Nat} {Q : State → Prop} {ls : Array Slot} {rest : List Value} {cc : ByteArray} {E : hEnv} {A : Nat → Prop} {w : hW} {a : Nat} {v : Int32} (F : CallFix p m c cc nL s args lw_all RX7) (hK : hK E A s) (S : hS E A s.heap cb sb w H locs) (h : hgI w a 6 2 = some v) (hdg : decode cc pc = .ok (.getfield 17, 3)) (kk : W p l e R s m args below meth c H locs (cb - w.2.1) (sb - w.2.2) Q (F0 m (pc + 3) ls (.int v :: rest))) : W p l e R s m args below meth c H locs (cb - w.2.1) (sb - w.2.2) Q (F0 m pc ls (.ref a :: rest)) := by
  obtain ⟨b, fs, ho, hv⟩ := hgI_inv h
  exact h_get F hK S ho (ci := 6) (C := RX7) (T := TX7) (N := 6) (k := 2) rfl in_X7 (by decide) q326 (fun x h => h) hv hdg kk
def hf_X7_owner (pl : Nat → Nat) (w : hW) (a0 : Nat) (Q : Int32 → hO → Prop) : Prop :=
  obd (hgI w a0 6 2) fun v1 =>
  Q v1 w.1
abbrev hrm_X7_owner (c s : Nat) : Room := { frames := 0, cells := c, slots := s, locals := 0 }
set_option maxHeartbeats 4000000 in
set_option maxRecDepth 100000 in
theorem hmet_X7_owner (l : Launch) (E : hEnv) (A : Nat → Prop) (w : hW) (a0 : Nat) (Q : Int32 → hO → Prop) (h : hf_X7_owner E.2.2 w a0 Q) : Met l yX7_owner (ws_ yX7_owner cX7_owner 1 (some .int)) (hrm_X7_owner w.2.1 w.2.2) (va_Pc [.ref a0] (gPre (hK E A) (hP E A w.1))) (hQi E A Q) w.2.1 w.2.2 A := by
  refine h_met (own := RX7) (by decide +kernel) rfl (Nat.le_of_ble_eq_true rfl) ?_
  intro p e s m args below meth c ls cb sb F hr hlk hK S hl
  have hx := F.1
  have hb := F.2.1
  have hl : lv_has ls 1 [(0, .ref a0)] := hl
  unfold hf_X7_owner at h
  refine lv_aload_n hx hb dX7_owner_0 rfl (lv_at hl 0 rfl) ?_
  obtain ⟨v1, e2, h⟩ := obd_inv h
  refine hg_X7_17 F hK S e2 dX7_owner_1 ?_
  exact h_iret F hr hlk S h dX7_owner_4
theorem hg_X7_26 {p : Program} {l : Launch} {e : Env} {s : State} {m : MethodId} {args : Array Value} {below : List Frame} {meth : Method} {c : Code} {R : Room} {H : Heap} {locs : List Loc} {cb sb pc nL : Nat} {Q : State → Prop} {ls : Array Slot} {rest : List Value} {cc : ByteArray} {E : hEnv} {A : Nat → Prop} {w : hW} {a : Nat} {v : Int32} (F : CallFix p m c cc nL s args lw_all RX7) (hK : hK E A s) (S : hS E A s.heap cb sb w H locs) (h : hgI w a 6 4 = some v) (hdg : decode cc pc = .ok (.getfield 26, 3)) (kk : W p l e R s m args below meth c H locs (cb - w.2.1) (sb - w.2.2) Q (F0 m (pc + 3) ls (.int v :: rest))) : W p l e R s m args below meth c H locs (cb - w.2.1) (sb - w.2.2) Q (F0 m pc ls (.ref a :: rest)) := by
  obtain ⟨b, fs, ho, hv⟩ := hgI_inv h
  exact h_get F hK S ho (ci := 6) (C := RX7) (T := TX7) (N := 6) (k := 4) rfl in_X7 (by decide) q332 (fun x h => h) hv hdg kk
def hf_X7_isFor (pl : Nat → Nat) (w : hW) (a0 : Nat) (x1 : Int32) (Q : Int32 → hO → Prop) : Prop :=
  obd (hgI w a0 6 2) fun v1 =>
  hjoin (fun (v13 : Int32) =>
    Q (zN v13) w.1) fun k15 =>
  hIf (v1 = 0) (
    obd (hgI w a0 6 4) fun v4 =>
    hIf (v4 = 0) (
      k15 1) <|
      k15 0) <|
    obd (hgI w a0 6 2) fun v7 =>
    hIf (v7 = x1) (
      obd (hgI w a0 6 4) fun v10 =>
      hIf (v10 = 0) (
        k15 1) <|
        k15 0) <|
      k15 0
abbrev hrm_X7_isFor (c s : Nat) : Room := { frames := 0, cells := c, slots := s, locals := 0 }
set_option maxHeartbeats 4000000 in
set_option maxRecDepth 100000 in
theorem hmet_X7_isFor (l : Launch) (E : hEnv) (A : Nat → Prop) (w : hW) (a0 : Nat) (x1 : Int32) (Q : Int32 → hO → Prop) (h : hf_X7_isFor E.2.2 w a0 x1 Q) : Met l yX7_isFor (ws_ yX7_isFor cX7_isFor 2 (some .boolean)) (hrm_X7_isFor w.2.1 w.2.2) (va_Pc [.ref a0, .int x1] (gPre (hK E A) (hP E A w.1))) (hQi E A Q) w.2.1 w.2.2 A := by
  refine h_met (own := RX7) (by decide +kernel) rfl (Nat.le_of_ble_eq_true rfl) ?_
  intro p e s m args below meth c ls cb sb F hr hlk hK S hl
  have hx := F.1
  have hb := F.2.1
  have hl : lv_has ls 2 [(0, .ref a0), (1, .int x1)] := hl
  unfold hf_X7_isFor at h
  refine lv_aload_n hx hb dX7_isFor_0 rfl (lv_at hl 0 rfl) ?_
  obtain ⟨v1, e2, h⟩ := obd_inv h
  refine hg_X7_17 F hK S e2 dX7_isFor_1 ?_
  obtain ⟨k15, hk15, h⟩ := hj1_inv h
  have hJ27 : ∀ (v13 : Int32) (H : Heap) (locs : List Loc) (ls : Array Slot), k15 v13 → hS E A s.heap cb sb w H locs → lv_has ls 2 [] → W p l e (hrm_X7_isFor cb sb) s m args below meth c H locs (cb - w.2.1) (sb - w.2.2) (MQ below (hQi E A Q) args s cb sb A) (F0 m 27 ls [.int v13]) := by
    intro v13 H locs ls h S hl
    replace h := hk15 _ h
    exact h_zret F hr hlk S h dX7_isFor_27
  clear hk15
  refine lv_if_eq (tgt := 15) hx hb dX7_isFor_4 (by decide) (fun c3 => ?_) (fun c3 => ?_)
  · rw [hIf_pos c3] at h
    refine lv_aload_n hx hb dX7_isFor_15 rfl (lv_at hl 0 rfl) ?_
    obtain ⟨v4, e5, h⟩ := obd_inv h
    refine hg_X7_26 F hK S e5 dX7_isFor_16 ?_
    refine lv_if_ne (tgt := 26) hx hb dX7_isFor_19 (by decide) (fun c6 => ?_) (fun c6 => ?_)
    · rw [hIf_neg c6] at h
      refine lv_iconst (v := 0) hx hb dX7_isFor_26 (by decide) ?_
      exact hJ27 _ _ _ _ h S (lv_sub hl [] rfl)
    · rw [hIf_pos c6] at h
      refine lv_iconst (v := 1) hx hb dX7_isFor_22 (by decide) ?_
      refine lv_goto (tgt := 27) hx hb dX7_isFor_23 (by decide) ?_
      exact hJ27 _ _ _ _ h S (lv_sub hl [] rfl)
  · rw [hIf_neg c3] at h
    refine lv_aload_n hx hb dX7_isFor_7 rfl (lv_at hl 0 rfl) ?_
    obtain ⟨v7, e8, h⟩ := obd_inv h
    refine hg_X7_17 F hK S e8 dX7_isFor_8 ?_
    refine lv_iload_n hx hb dX7_isFor_11 rfl (lv_at hl 1 rfl) ?_
    refine lv_icmp_ne (tgt := 26) hx hb dX7_isFor_12 (by decide) (fun c9 => ?_) (fun c9 => ?_)
    · rw [hIf_neg c9] at h
      refine lv_iconst (v := 0) hx hb dX7_isFor_26 (by decide) ?_
      exact hJ27 _ _ _ _ h S (lv_sub hl [] rfl)
    · rw [hIf_pos c9] at h
      refine lv_aload_n hx hb dX7_isFor_15 rfl (lv_at hl 0 rfl) ?_
      obtain ⟨v10, e11, h⟩ := obd_inv h
      refine hg_X7_26 F hK S e11 dX7_isFor_16 ?_
      refine lv_if_ne (tgt := 26) hx hb dX7_isFor_19 (by decide) (fun c12 => ?_) (fun c12 => ?_)
      · rw [hIf_neg c12] at h
        refine lv_iconst (v := 0) hx hb dX7_isFor_26 (by decide) ?_
        exact hJ27 _ _ _ _ h S (lv_sub hl [] rfl)
      · rw [hIf_pos c12] at h
        refine lv_iconst (v := 1) hx hb dX7_isFor_22 (by decide) ?_
        refine lv_goto (tgt := 27) hx hb dX7_isFor_23 (by decide) ?_
        exact hJ27 _ _ _ _ h S (lv_sub hl [] rfl)
theorem hn_X7_8 {p : Program} {l : Launch} {e : Env} {s : State} {m : MethodId} {args : Array Value} {below : List Frame} {meth : Method} {c : Code} {R : Room} {H : Heap} {locs : List Loc} {cb sb pc nL : Nat} {Q : State → Prop} {ls : Array Slot} {rest : List Value} {cc : ByteArray} {E : hEnv} {A : Nat → Prop} {w : hW} (F : CallFix p m c cc nL s args lw_all RX7) (hK : hK E A s) (S : hS E A s.heap cb sb w H locs) (hrc : R.cells = cb) (hrs : R.slots = sb) {f : Nat → hW → Prop} (h : hNew w (.inl (6, [.int 0, .int 0, .int 0, .int 0, .int 0, .int 0])) 6 f) (hdg : decode cc pc = .ok (.new 8, 3)) (kk : ∀ (q : Nat) (w' : hW) (H1 : Heap), f q w' → hS E A s.heap cb sb w' H1 locs → W p l e R s m args below meth c H1 locs (cb - w'.2.1) (sb - w'.2.2) Q (F0 m (pc + 3) ls (.ref q :: rest))) : W p l e R s m args below meth c H locs (cb - w.2.1) (sb - w.2.2) Q (F0 m pc ls rest) :=
  h_new F hK S hrc hrs (C := RX7) (T := TX7) (N := 6) tyX7 tyX7_ok q1320 q319 q119 in_X7 rfl (fun j hj => by match j, hj with | 0, _ => rfl | 1, _ => rfl | 2, _ => rfl | 3, _ => rfl | 4, _ => rfl | 5, _ => rfl) h hdg kk
theorem hg_X7_20 {p : Program} {l : Launch} {e : Env} {s : State} {m : MethodId} {args : Array Value} {below : List Frame} {meth : Method} {c : Code} {R : Room} {H : Heap} {locs : List Loc} {cb sb pc nL : Nat} {Q : State → Prop} {ls : Array Slot} {rest : List Value} {cc : ByteArray} {E : hEnv} {A : Nat → Prop} {w : hW} {a : Nat} {v : Int32} (F : CallFix p m c cc nL s args lw_all RX7) (hK : hK E A s) (S : hS E A s.heap cb sb w H locs) (h : hgI w a 6 0 = some v) (hdg : decode cc pc = .ok (.getfield 20, 3)) (kk : W p l e R s m args below meth c H locs (cb - w.2.1) (sb - w.2.2) Q (F0 m (pc + 3) ls (.int v :: rest))) : W p l e R s m args below meth c H locs (cb - w.2.1) (sb - w.2.2) Q (F0 m pc ls (.ref a :: rest)) := by
  obtain ⟨b, fs, ho, hv⟩ := hgI_inv h
  exact h_get F hK S ho (ci := 6) (C := RX7) (T := TX7) (N := 6) (k := 0) rfl in_X7 (by decide) q293 (fun x h => u_same (F.2.2.2.2 _ q294) x h) hv hdg kk
theorem hcl_X7_init_X7_23 {p : Program} {l : Launch} {e : Env} {s : State} {m : MethodId} {args : Array Value} {below : List Frame} {meth : Method} {c : Code} {R : Room} {H : Heap} {locs : List Loc} {cb sb pc nL : Nat} {Q : State → Prop} {ls : Array Slot} {rest : List Value} {cc : ByteArray} {E : hEnv} {A : Nat → Prop} {w : hW} {a0 : Nat} {x1 : Int32} {x2 : Int32} {x3 : Int32} {x4 : Int32} {Q' : hO → Prop} {c1 s1 : Nat} (F : CallFix p m c cc nL s args lw_all RX7) (hK : hK E A s) (S : hS E A s.heap cb sb w H locs) (h1 : c1 ≤ w.2.1) (h2 : s1 ≤ w.2.2) (h : hf_X7_init E.2.2 (w.1, c1, s1) a0 x1 x2 x3 x4 Q') (hrc : R.cells = cb) (hrs : R.slots = sb) (hls : ls.size = nL) (hWt : (rest.map fun v => v.category).sum ≤ 8) (hR : 2 + 1 ≤ R.frames ∧ 8 + (5 + 11) + 41 ≤ R.locals) (hdg : decode cc pc = .ok (.invokespecial 23, 3))
    (kk : ∀ (o : hO) (w' : hW) (H1 : Heap) (locs1 : List Loc), w' = (o, w.2.1 - c1, w.2.2 - s1) → Q' o → hS E A s.heap cb sb w' H1 locs1 → W p l e R s m args below meth c H1 locs1 (cb - w'.2.1) (sb - w'.2.2) Q (F0 m (pc + 3) ls (rest))) : W p l e R s m args below meth c H locs (cb - w.2.1) (sb - w.2.2) Q (F0 m pc ls (.int x4 :: .int x3 :: .int x2 :: .int x1 :: .ref a0 :: rest)) :=
  h_kv (g_runI F hK (hKm E A) S.1 (hmet_X7_init l E A (w.1, c1, s1) a0 x1 x2 x3 x4 Q' h) (cwI 4 F.2.2.2.2 (lw_meth q322) rfl rfl rfl (F.2.2.2.2 _ q119) (F.2.2.2.2 _ q1321) (F.2.2.2.2 _ q321) rfl (by decide +kernel) hR) rfl hls rfl hWt hdg ⟨by rw [hrc]; exact (h_left S h1 h2).1, by rw [hrs]; exact (h_left S h1 h2).2⟩) S h1 h2 kk
theorem hp_X7_26 {p : Program} {l : Launch} {e : Env} {s : State} {m : MethodId} {args : Array Value} {below : List Frame} {meth : Method} {c : Code} {R : Room} {H : Heap} {locs : List Loc} {cb sb pc nL : Nat} {Q : State → Prop} {ls : Array Slot} {rest : List Value} {cc : ByteArray} {E : hEnv} {A : Nat → Prop} {w : hW} {a : Nat} {w' : hW} {v : Int32} (F : CallFix p m c cc nL s args lw_all RX7) (hK : hK E A s) (S : hS E A s.heap cb sb w H locs) (h : hpV w a 6 4 (.int v) = some w') (hdg : decode cc pc = .ok (.putfield 26, 3)) (kk : ∀ (H1 : Heap) (locs1 : List Loc), hS E A s.heap cb sb w' H1 locs1 → W p l e R s m args below meth c H1 locs1 (cb - w'.2.1) (sb - w'.2.2) Q (F0 m (pc + 3) ls rest)) : W p l e R s m args below meth c H locs (cb - w.2.1) (sb - w.2.2) Q (F0 m pc ls (.int v :: .ref a :: rest)) :=
  h_put F hK S h (ci := 6) (C := RX7) (T := TX7) (N := 6) (k := 4) rfl in_X7 tyX7 tyX7_ok nmX7 (by decide) q332 (fun x h => h) rfl (ty := .int) (by decide +kernel) rfl rfl hdg kk
theorem hg_X7_29 {p : Program} {l : Launch} {e : Env} {s : State} {m : MethodId} {args : Array Value} {below : List Frame} {meth : Method} {c : Code} {R : Room} {H : Heap} {locs : List Loc} {cb sb pc nL : Nat} {Q : State → Prop} {ls : Array Slot} {rest : List Value} {cc : ByteArray} {E : hEnv} {A : Nat → Prop} {w : hW} {a : Nat} {v : Int32} (F : CallFix p m c cc nL s args lw_all RX7) (hK : hK E A s) (S : hS E A s.heap cb sb w H locs) (h : hgI w a 6 5 = some v) (hdg : decode cc pc = .ok (.getfield 29, 3)) (kk : W p l e R s m args below meth c H locs (cb - w.2.1) (sb - w.2.2) Q (F0 m (pc + 3) ls (.int v :: rest))) : W p l e R s m args below meth c H locs (cb - w.2.1) (sb - w.2.2) Q (F0 m pc ls (.ref a :: rest)) := by
  obtain ⟨b, fs, ho, hv⟩ := hgI_inv h
  exact h_get F hK S ho (ci := 6) (C := RX7) (T := TX7) (N := 6) (k := 5) rfl in_X7 (by decide) q335 (fun x h => h) hv hdg kk
theorem hp_X7_29 {p : Program} {l : Launch} {e : Env} {s : State} {m : MethodId} {args : Array Value} {below : List Frame} {meth : Method} {c : Code} {R : Room} {H : Heap} {locs : List Loc} {cb sb pc nL : Nat} {Q : State → Prop} {ls : Array Slot} {rest : List Value} {cc : ByteArray} {E : hEnv} {A : Nat → Prop} {w : hW} {a : Nat} {w' : hW} {v : Int32} (F : CallFix p m c cc nL s args lw_all RX7) (hK : hK E A s) (S : hS E A s.heap cb sb w H locs) (h : hpV w a 6 5 (.int v) = some w') (hdg : decode cc pc = .ok (.putfield 29, 3)) (kk : ∀ (H1 : Heap) (locs1 : List Loc), hS E A s.heap cb sb w' H1 locs1 → W p l e R s m args below meth c H1 locs1 (cb - w'.2.1) (sb - w'.2.2) Q (F0 m (pc + 3) ls rest)) : W p l e R s m args below meth c H locs (cb - w.2.1) (sb - w.2.2) Q (F0 m pc ls (.int v :: .ref a :: rest)) :=
  h_put F hK S h (ci := 6) (C := RX7) (T := TX7) (N := 6) (k := 5) rfl in_X7 tyX7 tyX7_ok nmX7 (by decide) q335 (fun x h => h) rfl (ty := .int) (by decide +kernel) rfl rfl hdg kk
def hf_X7_twin (pl : Nat → Nat) (w : hW) (a0 : Nat) (Q : Nat → hO → Prop) : Prop :=
  hNew w (.inl (6, [.int 0, .int 0, .int 0, .int 0, .int 0, .int 0])) 6 fun q1 w2 =>
  obd (hgI w2 a0 6 0) fun v3 =>
  obd (hgI w2 a0 6 1) fun v5 =>
  obd (hgI w2 a0 6 3) fun v7 =>
  obd (hgI w2 a0 6 2) fun v9 =>
  hcall w2 fun n11 n12 => hf_X7_init pl (w2.1, n11, n12) q1 v3 v5 v7 v9 fun o14 => hret w2 n11 n12 o14 fun w13 =>
  obd (hgI w13 a0 6 4) fun v15 =>
  obd (hpV w13 q1 6 4 (.int v15)) fun w17 =>
  obd (hgI w17 a0 6 5) fun v19 =>
  obd (hpV w17 q1 6 5 (.int v19)) fun w21 =>
  Q q1 w21.1
abbrev hrm_X7_twin (c s : Nat) : Room := { frames := 3, cells := c, slots := s, locals := 65 }
set_option maxHeartbeats 4000000 in
set_option maxRecDepth 100000 in
theorem hmet_X7_twin (l : Launch) (E : hEnv) (A : Nat → Prop) (w : hW) (a0 : Nat) (Q : Nat → hO → Prop) (h : hf_X7_twin E.2.2 w a0 Q) : Met l yX7_twin (ws_ yX7_twin cX7_twin 2 (some (.object "MirrorDoors$Cell"))) (hrm_X7_twin w.2.1 w.2.2) (va_Pc [.ref a0] (gPre (hK E A) (hP E A w.1))) (hQp E A Q) w.2.1 w.2.2 A := by
  refine h_met (own := RX7) (by decide +kernel) rfl (Nat.le_of_ble_eq_true rfl) ?_
  intro p e s m args below meth c ls cb sb F hr hlk hK S hl
  have hx := F.1
  have hb := F.2.1
  have hl : lv_has ls 2 [(0, .ref a0)] := hl
  unfold hf_X7_twin at h
  refine hn_X7_8 F hK S rfl rfl h dX7_twin_0 (fun q1 w2 H h S => ?_)
  refine lv_dup hx hb dX7_twin_3 rfl ?_
  refine lv_aload_n hx hb dX7_twin_4 rfl (lv_at hl 0 rfl) ?_
  obtain ⟨v3, e4, h⟩ := obd_inv h
  refine hg_X7_20 F hK S e4 dX7_twin_5 ?_
  refine lv_aload_n hx hb dX7_twin_8 rfl (lv_at hl 0 rfl) ?_
  obtain ⟨v5, e6, h⟩ := obd_inv h
  refine hg_X7_7 F hK S e6 dX7_twin_9 ?_
  refine lv_aload_n hx hb dX7_twin_12 rfl (lv_at hl 0 rfl) ?_
  obtain ⟨v7, e8, h⟩ := obd_inv h
  refine hg_X7_13 F hK S e8 dX7_twin_13 ?_
  refine lv_aload_n hx hb dX7_twin_16 rfl (lv_at hl 0 rfl) ?_
  obtain ⟨v9, e10, h⟩ := obd_inv h
  refine hg_X7_17 F hK S e10 dX7_twin_17 ?_
  obtain ⟨n11, n12, h1, h2, h⟩ := hcall_inv h
  refine hcl_X7_init_X7_23 F hK S h1 h2 h rfl rfl hl.1 (Nat.le_of_ble_eq_true rfl) ⟨Nat.le_of_ble_eq_true rfl, Nat.le_of_ble_eq_true rfl⟩ dX7_twin_20 (fun o14 w13 H locs hw h S => ?_)
  replace h := hret_mp h hw
  clear hw h1 h2
  refine lv_astore_n (lv' := [(1, .ref q1), (0, .ref a0)]) hx hb dX7_twin_23 rfl hl (by decide) rfl (fun ls hl => ?_)
  refine lv_aload_n hx hb dX7_twin_24 rfl (lv_at hl 0 rfl) ?_
  refine lv_aload_n hx hb dX7_twin_25 rfl (lv_at hl 1 rfl) ?_
  obtain ⟨v15, e16, h⟩ := obd_inv h
  refine hg_X7_26 F hK S e16 dX7_twin_26 ?_
  obtain ⟨w17, e18, h⟩ := obd_inv h
  refine hp_X7_26 F hK S e18 dX7_twin_29 (fun H locs S => ?_)
  refine lv_aload_n hx hb dX7_twin_32 rfl (lv_at hl 0 rfl) ?_
  refine lv_aload_n hx hb dX7_twin_33 rfl (lv_at hl 1 rfl) ?_
  obtain ⟨v19, e20, h⟩ := obd_inv h
  refine hg_X7_29 F hK S e20 dX7_twin_34 ?_
  obtain ⟨w21, e22, h⟩ := obd_inv h
  refine hp_X7_29 F hK S e22 dX7_twin_37 (fun H locs S => ?_)
  refine lv_aload_n hx hb dX7_twin_40 rfl (lv_at hl 0 rfl) ?_
  exact h_aret F hr (Or.inl ⟨_, rfl⟩) hlk S h dX7_twin_41
theorem hcl_X4_init_X8_3 {p : Program} {l : Launch} {e : Env} {s : State} {m : MethodId} {args : Array Value} {below : List Frame} {meth : Method} {c : Code} {R : Room} {H : Heap} {locs : List Loc} {cb sb pc nL : Nat} {Q : State → Prop} {ls : Array Slot} {rest : List Value} {cc : ByteArray} {E : hEnv} {A : Nat → Prop} {w : hW} {a0 : Nat} {x1 : Int32} {Q' : hO → Prop} {c1 s1 : Nat} (F : CallFix p m c cc nL s args lw_all RX8) (hK : hK E A s) (S : hS E A s.heap cb sb w H locs) (h1 : c1 ≤ w.2.1) (h2 : s1 ≤ w.2.2) (h : hf_X4_init E.2.2 (w.1, c1, s1) a0 x1 Q') (hrc : R.cells = cb) (hrs : R.slots = sb) (hls : ls.size = nL) (hWt : (rest.map fun v => v.category).sum ≤ 8) (hR : 1 + 1 ≤ R.frames ∧ 8 + (2 + 11) + 20 ≤ R.locals) (hdg : decode cc pc = .ok (.invokespecial 3, 3))
    (kk : ∀ (o : hO) (w' : hW) (H1 : Heap) (locs1 : List Loc), w' = (o, w.2.1 - c1, w.2.2 - s1) → Q' o → hS E A s.heap cb sb w' H1 locs1 → W p l e R s m args below meth c H1 locs1 (cb - w'.2.1) (sb - w'.2.2) Q (F0 m (pc + 3) ls (rest))) : W p l e R s m args below meth c H locs (cb - w.2.1) (sb - w.2.2) Q (F0 m pc ls (.int x1 :: .ref a0 :: rest)) :=
  h_kv (g_runI F hK (hKm E A) S.1 (hmet_X4_init l E A (w.1, c1, s1) a0 x1 Q' h) (cwI 1 F.2.2.2.2 (lw_meth q288) rfl rfl rfl (F.2.2.2.2 _ q116) (F.2.2.2.2 _ q355) (F.2.2.2.2 _ q287) rfl (by decide +kernel) hR) rfl hls rfl hWt hdg ⟨by rw [hrc]; exact (h_left S h1 h2).1, by rw [hrs]; exact (h_left S h1 h2).2⟩) S h1 h2 kk
theorem hp_X8_9 {p : Program} {l : Launch} {e : Env} {s : State} {m : MethodId} {args : Array Value} {below : List Frame} {meth : Method} {c : Code} {R : Room} {H : Heap} {locs : List Loc} {cb sb pc nL : Nat} {Q : State → Prop} {ls : Array Slot} {rest : List Value} {cc : ByteArray} {E : hEnv} {A : Nat → Prop} {w : hW} {a : Nat} {w' : hW} {v : Int32} (F : CallFix p m c cc nL s args lw_all RX8) (hK : hK E A s) (S : hS E A s.heap cb sb w H locs) (h : hpV w a 7 2 (.int v) = some w') (hdg : decode cc pc = .ok (.putfield 9, 3)) (kk : ∀ (H1 : Heap) (locs1 : List Loc), hS E A s.heap cb sb w' H1 locs1 → W p l e R s m args below meth c H1 locs1 (cb - w'.2.1) (sb - w'.2.2) Q (F0 m (pc + 3) ls rest)) : W p l e R s m args below meth c H locs (cb - w.2.1) (sb - w.2.2) Q (F0 m pc ls (.int v :: .ref a :: rest)) :=
  h_put F hK S h (ci := 7) (C := RX8) (T := TX8) (N := 3) (k := 2) rfl in_X8 tyX8 tyX8_ok nmX8 (by decide) q358 (fun x h => h) rfl (ty := .int) (by decide +kernel) rfl rfl hdg kk
theorem hp_X8_15 {p : Program} {l : Launch} {e : Env} {s : State} {m : MethodId} {args : Array Value} {below : List Frame} {meth : Method} {c : Code} {R : Room} {H : Heap} {locs : List Loc} {cb sb pc nL : Nat} {Q : State → Prop} {ls : Array Slot} {rest : List Value} {cc : ByteArray} {E : hEnv} {A : Nat → Prop} {w : hW} {a : Nat} {w' : hW} {v : Int32} (F : CallFix p m c cc nL s args lw_all RX8) (hK : hK E A s) (S : hS E A s.heap cb sb w H locs) (hin : meth.name = "<init>") (h : hpV w a 7 1 (.int v) = some w') (hdg : decode cc pc = .ok (.putfield 15, 3)) (kk : ∀ (H1 : Heap) (locs1 : List Loc), hS E A s.heap cb sb w' H1 locs1 → W p l e R s m args below meth c H1 locs1 (cb - w'.2.1) (sb - w'.2.2) Q (F0 m (pc + 3) ls rest)) : W p l e R s m args below meth c H locs (cb - w.2.1) (sb - w.2.2) Q (F0 m pc ls (.int v :: .ref a :: rest)) :=
  h_putF F hK S h (ci := 7) (C := RX8) (T := TX8) (N := 3) (k := 1) rfl in_X8 tyX8 tyX8_ok nmX8 (by decide) q356 (fun x h => h) rfl hin rfl (ty := .int) (by decide +kernel) rfl rfl hdg kk
def hf_X8_init (pl : Nat → Nat) (w : hW) (a0 : Nat) (x1 : Int32) (x2 : Int32) (Q : hO → Prop) : Prop :=
  hcall w fun n1 n2 => hf_X4_init pl (w.1, n1, n2) a0 x1 fun o4 => hret w n1 n2 o4 fun w3 =>
  obd (hpV w3 a0 7 2 (.int (-1))) fun w5 =>
  obd (hpV w5 a0 7 1 (.int x2)) fun w7 =>
  Q w7.1
abbrev hrm_X8_init (c s : Nat) : Room := { frames := 2, cells := c, slots := s, locals := 41 }
set_option maxHeartbeats 4000000 in
set_option maxRecDepth 100000 in
theorem hmet_X8_init (l : Launch) (E : hEnv) (A : Nat → Prop) (w : hW) (a0 : Nat) (x1 : Int32) (x2 : Int32) (Q : hO → Prop) (h : hf_X8_init E.2.2 w a0 x1 x2 Q) : Met l yX8_init (ws_ yX8_init cX8_init 3 (none)) (hrm_X8_init w.2.1 w.2.2) (va_Pc [.ref a0, .int x1, .int x2] (gPre (hK E A) (hP E A w.1))) (hQv E A Q) w.2.1 w.2.2 A := by
  refine h_metI (own := RX8) (by decide +kernel) rfl (by rfl) (Nat.le_of_ble_eq_true rfl) ?_
  intro p e s m args below meth c ls cb sb F hr hlk hin hK S hl
  have hx := F.1
  have hb := F.2.1
  have hl : lv_has ls 3 [(0, .ref a0), (1, .int x1), (2, .int x2)] := hl
  unfold hf_X8_init at h
  refine lv_aload_n hx hb dX8_init_0 rfl (lv_at hl 0 rfl) ?_
  refine lv_iload_n hx hb dX8_init_1 rfl (lv_at hl 1 rfl) ?_
  obtain ⟨n1, n2, h1, h2, h⟩ := hcall_inv h
  refine hcl_X4_init_X8_3 F hK S h1 h2 h rfl rfl hl.1 (Nat.le_of_ble_eq_true rfl) ⟨Nat.le_of_ble_eq_true rfl, Nat.le_of_ble_eq_true rfl⟩ dX8_init_2 (fun o4 w3 H locs hw h S => ?_)
  replace h := hret_mp h hw
  clear hw h1 h2
  refine lv_aload_n hx hb dX8_init_5 rfl (lv_at hl 0 rfl) ?_
  refine lv_iconst (v := (-1)) hx hb dX8_init_6 (by decide) ?_
  obtain ⟨w5, e6, h⟩ := obd_inv h
  refine hp_X8_9 F hK S e6 dX8_init_7 (fun H locs S => ?_)
  refine lv_aload_n hx hb dX8_init_10 rfl (lv_at hl 0 rfl) ?_
  refine lv_iload_n hx hb dX8_init_11 rfl (lv_at hl 2 rfl) ?_
  obtain ⟨w7, e8, h⟩ := obd_inv h
  refine hp_X8_15 F hK S (by assumption) e8 dX8_init_12 (fun H locs S => ?_)
  exact h_vret F hr hlk S h dX8_init_15
def hf_X8_kind (pl : Nat → Nat) (w : hW) (a0 : Nat) (Q : Int32 → hO → Prop) : Prop :=
  Q 4 w.1
abbrev hrm_X8_kind (c s : Nat) : Room := { frames := 0, cells := c, slots := s, locals := 0 }
set_option maxHeartbeats 4000000 in
set_option maxRecDepth 100000 in
theorem hmet_X8_kind (l : Launch) (E : hEnv) (A : Nat → Prop) (w : hW) (a0 : Nat) (Q : Int32 → hO → Prop) (h : hf_X8_kind E.2.2 w a0 Q) : Met l yX8_kind (ws_ yX8_kind cX8_kind 1 (some .int)) (hrm_X8_kind w.2.1 w.2.2) (va_Pc [.ref a0] (gPre (hK E A) (hP E A w.1))) (hQi E A Q) w.2.1 w.2.2 A := by
  refine h_met (own := RX8) (by decide +kernel) rfl (Nat.le_of_ble_eq_true rfl) ?_
  intro p e s m args below meth c ls cb sb F hr hlk hK S hl
  have hx := F.1
  have hb := F.2.1
  have hl : lv_has ls 1 [(0, .ref a0)] := hl
  unfold hf_X8_kind at h
  refine lv_iconst (v := 4) hx hb dX8_kind_0 (by decide) ?_
  exact h_iret F hr hlk S h dX8_kind_1
theorem hg_X8_15 {p : Program} {l : Launch} {e : Env} {s : State} {m : MethodId} {args : Array Value} {below : List Frame} {meth : Method} {c : Code} {R : Room} {H : Heap} {locs : List Loc} {cb sb pc nL : Nat} {Q : State → Prop} {ls : Array Slot} {rest : List Value} {cc : ByteArray} {E : hEnv} {A : Nat → Prop} {w : hW} {a : Nat} {v : Int32} (F : CallFix p m c cc nL s args lw_all RX8) (hK : hK E A s) (S : hS E A s.heap cb sb w H locs) (h : hgI w a 7 1 = some v) (hdg : decode cc pc = .ok (.getfield 15, 3)) (kk : W p l e R s m args below meth c H locs (cb - w.2.1) (sb - w.2.2) Q (F0 m (pc + 3) ls (.int v :: rest))) : W p l e R s m args below meth c H locs (cb - w.2.1) (sb - w.2.2) Q (F0 m pc ls (.ref a :: rest)) := by
  obtain ⟨b, fs, ho, hv⟩ := hgI_inv h
  exact h_get F hK S ho (ci := 7) (C := RX8) (T := TX8) (N := 3) (k := 1) rfl in_X8 (by decide) q356 (fun x h => h) hv hdg kk
def hf_X8_owner (pl : Nat → Nat) (w : hW) (a0 : Nat) (Q : Int32 → hO → Prop) : Prop :=
  obd (hgI w a0 7 1) fun v1 =>
  Q v1 w.1
abbrev hrm_X8_owner (c s : Nat) : Room := { frames := 0, cells := c, slots := s, locals := 0 }
set_option maxHeartbeats 4000000 in
set_option maxRecDepth 100000 in
theorem hmet_X8_owner (l : Launch) (E : hEnv) (A : Nat → Prop) (w : hW) (a0 : Nat) (Q : Int32 → hO → Prop) (h : hf_X8_owner E.2.2 w a0 Q) : Met l yX8_owner (ws_ yX8_owner cX8_owner 1 (some .int)) (hrm_X8_owner w.2.1 w.2.2) (va_Pc [.ref a0] (gPre (hK E A) (hP E A w.1))) (hQi E A Q) w.2.1 w.2.2 A := by
  refine h_met (own := RX8) (by decide +kernel) rfl (Nat.le_of_ble_eq_true rfl) ?_
  intro p e s m args below meth c ls cb sb F hr hlk hK S hl
  have hx := F.1
  have hb := F.2.1
  have hl : lv_has ls 1 [(0, .ref a0)] := hl
  unfold hf_X8_owner at h
  refine lv_aload_n hx hb dX8_owner_0 rfl (lv_at hl 0 rfl) ?_
  obtain ⟨v1, e2, h⟩ := obd_inv h
  refine hg_X8_15 F hK S e2 dX8_owner_1 ?_
  exact h_iret F hr hlk S h dX8_owner_4
theorem hg_X8_9 {p : Program} {l : Launch} {e : Env} {s : State} {m : MethodId} {args : Array Value} {below : List Frame} {meth : Method} {c : Code} {R : Room} {H : Heap} {locs : List Loc} {cb sb pc nL : Nat} {Q : State → Prop} {ls : Array Slot} {rest : List Value} {cc : ByteArray} {E : hEnv} {A : Nat → Prop} {w : hW} {a : Nat} {v : Int32} (F : CallFix p m c cc nL s args lw_all RX8) (hK : hK E A s) (S : hS E A s.heap cb sb w H locs) (h : hgI w a 7 2 = some v) (hdg : decode cc pc = .ok (.getfield 9, 3)) (kk : W p l e R s m args below meth c H locs (cb - w.2.1) (sb - w.2.2) Q (F0 m (pc + 3) ls (.int v :: rest))) : W p l e R s m args below meth c H locs (cb - w.2.1) (sb - w.2.2) Q (F0 m pc ls (.ref a :: rest)) := by
  obtain ⟨b, fs, ho, hv⟩ := hgI_inv h
  exact h_get F hK S ho (ci := 7) (C := RX8) (T := TX8) (N := 3) (k := 2) rfl in_X8 (by decide) q358 (fun x h => h) hv hdg kk
def hf_X8_isOpen (pl : Nat → Nat) (w : hW) (a0 : Nat) (Q : Int32 → hO → Prop) : Prop :=
  obd (hgI w a0 7 2) fun v1 =>
  hjoin (fun (v4 : Int32) =>
    Q (zN v4) w.1) fun k6 =>
  hIf (v1 = (-1)) (
    k6 0) <|
    k6 1
abbrev hrm_X8_isOpen (c s : Nat) : Room := { frames := 0, cells := c, slots := s, locals := 0 }
set_option maxHeartbeats 4000000 in
set_option maxRecDepth 100000 in
theorem hmet_X8_isOpen (l : Launch) (E : hEnv) (A : Nat → Prop) (w : hW) (a0 : Nat) (Q : Int32 → hO → Prop) (h : hf_X8_isOpen E.2.2 w a0 Q) : Met l yX8_isOpen (ws_ yX8_isOpen cX8_isOpen 1 (some .boolean)) (hrm_X8_isOpen w.2.1 w.2.2) (va_Pc [.ref a0] (gPre (hK E A) (hP E A w.1))) (hQi E A Q) w.2.1 w.2.2 A := by
  refine h_met (own := RX8) (by decide +kernel) rfl (Nat.le_of_ble_eq_true rfl) ?_
  intro p e s m args below meth c ls cb sb F hr hlk hK S hl
  have hx := F.1
  have hb := F.2.1
  have hl : lv_has ls 1 [(0, .ref a0)] := hl
  unfold hf_X8_isOpen at h
  refine lv_aload_n hx hb dX8_isOpen_0 rfl (lv_at hl 0 rfl) ?_
  obtain ⟨v1, e2, h⟩ := obd_inv h
  refine hg_X8_9 F hK S e2 dX8_isOpen_1 ?_
  refine lv_iconst (v := (-1)) hx hb dX8_isOpen_4 (by decide) ?_
  obtain ⟨k6, hk6, h⟩ := hj1_inv h
  have hJ13 : ∀ (v4 : Int32) (H : Heap) (locs : List Loc) (ls : Array Slot), k6 v4 → hS E A s.heap cb sb w H locs → lv_has ls 1 [] → W p l e (hrm_X8_isOpen cb sb) s m args below meth c H locs (cb - w.2.1) (sb - w.2.2) (MQ below (hQi E A Q) args s cb sb A) (F0 m 13 ls [.int v4]) := by
    intro v4 H locs ls h S hl
    replace h := hk6 _ h
    exact h_zret F hr hlk S h dX8_isOpen_13
  clear hk6
  refine lv_icmp_eq (tgt := 12) hx hb dX8_isOpen_5 (by decide) (fun c3 => ?_) (fun c3 => ?_)
  · rw [hIf_pos c3] at h
    refine lv_iconst (v := 0) hx hb dX8_isOpen_12 (by decide) ?_
    exact hJ13 _ _ _ _ h S (lv_sub hl [] rfl)
  · rw [hIf_neg c3] at h
    refine lv_iconst (v := 1) hx hb dX8_isOpen_8 (by decide) ?_
    refine lv_goto (tgt := 13) hx hb dX8_isOpen_9 (by decide) ?_
    exact hJ13 _ _ _ _ h S (lv_sub hl [] rfl)
theorem hn_X8_10 {p : Program} {l : Launch} {e : Env} {s : State} {m : MethodId} {args : Array Value} {below : List Frame} {meth : Method} {c : Code} {R : Room} {H : Heap} {locs : List Loc} {cb sb pc nL : Nat} {Q : State → Prop} {ls : Array Slot} {rest : List Value} {cc : ByteArray} {E : hEnv} {A : Nat → Prop} {w : hW} (F : CallFix p m c cc nL s args lw_all RX8) (hK : hK E A s) (S : hS E A s.heap cb sb w H locs) (hrc : R.cells = cb) (hrs : R.slots = sb) {f : Nat → hW → Prop} (h : hNew w (.inl (7, [.int 0, .int 0, .int 0])) 3 f) (hdg : decode cc pc = .ok (.new 10, 3)) (kk : ∀ (q : Nat) (w' : hW) (H1 : Heap), f q w' → hS E A s.heap cb sb w' H1 locs → W p l e R s m args below meth c H1 locs (cb - w'.2.1) (sb - w'.2.2) Q (F0 m (pc + 3) ls (.ref q :: rest))) : W p l e R s m args below meth c H locs (cb - w.2.1) (sb - w.2.2) Q (F0 m pc ls rest) :=
  h_new F hK S hrc hrs (C := RX8) (T := TX8) (N := 3) tyX8 tyX8_ok q1309 q351 q120 in_X8 rfl (fun j hj => by match j, hj with | 0, _ => rfl | 1, _ => rfl | 2, _ => rfl) h hdg kk
theorem hg_X8_18 {p : Program} {l : Launch} {e : Env} {s : State} {m : MethodId} {args : Array Value} {below : List Frame} {meth : Method} {c : Code} {R : Room} {H : Heap} {locs : List Loc} {cb sb pc nL : Nat} {Q : State → Prop} {ls : Array Slot} {rest : List Value} {cc : ByteArray} {E : hEnv} {A : Nat → Prop} {w : hW} {a : Nat} {v : Int32} (F : CallFix p m c cc nL s args lw_all RX8) (hK : hK E A s) (S : hS E A s.heap cb sb w H locs) (h : hgI w a 7 0 = some v) (hdg : decode cc pc = .ok (.getfield 18, 3)) (kk : W p l e R s m args below meth c H locs (cb - w.2.1) (sb - w.2.2) Q (F0 m (pc + 3) ls (.int v :: rest))) : W p l e R s m args below meth c H locs (cb - w.2.1) (sb - w.2.2) Q (F0 m pc ls (.ref a :: rest)) := by
  obtain ⟨b, fs, ho, hv⟩ := hgI_inv h
  exact h_get F hK S ho (ci := 7) (C := RX8) (T := TX8) (N := 3) (k := 0) rfl in_X8 (by decide) q291 (fun x h => u_same (F.2.2.2.2 _ q292) x h) hv hdg kk
theorem hcl_X8_init_X8_21 {p : Program} {l : Launch} {e : Env} {s : State} {m : MethodId} {args : Array Value} {below : List Frame} {meth : Method} {c : Code} {R : Room} {H : Heap} {locs : List Loc} {cb sb pc nL : Nat} {Q : State → Prop} {ls : Array Slot} {rest : List Value} {cc : ByteArray} {E : hEnv} {A : Nat → Prop} {w : hW} {a0 : Nat} {x1 : Int32} {x2 : Int32} {Q' : hO → Prop} {c1 s1 : Nat} (F : CallFix p m c cc nL s args lw_all RX8) (hK : hK E A s) (S : hS E A s.heap cb sb w H locs) (h1 : c1 ≤ w.2.1) (h2 : s1 ≤ w.2.2) (h : hf_X8_init E.2.2 (w.1, c1, s1) a0 x1 x2 Q') (hrc : R.cells = cb) (hrs : R.slots = sb) (hls : ls.size = nL) (hWt : (rest.map fun v => v.category).sum ≤ 8) (hR : 2 + 1 ≤ R.frames ∧ 8 + (3 + 11) + 41 ≤ R.locals) (hdg : decode cc pc = .ok (.invokespecial 21, 3))
    (kk : ∀ (o : hO) (w' : hW) (H1 : Heap) (locs1 : List Loc), w' = (o, w.2.1 - c1, w.2.2 - s1) → Q' o → hS E A s.heap cb sb w' H1 locs1 → W p l e R s m args below meth c H1 locs1 (cb - w'.2.1) (sb - w'.2.2) Q (F0 m (pc + 3) ls (rest))) : W p l e R s m args below meth c H locs (cb - w.2.1) (sb - w.2.2) Q (F0 m pc ls (.int x2 :: .int x1 :: .ref a0 :: rest)) :=
  h_kv (g_runI F hK (hKm E A) S.1 (hmet_X8_init l E A (w.1, c1, s1) a0 x1 x2 Q' h) (cwI 2 F.2.2.2.2 (lw_meth q354) rfl rfl rfl (F.2.2.2.2 _ q120) (F.2.2.2.2 _ q1310) (F.2.2.2.2 _ q353) rfl (by decide +kernel) hR) rfl hls rfl hWt hdg ⟨by rw [hrc]; exact (h_left S h1 h2).1, by rw [hrs]; exact (h_left S h1 h2).2⟩) S h1 h2 kk
def hf_X8_twin (pl : Nat → Nat) (w : hW) (a0 : Nat) (Q : Nat → hO → Prop) : Prop :=
  hNew w (.inl (7, [.int 0, .int 0, .int 0])) 3 fun q1 w2 =>
  obd (hgI w2 a0 7 0) fun v3 =>
  obd (hgI w2 a0 7 1) fun v5 =>
  hcall w2 fun n7 n8 => hf_X8_init pl (w2.1, n7, n8) q1 v3 v5 fun o10 => hret w2 n7 n8 o10 fun w9 =>
  obd (hgI w9 a0 7 2) fun v11 =>
  obd (hpV w9 q1 7 2 (.int v11)) fun w13 =>
  Q q1 w13.1
abbrev hrm_X8_twin (c s : Nat) : Room := { frames := 3, cells := c, slots := s, locals := 63 }
set_option maxHeartbeats 4000000 in
set_option maxRecDepth 100000 in
theorem hmet_X8_twin (l : Launch) (E : hEnv) (A : Nat → Prop) (w : hW) (a0 : Nat) (Q : Nat → hO → Prop) (h : hf_X8_twin E.2.2 w a0 Q) : Met l yX8_twin (ws_ yX8_twin cX8_twin 2 (some (.object "MirrorDoors$Cell"))) (hrm_X8_twin w.2.1 w.2.2) (va_Pc [.ref a0] (gPre (hK E A) (hP E A w.1))) (hQp E A Q) w.2.1 w.2.2 A := by
  refine h_met (own := RX8) (by decide +kernel) rfl (Nat.le_of_ble_eq_true rfl) ?_
  intro p e s m args below meth c ls cb sb F hr hlk hK S hl
  have hx := F.1
  have hb := F.2.1
  have hl : lv_has ls 2 [(0, .ref a0)] := hl
  unfold hf_X8_twin at h
  refine hn_X8_10 F hK S rfl rfl h dX8_twin_0 (fun q1 w2 H h S => ?_)
  refine lv_dup hx hb dX8_twin_3 rfl ?_
  refine lv_aload_n hx hb dX8_twin_4 rfl (lv_at hl 0 rfl) ?_
  obtain ⟨v3, e4, h⟩ := obd_inv h
  refine hg_X8_18 F hK S e4 dX8_twin_5 ?_
  refine lv_aload_n hx hb dX8_twin_8 rfl (lv_at hl 0 rfl) ?_
  obtain ⟨v5, e6, h⟩ := obd_inv h
  refine hg_X8_15 F hK S e6 dX8_twin_9 ?_
  obtain ⟨n7, n8, h1, h2, h⟩ := hcall_inv h
  refine hcl_X8_init_X8_21 F hK S h1 h2 h rfl rfl hl.1 (Nat.le_of_ble_eq_true rfl) ⟨Nat.le_of_ble_eq_true rfl, Nat.le_of_ble_eq_true rfl⟩ dX8_twin_12 (fun o10 w9 H locs hw h S => ?_)
  replace h := hret_mp h hw
  clear hw h1 h2
  refine lv_astore_n (lv' := [(1, .ref q1), (0, .ref a0)]) hx hb dX8_twin_15 rfl hl (by decide) rfl (fun ls hl => ?_)
  refine lv_aload_n hx hb dX8_twin_16 rfl (lv_at hl 0 rfl) ?_
  refine lv_aload_n hx hb dX8_twin_17 rfl (lv_at hl 1 rfl) ?_
  obtain ⟨v11, e12, h⟩ := obd_inv h
  refine hg_X8_9 F hK S e12 dX8_twin_18 ?_
  obtain ⟨w13, e14, h⟩ := obd_inv h
  refine hp_X8_9 F hK S e14 dX8_twin_21 (fun H locs S => ?_)
  refine lv_aload_n hx hb dX8_twin_24 rfl (lv_at hl 0 rfl) ?_
  exact h_aret F hr (Or.inl ⟨_, rfl⟩) hlk S h dX8_twin_25
theorem hcl_X4_init_X12_1 {p : Program} {l : Launch} {e : Env} {s : State} {m : MethodId} {args : Array Value} {below : List Frame} {meth : Method} {c : Code} {R : Room} {H : Heap} {locs : List Loc} {cb sb pc nL : Nat} {Q : State → Prop} {ls : Array Slot} {rest : List Value} {cc : ByteArray} {E : hEnv} {A : Nat → Prop} {w : hW} {a0 : Nat} {x1 : Int32} {Q' : hO → Prop} {c1 s1 : Nat} (F : CallFix p m c cc nL s args lw_all RX12) (hK : hK E A s) (S : hS E A s.heap cb sb w H locs) (h1 : c1 ≤ w.2.1) (h2 : s1 ≤ w.2.2) (h : hf_X4_init E.2.2 (w.1, c1, s1) a0 x1 Q') (hrc : R.cells = cb) (hrs : R.slots = sb) (hls : ls.size = nL) (hWt : (rest.map fun v => v.category).sum ≤ 8) (hR : 1 + 1 ≤ R.frames ∧ 8 + (2 + 11) + 20 ≤ R.locals) (hdg : decode cc pc = .ok (.invokespecial 1, 3))
    (kk : ∀ (o : hO) (w' : hW) (H1 : Heap) (locs1 : List Loc), w' = (o, w.2.1 - c1, w.2.2 - s1) → Q' o → hS E A s.heap cb sb w' H1 locs1 → W p l e R s m args below meth c H1 locs1 (cb - w'.2.1) (sb - w'.2.2) Q (F0 m (pc + 3) ls (rest))) : W p l e R s m args below meth c H locs (cb - w.2.1) (sb - w.2.2) Q (F0 m pc ls (.int x1 :: .ref a0 :: rest)) :=
  h_kv (g_runI F hK (hKm E A) S.1 (hmet_X4_init l E A (w.1, c1, s1) a0 x1 Q' h) (cwI 1 F.2.2.2.2 (lw_meth q288) rfl rfl rfl (F.2.2.2.2 _ q116) (F.2.2.2.2 _ q1064) (F.2.2.2.2 _ q287) rfl (by decide +kernel) hR) rfl hls rfl hWt hdg ⟨by rw [hrc]; exact (h_left S h1 h2).1, by rw [hrs]; exact (h_left S h1 h2).2⟩) S h1 h2 kk
theorem hp_X12_7 {p : Program} {l : Launch} {e : Env} {s : State} {m : MethodId} {args : Array Value} {below : List Frame} {meth : Method} {c : Code} {R : Room} {H : Heap} {locs : List Loc} {cb sb pc nL : Nat} {Q : State → Prop} {ls : Array Slot} {rest : List Value} {cc : ByteArray} {E : hEnv} {A : Nat → Prop} {w : hW} {a : Nat} {w' : hW} {v : Int32} (F : CallFix p m c cc nL s args lw_all RX12) (hK : hK E A s) (S : hS E A s.heap cb sb w H locs) (hin : meth.name = "<init>") (h : hpV w a 8 1 (.int v) = some w') (hdg : decode cc pc = .ok (.putfield 7, 3)) (kk : ∀ (H1 : Heap) (locs1 : List Loc), hS E A s.heap cb sb w' H1 locs1 → W p l e R s m args below meth c H1 locs1 (cb - w'.2.1) (sb - w'.2.2) Q (F0 m (pc + 3) ls rest)) : W p l e R s m args below meth c H locs (cb - w.2.1) (sb - w.2.2) Q (F0 m pc ls (.int v :: .ref a :: rest)) :=
  h_putF F hK S h (ci := 8) (C := RX12) (T := TX12) (N := 2) (k := 1) rfl in_X12 tyX12 tyX12_ok nmX12 (by decide) q1065 (fun x h => h) rfl hin rfl (ty := .int) (by decide +kernel) rfl rfl hdg kk
def hf_X12_init (pl : Nat → Nat) (w : hW) (a0 : Nat) (x1 : Int32) (x2 : Int32) (Q : hO → Prop) : Prop :=
  hcall w fun n1 n2 => hf_X4_init pl (w.1, n1, n2) a0 x1 fun o4 => hret w n1 n2 o4 fun w3 =>
  obd (hpV w3 a0 8 1 (.int x2)) fun w5 =>
  Q w5.1
abbrev hrm_X12_init (c s : Nat) : Room := { frames := 2, cells := c, slots := s, locals := 41 }
set_option maxHeartbeats 4000000 in
set_option maxRecDepth 100000 in
theorem hmet_X12_init (l : Launch) (E : hEnv) (A : Nat → Prop) (w : hW) (a0 : Nat) (x1 : Int32) (x2 : Int32) (Q : hO → Prop) (h : hf_X12_init E.2.2 w a0 x1 x2 Q) : Met l yX12_init (ws_ yX12_init cX12_init 3 (none)) (hrm_X12_init w.2.1 w.2.2) (va_Pc [.ref a0, .int x1, .int x2] (gPre (hK E A) (hP E A w.1))) (hQv E A Q) w.2.1 w.2.2 A := by
  refine h_metI (own := RX12) (by decide +kernel) rfl (by rfl) (Nat.le_of_ble_eq_true rfl) ?_
  intro p e s m args below meth c ls cb sb F hr hlk hin hK S hl
  have hx := F.1
  have hb := F.2.1
  have hl : lv_has ls 3 [(0, .ref a0), (1, .int x1), (2, .int x2)] := hl
  unfold hf_X12_init at h
  refine lv_aload_n hx hb dX12_init_0 rfl (lv_at hl 0 rfl) ?_
  refine lv_iload_n hx hb dX12_init_1 rfl (lv_at hl 1 rfl) ?_
  obtain ⟨n1, n2, h1, h2, h⟩ := hcall_inv h
  refine hcl_X4_init_X12_1 F hK S h1 h2 h rfl rfl hl.1 (Nat.le_of_ble_eq_true rfl) ⟨Nat.le_of_ble_eq_true rfl, Nat.le_of_ble_eq_true rfl⟩ dX12_init_2 (fun o4 w3 H locs hw h S => ?_)
  replace h := hret_mp h hw
  clear hw h1 h2
  refine lv_aload_n hx hb dX12_init_5 rfl (lv_at hl 0 rfl) ?_
  refine lv_iload_n hx hb dX12_init_6 rfl (lv_at hl 2 rfl) ?_
  obtain ⟨w5, e6, h⟩ := obd_inv h
  refine hp_X12_7 F hK S (by assumption) e6 dX12_init_7 (fun H locs S => ?_)
  exact h_vret F hr hlk S h dX12_init_10
def hf_X12_kind (pl : Nat → Nat) (w : hW) (a0 : Nat) (Q : Int32 → hO → Prop) : Prop :=
  Q 5 w.1
abbrev hrm_X12_kind (c s : Nat) : Room := { frames := 0, cells := c, slots := s, locals := 0 }
set_option maxHeartbeats 4000000 in
set_option maxRecDepth 100000 in
theorem hmet_X12_kind (l : Launch) (E : hEnv) (A : Nat → Prop) (w : hW) (a0 : Nat) (Q : Int32 → hO → Prop) (h : hf_X12_kind E.2.2 w a0 Q) : Met l yX12_kind (ws_ yX12_kind cX12_kind 1 (some .int)) (hrm_X12_kind w.2.1 w.2.2) (va_Pc [.ref a0] (gPre (hK E A) (hP E A w.1))) (hQi E A Q) w.2.1 w.2.2 A := by
  refine h_met (own := RX12) (by decide +kernel) rfl (Nat.le_of_ble_eq_true rfl) ?_
  intro p e s m args below meth c ls cb sb F hr hlk hK S hl
  have hx := F.1
  have hb := F.2.1
  have hl : lv_has ls 1 [(0, .ref a0)] := hl
  unfold hf_X12_kind at h
  refine lv_iconst (v := 5) hx hb dX12_kind_0 (by decide) ?_
  exact h_iret F hr hlk S h dX12_kind_1
theorem hg_X12_7 {p : Program} {l : Launch} {e : Env} {s : State} {m : MethodId} {args : Array Value} {below : List Frame} {meth : Method} {c : Code} {R : Room} {H : Heap} {locs : List Loc} {cb sb pc nL : Nat} {Q : State → Prop} {ls : Array Slot} {rest : List Value} {cc : ByteArray} {E : hEnv} {A : Nat → Prop} {w : hW} {a : Nat} {v : Int32} (F : CallFix p m c cc nL s args lw_all RX12) (hK : hK E A s) (S : hS E A s.heap cb sb w H locs) (h : hgI w a 8 1 = some v) (hdg : decode cc pc = .ok (.getfield 7, 3)) (kk : W p l e R s m args below meth c H locs (cb - w.2.1) (sb - w.2.2) Q (F0 m (pc + 3) ls (.int v :: rest))) : W p l e R s m args below meth c H locs (cb - w.2.1) (sb - w.2.2) Q (F0 m pc ls (.ref a :: rest)) := by
  obtain ⟨b, fs, ho, hv⟩ := hgI_inv h
  exact h_get F hK S ho (ci := 8) (C := RX12) (T := TX12) (N := 2) (k := 1) rfl in_X12 (by decide) q1065 (fun x h => h) hv hdg kk
def hf_X12_form (pl : Nat → Nat) (w : hW) (a0 : Nat) (Q : Int32 → hO → Prop) : Prop :=
  obd (hgI w a0 8 1) fun v1 =>
  Q v1 w.1
abbrev hrm_X12_form (c s : Nat) : Room := { frames := 0, cells := c, slots := s, locals := 0 }
set_option maxHeartbeats 4000000 in
set_option maxRecDepth 100000 in
theorem hmet_X12_form (l : Launch) (E : hEnv) (A : Nat → Prop) (w : hW) (a0 : Nat) (Q : Int32 → hO → Prop) (h : hf_X12_form E.2.2 w a0 Q) : Met l yX12_form (ws_ yX12_form cX12_form 1 (some .int)) (hrm_X12_form w.2.1 w.2.2) (va_Pc [.ref a0] (gPre (hK E A) (hP E A w.1))) (hQi E A Q) w.2.1 w.2.2 A := by
  refine h_met (own := RX12) (by decide +kernel) rfl (Nat.le_of_ble_eq_true rfl) ?_
  intro p e s m args below meth c ls cb sb F hr hlk hK S hl
  have hx := F.1
  have hb := F.2.1
  have hl : lv_has ls 1 [(0, .ref a0)] := hl
  unfold hf_X12_form at h
  refine lv_aload_n hx hb dX12_form_0 rfl (lv_at hl 0 rfl) ?_
  obtain ⟨v1, e2, h⟩ := obd_inv h
  refine hg_X12_7 F hK S e2 dX12_form_1 ?_
  exact h_iret F hr hlk S h dX12_form_4
def hf_X12_twin (pl : Nat → Nat) (w : hW) (a0 : Nat) (Q : Nat → hO → Prop) : Prop :=
  Q a0 w.1
abbrev hrm_X12_twin (c s : Nat) : Room := { frames := 0, cells := c, slots := s, locals := 0 }
set_option maxHeartbeats 4000000 in
set_option maxRecDepth 100000 in
theorem hmet_X12_twin (l : Launch) (E : hEnv) (A : Nat → Prop) (w : hW) (a0 : Nat) (Q : Nat → hO → Prop) (h : hf_X12_twin E.2.2 w a0 Q) : Met l yX12_twin (ws_ yX12_twin cX12_twin 1 (some (.object "MirrorDoors$Cell"))) (hrm_X12_twin w.2.1 w.2.2) (va_Pc [.ref a0] (gPre (hK E A) (hP E A w.1))) (hQp E A Q) w.2.1 w.2.2 A := by
  refine h_met (own := RX12) (by decide +kernel) rfl (Nat.le_of_ble_eq_true rfl) ?_
  intro p e s m args below meth c ls cb sb F hr hlk hK S hl
  have hx := F.1
  have hb := F.2.1
  have hl : lv_has ls 1 [(0, .ref a0)] := hl
  unfold hf_X12_twin at h
  refine lv_aload_n hx hb dX12_twin_0 rfl (lv_at hl 0 rfl) ?_
  exact h_aret F hr (Or.inl ⟨_, rfl⟩) hlk S h dX12_twin_1
theorem hcl_X4_init_X13_1 {p : Program} {l : Launch} {e : Env} {s : State} {m : MethodId} {args : Array Value} {below : List Frame} {meth : Method} {c : Code} {R : Room} {H : Heap} {locs : List Loc} {cb sb pc nL : Nat} {Q : State → Prop} {ls : Array Slot} {rest : List Value} {cc : ByteArray} {E : hEnv} {A : Nat → Prop} {w : hW} {a0 : Nat} {x1 : Int32} {Q' : hO → Prop} {c1 s1 : Nat} (F : CallFix p m c cc nL s args lw_all RX13) (hK : hK E A s) (S : hS E A s.heap cb sb w H locs) (h1 : c1 ≤ w.2.1) (h2 : s1 ≤ w.2.2) (h : hf_X4_init E.2.2 (w.1, c1, s1) a0 x1 Q') (hrc : R.cells = cb) (hrs : R.slots = sb) (hls : ls.size = nL) (hWt : (rest.map fun v => v.category).sum ≤ 8) (hR : 1 + 1 ≤ R.frames ∧ 8 + (2 + 11) + 20 ≤ R.locals) (hdg : decode cc pc = .ok (.invokespecial 1, 3))
    (kk : ∀ (o : hO) (w' : hW) (H1 : Heap) (locs1 : List Loc), w' = (o, w.2.1 - c1, w.2.2 - s1) → Q' o → hS E A s.heap cb sb w' H1 locs1 → W p l e R s m args below meth c H1 locs1 (cb - w'.2.1) (sb - w'.2.2) Q (F0 m (pc + 3) ls (rest))) : W p l e R s m args below meth c H locs (cb - w.2.1) (sb - w.2.2) Q (F0 m pc ls (.int x1 :: .ref a0 :: rest)) :=
  h_kv (g_runI F hK (hKm E A) S.1 (hmet_X4_init l E A (w.1, c1, s1) a0 x1 Q' h) (cwI 1 F.2.2.2.2 (lw_meth q288) rfl rfl rfl (F.2.2.2.2 _ q116) (F.2.2.2.2 _ q1079) (F.2.2.2.2 _ q287) rfl (by decide +kernel) hR) rfl hls rfl hWt hdg ⟨by rw [hrc]; exact (h_left S h1 h2).1, by rw [hrs]; exact (h_left S h1 h2).2⟩) S h1 h2 kk
theorem hp_X13_7 {p : Program} {l : Launch} {e : Env} {s : State} {m : MethodId} {args : Array Value} {below : List Frame} {meth : Method} {c : Code} {R : Room} {H : Heap} {locs : List Loc} {cb sb pc nL : Nat} {Q : State → Prop} {ls : Array Slot} {rest : List Value} {cc : ByteArray} {E : hEnv} {A : Nat → Prop} {w : hW} {a : Nat} {w' : hW} {v : Int32} (F : CallFix p m c cc nL s args lw_all RX13) (hK : hK E A s) (S : hS E A s.heap cb sb w H locs) (hin : meth.name = "<init>") (h : hpV w a 9 1 (.int v) = some w') (hdg : decode cc pc = .ok (.putfield 7, 3)) (kk : ∀ (H1 : Heap) (locs1 : List Loc), hS E A s.heap cb sb w' H1 locs1 → W p l e R s m args below meth c H1 locs1 (cb - w'.2.1) (sb - w'.2.2) Q (F0 m (pc + 3) ls rest)) : W p l e R s m args below meth c H locs (cb - w.2.1) (sb - w.2.2) Q (F0 m pc ls (.int v :: .ref a :: rest)) :=
  h_putF F hK S h (ci := 9) (C := RX13) (T := TX13) (N := 2) (k := 1) rfl in_X13 tyX13 tyX13_ok nmX13 (by decide) q1080 (fun x h => h) rfl hin rfl (ty := .int) (by decide +kernel) rfl rfl hdg kk
def hf_X13_init (pl : Nat → Nat) (w : hW) (a0 : Nat) (x1 : Int32) (x2 : Int32) (Q : hO → Prop) : Prop :=
  hcall w fun n1 n2 => hf_X4_init pl (w.1, n1, n2) a0 x1 fun o4 => hret w n1 n2 o4 fun w3 =>
  obd (hpV w3 a0 9 1 (.int x2)) fun w5 =>
  Q w5.1
abbrev hrm_X13_init (c s : Nat) : Room := { frames := 2, cells := c, slots := s, locals := 41 }
set_option maxHeartbeats 4000000 in
set_option maxRecDepth 100000 in
theorem hmet_X13_init (l : Launch) (E : hEnv) (A : Nat → Prop) (w : hW) (a0 : Nat) (x1 : Int32) (x2 : Int32) (Q : hO → Prop) (h : hf_X13_init E.2.2 w a0 x1 x2 Q) : Met l yX13_init (ws_ yX13_init cX13_init 3 (none)) (hrm_X13_init w.2.1 w.2.2) (va_Pc [.ref a0, .int x1, .int x2] (gPre (hK E A) (hP E A w.1))) (hQv E A Q) w.2.1 w.2.2 A := by
  refine h_metI (own := RX13) (by decide +kernel) rfl (by rfl) (Nat.le_of_ble_eq_true rfl) ?_
  intro p e s m args below meth c ls cb sb F hr hlk hin hK S hl
  have hx := F.1
  have hb := F.2.1
  have hl : lv_has ls 3 [(0, .ref a0), (1, .int x1), (2, .int x2)] := hl
  unfold hf_X13_init at h
  refine lv_aload_n hx hb dX13_init_0 rfl (lv_at hl 0 rfl) ?_
  refine lv_iload_n hx hb dX13_init_1 rfl (lv_at hl 1 rfl) ?_
  obtain ⟨n1, n2, h1, h2, h⟩ := hcall_inv h
  refine hcl_X4_init_X13_1 F hK S h1 h2 h rfl rfl hl.1 (Nat.le_of_ble_eq_true rfl) ⟨Nat.le_of_ble_eq_true rfl, Nat.le_of_ble_eq_true rfl⟩ dX13_init_2 (fun o4 w3 H locs hw h S => ?_)
  replace h := hret_mp h hw
  clear hw h1 h2
  refine lv_aload_n hx hb dX13_init_5 rfl (lv_at hl 0 rfl) ?_
  refine lv_iload_n hx hb dX13_init_6 rfl (lv_at hl 2 rfl) ?_
  obtain ⟨w5, e6, h⟩ := obd_inv h
  refine hp_X13_7 F hK S (by assumption) e6 dX13_init_7 (fun H locs S => ?_)
  exact h_vret F hr hlk S h dX13_init_10
def hf_X13_kind (pl : Nat → Nat) (w : hW) (a0 : Nat) (Q : Int32 → hO → Prop) : Prop :=
  Q 6 w.1
abbrev hrm_X13_kind (c s : Nat) : Room := { frames := 0, cells := c, slots := s, locals := 0 }
set_option maxHeartbeats 4000000 in
set_option maxRecDepth 100000 in
theorem hmet_X13_kind (l : Launch) (E : hEnv) (A : Nat → Prop) (w : hW) (a0 : Nat) (Q : Int32 → hO → Prop) (h : hf_X13_kind E.2.2 w a0 Q) : Met l yX13_kind (ws_ yX13_kind cX13_kind 1 (some .int)) (hrm_X13_kind w.2.1 w.2.2) (va_Pc [.ref a0] (gPre (hK E A) (hP E A w.1))) (hQi E A Q) w.2.1 w.2.2 A := by
  refine h_met (own := RX13) (by decide +kernel) rfl (Nat.le_of_ble_eq_true rfl) ?_
  intro p e s m args below meth c ls cb sb F hr hlk hK S hl
  have hx := F.1
  have hb := F.2.1
  have hl : lv_has ls 1 [(0, .ref a0)] := hl
  unfold hf_X13_kind at h
  refine lv_bipush (v := 6) hx hb dX13_kind_0 (by decide) ?_
  exact h_iret F hr hlk S h dX13_kind_2
theorem hg_X13_7 {p : Program} {l : Launch} {e : Env} {s : State} {m : MethodId} {args : Array Value} {below : List Frame} {meth : Method} {c : Code} {R : Room} {H : Heap} {locs : List Loc} {cb sb pc nL : Nat} {Q : State → Prop} {ls : Array Slot} {rest : List Value} {cc : ByteArray} {E : hEnv} {A : Nat → Prop} {w : hW} {a : Nat} {v : Int32} (F : CallFix p m c cc nL s args lw_all RX13) (hK : hK E A s) (S : hS E A s.heap cb sb w H locs) (h : hgI w a 9 1 = some v) (hdg : decode cc pc = .ok (.getfield 7, 3)) (kk : W p l e R s m args below meth c H locs (cb - w.2.1) (sb - w.2.2) Q (F0 m (pc + 3) ls (.int v :: rest))) : W p l e R s m args below meth c H locs (cb - w.2.1) (sb - w.2.2) Q (F0 m pc ls (.ref a :: rest)) := by
  obtain ⟨b, fs, ho, hv⟩ := hgI_inv h
  exact h_get F hK S ho (ci := 9) (C := RX13) (T := TX13) (N := 2) (k := 1) rfl in_X13 (by decide) q1080 (fun x h => h) hv hdg kk
def hf_X13_form (pl : Nat → Nat) (w : hW) (a0 : Nat) (Q : Int32 → hO → Prop) : Prop :=
  obd (hgI w a0 9 1) fun v1 =>
  Q v1 w.1
abbrev hrm_X13_form (c s : Nat) : Room := { frames := 0, cells := c, slots := s, locals := 0 }
set_option maxHeartbeats 4000000 in
set_option maxRecDepth 100000 in
theorem hmet_X13_form (l : Launch) (E : hEnv) (A : Nat → Prop) (w : hW) (a0 : Nat) (Q : Int32 → hO → Prop) (h : hf_X13_form E.2.2 w a0 Q) : Met l yX13_form (ws_ yX13_form cX13_form 1 (some .int)) (hrm_X13_form w.2.1 w.2.2) (va_Pc [.ref a0] (gPre (hK E A) (hP E A w.1))) (hQi E A Q) w.2.1 w.2.2 A := by
  refine h_met (own := RX13) (by decide +kernel) rfl (Nat.le_of_ble_eq_true rfl) ?_
  intro p e s m args below meth c ls cb sb F hr hlk hK S hl
  have hx := F.1
  have hb := F.2.1
  have hl : lv_has ls 1 [(0, .ref a0)] := hl
  unfold hf_X13_form at h
  refine lv_aload_n hx hb dX13_form_0 rfl (lv_at hl 0 rfl) ?_
  obtain ⟨v1, e2, h⟩ := obd_inv h
  refine hg_X13_7 F hK S e2 dX13_form_1 ?_
  exact h_iret F hr hlk S h dX13_form_4
def hf_X13_twin (pl : Nat → Nat) (w : hW) (a0 : Nat) (Q : Nat → hO → Prop) : Prop :=
  Q a0 w.1
abbrev hrm_X13_twin (c s : Nat) : Room := { frames := 0, cells := c, slots := s, locals := 0 }
set_option maxHeartbeats 4000000 in
set_option maxRecDepth 100000 in
theorem hmet_X13_twin (l : Launch) (E : hEnv) (A : Nat → Prop) (w : hW) (a0 : Nat) (Q : Nat → hO → Prop) (h : hf_X13_twin E.2.2 w a0 Q) : Met l yX13_twin (ws_ yX13_twin cX13_twin 1 (some (.object "MirrorDoors$Cell"))) (hrm_X13_twin w.2.1 w.2.2) (va_Pc [.ref a0] (gPre (hK E A) (hP E A w.1))) (hQp E A Q) w.2.1 w.2.2 A := by
  refine h_met (own := RX13) (by decide +kernel) rfl (Nat.le_of_ble_eq_true rfl) ?_
  intro p e s m args below meth c ls cb sb F hr hlk hK S hl
  have hx := F.1
  have hb := F.2.1
  have hl : lv_has ls 1 [(0, .ref a0)] := hl
  unfold hf_X13_twin at h
  refine lv_aload_n hx hb dX13_twin_0 rfl (lv_at hl 0 rfl) ?_
  exact h_aret F hr (Or.inl ⟨_, rfl⟩) hlk S h dX13_twin_1
