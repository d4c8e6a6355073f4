/-! HEAP MODE: lists -/
set_option maxRecDepth 100000
def hf_J22_equals (pl : Nat → Nat) (w : hW) (a0 : Nat) (x1 : Nat) (Q : Int32 → hO → Prop) : Prop :=
  hjoin (fun (v2 : Int32) =>
    Q (zN v2) w.1) fun k4 =>
  hIf (a0 = x1) (
    k4 1) <|
    k4 0
abbrev hrm_J22_equals (c s : Nat) : Room := { frames := 0, cells := c, slots := s, locals := 0 }
set_option maxHeartbeats 4000000 in
set_option maxRecDepth 100000 in
theorem hmet_J22_equals (l : Launch) (E : hEnv) (A : Nat → Prop) (w : hW) (a0 : Nat) (x1 : Nat) (Q : Int32 → hO → Prop) (h : hf_J22_equals E.2.2 w a0 x1 Q) : Met l yJ22_equals (ws_ yJ22_equals cJ22_equals 2 (some .boolean)) (hrm_J22_equals w.2.1 w.2.2) (va_Pc [.ref a0, .ref x1] (gPre (hK E A) (hP E A w.1))) (hQi E A Q) w.2.1 w.2.2 A := by
  refine h_met (own := RJ22) (by decide +kernel) rfl (Nat.le_of_ble_eq_true rfl) ?_
  intro p e s m args below meth c ls cb sb F hr hlk hK S hl
  have hx := F.1
  have hb := F.2.1
  have hl : lv_has ls 2 [(0, .ref a0), (1, .ref x1)] := hl
  unfold hf_J22_equals at h
  refine lv_aload_n hx hb dJ22_equals_0 rfl (lv_at hl 0 rfl) ?_
  refine lv_aload_n hx hb dJ22_equals_1 rfl (lv_at hl 1 rfl) ?_
  obtain ⟨k4, hk4, h⟩ := hj1_inv h
  have hJ10 : ∀ (v2 : Int32) (H : Heap) (locs : List Loc) (ls : Array Slot), k4 v2 → hS E A s.heap cb sb w H locs → lv_has ls 2 [] → W p l e (hrm_J22_equals cb sb) s m args below meth c H locs (cb - w.2.1) (sb - w.2.2) (MQ below (hQi E A Q) args s cb sb A) (F0 m 10 ls [.int v2]) := by
    intro v2 H locs ls h S hl
    replace h := hk4 _ h
    exact h_zret F hr hlk S h dJ22_equals_10
  clear hk4
  refine lv_acmp_ne (tgt := 9) (rx := some a0) (ry := some x1) hx hb dJ22_equals_2 (by decide) (fun c1 => ?_) (fun c1 => ?_)
  · rw [hIf_neg (fun z => c1 (congrArg some z))] at h
    refine lv_iconst (v := 0) hx hb dJ22_equals_9 (by decide) ?_
    exact hJ10 _ _ _ _ h S (lv_sub hl [] rfl)
  · rw [hIf_pos (Option.some.inj c1)] at h
    refine lv_iconst (v := 1) hx hb dJ22_equals_5 (by decide) ?_
    refine lv_goto (tgt := 10) hx hb dJ22_equals_6 (by decide) ?_
    exact hJ10 _ _ _ _ h S (lv_sub hl [] rfl)
def hf_J0_init (pl : Nat → Nat) (w : hW) (a0 : Nat) (Q : hO → Prop) : Prop :=
  Q w.1
abbrev hrm_J0_init (c s : Nat) : Room := { frames := 1, cells := c, slots := s, locals := 20 }
set_option maxHeartbeats 4000000 in
set_option maxRecDepth 100000 in
theorem hmet_J0_init (l : Launch) (E : hEnv) (A : Nat → Prop) (w : hW) (a0 : Nat) (Q : hO → Prop) (h : hf_J0_init E.2.2 w a0 Q) : Met l yJ0_init (ws_ yJ0_init cJ0_init 1 (none)) (hrm_J0_init w.2.1 w.2.2) (va_Pc [.ref a0] (gPre (hK E A) (hP E A w.1))) (hQv E A Q) w.2.1 w.2.2 A := by
  refine h_metI (own := RJ0) (by decide +kernel) rfl (by rfl) (Nat.le_of_ble_eq_true rfl) ?_
  intro p e s m args below meth c ls cb sb F hr hlk hin hK S hl
  have hx := F.1
  have hb := F.2.1
  have hl : lv_has ls 1 [(0, .ref a0)] := hl
  unfold hf_J0_init at h
  refine lv_aload_n hx hb dJ0_init_0 rfl (lv_at hl 0 rfl) ?_
  refine h_obj F q211 hl.1 dJ0_init_1 (Nat.le_of_ble_eq_true rfl) (Nat.le_of_ble_eq_true rfl) ?_
  exact h_vret F hr hlk S h dJ0_init_4
theorem hcl_J0_init_J17_1 {p : Program} {l : Launch} {e : Env} {s : State} {m : MethodId} {args : Array Value} {below : List Frame} {meth : Method} {c : Code} {R : Room} {H : Heap} {locs : List Loc} {cb sb pc nL : Nat} {Q : State → Prop} {ls : Array Slot} {rest : List Value} {cc : ByteArray} {E : hEnv} {A : Nat → Prop} {w : hW} {a0 : Nat} {Q' : hO → Prop} {c1 s1 : Nat} (F : CallFix p m c cc nL s args lw_all RJ17) (hK : hK E A s) (S : hS E A s.heap cb sb w H locs) (h1 : c1 ≤ w.2.1) (h2 : s1 ≤ w.2.2) (h : hf_J0_init E.2.2 (w.1, c1, s1) a0 Q') (hrc : R.cells = cb) (hrs : R.slots = sb) (hls : ls.size = nL) (hWt : (rest.map fun v => v.category).sum ≤ 8) (hR : 1 + 1 ≤ R.frames ∧ 8 + (1 + 11) + 20 ≤ R.locals) (hdg : decode cc pc = .ok (.invokespecial 1, 3))
    (kk : ∀ (o : hO) (w' : hW) (H1 : Heap) (locs1 : List Loc), w' = (o, w.2.1 - c1, w.2.2 - s1) → Q' o → hS E A s.heap cb sb w' H1 locs1 → W p l e R s m args below meth c H1 locs1 (cb - w'.2.1) (sb - w'.2.2) Q (F0 m (pc + 3) ls (rest))) : W p l e R s m args below meth c H locs (cb - w.2.1) (sb - w.2.2) Q (F0 m pc ls (.ref a0 :: rest)) :=
  h_kv (g_runI F hK (hKm E A) S.1 (hmet_J0_init l E A (w.1, c1, s1) a0 Q' h) (cwI 0 F.2.2.2.2 (lw_meth q210) rfl rfl rfl (F.2.2.2.2 _ q113) (F.2.2.2.2 _ q1244) (F.2.2.2.2 _ q209) rfl (by decide +kernel) hR) rfl hls rfl hWt hdg ⟨by rw [hrc]; exact (h_left S h1 h2).1, by rw [hrs]; exact (h_left S h1 h2).2⟩) S h1 h2 kk
theorem hp_J17_7 {p : Program} {l : Launch} {e : Env} {s : State} {m : MethodId} {args : Array Value} {below : List Frame} {meth : Method} {c : Code} {R : Room} {H : Heap} {locs : List Loc} {cb sb pc nL : Nat} {Q : State → Prop} {ls : Array Slot} {rest : List Value} {cc : ByteArray} {E : hEnv} {A : Nat → Prop} {w : hW} {a : Nat} {w' : hW} {v : Int32} (F : CallFix p m c cc nL s args lw_all RJ17) (hK : hK E A s) (S : hS E A s.heap cb sb w H locs) (h : hpV w a 13 0 (.int v) = some w') (hdg : decode cc pc = .ok (.putfield 7, 3)) (kk : ∀ (H1 : Heap) (locs1 : List Loc), hS E A s.heap cb sb w' H1 locs1 → W p l e R s m args below meth c H1 locs1 (cb - w'.2.1) (sb - w'.2.2) Q (F0 m (pc + 3) ls rest)) : W p l e R s m args below meth c H locs (cb - w.2.1) (sb - w.2.2) Q (F0 m pc ls (.int v :: .ref a :: rest)) :=
  h_put F hK S h (ci := 13) (C := RJ18) (T := TJ18) (N := 3) (k := 0) rfl in_J18 tyJ18 tyJ18_ok nmJ18 (by decide) q1249 (fun x h => h) rfl (ty := .int) (by decide +kernel) rfl rfl hdg kk
def hf_J17_init (pl : Nat → Nat) (w : hW) (a0 : Nat) (Q : hO → Prop) : Prop :=
  hcall w fun n1 n2 => hf_J0_init pl (w.1, n1, n2) a0 fun o4 => hret w n1 n2 o4 fun w3 =>
  obd (hpV w3 a0 13 0 (.int 0)) fun w5 =>
  Q w5.1
abbrev hrm_J17_init (c s : Nat) : Room := { frames := 2, cells := c, slots := s, locals := 40 }
set_option maxHeartbeats 4000000 in
set_option maxRecDepth 100000 in
theorem hmet_J17_init (l : Launch) (E : hEnv) (A : Nat → Prop) (w : hW) (a0 : Nat) (Q : hO → Prop) (h : hf_J17_init E.2.2 w a0 Q) : Met l yJ17_init (ws_ yJ17_init cJ17_init 1 (none)) (hrm_J17_init w.2.1 w.2.2) (va_Pc [.ref a0] (gPre (hK E A) (hP E A w.1))) (hQv E A Q) w.2.1 w.2.2 A := by
  refine h_metI (own := RJ17) (by decide +kernel) rfl (by rfl) (Nat.le_of_ble_eq_true rfl) ?_
  intro p e s m args below meth c ls cb sb F hr hlk hin hK S hl
  have hx := F.1
  have hb := F.2.1
  have hl : lv_has ls 1 [(0, .ref a0)] := hl
  unfold hf_J17_init at h
  refine lv_aload_n hx hb dJ17_init_0 rfl (lv_at hl 0 rfl) ?_
  obtain ⟨n1, n2, h1, h2, h⟩ := hcall_inv h
  refine hcl_J0_init_J17_1 F hK S h1 h2 h rfl rfl hl.1 (Nat.le_of_ble_eq_true rfl) ⟨Nat.le_of_ble_eq_true rfl, Nat.le_of_ble_eq_true rfl⟩ dJ17_init_1 (fun o4 w3 H locs hw h S => ?_)
  replace h := hret_mp h hw
  clear hw h1 h2
  refine lv_aload_n hx hb dJ17_init_4 rfl (lv_at hl 0 rfl) ?_
  refine lv_iconst (v := 0) hx hb dJ17_init_5 (by decide) ?_
  obtain ⟨w5, e6, h⟩ := obd_inv h
  refine hp_J17_7 F hK S e6 dJ17_init_6 (fun H locs S => ?_)
  exact h_vret F hr hlk S h dJ17_init_9
def hf_J10_checkIndexN (pl : Nat → Nat) (w : hW) (x1 : Int32) (x2 : Int32) (Q : Int32 → hO → Prop) : Prop :=
  hIf (x1 < 0) (
    False) <|
    hIf (x1 < x2) (
      Q x1 w.1) <|
      False
abbrev hrm_J10_checkIndexN (c s : Nat) : Room := { frames := 0, cells := c, slots := s, locals := 0 }
set_option maxHeartbeats 4000000 in
set_option maxRecDepth 100000 in
theorem hmet_J10_checkIndexN (l : Launch) (E : hEnv) (A : Nat → Prop) (w : hW) (x1 : Int32) (x2 : Int32) (Q : Int32 → hO → Prop) (h : hf_J10_checkIndexN E.2.2 w x1 x2 Q) : Met l yJ10_checkIndex (ws_ yJ10_checkIndex cJ10_checkIndex 3 (some .int)) (hrm_J10_checkIndexN w.2.1 w.2.2) (va_Pc [.int x1, .int x2, .null] (gPre (hK E A) (hP E A w.1))) (hQi E A Q) w.2.1 w.2.2 A := by
  refine h_met (own := RJ10) (by decide +kernel) rfl (Nat.le_of_ble_eq_true rfl) ?_
  intro p e s m args below meth c ls cb sb F hr hlk hK S hl
  have hx := F.1
  have hb := F.2.1
  have hl : lv_has ls 3 [(0, .int x1), (1, .int x2), (2, .null)] := hl
  unfold hf_J10_checkIndexN at h
  refine lv_iload_n hx hb dJ10_checkIndex_0 rfl (lv_at hl 0 rfl) ?_
  refine lv_if_lt (tgt := 9) hx hb dJ10_checkIndex_1 (by decide) (fun c1 => ?_) (fun c1 => ?_)
  · rw [hIf_pos c1] at h
    exact False.elim h
  · rw [hIf_neg c1] at h
    refine lv_iload_n hx hb dJ10_checkIndex_4 rfl (lv_at hl 0 rfl) ?_
    refine lv_iload_n hx hb dJ10_checkIndex_5 rfl (lv_at hl 1 rfl) ?_
    refine lv_icmp_lt (tgt := 16) hx hb dJ10_checkIndex_6 (by decide) (fun c2 => ?_) (fun c2 => ?_)
    · rw [hIf_pos c2] at h
      refine lv_iload_n hx hb dJ10_checkIndex_16 rfl (lv_at hl 0 rfl) ?_
      exact h_iret F hr hlk S h dJ10_checkIndex_17
    · rw [hIf_neg c2] at h
      exact False.elim h
def hf_J10_checkIndexR (pl : Nat → Nat) (w : hW) (x1 : Int32) (x2 : Int32) (x3 : Option Nat) (Q : Int32 → hO → Prop) : Prop :=
  hIf (x1 < 0) (
    False) <|
    hIf (x1 < x2) (
      Q x1 w.1) <|
      False
abbrev hrm_J10_checkIndexR (c s : Nat) : Room := { frames := 0, cells := c, slots := s, locals := 0 }
set_option maxHeartbeats 4000000 in
set_option maxRecDepth 100000 in
theorem hmet_J10_checkIndexR (l : Launch) (E : hEnv) (A : Nat → Prop) (w : hW) (x1 : Int32) (x2 : Int32) (x3 : Option Nat) (Q : Int32 → hO → Prop) (h : hf_J10_checkIndexR E.2.2 w x1 x2 x3 Q) : Met l yJ10_checkIndex (ws_ yJ10_checkIndex cJ10_checkIndex 3 (some .int)) (hrm_J10_checkIndexR w.2.1 w.2.2) (va_Pc [.int x1, .int x2, va_rf x3] (gPre (hK E A) (hP E A w.1))) (hQi E A Q) w.2.1 w.2.2 A := by
  refine h_met (own := RJ10) (by decide +kernel) rfl (by cases x3 <;> exact Nat.le_of_ble_eq_true rfl) ?_
  intro p e s m args below meth c ls cb sb F hr hlk hK S hl
  have hx := F.1
  have hb := F.2.1
  have hl : lv_has ls 3 [(0, .int x1), (1, .int x2), (2, va_rf x3)] := hl
  unfold hf_J10_checkIndexR at h
  refine lv_iload_n hx hb dJ10_checkIndex_0 rfl (lv_at hl 0 rfl) ?_
  refine lv_if_lt (tgt := 9) hx hb dJ10_checkIndex_1 (by decide) (fun c1 => ?_) (fun c1 => ?_)
  · rw [hIf_pos c1] at h
    exact False.elim h
  · rw [hIf_neg c1] at h
    refine lv_iload_n hx hb dJ10_checkIndex_4 rfl (lv_at hl 0 rfl) ?_
    refine lv_iload_n hx hb dJ10_checkIndex_5 rfl (lv_at hl 1 rfl) ?_
    refine lv_icmp_lt (tgt := 16) hx hb dJ10_checkIndex_6 (by decide) (fun c2 => ?_) (fun c2 => ?_)
    · rw [hIf_pos c2] at h
      refine lv_iload_n hx hb dJ10_checkIndex_16 rfl (lv_at hl 0 rfl) ?_
      exact h_iret F hr hlk S h dJ10_checkIndex_17
    · rw [hIf_neg c2] at h
      exact False.elim h
theorem hcl_J10_checkIndexN_J21_105 {p : Program} {l : Launch} {e : Env} {s : State} {m : MethodId} {args : Array Value} {below : List Frame} {meth : Method} {c : Code} {R : Room} {H : Heap} {locs : List Loc} {cb sb pc nL : Nat} {Q : State → Prop} {ls : Array Slot} {rest : List Value} {cc : ByteArray} {E : hEnv} {A : Nat → Prop} {w : hW} {x1 : Int32} {x2 : Int32} {Q' : Int32 → hO → Prop} {c1 s1 : Nat} (F : CallFix p m c cc nL s args lw_all RJ21) (hK : hK E A s) (S : hS E A s.heap cb sb w H locs) (h1 : c1 ≤ w.2.1) (h2 : s1 ≤ w.2.2) (h : hf_J10_checkIndexN E.2.2 (w.1, c1, s1) x1 x2 Q') (hrc : R.cells = cb) (hrs : R.slots = sb) (hls : ls.size = nL) (hWt : (rest.map fun v => v.category).sum ≤ 8) (hR : 0 + 1 ≤ R.frames ∧ 8 + (3 + 11) + 0 ≤ R.locals) (hdg : decode cc pc = .ok (.invokestatic 105, 3))
    (kk : ∀ (v : Int32) (o : hO) (w' : hW) (H1 : Heap) (locs1 : List Loc), w' = (o, w.2.1 - c1, w.2.2 - s1) → Q' v o → hS E A s.heap cb sb w' H1 locs1 → W p l e R s m args below meth c H1 locs1 (cb - w'.2.1) (sb - w'.2.2) Q (F0 m (pc + 3) ls (.int v :: rest))) : W p l e R s m args below meth c H locs (cb - w.2.1) (sb - w.2.2) Q (F0 m pc ls (.null :: .int x2 :: .int x1 :: rest)) :=
  h_ki (g_runS F hK (hKm E A) S.1 (hmet_J10_checkIndexN l E A (w.1, c1, s1) x1 x2 Q' h) (va_cwS 3 F.2.2.2.2 (lw_S q1669 q668 q132 q669) rfl rfl rfl (by decide +kernel) hR) rfl hls rfl hWt hdg ⟨by rw [hrc]; exact (h_left S h1 h2).1, by rw [hrs]; exact (h_left S h1 h2).2⟩) S h1 h2 kk
def hf_J21_checkIndex (pl : Nat → Nat) (w : hW) (x1 : Int32) (x2 : Int32) (Q : Int32 → hO → Prop) : Prop :=
  hcall w fun n1 n2 => hf_J10_checkIndexN pl (w.1, n1, n2) x1 x2 fun v5 o4 => hret w n1 n2 o4 fun w3 =>
  Q v5 w3.1
abbrev hrm_J21_checkIndex (c s : Nat) : Room := { frames := 1, cells := c, slots := s, locals := 22 }
set_option maxHeartbeats 4000000 in
set_option maxRecDepth 100000 in
theorem hmet_J21_checkIndex (l : Launch) (E : hEnv) (A : Nat → Prop) (w : hW) (x1 : Int32) (x2 : Int32) (Q : Int32 → hO → Prop) (h : hf_J21_checkIndex E.2.2 w x1 x2 Q) : Met l yJ21_checkIndex (ws_ yJ21_checkIndex cJ21_checkIndex 2 (some .int)) (hrm_J21_checkIndex w.2.1 w.2.2) (va_Pc [.int x1, .int x2] (gPre (hK E A) (hP E A w.1))) (hQi E A Q) w.2.1 w.2.2 A := by
  refine h_met (own := RJ21) (by decide +kernel) rfl (Nat.le_of_ble_eq_true rfl) ?_
  intro p e s m args below meth c ls cb sb F hr hlk hK S hl
  have hx := F.1
  have hb := F.2.1
  have hl : lv_has ls 2 [(0, .int x1), (1, .int x2)] := hl
  unfold hf_J21_checkIndex at h
  refine lv_iload_n hx hb dJ21_checkIndex_0 rfl (lv_at hl 0 rfl) ?_
  refine lv_iload_n hx hb dJ21_checkIndex_1 rfl (lv_at hl 1 rfl) ?_
  refine lv_null hx hb dJ21_checkIndex_2 ?_
  obtain ⟨n1, n2, h1, h2, h⟩ := hcall_inv h
  refine hcl_J10_checkIndexN_J21_105 F hK S h1 h2 h rfl rfl hl.1 (Nat.le_of_ble_eq_true rfl) ⟨Nat.le_of_ble_eq_true rfl, Nat.le_of_ble_eq_true rfl⟩ dJ21_checkIndex_3 (fun v5 o4 w3 H locs hw h S => ?_)
  replace h := hret_mp h hw
  clear hw h1 h2
  exact h_iret F hr hlk S h dJ21_checkIndex_6
def hf_J6_newLength (pl : Nat → Nat) (w : hW) (x1 : Int32) (x2 : Int32) (x3 : Int32) (Q : Int32 → hO → Prop) : Prop :=
  hIf ((x1 + (if x2 < x3 then x3 else x2)) ≤ 0) (
    False) <|
    hIf (2147483639 < (x1 + (if x2 < x3 then x3 else x2))) (
      False) <|
      Q (x1 + (if x2 < x3 then x3 else x2)) w.1
abbrev hrm_J6_newLength (c s : Nat) : Room := { frames := 1, cells := c, slots := s, locals := 21 }
set_option maxHeartbeats 4000000 in
set_option maxRecDepth 100000 in
theorem hmet_J6_newLength (l : Launch) (E : hEnv) (A : Nat → Prop) (w : hW) (x1 : Int32) (x2 : Int32) (x3 : Int32) (Q : Int32 → hO → Prop) (h : hf_J6_newLength E.2.2 w x1 x2 x3 Q) : Met l yJ6_newLength (ws_ yJ6_newLength cJ6_newLength 4 (some .int)) (hrm_J6_newLength w.2.1 w.2.2) (va_Pc [.int x1, .int x2, .int x3] (gPre (hK E A) (hP E A w.1))) (hQi E A Q) w.2.1 w.2.2 A := by
  refine h_met (own := RJ6) (by decide +kernel) rfl (Nat.le_of_ble_eq_true rfl) ?_
  intro p e s m args below meth c ls cb sb F hr hlk hK S hl
  have hx := F.1
  have hb := F.2.1
  have hl : lv_has ls 4 [(0, .int x1), (1, .int x2), (2, .int x3)] := hl
  unfold hf_J6_newLength at h
  refine lv_iload_n hx hb dJ6_newLength_0 rfl (lv_at hl 0 rfl) ?_
  refine lv_iload_n hx hb dJ6_newLength_1 rfl (lv_at hl 1 rfl) ?_
  refine lv_iload_n hx hb dJ6_newLength_2 rfl (lv_at hl 2 rfl) ?_
  refine va_mmax hx hb (F.2.2.1.trans hl.1.symm) F.2.2.2.1 (F.2.2.2.2 _ q593) (F.2.2.2.2 _ q594) (F.2.2.2.2 _ q128) (F.2.2.2.2 _ q595) (Nat.le_of_ble_eq_true rfl) (Nat.le_of_ble_eq_true rfl) (Nat.sub_le _ _) (Nat.sub_le _ _) dJ6_newLength_3 ?_
  refine lv_iadd hx hb dJ6_newLength_6 ?_
  refine lv_istore_n (lv' := [(3, .int (x1 + (if x2 < x3 then x3 else x2))), (0, .int x1), (1, .int x2), (2, .int x3)]) hx hb dJ6_newLength_7 rfl hl (by decide) rfl (fun ls hl => ?_)
  refine lv_iconst (v := 0) hx hb dJ6_newLength_8 (by decide) ?_
  refine lv_iload_n hx hb dJ6_newLength_9 rfl (lv_at hl 0 rfl) ?_
  refine lv_icmp_ge (tgt := 21) hx hb dJ6_newLength_10 (by decide) (fun c1 => ?_) (fun c1 => ?_)
  · rw [hIf_pos c1] at h
    refine lv_iload_n hx hb dJ6_newLength_21 rfl (lv_at hl 1 rfl) ?_
    refine lv_iload_n hx hb dJ6_newLength_22 rfl (lv_at hl 2 rfl) ?_
    exact False.elim h
  · rw [hIf_neg c1] at h
    refine lv_iload_n hx hb dJ6_newLength_13 rfl (lv_at hl 0 rfl) ?_
    refine lv_ldc (v := 2147483639) hx hb F.2.2.2.1 (F.2.2.2.2 _ q596) dJ6_newLength_14 ?_
    refine lv_icmp_gt (tgt := 21) hx hb dJ6_newLength_16 (by decide) (fun c2 => ?_) (fun c2 => ?_)
    · rw [hIf_pos c2] at h
      refine lv_iload_n hx hb dJ6_newLength_21 rfl (lv_at hl 1 rfl) ?_
      refine lv_iload_n hx hb dJ6_newLength_22 rfl (lv_at hl 2 rfl) ?_
      exact False.elim h
    · rw [hIf_neg c2] at h
      refine lv_iload_n hx hb dJ6_newLength_19 rfl (lv_at hl 0 rfl) ?_
      exact h_iret F hr hlk S h dJ6_newLength_20
def hf_J8_copyOf_3 (pl : Nat → Nat) (w : hW) (x1 : Nat) (x2 : Int32) (x3 : Nat) (Q : Nat → hO → Prop) : Prop :=
  hjoin (fun (v4 : Nat) (g5 : hW) =>
    obd (hLen g5 x1) fun v6 =>
    ∃ ce9 : Nat, obd (hCpR ce9 g5 x1 0 v4 0 (if x2 < v6 then x2 else v6)) fun w8 =>
    Q v4 w8.1) fun k12 =>
  hIf (x3 = (pl 3)) (
    hNewR 4 w x2 fun q2 w3 =>
    k12 q2 w3) <|
    False
abbrev hrm_J8_copyOf_3 (c s : Nat) : Room := { frames := 1, cells := c, slots := s, locals := 39 }
set_option maxHeartbeats 4000000 in
set_option maxRecDepth 100000 in
theorem hmet_J8_copyOf_3 (l : Launch) (E : hEnv) (A : Nat → Prop) (w : hW) (x1 : Nat) (x2 : Int32) (x3 : Nat) (Q : Nat → hO → Prop) (h : hf_J8_copyOf_3 E.2.2 w x1 x2 x3 Q) : Met l yJ8_copyOf_3 (ws_ yJ8_copyOf_3 cJ8_copyOf_3 4 (some (.array (.object "java/lang/Object")))) (hrm_J8_copyOf_3 w.2.1 w.2.2) (va_Pc [.ref x1, .int x2, .ref x3] (gPre (hK E A) (hP E A w.1))) (hQp E A Q) w.2.1 w.2.2 A := by
  refine h_met (own := RJ8) (by decide +kernel) rfl (Nat.le_of_ble_eq_true rfl) ?_
  intro p e s m args below meth c ls cb sb F hr hlk hK S hl
  have hx := F.1
  have hb := F.2.1
  have hl : lv_has ls 4 [(0, .ref x1), (1, .int x2), (2, .ref x3)] := hl
  unfold hf_J8_copyOf_3 at h
  refine lv_aload_n hx hb dJ8_copyOf_3_0 rfl (lv_at hl 2 rfl) ?_
  refine va_ldcM F.1 F.2.1 F.2.2.2.1 (F.2.2.2.2 _ q1229) hK.2.2.1.2.2.2.2.2.1 dJ8_copyOf_3_1 ?_
  obtain ⟨k12, hk12, h⟩ := hj2_inv h
  have hJ24 : ∀ (v4 : Nat) (g5 : hW) (H : Heap) (locs : List Loc) (ls : Array Slot), k12 v4 g5 → hS E A s.heap cb sb g5 H locs → lv_has ls 4 [(0, .ref x1), (1, .int x2)] → W p l e (hrm_J8_copyOf_3 cb sb) s m args below meth c H locs (cb - g5.2.1) (sb - g5.2.2) (MQ below (hQp E A Q) args s cb sb A) (F0 m 24 ls [.ref v4]) := by
    intro v4 g5 H locs ls h S hl
    replace h := hk12 _ _ h
    refine lv_astore_n (lv' := [(3, .ref v4), (0, .ref x1), (1, .int x2)]) hx hb dJ8_copyOf_3_24 rfl hl (by decide) rfl (fun ls hl => ?_)
    refine lv_aload_n hx hb dJ8_copyOf_3_25 rfl (lv_at hl 1 rfl) ?_
    refine lv_iconst (v := 0) hx hb dJ8_copyOf_3_26 (by decide) ?_
    refine lv_aload_n hx hb dJ8_copyOf_3_27 rfl (lv_at hl 0 rfl) ?_
    refine lv_iconst (v := 0) hx hb dJ8_copyOf_3_28 (by decide) ?_
    refine lv_aload_n hx hb dJ8_copyOf_3_29 rfl (lv_at hl 1 rfl) ?_
    obtain ⟨v6, e7, h⟩ := obd_inv h
    refine h_alen F hK S e7 dJ8_copyOf_3_30 ?_
    refine lv_iload_n hx hb dJ8_copyOf_3_31 rfl (lv_at hl 2 rfl) ?_
    refine va_mmin hx hb (F.2.2.1.trans hl.1.symm) F.2.2.2.1 (F.2.2.2.2 _ q611) (F.2.2.2.2 _ q612) (F.2.2.2.2 _ q128) (F.2.2.2.2 _ q613) (Nat.le_of_ble_eq_true rfl) (Nat.le_of_ble_eq_true rfl) (Nat.sub_le _ _) (Nat.sub_le _ _) dJ8_copyOf_3_32 ?_
    obtain ⟨ce9, h⟩ := h
    obtain ⟨w8, e10, h⟩ := obd_inv h
    refine h_copyR F hK S e10 hl.1 q614 q616 q615 q130 (Nat.le_of_ble_eq_true rfl) (Nat.le_of_ble_eq_true rfl) dJ8_copyOf_3_35 (fun H locs S => ?_)
    refine lv_aload_n hx hb dJ8_copyOf_3_38 rfl (lv_at hl 0 rfl) ?_
    exact h_aret F hr (Or.inr ⟨_, rfl⟩) hlk S h dJ8_copyOf_3_39
  clear hk12
  refine lv_acmp_ne (tgt := 13) (rx := some x3) (ry := some (E.2.2 3)) hx hb dJ8_copyOf_3_3 (by decide) (fun c1 => ?_) (fun c1 => ?_)
  · rw [hIf_neg (fun z => c1 (congrArg some z))] at h
    refine lv_aload_n hx hb dJ8_copyOf_3_13 rfl (lv_at hl 2 rfl) ?_
    exact False.elim h
  · rw [hIf_pos (Option.some.inj c1)] at h
    refine lv_iload_n hx hb dJ8_copyOf_3_6 rfl (lv_at hl 1 rfl) ?_
    refine h_newR 4 rfl rfl F hK S rfl rfl h q1230 hK.2.1.2.2.2.2.2.1 dJ8_copyOf_3_7 (fun q2 w3 H h S => ?_)
    refine lv_goto (tgt := 24) hx hb dJ8_copyOf_3_10 (by decide) ?_
    exact hJ24 _ _ _ _ _ h S (lv_sub hl [0, 1] rfl)
theorem hcl_J8_copyOf_3_J8_300 {p : Program} {l : Launch} {e : Env} {s : State} {m : MethodId} {args : Array Value} {below : List Frame} {meth : Method} {c : Code} {R : Room} {H : Heap} {locs : List Loc} {cb sb pc nL : Nat} {Q : State → Prop} {ls : Array Slot} {rest : List Value} {cc : ByteArray} {E : hEnv} {A : Nat → Prop} {w : hW} {x1 : Nat} {x2 : Int32} {x3 : Nat} {Q' : Nat → hO → Prop} {c1 s1 : Nat} (F : CallFix p m c cc nL s args lw_all RJ8) (hK : hK E A s) (S : hS E A s.heap cb sb w H locs) (h1 : c1 ≤ w.2.1) (h2 : s1 ≤ w.2.2) (h : hf_J8_copyOf_3 E.2.2 (w.1, c1, s1) x1 x2 x3 Q') (hrc : R.cells = cb) (hrs : R.slots = sb) (hls : ls.size = nL) (hWt : (rest.map fun v => v.category).sum ≤ 8) (hR : 1 + 1 ≤ R.frames ∧ 8 + (4 + 11) + 39 ≤ R.locals) (hdg : decode cc pc = .ok (.invokestatic 300, 3))
    (kk : ∀ (v : Nat) (o : hO) (w' : hW) (H1 : Heap) (locs1 : List Loc), w' = (o, w.2.1 - c1, w.2.2 - s1) → Q' v o → hS E A s.heap cb sb w' H1 locs1 → W p l e R s m args below meth c H1 locs1 (cb - w'.2.1) (sb - w'.2.2) Q (F0 m (pc + 3) ls (.ref v :: rest))) : W p l e R s m args below meth c H locs (cb - w.2.1) (sb - w.2.2) Q (F0 m pc ls (.ref x3 :: .int x2 :: .ref x1 :: rest)) :=
  h_kp (g_runS F hK (hKm E A) S.1 (hmet_J8_copyOf_3 l E A (w.1, c1, s1) x1 x2 x3 Q' h) (va_cwS 3 F.2.2.2.2 (lw_S q1226 q1227 q129 q1228) rfl rfl rfl (by decide +kernel) hR) rfl hls rfl hWt hdg ⟨by rw [hrc]; exact (h_left S h1 h2).1, by rw [hrs]; exact (h_left S h1 h2).2⟩) S h1 h2 kk
def hf_J8_copyOf_2 (pl : Nat → Nat) (w : hW) (x1 : Nat) (x2 : Int32) (Q : Nat → hO → Prop) : Prop :=
  obd (hIsA w x1) fun u1 =>
  hcall w fun n3 n4 => hf_J8_copyOf_3 pl (w.1, n3, n4) x1 x2 (pl 3) fun v7 o6 => hret w n3 n4 o6 fun w5 =>
  Q v7 w5.1
abbrev hrm_J8_copyOf_2 (c s : Nat) : Room := { frames := 2, cells := c, slots := s, locals := 62 }
set_option maxHeartbeats 4000000 in
set_option maxRecDepth 100000 in
theorem hmet_J8_copyOf_2 (l : Launch) (E : hEnv) (A : Nat → Prop) (w : hW) (x1 : Nat) (x2 : Int32) (Q : Nat → hO → Prop) (h : hf_J8_copyOf_2 E.2.2 w x1 x2 Q) : Met l yJ8_copyOf_2 (ws_ yJ8_copyOf_2 cJ8_copyOf_2 2 (some (.array (.object "java/lang/Object")))) (hrm_J8_copyOf_2 w.2.1 w.2.2) (va_Pc [.ref x1, .int x2] (gPre (hK E A) (hP E A w.1))) (hQp E A Q) w.2.1 w.2.2 A := by
  refine h_met (own := RJ8) (by decide +kernel) rfl (Nat.le_of_ble_eq_true rfl) ?_
  intro p e s m args below meth c ls cb sb F hr hlk hK S hl
  have hx := F.1
  have hb := F.2.1
  have hl : lv_has ls 2 [(0, .ref x1), (1, .int x2)] := hl
  unfold hf_J8_copyOf_2 at h
  refine lv_aload_n hx hb dJ8_copyOf_2_0 rfl (lv_at hl 0 rfl) ?_
  refine lv_iload_n hx hb dJ8_copyOf_2_1 rfl (lv_at hl 1 rfl) ?_
  refine lv_aload_n hx hb dJ8_copyOf_2_2 rfl (lv_at hl 0 rfl) ?_
  obtain ⟨u1, e2, h⟩ := obd_inv h
  refine va_getC F.1 F.2.1 (F.2.2.1.trans hl.1.symm) F.2.2.2.1 (F.2.2.2.2 _ q1201) (va_Dc.use hK.2.2.1.2.2.2.2.2.2.1) (F.2.2.2.2 _ q2403) (F.2.2.2.2 _ q1202) (F.2.2.2.2 _ q1225) hK.2.2.1.2.2.2.2.2.1 (hIsA_recv hK S e2) (Nat.le_of_ble_eq_true rfl) (Nat.le_of_ble_eq_true rfl) dJ8_copyOf_2_3 ?_
  obtain ⟨n3, n4, h1, h2, h⟩ := hcall_inv h
  refine hcl_J8_copyOf_3_J8_300 F hK S h1 h2 h rfl rfl hl.1 (Nat.le_of_ble_eq_true rfl) ⟨Nat.le_of_ble_eq_true rfl, Nat.le_of_ble_eq_true rfl⟩ dJ8_copyOf_2_6 (fun v7 o6 w5 H locs hw h S => ?_)
  replace h := hret_mp h hw
  clear hw h1 h2
  exact h_aret F hr (Or.inr ⟨_, rfl⟩) hlk S h dJ8_copyOf_2_9
theorem hcl_J17_init_J18_1 {p : Program} {l : Launch} {e : Env} {s : State} {m : MethodId} {args : Array Value} {below : List Frame} {meth : Method} {c : Code} {R : Room} {H : Heap} {locs : List Loc} {cb sb pc nL : Nat} {Q : State → Prop} {ls : Array Slot} {rest : List Value} {cc : ByteArray} {E : hEnv} {A : Nat → Prop} {w : hW} {a0 : Nat} {Q' : hO → Prop} {c1 s1 : Nat} (F : CallFix p m c cc nL s args lw_all RJ18) (hK : hK E A s) (S : hS E A s.heap cb sb w H locs) (h1 : c1 ≤ w.2.1) (h2 : s1 ≤ w.2.2) (h : hf_J17_init E.2.2 (w.1, c1, s1) a0 Q') (hrc : R.cells = cb) (hrs : R.slots = sb) (hls : ls.size = nL) (hWt : (rest.map fun v => v.category).sum ≤ 8) (hR : 2 + 1 ≤ R.frames ∧ 8 + (1 + 11) + 40 ≤ R.locals) (hdg : decode cc pc = .ok (.invokespecial 1, 3))
    (kk : ∀ (o : hO) (w' : hW) (H1 : Heap) (locs1 : List Loc), w' = (o, w.2.1 - c1, w.2.2 - s1) → Q' o → hS E A s.heap cb sb w' H1 locs1 → W p l e R s m args below meth c H1 locs1 (cb - w'.2.1) (sb - w'.2.2) Q (F0 m (pc + 3) ls (rest))) : W p l e R s m args below meth c H locs (cb - w.2.1) (sb - w.2.2) Q (F0 m pc ls (.ref a0 :: rest)) :=
  h_kv (g_runI F hK (hKm E A) S.1 (hmet_J17_init l E A (w.1, c1, s1) a0 Q' h) (cwI 0 F.2.2.2.2 (lw_meth q1243) rfl rfl rfl (F.2.2.2.2 _ q143) (F.2.2.2.2 _ q1241) (F.2.2.2.2 _ q1242) rfl (by decide +kernel) hR) rfl hls rfl hWt hdg ⟨by rw [hrc]; exact (h_left S h1 h2).1, by rw [hrs]; exact (h_left S h1 h2).2⟩) S h1 h2 kk
theorem hp_J18_9 {p : Program} {l : Launch} {e : Env} {s : State} {m : MethodId} {args : Array Value} {below : List Frame} {meth : Method} {c : Code} {R : Room} {H : Heap} {locs : List Loc} {cb sb pc nL : Nat} {Q : State → Prop} {ls : Array Slot} {rest : List Value} {cc : ByteArray} {E : hEnv} {A : Nat → Prop} {w : hW} {a : Nat} {w' : hW} {v : Nat} (F : CallFix p m c cc nL s args lw_all RJ18) (hK : hK E A s) (S : hS E A s.heap cb sb w H locs) (h : hpV w a 13 1 (.ref v) = some w') (hdg : decode cc pc = .ok (.putfield 9, 3)) (kk : ∀ (H1 : Heap) (locs1 : List Loc), hS E A s.heap cb sb w' H1 locs1 → W p l e R s m args below meth c H1 locs1 (cb - w'.2.1) (sb - w'.2.2) Q (F0 m (pc + 3) ls rest)) : W p l e R s m args below meth c H locs (cb - w.2.1) (sb - w.2.2) Q (F0 m pc ls (.ref v :: .ref a :: rest)) :=
  h_put F hK S h (ci := 13) (C := RJ18) (T := TJ18) (N := 3) (k := 1) rfl in_J18 tyJ18 tyJ18_ok nmJ18 (by decide) q1247 (fun x h => h) rfl (ty := (.array (.object "java/lang/Object"))) (by decide +kernel) rfl rfl hdg kk
def hf_J18_init (pl : Nat → Nat) (w : hW) (a0 : Nat) (Q : hO → Prop) : Prop :=
  hcall w fun n1 n2 => hf_J17_init pl (w.1, n1, n2) a0 fun o4 => hret w n1 n2 o4 fun w3 =>
  obd (hpV w3 a0 13 1 (.ref (pl 2))) fun w5 =>
  Q w5.1
abbrev hrm_J18_init (c s : Nat) : Room := { frames := 3, cells := c, slots := s, locals := 60 }
set_option maxHeartbeats 4000000 in
set_option maxRecDepth 100000 in
theorem hmet_J18_init (l : Launch) (E : hEnv) (A : Nat → Prop) (w : hW) (a0 : Nat) (Q : hO → Prop) (h : hf_J18_init E.2.2 w a0 Q) : Met l yJ18_init (ws_ yJ18_init cJ18_init 1 (none)) (hrm_J18_init w.2.1 w.2.2) (va_Pc [.ref a0] (gPre (hK E A) (hP E A w.1))) (hQv E A Q) w.2.1 w.2.2 A := by
  refine h_metI (own := RJ18) (by decide +kernel) rfl (by rfl) (Nat.le_of_ble_eq_true rfl) ?_
  intro p e s m args below meth c ls cb sb F hr hlk hin hK S hl
  have hx := F.1
  have hb := F.2.1
  have hl : lv_has ls 1 [(0, .ref a0)] := hl
  unfold hf_J18_init at h
  refine lv_aload_n hx hb dJ18_init_0 rfl (lv_at hl 0 rfl) ?_
  obtain ⟨n1, n2, h1, h2, h⟩ := hcall_inv h
  refine hcl_J17_init_J18_1 F hK S h1 h2 h rfl rfl hl.1 (Nat.le_of_ble_eq_true rfl) ⟨Nat.le_of_ble_eq_true rfl, Nat.le_of_ble_eq_true rfl⟩ dJ18_init_1 (fun o4 w3 H locs hw h S => ?_)
  replace h := hret_mp h hw
  clear hw h1 h2
  refine lv_aload_n hx hb dJ18_init_4 rfl (lv_at hl 0 rfl) ?_
  refine va_gets F.1 F.2.1 hK.2.2.1.1.2.2.1 S.1.2 F.2.2.2.1 (F.2.2.2.2 _ q1245) (fun x h => h) dJ18_init_5 ?_
  obtain ⟨w5, e6, h⟩ := obd_inv h
  refine hp_J18_9 F hK S e6 dJ18_init_8 (fun H locs S => ?_)
  exact h_vret F hr hlk S h dJ18_init_11
theorem hg_J18_48 {p : Program} {l : Launch} {e : Env} {s : State} {m : MethodId} {args : Array Value} {below : List Frame} {meth : Method} {c : Code} {R : Room} {H : Heap} {locs : List Loc} {cb sb pc nL : Nat} {Q : State → Prop} {ls : Array Slot} {rest : List Value} {cc : ByteArray} {E : hEnv} {A : Nat → Prop} {w : hW} {a : Nat} {v : Int32} (F : CallFix p m c cc nL s args lw_all RJ18) (hK : hK E A s) (S : hS E A s.heap cb sb w H locs) (h : hgI w a 13 2 = some v) (hdg : decode cc pc = .ok (.getfield 48, 3)) (kk : W p l e R s m args below meth c H locs (cb - w.2.1) (sb - w.2.2) Q (F0 m (pc + 3) ls (.int v :: rest))) : W p l e R s m args below meth c H locs (cb - w.2.1) (sb - w.2.2) Q (F0 m pc ls (.ref a :: rest)) := by
  obtain ⟨b, fs, ho, hv⟩ := hgI_inv h
  exact h_get F hK S ho (ci := 13) (C := RJ18) (T := TJ18) (N := 3) (k := 2) rfl in_J18 (by decide) q1248 (fun x h => h) hv hdg kk
def hf_J18_size (pl : Nat → Nat) (w : hW) (a0 : Nat) (Q : Int32 → hO → Prop) : Prop :=
  obd (hgI w a0 13 2) fun v1 =>
  Q v1 w.1
abbrev hrm_J18_size (c s : Nat) : Room := { frames := 0, cells := c, slots := s, locals := 0 }
set_option maxHeartbeats 4000000 in
set_option maxRecDepth 100000 in
theorem hmet_J18_size (l : Launch) (E : hEnv) (A : Nat → Prop) (w : hW) (a0 : Nat) (Q : Int32 → hO → Prop) (h : hf_J18_size E.2.2 w a0 Q) : Met l yJ18_size (ws_ yJ18_size cJ18_size 1 (some .int)) (hrm_J18_size w.2.1 w.2.2) (va_Pc [.ref a0] (gPre (hK E A) (hP E A w.1))) (hQi E A Q) w.2.1 w.2.2 A := by
  refine h_met (own := RJ18) (by decide +kernel) rfl (Nat.le_of_ble_eq_true rfl) ?_
  intro p e s m args below meth c ls cb sb F hr hlk hK S hl
  have hx := F.1
  have hb := F.2.1
  have hl : lv_has ls 1 [(0, .ref a0)] := hl
  unfold hf_J18_size at h
  refine lv_aload_n hx hb dJ18_size_0 rfl (lv_at hl 0 rfl) ?_
  obtain ⟨v1, e2, h⟩ := obd_inv h
  refine hg_J18_48 F hK S e2 dJ18_size_1 ?_
  exact h_iret F hr hlk S h dJ18_size_4
theorem hg_J18_9 {p : Program} {l : Launch} {e : Env} {s : State} {m : MethodId} {args : Array Value} {below : List Frame} {meth : Method} {c : Code} {R : Room} {H : Heap} {locs : List Loc} {cb sb pc nL : Nat} {Q : State → Prop} {ls : Array Slot} {rest : List Value} {cc : ByteArray} {E : hEnv} {A : Nat → Prop} {w : hW} {a : Nat} {v : Nat} (F : CallFix p m c cc nL s args lw_all RJ18) (hK : hK E A s) (S : hS E A s.heap cb sb w H locs) (h : hgP w a 13 1 = some v) (hdg : decode cc pc = .ok (.getfield 9, 3)) (kk : W p l e R s m args below meth c H locs (cb - w.2.1) (sb - w.2.2) Q (F0 m (pc + 3) ls (.ref v :: rest))) : W p l e R s m args below meth c H locs (cb - w.2.1) (sb - w.2.2) Q (F0 m pc ls (.ref a :: rest)) := by
  obtain ⟨b, fs, ho, hv⟩ := hgP_inv h
  exact h_get F hK S ho (ci := 13) (C := RJ18) (T := TJ18) (N := 3) (k := 1) rfl in_J18 (by decide) q1247 (fun x h => h) hv hdg kk
def hf_J18_elementData (pl : Nat → Nat) (w : hW) (a0 : Nat) (x1 : Int32) (Q : Nat → hO → Prop) : Prop :=
  obd (hgP w a0 13 1) fun v1 =>
  obd (haP w v1 x1) fun v3 =>
  Q v3 w.1
abbrev hrm_J18_elementData (c s : Nat) : Room := { frames := 0, cells := c, slots := s, locals := 0 }
set_option maxHeartbeats 4000000 in
set_option maxRecDepth 100000 in
theorem hmet_J18_elementData (l : Launch) (E : hEnv) (A : Nat → Prop) (w : hW) (a0 : Nat) (x1 : Int32) (Q : Nat → hO → Prop) (h : hf_J18_elementData E.2.2 w a0 x1 Q) : Met l yJ18_elementData (ws_ yJ18_elementData cJ18_elementData 2 (some (.object "java/lang/Object"))) (hrm_J18_elementData w.2.1 w.2.2) (va_Pc [.ref a0, .int x1] (gPre (hK E A) (hP E A w.1))) (hQp E A Q) w.2.1 w.2.2 A := by
  refine h_met (own := RJ18) (by decide +kernel) rfl (Nat.le_of_ble_eq_true rfl) ?_
  intro p e s m args below meth c ls cb sb F hr hlk hK S hl
  have hx := F.1
  have hb := F.2.1
  have hl : lv_has ls 2 [(0, .ref a0), (1, .int x1)] := hl
  unfold hf_J18_elementData at h
  refine lv_aload_n hx hb dJ18_elementData_0 rfl (lv_at hl 0 rfl) ?_
  obtain ⟨v1, e2, h⟩ := obd_inv h
  refine hg_J18_9 F hK S e2 dJ18_elementData_1 ?_
  refine lv_iload_n hx hb dJ18_elementData_4 rfl (lv_at hl 1 rfl) ?_
  obtain ⟨v3, e4, h⟩ := obd_inv h
  refine h_aald F hK S e4 dJ18_elementData_5 ?_
  exact h_aret F hr (Or.inl ⟨_, rfl⟩) hlk S h dJ18_elementData_6
theorem hcl_J21_checkIndex_J18_118 {p : Program} {l : Launch} {e : Env} {s : State} {m : MethodId} {args : Array Value} {below : List Frame} {meth : Method} {c : Code} {R : Room} {H : Heap} {locs : List Loc} {cb sb pc nL : Nat} {Q : State → Prop} {ls : Array Slot} {rest : List Value} {cc : ByteArray} {E : hEnv} {A : Nat → Prop} {w : hW} {x1 : Int32} {x2 : Int32} {Q' : Int32 → hO → Prop} {c1 s1 : Nat} (F : CallFix p m c cc nL s args lw_all RJ18) (hK : hK E A s) (S : hS E A s.heap cb sb w H locs) (h1 : c1 ≤ w.2.1) (h2 : s1 ≤ w.2.2) (h : hf_J21_checkIndex E.2.2 (w.1, c1, s1) x1 x2 Q') (hrc : R.cells = cb) (hrs : R.slots = sb) (hls : ls.size = nL) (hWt : (rest.map fun v => v.category).sum ≤ 8) (hR : 1 + 1 ≤ R.frames ∧ 8 + (2 + 11) + 22 ≤ R.locals) (hdg : decode cc pc = .ok (.invokestatic 118, 3))
    (kk : ∀ (v : Int32) (o : hO) (w' : hW) (H1 : Heap) (locs1 : List Loc), w' = (o, w.2.1 - c1, w.2.2 - s1) → Q' v o → hS E A s.heap cb sb w' H1 locs1 → W p l e R s m args below meth c H1 locs1 (cb - w'.2.1) (sb - w'.2.2) Q (F0 m (pc + 3) ls (.int v :: rest))) : W p l e R s m args below meth c H locs (cb - w.2.1) (sb - w.2.2) Q (F0 m pc ls (.int x2 :: .int x1 :: rest)) :=
  h_ki (g_runS F hK (hKm E A) S.1 (hmet_J21_checkIndex l E A (w.1, c1, s1) x1 x2 Q' h) (va_cwS 2 F.2.2.2.2 (lw_S q1666 q1667 q147 q1668) rfl rfl rfl (by decide +kernel) hR) rfl hls rfl hWt hdg ⟨by rw [hrc]; exact (h_left S h1 h2).1, by rw [hrs]; exact (h_left S h1 h2).2⟩) S h1 h2 kk
theorem hcl_J18_elementData_J18_123 {p : Program} {l : Launch} {e : Env} {s : State} {m : MethodId} {args : Array Value} {below : List Frame} {meth : Method} {c : Code} {R : Room} {H : Heap} {locs : List Loc} {cb sb pc nL : Nat} {Q : State → Prop} {ls : Array Slot} {rest : List Value} {cc : ByteArray} {E : hEnv} {A : Nat → Prop} {w : hW} {a0 : Nat} {x1 : Int32} {Q' : Nat → hO → Prop} {c1 s1 : Nat} (F : CallFix p m c cc nL s args lw_all RJ18) (hK : hK E A s) (S : hS E A s.heap cb sb w H locs) (hrv : ∃ (b : Bool) (fs : List Value), w.1 a0 = some (b, .inl (13, fs))) (h1 : c1 ≤ w.2.1) (h2 : s1 ≤ w.2.2) (h : hf_J18_elementData E.2.2 (w.1, c1, s1) a0 x1 Q') (hrc : R.cells = cb) (hrs : R.slots = sb) (hls : ls.size = nL) (hWt : (rest.map fun v => v.category).sum ≤ 8) (hR : 0 + 1 ≤ R.frames ∧ 8 + (2 + 11) + 0 ≤ R.locals) (hdg : decode cc pc = .ok (.invokevirtual 123, 3))
    (kk : ∀ (v : Nat) (o : hO) (w' : hW) (H1 : Heap) (locs1 : List Loc), w' = (o, w.2.1 - c1, w.2.2 - s1) → Q' v o → hS E A s.heap cb sb w' H1 locs1 → W p l e R s m args below meth c H1 locs1 (cb - w'.2.1) (sb - w'.2.2) Q (F0 m (pc + 3) ls (.ref v :: rest))) : W p l e R s m args below meth c H locs (cb - w.2.1) (sb - w.2.2) Q (F0 m pc ls (.int x1 :: .ref a0 :: rest)) :=
  h_kp (g_runV F hK (hKm E A) S.1 (hmet_J18_elementData l E A (w.1, c1, s1) a0 x1 Q' h) (cwV 1 F.2.2.2.2 (lw_V q1670 q1671 q1672 q144 q1673) rfl rfl rfl (by decide +kernel) hR) (h_recv hK S (ci := 13) rfl hrv) rfl hls rfl hWt hdg ⟨by rw [hrc]; exact (h_left S h1 h2).1, by rw [hrs]; exact (h_left S h1 h2).2⟩) S h1 h2 kk
def hf_J18_get (pl : Nat → Nat) (w : hW) (a0 : Nat) (x1 : Int32) (Q : Nat → hO → Prop) : Prop :=
  obd (hgI w a0 13 2) fun v1 =>
  hcall w fun n3 n4 => hf_J21_checkIndex pl (w.1, n3, n4) x1 v1 fun v7 o6 => hret w n3 n4 o6 fun w5 =>
  obd (hIs w5 a0 13) fun u8 =>
  hcall w5 fun n10 n11 => hf_J18_elementData pl (w5.1, n10, n11) a0 x1 fun v14 o13 => hret w5 n10 n11 o13 fun w12 =>
  Q v14 w12.1
abbrev hrm_J18_get (c s : Nat) : Room := { frames := 2, cells := c, slots := s, locals := 43 }
set_option maxHeartbeats 4000000 in
set_option maxRecDepth 100000 in
theorem hmet_J18_get (l : Launch) (E : hEnv) (A : Nat → Prop) (w : hW) (a0 : Nat) (x1 : Int32) (Q : Nat → hO → Prop) (h : hf_J18_get E.2.2 w a0 x1 Q) : Met l yJ18_get (ws_ yJ18_get cJ18_get 2 (some (.object "java/lang/Object"))) (hrm_J18_get w.2.1 w.2.2) (va_Pc [.ref a0, .int x1] (gPre (hK E A) (hP E A w.1))) (hQp E A Q) w.2.1 w.2.2 A := by
  refine h_met (own := RJ18) (by decide +kernel) rfl (Nat.le_of_ble_eq_true rfl) ?_
  intro p e s m args below meth c ls cb sb F hr hlk hK S hl
  have hx := F.1
  have hb := F.2.1
  have hl : lv_has ls 2 [(0, .ref a0), (1, .int x1)] := hl
  unfold hf_J18_get at h
  refine lv_iload_n hx hb dJ18_get_0 rfl (lv_at hl 1 rfl) ?_
  refine lv_aload_n hx hb dJ18_get_1 rfl (lv_at hl 0 rfl) ?_
  obtain ⟨v1, e2, h⟩ := obd_inv h
  refine hg_J18_48 F hK S e2 dJ18_get_2 ?_
  obtain ⟨n3, n4, h1, h2, h⟩ := hcall_inv h
  refine hcl_J21_checkIndex_J18_118 F hK S h1 h2 h rfl rfl hl.1 (Nat.le_of_ble_eq_true rfl) ⟨Nat.le_of_ble_eq_true rfl, Nat.le_of_ble_eq_true rfl⟩ dJ18_get_5 (fun v7 o6 w5 H locs hw h S => ?_)
  replace h := hret_mp h hw
  clear hw h1 h2
  refine lv_pop hx hb dJ18_get_8 rfl ?_
  refine lv_aload_n hx hb dJ18_get_9 rfl (lv_at hl 0 rfl) ?_
  refine lv_iload_n hx hb dJ18_get_10 rfl (lv_at hl 1 rfl) ?_
  obtain ⟨u8, e9, h⟩ := obd_inv h
  obtain ⟨n10, n11, h1, h2, h⟩ := hcall_inv h
  refine hcl_J18_elementData_J18_123 F hK S (hIs_inv e9) h1 h2 h rfl rfl hl.1 (Nat.le_of_ble_eq_true rfl) ⟨Nat.le_of_ble_eq_true rfl, Nat.le_of_ble_eq_true rfl⟩ dJ18_get_11 (fun v14 o13 w12 H locs hw h S => ?_)
  replace h := hret_mp h hw
  clear hw h1 h2
  exact h_aret F hr (Or.inl ⟨_, rfl⟩) hlk S h dJ18_get_14
theorem hcl_J6_newLength_J18_73 {p : Program} {l : Launch} {e : Env} {s : State} {m : MethodId} {args : Array Value} {below : List Frame} {meth : Method} {c : Code} {R : Room} {H : Heap} {locs : List Loc} {cb sb pc nL : Nat} {Q : State → Prop} {ls : Array Slot} {rest : List Value} {cc : ByteArray} {E : hEnv} {A : Nat → Prop} {w : hW} {x1 : Int32} {x2 : Int32} {x3 : Int32} {Q' : Int32 → hO → Prop} {c1 s1 : Nat} (F : CallFix p m c cc nL s args lw_all RJ18) (hK : hK E A s) (S : hS E A s.heap cb sb w H locs) (h1 : c1 ≤ w.2.1) (h2 : s1 ≤ w.2.2) (h : hf_J6_newLength E.2.2 (w.1, c1, s1) x1 x2 x3 Q') (hrc : R.cells = cb) (hrs : R.slots = sb) (hls : ls.size = nL) (hWt : (rest.map fun v => v.category).sum ≤ 8) (hR : 1 + 1 ≤ R.frames ∧ 8 + (4 + 11) + 21 ≤ R.locals) (hdg : decode cc pc = .ok (.invokestatic 73, 3))
    (kk : ∀ (v : Int32) (o : hO) (w' : hW) (H1 : Heap) (locs1 : List Loc), w' = (o, w.2.1 - c1, w.2.2 - s1) → Q' v o → hS E A s.heap cb sb w' H1 locs1 → W p l e R s m args below meth c H1 locs1 (cb - w'.2.1) (sb - w'.2.2) Q (F0 m (pc + 3) ls (.int v :: rest))) : W p l e R s m args below meth c H locs (cb - w.2.1) (sb - w.2.2) Q (F0 m pc ls (.int x3 :: .int x2 :: .int x1 :: rest)) :=
  h_ki (g_runS F hK (hKm E A) S.1 (hmet_J6_newLength l E A (w.1, c1, s1) x1 x2 x3 Q' h) (va_cwS 3 F.2.2.2.2 (lw_S q1275 q591 q127 q592) rfl rfl rfl (by decide +kernel) hR) rfl hls rfl hWt hdg ⟨by rw [hrc]; exact (h_left S h1 h2).1, by rw [hrs]; exact (h_left S h1 h2).2⟩) S h1 h2 kk
theorem hcl_J8_copyOf_2_J18_66 {p : Program} {l : Launch} {e : Env} {s : State} {m : MethodId} {args : Array Value} {below : List Frame} {meth : Method} {c : Code} {R : Room} {H : Heap} {locs : List Loc} {cb sb pc nL : Nat} {Q : State → Prop} {ls : Array Slot} {rest : List Value} {cc : ByteArray} {E : hEnv} {A : Nat → Prop} {w : hW} {x1 : Nat} {x2 : Int32} {Q' : Nat → hO → Prop} {c1 s1 : Nat} (F : CallFix p m c cc nL s args lw_all RJ18) (hK : hK E A s) (S : hS E A s.heap cb sb w H locs) (h1 : c1 ≤ w.2.1) (h2 : s1 ≤ w.2.2) (h : hf_J8_copyOf_2 E.2.2 (w.1, c1, s1) x1 x2 Q') (hrc : R.cells = cb) (hrs : R.slots = sb) (hls : ls.size = nL) (hWt : (rest.map fun v => v.category).sum ≤ 8) (hR : 2 + 1 ≤ R.frames ∧ 8 + (2 + 11) + 62 ≤ R.locals) (hdg : decode cc pc = .ok (.invokestatic 66, 3))
    (kk : ∀ (v : Nat) (o : hO) (w' : hW) (H1 : Heap) (locs1 : List Loc), w' = (o, w.2.1 - c1, w.2.2 - s1) → Q' v o → hS E A s.heap cb sb w' H1 locs1 → W p l e R s m args below meth c H1 locs1 (cb - w'.2.1) (sb - w'.2.2) Q (F0 m (pc + 3) ls (.ref v :: rest))) : W p l e R s m args below meth c H locs (cb - w.2.1) (sb - w.2.2) Q (F0 m pc ls (.int x2 :: .ref x1 :: rest)) :=
  h_kp (g_runS F hK (hKm E A) S.1 (hmet_J8_copyOf_2 l E A (w.1, c1, s1) x1 x2 Q' h) (va_cwS 2 F.2.2.2.2 (lw_S q1276 q1199 q129 q1200) rfl rfl rfl (by decide +kernel) hR) rfl hls rfl hWt hdg ⟨by rw [hrc]; exact (h_left S h1 h2).1, by rw [hrs]; exact (h_left S h1 h2).2⟩) S h1 h2 kk
def hf_J18_grow_2 (pl : Nat → Nat) (w : hW) (a0 : Nat) (x1 : Int32) (Q : Nat → hO → Prop) : Prop :=
  obd (hgP w a0 13 1) fun v1 =>
  obd (hLen w v1) fun v3 =>
  hIf (0 < v3) (
    hcall w fun n6 n7 => hf_J6_newLength pl (w.1, n6, n7) v3 (x1 - v3) (v3 >>> (1 &&& 31)) fun v10 o9 => hret w n6 n7 o9 fun w8 =>
    obd (hgP w8 a0 13 1) fun v11 =>
    hcall w8 fun n13 n14 => hf_J8_copyOf_2 pl (w8.1, n13, n14) v11 v10 fun v17 o16 => hret w8 n13 n14 o16 fun w15 =>
    obd (hpV w15 a0 13 1 (.ref v17)) fun w18 =>
    Q v17 w18.1) <|
    obd (hgP w a0 13 1) fun v20 =>
    hIf (v20 = (pl 2)) (
      hNewR 4 w (if 10 < x1 then x1 else 10) fun q23 w24 =>
      obd (hpV w24 a0 13 1 (.ref q23)) fun w25 =>
      Q q23 w25.1) <|
      hcall w fun n27 n28 => hf_J6_newLength pl (w.1, n27, n28) v3 (x1 - v3) (v3 >>> (1 &&& 31)) fun v31 o30 => hret w n27 n28 o30 fun w29 =>
      obd (hgP w29 a0 13 1) fun v32 =>
      hcall w29 fun n34 n35 => hf_J8_copyOf_2 pl (w29.1, n34, n35) v32 v31 fun v38 o37 => hret w29 n34 n35 o37 fun w36 =>
      obd (hpV w36 a0 13 1 (.ref v38)) fun w39 =>
      Q v38 w39.1
abbrev hrm_J18_grow_2 (c s : Nat) : Room := { frames := 3, cells := c, slots := s, locals := 83 }
set_option maxHeartbeats 4000000 in
set_option maxRecDepth 100000 in
theorem hmet_J18_grow_2 (l : Launch) (E : hEnv) (A : Nat → Prop) (w : hW) (a0 : Nat) (x1 : Int32) (Q : Nat → hO → Prop) (h : hf_J18_grow_2 E.2.2 w a0 x1 Q) : Met l yJ18_grow_2 (ws_ yJ18_grow_2 cJ18_grow_2 4 (some (.array (.object "java/lang/Object")))) (hrm_J18_grow_2 w.2.1 w.2.2) (va_Pc [.ref a0, .int x1] (gPre (hK E A) (hP E A w.1))) (hQp E A Q) w.2.1 w.2.2 A := by
  refine h_met (own := RJ18) (by decide +kernel) rfl (Nat.le_of_ble_eq_true rfl) ?_
  intro p e s m args below meth c ls cb sb F hr hlk hK S hl
  have hx := F.1
  have hb := F.2.1
  have hl : lv_has ls 4 [(0, .ref a0), (1, .int x1)] := hl
  unfold hf_J18_grow_2 at h
  refine lv_aload_n hx hb dJ18_grow_2_0 rfl (lv_at hl 0 rfl) ?_
  obtain ⟨v1, e2, h⟩ := obd_inv h
  refine hg_J18_9 F hK S e2 dJ18_grow_2_1 ?_
  obtain ⟨v3, e4, h⟩ := obd_inv h
  refine h_alen F hK S e4 dJ18_grow_2_4 ?_
  refine lv_istore_n (lv' := [(2, .int v3), (0, .ref a0), (1, .int x1)]) hx hb dJ18_grow_2_5 rfl hl (by decide) rfl (fun ls hl => ?_)
  refine lv_iload_n hx hb dJ18_grow_2_6 rfl (lv_at hl 0 rfl) ?_
  refine lv_if_gt (tgt := 20) hx hb dJ18_grow_2_7 (by decide) (fun c5 => ?_) (fun c5 => ?_)
  · rw [hIf_pos c5] at h
    refine lv_iload_n hx hb dJ18_grow_2_20 rfl (lv_at hl 0 rfl) ?_
    refine lv_iload_n hx hb dJ18_grow_2_21 rfl (lv_at hl 2 rfl) ?_
    refine lv_iload_n hx hb dJ18_grow_2_22 rfl (lv_at hl 0 rfl) ?_
    refine lv_isub hx hb dJ18_grow_2_23 ?_
    refine lv_iload_n hx hb dJ18_grow_2_24 rfl (lv_at hl 0 rfl) ?_
    refine lv_iconst (v := 1) hx hb dJ18_grow_2_25 (by decide) ?_
    refine lv_ishr hx hb dJ18_grow_2_26 ?_
    obtain ⟨n6, n7, h1, h2, h⟩ := hcall_inv h
    refine hcl_J6_newLength_J18_73 F hK S h1 h2 h rfl rfl hl.1 (Nat.le_of_ble_eq_true rfl) ⟨Nat.le_of_ble_eq_true rfl, Nat.le_of_ble_eq_true rfl⟩ dJ18_grow_2_27 (fun v10 o9 w8 H locs hw h S => ?_)
    replace h := hret_mp h hw
    clear hw h1 h2
    refine lv_istore_n (lv' := [(3, .int v10), (2, .int v3), (0, .ref a0), (1, .int x1)]) hx hb dJ18_grow_2_30 rfl hl (by decide) rfl (fun ls hl => ?_)
    refine lv_aload_n hx hb dJ18_grow_2_31 rfl (lv_at hl 2 rfl) ?_
    refine lv_aload_n hx hb dJ18_grow_2_32 rfl (lv_at hl 2 rfl) ?_
    obtain ⟨v11, e12, h⟩ := obd_inv h
    refine hg_J18_9 F hK S e12 dJ18_grow_2_33 ?_
    refine lv_iload_n hx hb dJ18_grow_2_36 rfl (lv_at hl 0 rfl) ?_
    obtain ⟨n13, n14, h1, h2, h⟩ := hcall_inv h
    refine hcl_J8_copyOf_2_J18_66 F hK S h1 h2 h rfl rfl hl.1 (Nat.le_of_ble_eq_true rfl) ⟨Nat.le_of_ble_eq_true rfl, Nat.le_of_ble_eq_true rfl⟩ dJ18_grow_2_37 (fun v17 o16 w15 H locs hw h S => ?_)
    replace h := hret_mp h hw
    clear hw h1 h2
    refine lv_dup_x1 hx hb dJ18_grow_2_40 rfl rfl ?_
    obtain ⟨w18, e19, h⟩ := obd_inv h
    refine hp_J18_9 F hK S e19 dJ18_grow_2_41 (fun H locs S => ?_)
    exact h_aret F hr (Or.inr ⟨_, rfl⟩) hlk S h dJ18_grow_2_44
  · rw [hIf_neg c5] at h
    refine lv_aload_n hx hb dJ18_grow_2_10 rfl (lv_at hl 1 rfl) ?_
    obtain ⟨v20, e21, h⟩ := obd_inv h
    refine hg_J18_9 F hK S e21 dJ18_grow_2_11 ?_
    refine va_gets F.1 F.2.1 hK.2.2.1.1.2.2.1 S.1.2 F.2.2.2.1 (F.2.2.2.2 _ q1245) (fun x h => h) dJ18_grow_2_14 ?_
    refine lv_acmp_eq (tgt := 45) (rx := some v20) (ry := some (E.2.2 2)) hx hb dJ18_grow_2_17 (by decide) (fun c22 => ?_) (fun c22 => ?_)
    · rw [hIf_pos (Option.some.inj c22)] at h
      refine lv_aload_n hx hb dJ18_grow_2_45 rfl (lv_at hl 1 rfl) ?_
      refine lv_bipush (v := 10) hx hb dJ18_grow_2_46 (by decide) ?_
      refine lv_iload_n hx hb dJ18_grow_2_48 rfl (lv_at hl 2 rfl) ?_
      refine va_mmax hx hb (F.2.2.1.trans hl.1.symm) F.2.2.2.1 (F.2.2.2.2 _ q1277) (F.2.2.2.2 _ q594) (F.2.2.2.2 _ q128) (F.2.2.2.2 _ q595) (Nat.le_of_ble_eq_true rfl) (Nat.le_of_ble_eq_true rfl) (Nat.sub_le _ _) (Nat.sub_le _ _) dJ18_grow_2_49 ?_
      refine h_newR 4 rfl rfl F hK S rfl rfl h q1278 hK.2.1.2.2.2.2.2.1 dJ18_grow_2_52 (fun q23 w24 H h S => ?_)
      refine lv_dup_x1 hx hb dJ18_grow_2_55 rfl rfl ?_
      obtain ⟨w25, e26, h⟩ := obd_inv h
      refine hp_J18_9 F hK S e26 dJ18_grow_2_56 (fun H locs S => ?_)
      exact h_aret F hr (Or.inr ⟨_, rfl⟩) hlk S h dJ18_grow_2_59
    · rw [hIf_neg (fun z => c22 (congrArg some z))] at h
      refine lv_iload_n hx hb dJ18_grow_2_20 rfl (lv_at hl 0 rfl) ?_
      refine lv_iload_n hx hb dJ18_grow_2_21 rfl (lv_at hl 2 rfl) ?_
      refine lv_iload_n hx hb dJ18_grow_2_22 rfl (lv_at hl 0 rfl) ?_
      refine lv_isub hx hb dJ18_grow_2_23 ?_
      refine lv_iload_n hx hb dJ18_grow_2_24 rfl (lv_at hl 0 rfl) ?_
      refine lv_iconst (v := 1) hx hb dJ18_grow_2_25 (by decide) ?_
      refine lv_ishr hx hb dJ18_grow_2_26 ?_
      obtain ⟨n27, n28, h1, h2, h⟩ := hcall_inv h
      refine hcl_J6_newLength_J18_73 F hK S h1 h2 h rfl rfl hl.1 (Nat.le_of_ble_eq_true rfl) ⟨Nat.le_of_ble_eq_true rfl, Nat.le_of_ble_eq_true rfl⟩ dJ18_grow_2_27 (fun v31 o30 w29 H locs hw h S => ?_)
      replace h := hret_mp h hw
      clear hw h1 h2
      refine lv_istore_n (lv' := [(3, .int v31), (2, .int v3), (0, .ref a0), (1, .int x1)]) hx hb dJ18_grow_2_30 rfl hl (by decide) rfl (fun ls hl => ?_)
      refine lv_aload_n hx hb dJ18_grow_2_31 rfl (lv_at hl 2 rfl) ?_
      refine lv_aload_n hx hb dJ18_grow_2_32 rfl (lv_at hl 2 rfl) ?_
      obtain ⟨v32, e33, h⟩ := obd_inv h
      refine hg_J18_9 F hK S e33 dJ18_grow_2_33 ?_
      refine lv_iload_n hx hb dJ18_grow_2_36 rfl (lv_at hl 0 rfl) ?_
      obtain ⟨n34, n35, h1, h2, h⟩ := hcall_inv h
      refine hcl_J8_copyOf_2_J18_66 F hK S h1 h2 h rfl rfl hl.1 (Nat.le_of_ble_eq_true rfl) ⟨Nat.le_of_ble_eq_true rfl, Nat.le_of_ble_eq_true rfl⟩ dJ18_grow_2_37 (fun v38 o37 w36 H locs hw h S => ?_)
      replace h := hret_mp h hw
      clear hw h1 h2
      refine lv_dup_x1 hx hb dJ18_grow_2_40 rfl rfl ?_
      obtain ⟨w39, e40, h⟩ := obd_inv h
      refine hp_J18_9 F hK S e40 dJ18_grow_2_41 (fun H locs S => ?_)
      exact h_aret F hr (Or.inr ⟨_, rfl⟩) hlk S h dJ18_grow_2_44
theorem hcl_J18_grow_2_J18_69 {p : Program} {l : Launch} {e : Env} {s : State} {m : MethodId} {args : Array Value} {below : List Frame} {meth : Method} {c : Code} {R : Room} {H : Heap} {locs : List Loc} {cb sb pc nL : Nat} {Q : State → Prop} {ls : Array Slot} {rest : List Value} {cc : ByteArray} {E : hEnv} {A : Nat → Prop} {w : hW} {a0 : Nat} {x1 : Int32} {Q' : Nat → hO → Prop} {c1 s1 : Nat} (F : CallFix p m c cc nL s args lw_all RJ18) (hK : hK E A s) (S : hS E A s.heap cb sb w H locs) (hrv : ∃ (b : Bool) (fs : List Value), w.1 a0 = some (b, .inl (13, fs))) (h1 : c1 ≤ w.2.1) (h2 : s1 ≤ w.2.2) (h : hf_J18_grow_2 E.2.2 (w.1, c1, s1) a0 x1 Q') (hrc : R.cells = cb) (hrs : R.slots = sb) (hls : ls.size = nL) (hWt : (rest.map fun v => v.category).sum ≤ 8) (hR : 3 + 1 ≤ R.frames ∧ 8 + (4 + 11) + 83 ≤ R.locals) (hdg : decode cc pc = .ok (.invokevirtual 69, 3))
    (kk : ∀ (v : Nat) (o : hO) (w' : hW) (H1 : Heap) (locs1 : List Loc), w' = (o, w.2.1 - c1, w.2.2 - s1) → Q' v o → hS E A s.heap cb sb w' H1 locs1 → W p l e R s m args below meth c H1 locs1 (cb - w'.2.1) (sb - w'.2.2) Q (F0 m (pc + 3) ls (.ref v :: rest))) : W p l e R s m args below meth c H locs (cb - w.2.1) (sb - w.2.2) Q (F0 m pc ls (.int x1 :: .ref a0 :: rest)) :=
  h_kp (g_runV F hK (hKm E A) S.1 (hmet_J18_grow_2 l E A (w.1, c1, s1) a0 x1 Q' h) (cwV 1 F.2.2.2.2 (lw_V q1271 q1273 qs26 q144 q1274) rfl rfl rfl (by decide +kernel) hR) (h_recv hK S (ci := 13) rfl hrv) rfl hls rfl hWt hdg ⟨by rw [hrc]; exact (h_left S h1 h2).1, by rw [hrs]; exact (h_left S h1 h2).2⟩) S h1 h2 kk
def hf_J18_grow (pl : Nat → Nat) (w : hW) (a0 : Nat) (Q : Nat → hO → Prop) : Prop :=
  obd (hgI w a0 13 2) fun v1 =>
  obd (hIs w a0 13) fun u3 =>
  hcall w fun n5 n6 => hf_J18_grow_2 pl (w.1, n5, n6) a0 (v1 + 1) fun v9 o8 => hret w n5 n6 o8 fun w7 =>
  Q v9 w7.1
abbrev hrm_J18_grow (c s : Nat) : Room := { frames := 4, cells := c, slots := s, locals := 106 }
set_option maxHeartbeats 4000000 in
set_option maxRecDepth 100000 in
theorem hmet_J18_grow (l : Launch) (E : hEnv) (A : Nat → Prop) (w : hW) (a0 : Nat) (Q : Nat → hO → Prop) (h : hf_J18_grow E.2.2 w a0 Q) : Met l yJ18_grow (ws_ yJ18_grow cJ18_grow 1 (some (.array (.object "java/lang/Object")))) (hrm_J18_grow w.2.1 w.2.2) (va_Pc [.ref a0] (gPre (hK E A) (hP E A w.1))) (hQp E A Q) w.2.1 w.2.2 A := by
  refine h_met (own := RJ18) (by decide +kernel) rfl (Nat.le_of_ble_eq_true rfl) ?_
  intro p e s m args below meth c ls cb sb F hr hlk hK S hl
  have hx := F.1
  have hb := F.2.1
  have hl : lv_has ls 1 [(0, .ref a0)] := hl
  unfold hf_J18_grow at h
  refine lv_aload_n hx hb dJ18_grow_0 rfl (lv_at hl 0 rfl) ?_
  refine lv_aload_n hx hb dJ18_grow_1 rfl (lv_at hl 0 rfl) ?_
  obtain ⟨v1, e2, h⟩ := obd_inv h
  refine hg_J18_48 F hK S e2 dJ18_grow_2 ?_
  refine lv_iconst (v := 1) hx hb dJ18_grow_5 (by decide) ?_
  refine lv_iadd hx hb dJ18_grow_6 ?_
  obtain ⟨u3, e4, h⟩ := obd_inv h
  obtain ⟨n5, n6, h1, h2, h⟩ := hcall_inv h
  refine hcl_J18_grow_2_J18_69 F hK S (hIs_inv e4) h1 h2 h rfl rfl hl.1 (Nat.le_of_ble_eq_true rfl) ⟨Nat.le_of_ble_eq_true rfl, Nat.le_of_ble_eq_true rfl⟩ dJ18_grow_7 (fun v9 o8 w7 H locs hw h S => ?_)
  replace h := hret_mp h hw
  clear hw h1 h2
  exact h_aret F hr (Or.inr ⟨_, rfl⟩) hlk S h dJ18_grow_10
theorem hcl_J18_grow_J18_129 {p : Program} {l : Launch} {e : Env} {s : State} {m : MethodId} {args : Array Value} {below : List Frame} {meth : Method} {c : Code} {R : Room} {H : Heap} {locs : List Loc} {cb sb pc nL : Nat} {Q : State → Prop} {ls : Array Slot} {rest : List Value} {cc : ByteArray} {E : hEnv} {A : Nat → Prop} {w : hW} {a0 : Nat} {Q' : Nat → hO → Prop} {c1 s1 : Nat} (F : CallFix p m c cc nL s args lw_all RJ18) (hK : hK E A s) (S : hS E A s.heap cb sb w H locs) (hrv : ∃ (b : Bool) (fs : List Value), w.1 a0 = some (b, .inl (13, fs))) (h1 : c1 ≤ w.2.1) (h2 : s1 ≤ w.2.2) (h : hf_J18_grow E.2.2 (w.1, c1, s1) a0 Q') (hrc : R.cells = cb) (hrs : R.slots = sb) (hls : ls.size = nL) (hWt : (rest.map fun v => v.category).sum ≤ 8) (hR : 4 + 1 ≤ R.frames ∧ 8 + (1 + 11) + 106 ≤ R.locals) (hdg : decode cc pc = .ok (.invokevirtual 129, 3))
    (kk : ∀ (v : Nat) (o : hO) (w' : hW) (H1 : Heap) (locs1 : List Loc), w' = (o, w.2.1 - c1, w.2.2 - s1) → Q' v o → hS E A s.heap cb sb w' H1 locs1 → W p l e R s m args below meth c H1 locs1 (cb - w'.2.1) (sb - w'.2.2) Q (F0 m (pc + 3) ls (.ref v :: rest))) : W p l e R s m args below meth c H locs (cb - w.2.1) (sb - w.2.2) Q (F0 m pc ls (.ref a0 :: rest)) :=
  h_kp (g_runV F hK (hKm E A) S.1 (hmet_J18_grow l E A (w.1, c1, s1) a0 Q' h) (cwV 0 F.2.2.2.2 (lw_V q1267 q1269 qs25 q144 q1270) rfl rfl rfl (by decide +kernel) hR) (h_recv hK S (ci := 13) rfl hrv) rfl hls rfl hWt hdg ⟨by rw [hrc]; exact (h_left S h1 h2).1, by rw [hrs]; exact (h_left S h1 h2).2⟩) S h1 h2 kk
theorem hp_J18_48 {p : Program} {l : Launch} {e : Env} {s : State} {m : MethodId} {args : Array Value} {below : List Frame} {meth : Method} {c : Code} {R : Room} {H : Heap} {locs : List Loc} {cb sb pc nL : Nat} {Q : State → Prop} {ls : Array Slot} {rest : List Value} {cc : ByteArray} {E : hEnv} {A : Nat → Prop} {w : hW} {a : Nat} {w' : hW} {v : Int32} (F : CallFix p m c cc nL s args lw_all RJ18) (hK : hK E A s) (S : hS E A s.heap cb sb w H locs) (h : hpV w a 13 2 (.int v) = some w') (hdg : decode cc pc = .ok (.putfield 48, 3)) (kk : ∀ (H1 : Heap) (locs1 : List Loc), hS E A s.heap cb sb w' H1 locs1 → W p l e R s m args below meth c H1 locs1 (cb - w'.2.1) (sb - w'.2.2) Q (F0 m (pc + 3) ls rest)) : W p l e R s m args below meth c H locs (cb - w.2.1) (sb - w.2.2) Q (F0 m pc ls (.int v :: .ref a :: rest)) :=
  h_put F hK S h (ci := 13) (C := RJ18) (T := TJ18) (N := 3) (k := 2) rfl in_J18 tyJ18 tyJ18_ok nmJ18 (by decide) q1248 (fun x h => h) rfl (ty := .int) (by decide +kernel) rfl rfl hdg kk
def hf_J18_add_2 (pl : Nat → Nat) (w : hW) (a0 : Nat) (x1 : Nat) (x2 : Nat) (x3 : Int32) (Q : hO → Prop) : Prop :=
  obd (hLen w x2) fun v1 =>
  hjoin (fun (v11 : Nat) (g12 : hW) =>
    obd (hsR g12 v11 x3 (some x1)) fun w13 =>
    obd (hpV w13 a0 13 2 (.int (x3 + 1))) fun w15 =>
    Q w15.1) fun k18 =>
  hIf (x3 = v1) (
    obd (hIs w a0 13) fun u4 =>
    hcall w fun n6 n7 => hf_J18_grow pl (w.1, n6, n7) a0 fun v10 o9 => hret w n6 n7 o9 fun w8 =>
    k18 v10 w8) <|
    k18 x2 w
abbrev hrm_J18_add_2 (c s : Nat) : Room := { frames := 5, cells := c, slots := s, locals := 126 }
set_option maxHeartbeats 4000000 in
set_option maxRecDepth 100000 in
theorem hmet_J18_add_2 (l : Launch) (E : hEnv) (A : Nat → Prop) (w : hW) (a0 : Nat) (x1 : Nat) (x2 : Nat) (x3 : Int32) (Q : hO → Prop) (h : hf_J18_add_2 E.2.2 w a0 x1 x2 x3 Q) : Met l yJ18_add_2 (ws_ yJ18_add_2 cJ18_add_2 4 (none)) (hrm_J18_add_2 w.2.1 w.2.2) (va_Pc [.ref a0, .ref x1, .ref x2, .int x3] (gPre (hK E A) (hP E A w.1))) (hQv E A Q) w.2.1 w.2.2 A := by
  refine h_met (own := RJ18) (by decide +kernel) rfl (Nat.le_of_ble_eq_true rfl) ?_
  intro p e s m args below meth c ls cb sb F hr hlk hK S hl
  have hx := F.1
  have hb := F.2.1
  have hl : lv_has ls 4 [(0, .ref a0), (1, .ref x1), (2, .ref x2), (3, .int x3)] := hl
  unfold hf_J18_add_2 at h
  refine lv_iload_n hx hb dJ18_add_2_0 rfl (lv_at hl 3 rfl) ?_
  refine lv_aload_n hx hb dJ18_add_2_1 rfl (lv_at hl 2 rfl) ?_
  obtain ⟨v1, e2, h⟩ := obd_inv h
  refine h_alen F hK S e2 dJ18_add_2_2 ?_
  obtain ⟨k18, hk18, h⟩ := hj2_inv h
  have hJ11 : ∀ (v11 : Nat) (g12 : hW) (H : Heap) (locs : List Loc) (ls : Array Slot), k18 v11 g12 → hS E A s.heap cb sb g12 H locs → lv_has ls 4 [(0, .ref a0), (1, .ref x1), (2, .ref v11), (3, .int x3)] → W p l e (hrm_J18_add_2 cb sb) s m args below meth c H locs (cb - g12.2.1) (sb - g12.2.2) (MQ below (hQv E A Q) args s cb sb A) (F0 m 11 ls []) := by
    intro v11 g12 H locs ls h S hl
    replace h := hk18 _ _ h
    refine lv_aload_n hx hb dJ18_add_2_11 rfl (lv_at hl 2 rfl) ?_
    refine lv_iload_n hx hb dJ18_add_2_12 rfl (lv_at hl 3 rfl) ?_
    refine lv_aload_n hx hb dJ18_add_2_13 rfl (lv_at hl 1 rfl) ?_
    obtain ⟨w13, e14, h⟩ := obd_inv h
    refine h_aast F hK S e14 dJ18_add_2_14 (fun H locs S => ?_)
    refine lv_aload_n hx hb dJ18_add_2_15 rfl (lv_at hl 0 rfl) ?_
    refine lv_iload_n hx hb dJ18_add_2_16 rfl (lv_at hl 3 rfl) ?_
    refine lv_iconst (v := 1) hx hb dJ18_add_2_17 (by decide) ?_
    refine lv_iadd hx hb dJ18_add_2_18 ?_
    obtain ⟨w15, e16, h⟩ := obd_inv h
    refine hp_J18_48 F hK S e16 dJ18_add_2_19 (fun H locs S => ?_)
    exact h_vret F hr hlk S h dJ18_add_2_22
  clear hk18
  refine lv_icmp_ne (tgt := 11) hx hb dJ18_add_2_3 (by decide) (fun c3 => ?_) (fun c3 => ?_)
  · rw [hIf_neg c3] at h
    exact hJ11 _ _ _ _ _ h S (lv_sub hl [0, 1, 2, 3] rfl)
  · rw [hIf_pos c3] at h
    refine lv_aload_n hx hb dJ18_add_2_6 rfl (lv_at hl 0 rfl) ?_
    obtain ⟨u4, e5, h⟩ := obd_inv h
    obtain ⟨n6, n7, h1, h2, h⟩ := hcall_inv h
    refine hcl_J18_grow_J18_129 F hK S (hIs_inv e5) h1 h2 h rfl rfl hl.1 (Nat.le_of_ble_eq_true rfl) ⟨Nat.le_of_ble_eq_true rfl, Nat.le_of_ble_eq_true rfl⟩ dJ18_add_2_7 (fun v10 o9 w8 H locs hw h S => ?_)
    replace h := hret_mp h hw
    clear hw h1 h2
    refine lv_astore_n (lv' := [(2, .ref v10), (0, .ref a0), (1, .ref x1), (3, .int x3)]) hx hb dJ18_add_2_10 rfl hl (by decide) rfl (fun ls hl => ?_)
    exact hJ11 _ _ _ _ _ h S (lv_sub hl [1, 2, 0, 3] rfl)
theorem hg_J18_63 {p : Program} {l : Launch} {e : Env} {s : State} {m : MethodId} {args : Array Value} {below : List Frame} {meth : Method} {c : Code} {R : Room} {H : Heap} {locs : List Loc} {cb sb pc nL : Nat} {Q : State → Prop} {ls : Array Slot} {rest : List Value} {cc : ByteArray} {E : hEnv} {A : Nat → Prop} {w : hW} {a : Nat} {v : Int32} (F : CallFix p m c cc nL s args lw_all RJ18) (hK : hK E A s) (S : hS E A s.heap cb sb w H locs) (h : hgI w a 13 0 = some v) (hdg : decode cc pc = .ok (.getfield 63, 3)) (kk : W p l e R s m args below meth c H locs (cb - w.2.1) (sb - w.2.2) Q (F0 m (pc + 3) ls (.int v :: rest))) : W p l e R s m args below meth c H locs (cb - w.2.1) (sb - w.2.2) Q (F0 m pc ls (.ref a :: rest)) := by
  obtain ⟨b, fs, ho, hv⟩ := hgI_inv h
  exact h_get F hK S ho (ci := 13) (C := RJ18) (T := TJ18) (N := 3) (k := 0) rfl in_J18 (by decide) q1250 (fun x h => u_same (F.2.2.2.2 _ q1251) x h) hv hdg kk
theorem hp_J18_63 {p : Program} {l : Launch} {e : Env} {s : State} {m : MethodId} {args : Array Value} {below : List Frame} {meth : Method} {c : Code} {R : Room} {H : Heap} {locs : List Loc} {cb sb pc nL : Nat} {Q : State → Prop} {ls : Array Slot} {rest : List Value} {cc : ByteArray} {E : hEnv} {A : Nat → Prop} {w : hW} {a : Nat} {w' : hW} {v : Int32} (F : CallFix p m c cc nL s args lw_all RJ18) (hK : hK E A s) (S : hS E A s.heap cb sb w H locs) (h : hpV w a 13 0 (.int v) = some w') (hdg : decode cc pc = .ok (.putfield 63, 3)) (kk : ∀ (H1 : Heap) (locs1 : List Loc), hS E A s.heap cb sb w' H1 locs1 → W p l e R s m args below meth c H1 locs1 (cb - w'.2.1) (sb - w'.2.2) Q (F0 m (pc + 3) ls rest)) : W p l e R s m args below meth c H locs (cb - w.2.1) (sb - w.2.2) Q (F0 m pc ls (.int v :: .ref a :: rest)) :=
  h_put F hK S h (ci := 13) (C := RJ18) (T := TJ18) (N := 3) (k := 0) rfl in_J18 tyJ18 tyJ18_ok nmJ18 (by decide) q1250 (fun x h => u_same (F.2.2.2.2 _ q1251) x h) rfl (ty := .int) (by decide +kernel) rfl rfl hdg kk
theorem hcl_J18_add_2_J18_131 {p : Program} {l : Launch} {e : Env} {s : State} {m : MethodId} {args : Array Value} {below : List Frame} {meth : Method} {c : Code} {R : Room} {H : Heap} {locs : List Loc} {cb sb pc nL : Nat} {Q : State → Prop} {ls : Array Slot} {rest : List Value} {cc : ByteArray} {E : hEnv} {A : Nat → Prop} {w : hW} {a0 : Nat} {x1 : Nat} {x2 : Nat} {x3 : Int32} {Q' : hO → Prop} {c1 s1 : Nat} (F : CallFix p m c cc nL s args lw_all RJ18) (hK : hK E A s) (S : hS E A s.heap cb sb w H locs) (hrv : ∃ (b : Bool) (fs : List Value), w.1 a0 = some (b, .inl (13, fs))) (h1 : c1 ≤ w.2.1) (h2 : s1 ≤ w.2.2) (h : hf_J18_add_2 E.2.2 (w.1, c1, s1) a0 x1 x2 x3 Q') (hrc : R.cells = cb) (hrs : R.slots = sb) (hls : ls.size = nL) (hWt : (rest.map fun v => v.category).sum ≤ 8) (hR : 5 + 1 ≤ R.frames ∧ 8 + (4 + 11) + 126 ≤ R.locals) (hdg : decode cc pc = .ok (.invokevirtual 131, 3))
    (kk : ∀ (o : hO) (w' : hW) (H1 : Heap) (locs1 : List Loc), w' = (o, w.2.1 - c1, w.2.2 - s1) → Q' o → hS E A s.heap cb sb w' H1 locs1 → W p l e R s m args below meth c H1 locs1 (cb - w'.2.1) (sb - w'.2.2) Q (F0 m (pc + 3) ls (rest))) : W p l e R s m args below meth c H locs (cb - w.2.1) (sb - w.2.2) Q (F0 m pc ls (.int x3 :: .ref x2 :: .ref x1 :: .ref a0 :: rest)) :=
  h_kv (g_runV F hK (hKm E A) S.1 (hmet_J18_add_2 l E A (w.1, c1, s1) a0 x1 x2 x3 Q' h) (cwV 3 F.2.2.2.2 (lw_V q1263 q1265 qs24 q144 q1266) rfl rfl rfl (by decide +kernel) hR) (h_recv hK S (ci := 13) rfl hrv) rfl hls rfl hWt hdg ⟨by rw [hrc]; exact (h_left S h1 h2).1, by rw [hrs]; exact (h_left S h1 h2).2⟩) S h1 h2 kk
def hf_J18_add (pl : Nat → Nat) (w : hW) (a0 : Nat) (x1 : Nat) (Q : Int32 → hO → Prop) : Prop :=
  obd (hgI w a0 13 0) fun v1 =>
  obd (hpV w a0 13 0 (.int (v1 + 1))) fun w3 =>
  obd (hgP w3 a0 13 1) fun v5 =>
  obd (hgI w3 a0 13 2) fun v7 =>
  obd (hIs w3 a0 13) fun u9 =>
  hcall w3 fun n11 n12 => hf_J18_add_2 pl (w3.1, n11, n12) a0 x1 v5 v7 fun o14 => hret w3 n11 n12 o14 fun w13 =>
  Q 1 w13.1
abbrev hrm_J18_add (c s : Nat) : Room := { frames := 6, cells := c, slots := s, locals := 149 }
set_option maxHeartbeats 4000000 in
set_option maxRecDepth 100000 in
theorem hmet_J18_add (l : Launch) (E : hEnv) (A : Nat → Prop) (w : hW) (a0 : Nat) (x1 : Nat) (Q : Int32 → hO → Prop) (h : hf_J18_add E.2.2 w a0 x1 Q) : Met l yJ18_add (ws_ yJ18_add cJ18_add 2 (some .boolean)) (hrm_J18_add w.2.1 w.2.2) (va_Pc [.ref a0, .ref x1] (gPre (hK E A) (hP E A w.1))) (hQi E A Q) w.2.1 w.2.2 A := by
  refine h_met (own := RJ18) (by decide +kernel) rfl (Nat.le_of_ble_eq_true rfl) ?_
  intro p e s m args below meth c ls cb sb F hr hlk hK S hl
  have hx := F.1
  have hb := F.2.1
  have hl : lv_has ls 2 [(0, .ref a0), (1, .ref x1)] := hl
  unfold hf_J18_add at h
  refine lv_aload_n hx hb dJ18_add_0 rfl (lv_at hl 0 rfl) ?_
  refine lv_dup hx hb dJ18_add_1 rfl ?_
  obtain ⟨v1, e2, h⟩ := obd_inv h
  refine hg_J18_63 F hK S e2 dJ18_add_2 ?_
  refine lv_iconst (v := 1) hx hb dJ18_add_5 (by decide) ?_
  refine lv_iadd hx hb dJ18_add_6 ?_
  obtain ⟨w3, e4, h⟩ := obd_inv h
  refine hp_J18_63 F hK S e4 dJ18_add_7 (fun H locs S => ?_)
  refine lv_aload_n hx hb dJ18_add_10 rfl (lv_at hl 0 rfl) ?_
  refine lv_aload_n hx hb dJ18_add_11 rfl (lv_at hl 1 rfl) ?_
  refine lv_aload_n hx hb dJ18_add_12 rfl (lv_at hl 0 rfl) ?_
  obtain ⟨v5, e6, h⟩ := obd_inv h
  refine hg_J18_9 F hK S e6 dJ18_add_13 ?_
  refine lv_aload_n hx hb dJ18_add_16 rfl (lv_at hl 0 rfl) ?_
  obtain ⟨v7, e8, h⟩ := obd_inv h
  refine hg_J18_48 F hK S e8 dJ18_add_17 ?_
  obtain ⟨u9, e10, h⟩ := obd_inv h
  obtain ⟨n11, n12, h1, h2, h⟩ := hcall_inv h
  refine hcl_J18_add_2_J18_131 F hK S (hIs_inv e10) h1 h2 h rfl rfl hl.1 (Nat.le_of_ble_eq_true rfl) ⟨Nat.le_of_ble_eq_true rfl, Nat.le_of_ble_eq_true rfl⟩ dJ18_add_20 (fun o14 w13 H locs hw h S => ?_)
  replace h := hret_mp h hw
  clear hw h1 h2
  refine lv_iconst (v := 1) hx hb dJ18_add_23 (by decide) ?_
  exact h_zret F hr hlk S h dJ18_add_24
theorem hcl_J22_equals_J18_93 {p : Program} {l : Launch} {e : Env} {s : State} {m : MethodId} {args : Array Value} {below : List Frame} {meth : Method} {c : Code} {R : Room} {H : Heap} {locs : List Loc} {cb sb pc nL : Nat} {Q : State → Prop} {ls : Array Slot} {rest : List Value} {cc : ByteArray} {E : hEnv} {A : Nat → Prop} {w : hW} {a0 : Nat} {x1 : Nat} {Q' : Int32 → hO → Prop} {c1 s1 : Nat} (F : CallFix p m c cc nL s args lw_all RJ18) (hK : hK E A s) (S : hS E A s.heap cb sb w H locs) {u : Unit} (hc : hIsC w a0 = some u) (h1 : c1 ≤ w.2.1) (h2 : s1 ≤ w.2.2) (h : hf_J22_equals E.2.2 (w.1, c1, s1) a0 x1 Q') (hrc : R.cells = cb) (hrs : R.slots = sb) (hls : ls.size = nL) (hWt : (rest.map fun v => v.category).sum ≤ 8) (hR : 0 + 1 ≤ R.frames ∧ 8 + (2 + 11) + 0 ≤ R.locals) (hdg : decode cc pc = .ok (.invokevirtual 93, 3))
    (kk : ∀ (v : Int32) (o : hO) (w' : hW) (H1 : Heap) (locs1 : List Loc), w' = (o, w.2.1 - c1, w.2.2 - s1) → Q' v o → hS E A s.heap cb sb w' H1 locs1 → W p l e R s m args below meth c H1 locs1 (cb - w'.2.1) (sb - w'.2.2) Q (F0 m (pc + 3) ls (.int v :: rest))) : W p l e R s m args below meth c H locs (cb - w.2.1) (sb - w.2.2) Q (F0 m pc ls (.ref x1 :: .ref a0 :: rest)) := by
  obtain ⟨c', b, fs, hc, ho⟩ := hIsC_inv hc
  rcases hc with rfl | rfl | rfl | rfl | rfl | rfl
  · exact h_ki (g_runU F hK (hKm E A) S.1 (hmet_J22_equals l E A (w.1, c1, s1) a0 x1 Q' h) (va_cwU 1 F.2.2.2.2 (gw_U q1520 q1522 q1525 q1521 q2371 q1541) rfl rfl rfl rfl (by decide +kernel) hR) (h_recv hK S (ci := 4) rfl ⟨b, fs, ho⟩) rfl hls rfl hWt hdg ⟨by rw [hrc]; exact (h_left S h1 h2).1, by rw [hrs]; exact (h_left S h1 h2).2⟩) S h1 h2 kk
  · exact h_ki (g_runU F hK (hKm E A) S.1 (hmet_J22_equals l E A (w.1, c1, s1) a0 x1 Q' h) (va_cwU 1 F.2.2.2.2 (gw_U q1520 q1522 q1531 q1521 q2371 q1541) rfl rfl rfl rfl (by decide +kernel) hR) (h_recv hK S (ci := 5) rfl ⟨b, fs, ho⟩) rfl hls rfl hWt hdg ⟨by rw [hrc]; exact (h_left S h1 h2).1, by rw [hrs]; exact (h_left S h1 h2).2⟩) S h1 h2 kk
  · exact h_ki (g_runU F hK (hKm E A) S.1 (hmet_J22_equals l E A (w.1, c1, s1) a0 x1 Q' h) (va_cwU 1 F.2.2.2.2 (gw_U q1520 q1522 q1527 q1521 q2371 q1541) rfl rfl rfl rfl (by decide +kernel) hR) (h_recv hK S (ci := 6) rfl ⟨b, fs, ho⟩) rfl hls rfl hWt hdg ⟨by rw [hrc]; exact (h_left S h1 h2).1, by rw [hrs]; exact (h_left S h1 h2).2⟩) S h1 h2 kk
  · exact h_ki (g_runU F hK (hKm E A) S.1 (hmet_J22_equals l E A (w.1, c1, s1) a0 x1 Q' h) (va_cwU 1 F.2.2.2.2 (gw_U q1520 q1522 q1524 q1521 q2371 q1541) rfl rfl rfl rfl (by decide +kernel) hR) (h_recv hK S (ci := 7) rfl ⟨b, fs, ho⟩) rfl hls rfl hWt hdg ⟨by rw [hrc]; exact (h_left S h1 h2).1, by rw [hrs]; exact (h_left S h1 h2).2⟩) S h1 h2 kk
  · exact h_ki (g_runU F hK (hKm E A) S.1 (hmet_J22_equals l E A (w.1, c1, s1) a0 x1 Q' h) (va_cwU 1 F.2.2.2.2 (gw_U q1520 q1522 q1526 q1521 q2371 q1541) rfl rfl rfl rfl (by decide +kernel) hR) (h_recv hK S (ci := 8) rfl ⟨b, fs, ho⟩) rfl hls rfl hWt hdg ⟨by rw [hrc]; exact (h_left S h1 h2).1, by rw [hrs]; exact (h_left S h1 h2).2⟩) S h1 h2 kk
  · exact h_ki (g_runU F hK (hKm E A) S.1 (hmet_J22_equals l E A (w.1, c1, s1) a0 x1 Q' h) (va_cwU 1 F.2.2.2.2 (gw_U q1520 q1522 q1528 q1521 q2371 q1541) rfl rfl rfl rfl (by decide +kernel) hR) (h_recv hK S (ci := 9) rfl ⟨b, fs, ho⟩) rfl hls rfl hWt hdg ⟨by rw [hrc]; exact (h_left S h1 h2).1, by rw [hrs]; exact (h_left S h1 h2).2⟩) S h1 h2 kk
def hL_J18_indexOfRange_1 (pl : Nat → Nat) (Q : Int32 → hO → Prop) (K : hW → Prop) (y1 : Nat) (y3 : Int32) (y4 : Nat) : Nat → hW → Int32 → Prop
  | 0, _, _ => False
  | n + 1, w, y5 =>
    hIf (y3 ≤ y5) (
      K w) <|
      obd (haP w y4 y5) fun v4 =>
      obd (hIsC w y1) fun u6 =>
      hcall w fun n8 n9 => hf_J22_equals pl (w.1, n8, n9) y1 v4 fun v12 o11 => hret w n8 n9 o11 fun w10 =>
      hIf (v12 = 0) (
        hL_J18_indexOfRange_1 pl Q K y1 y3 y4 n w10 (y5 + 1)) <|
        Q y5 w10.1
def hf_J18_indexOfRange (pl : Nat → Nat) (w : hW) (a0 : Nat) (x1 : Nat) (x2 : Int32) (x3 : Int32) (Q : Int32 → hO → Prop) : Prop :=
  obd (hgP w a0 13 1) fun v1 =>
  hL_J18_indexOfRange_1 pl Q (fun (w14 : hW) =>
    Q (-1) w14.1) x1 x3 v1 FUEL w x2
abbrev hrm_J18_indexOfRange (c s : Nat) : Room := { frames := 1, cells := c, slots := s, locals := 21 }
set_option maxHeartbeats 4000000 in
set_option maxRecDepth 100000 in
theorem hloop_J18_indexOfRange_1 {p : Program} {l : Launch} {e : Env} {s : State} {m : MethodId} {args : Array Value} {below : List Frame} {meth : Method} {c : Code} {cb sb : Nat} {E : hEnv} {A : Nat → Prop} {Q : Int32 → hO → Prop} {K : hW → Prop} {y1 : Nat} {y3 : Int32} {y4 : Nat} (F : CallFix p m c cJ18_indexOfRange 6 s args lw_all RJ18) (hr : meth.sig.returnType = some .int) (hlk : meth.locks = false) (hK : hK E A s) : ∀ (n : Nat) (w : hW) (y5 : Int32), hL_J18_indexOfRange_1 E.2.2 Q K y1 y3 y4 n w y5 → ∀ (H : Heap) (locs : List Loc) (ls : Array Slot), hS E A s.heap cb sb w H locs → lv_has ls 6 [(1, .ref y1), (3, .int y3), (4, .ref y4), (5, .int y5)] → (∀ (wz : hW) (H : Heap) (locs : List Loc) (ls : Array Slot), K wz → hS E A s.heap cb sb wz H locs → lv_has ls 6 [] → W p l e (hrm_J18_indexOfRange cb sb) s m args below meth c H locs (cb - wz.2.1) (sb - wz.2.2) (MQ below (hQi E A Q) args s cb sb A) (F0 m 69 ls [])) → W p l e (hrm_J18_indexOfRange cb sb) s m args below meth c H locs (cb - w.2.1) (sb - w.2.2) (MQ below (hQi E A Q) args s cb sb A) (F0 m 42 ls []) := by
  have hx := F.1
  have hb := F.2.1
  intro n
  induction n with
  | zero =>
    intro w y5 h
    exact False.elim h
  | succ n ih =>
    intro w y5 h H locs ls S hl kx
    rw [hL_J18_indexOfRange_1] at h
    refine lv_iload hx hb dJ18_indexOfRange_42 (lv_at hl 3 rfl) ?_
    refine lv_iload_n hx hb dJ18_indexOfRange_44 rfl (lv_at hl 1 rfl) ?_
    refine lv_icmp_ge (tgt := 69) hx hb dJ18_indexOfRange_45 (by decide) (fun c3 => ?_) (fun c3 => ?_)
    · rw [hIf_pos c3] at h
      exact kx _ _ _ _ h S (lv_sub hl [] rfl)
    · rw [hIf_neg c3] at h
      refine lv_aload_n hx hb dJ18_indexOfRange_48 rfl (lv_at hl 0 rfl) ?_
      refine lv_aload hx hb dJ18_indexOfRange_49 (lv_at hl 2 rfl) ?_
      refine lv_iload hx hb dJ18_indexOfRange_51 (lv_at hl 3 rfl) ?_
      obtain ⟨v4, e5, h⟩ := obd_inv h
      refine h_aald F hK S e5 dJ18_indexOfRange_53 ?_
      obtain ⟨u6, e7, h⟩ := obd_inv h
      obtain ⟨n8, n9, h1, h2, h⟩ := hcall_inv h
      refine hcl_J22_equals_J18_93 F hK S e7 h1 h2 h rfl rfl hl.1 (Nat.le_of_ble_eq_true rfl) ⟨Nat.le_of_ble_eq_true rfl, Nat.le_of_ble_eq_true rfl⟩ dJ18_indexOfRange_54 (fun v12 o11 w10 H locs hw h S => ?_)
      replace h := hret_mp h hw
      clear hw h1 h2
      refine lv_if_eq (tgt := 63) hx hb dJ18_indexOfRange_57 (by decide) (fun c13 => ?_) (fun c13 => ?_)
      · rw [hIf_pos c13] at h
        refine lv_iinc (v := (y5 + 1)) (lv' := [(5, .int (y5 + 1)), (1, .ref y1), (3, .int y3), (4, .ref y4)]) hx hb dJ18_indexOfRange_63 hl (k := 3) rfl rfl (by decide) rfl (fun ls hl => ?_)
        refine lv_goto (tgt := 42) hx hb dJ18_indexOfRange_66 (by decide) ?_
        exact ih _ _ h _ _ _ S (lv_sub hl [1, 2, 3, 0] rfl) kx
      · rw [hIf_neg c13] at h
        refine lv_iload hx hb dJ18_indexOfRange_60 (lv_at hl 3 rfl) ?_
        exact h_iret F hr hlk S h dJ18_indexOfRange_62
set_option maxHeartbeats 4000000 in
set_option maxRecDepth 100000 in
theorem hmet_J18_indexOfRange (l : Launch) (E : hEnv) (A : Nat → Prop) (w : hW) (a0 : Nat) (x1 : Nat) (x2 : Int32) (x3 : Int32) (Q : Int32 → hO → Prop) (h : hf_J18_indexOfRange E.2.2 w a0 x1 x2 x3 Q) : Met l yJ18_indexOfRange (ws_ yJ18_indexOfRange cJ18_indexOfRange 6 (some .int)) (hrm_J18_indexOfRange w.2.1 w.2.2) (va_Pc [.ref a0, .ref x1, .int x2, .int x3] (gPre (hK E A) (hP E A w.1))) (hQi E A Q) w.2.1 w.2.2 A := by
  refine h_met (own := RJ18) (by decide +kernel) rfl (Nat.le_of_ble_eq_true rfl) ?_
  intro p e s m args below meth c ls cb sb F hr hlk hK S hl
  have hx := F.1
  have hb := F.2.1
  have hl : lv_has ls 6 [(0, .ref a0), (1, .ref x1), (2, .int x2), (3, .int x3)] := hl
  unfold hf_J18_indexOfRange at h
  refine lv_aload_n hx hb dJ18_indexOfRange_0 rfl (lv_at hl 0 rfl) ?_
  obtain ⟨v1, e2, h⟩ := obd_inv h
  refine hg_J18_9 F hK S e2 dJ18_indexOfRange_1 ?_
  refine lv_astore (lv' := [(4, .ref v1), (0, .ref a0), (1, .ref x1), (2, .int x2), (3, .int x3)]) hx hb dJ18_indexOfRange_4 hl (by decide) rfl (fun ls hl => ?_)
  refine lv_aload_n hx hb dJ18_indexOfRange_6 rfl (lv_at hl 2 rfl) ?_
  refine lv_ifnonnull (tgt := 39) hx hb dJ18_indexOfRange_7 (by decide) ?_
  refine lv_iload_n hx hb dJ18_indexOfRange_39 rfl (lv_at hl 3 rfl) ?_
  refine lv_istore (lv' := [(5, .int x2), (4, .ref v1), (0, .ref a0), (1, .ref x1), (2, .int x2), (3, .int x3)]) hx hb dJ18_indexOfRange_40 hl (by decide) rfl (fun ls hl => ?_)
  refine hloop_J18_indexOfRange_1 F hr hlk hK _ _ _ h _ _ _ S (lv_sub hl [3, 5, 1, 0] rfl) (fun w14 H locs ls h S hl => ?_)
  refine lv_iconst (v := (-1)) hx hb dJ18_indexOfRange_69 (by decide) ?_
  exact h_iret F hr hlk S h dJ18_indexOfRange_70
theorem hcl_J18_indexOfRange_J18_89 {p : Program} {l : Launch} {e : Env} {s : State} {m : MethodId} {args : Array Value} {below : List Frame} {meth : Method} {c : Code} {R : Room} {H : Heap} {locs : List Loc} {cb sb pc nL : Nat} {Q : State → Prop} {ls : Array Slot} {rest : List Value} {cc : ByteArray} {E : hEnv} {A : Nat → Prop} {w : hW} {a0 : Nat} {x1 : Nat} {x2 : Int32} {x3 : Int32} {Q' : Int32 → hO → Prop} {c1 s1 : Nat} (F : CallFix p m c cc nL s args lw_all RJ18) (hK : hK E A s) (S : hS E A s.heap cb sb w H locs) (hrv : ∃ (b : Bool) (fs : List Value), w.1 a0 = some (b, .inl (13, fs))) (h1 : c1 ≤ w.2.1) (h2 : s1 ≤ w.2.2) (h : hf_J18_indexOfRange E.2.2 (w.1, c1, s1) a0 x1 x2 x3 Q') (hrc : R.cells = cb) (hrs : R.slots = sb) (hls : ls.size = nL) (hWt : (rest.map fun v => v.category).sum ≤ 8) (hR : 1 + 1 ≤ R.frames ∧ 8 + (6 + 11) + 21 ≤ R.locals) (hdg : decode cc pc = .ok (.invokevirtual 89, 3))
    (kk : ∀ (v : Int32) (o : hO) (w' : hW) (H1 : Heap) (locs1 : List Loc), w' = (o, w.2.1 - c1, w.2.2 - s1) → Q' v o → hS E A s.heap cb sb w' H1 locs1 → W p l e R s m args below meth c H1 locs1 (cb - w'.2.1) (sb - w'.2.2) Q (F0 m (pc + 3) ls (.int v :: rest))) : W p l e R s m args below meth c H locs (cb - w.2.1) (sb - w.2.2) Q (F0 m pc ls (.int x3 :: .int x2 :: .ref x1 :: .ref a0 :: rest)) :=
  h_ki (g_runV F hK (hKm E A) S.1 (hmet_J18_indexOfRange l E A (w.1, c1, s1) a0 x1 x2 x3 Q' h) (cwV 3 F.2.2.2.2 (lw_V q1515 q1516 q1517 q144 q1518) rfl rfl rfl (by decide +kernel) hR) (h_recv hK S (ci := 13) rfl hrv) rfl hls rfl hWt hdg ⟨by rw [hrc]; exact (h_left S h1 h2).1, by rw [hrs]; exact (h_left S h1 h2).2⟩) S h1 h2 kk
def hf_J18_indexOf (pl : Nat → Nat) (w : hW) (a0 : Nat) (x1 : Nat) (Q : Int32 → hO → Prop) : Prop :=
  obd (hgI w a0 13 2) fun v1 =>
  obd (hIs w a0 13) fun u3 =>
  hcall w fun n5 n6 => hf_J18_indexOfRange pl (w.1, n5, n6) a0 x1 0 v1 fun v9 o8 => hret w n5 n6 o8 fun w7 =>
  Q v9 w7.1
abbrev hrm_J18_indexOf (c s : Nat) : Room := { frames := 2, cells := c, slots := s, locals := 46 }
set_option maxHeartbeats 4000000 in
set_option maxRecDepth 100000 in
theorem hmet_J18_indexOf (l : Launch) (E : hEnv) (A : Nat → Prop) (w : hW) (a0 : Nat) (x1 : Nat) (Q : Int32 → hO → Prop) (h : hf_J18_indexOf E.2.2 w a0 x1 Q) : Met l yJ18_indexOf (ws_ yJ18_indexOf cJ18_indexOf 2 (some .int)) (hrm_J18_indexOf w.2.1 w.2.2) (va_Pc [.ref a0, .ref x1] (gPre (hK E A) (hP E A w.1))) (hQi E A Q) w.2.1 w.2.2 A := by
  refine h_met (own := RJ18) (by decide +kernel) rfl (Nat.le_of_ble_eq_true rfl) ?_
  intro p e s m args below meth c ls cb sb F hr hlk hK S hl
  have hx := F.1
  have hb := F.2.1
  have hl : lv_has ls 2 [(0, .ref a0), (1, .ref x1)] := hl
  unfold hf_J18_indexOf at h
  refine lv_aload_n hx hb dJ18_indexOf_0 rfl (lv_at hl 0 rfl) ?_
  refine lv_aload_n hx hb dJ18_indexOf_1 rfl (lv_at hl 1 rfl) ?_
  refine lv_iconst (v := 0) hx hb dJ18_indexOf_2 (by decide) ?_
  refine lv_aload_n hx hb dJ18_indexOf_3 rfl (lv_at hl 0 rfl) ?_
  obtain ⟨v1, e2, h⟩ := obd_inv h
  refine hg_J18_48 F hK S e2 dJ18_indexOf_4 ?_
  obtain ⟨u3, e4, h⟩ := obd_inv h
  obtain ⟨n5, n6, h1, h2, h⟩ := hcall_inv h
  refine hcl_J18_indexOfRange_J18_89 F hK S (hIs_inv e4) h1 h2 h rfl rfl hl.1 (Nat.le_of_ble_eq_true rfl) ⟨Nat.le_of_ble_eq_true rfl, Nat.le_of_ble_eq_true rfl⟩ dJ18_indexOf_7 (fun v9 o8 w7 H locs hw h S => ?_)
  replace h := hret_mp h hw
  clear hw h1 h2
  exact h_iret F hr hlk S h dJ18_indexOf_10
