/-! HEAP MODE: what throws -/
set_option maxRecDepth 100000
def hf_X1_ask (pl : Nat → Nat) (w : hW) (x1 : Int32) (QX : String → hO → Prop) (Q : hO → Prop) : Prop :=
  hIf (x1 = 0) (
    hthr w "java/lang/IllegalArgumentException" QX) <|
    Q w.1
abbrev hrm_X1_ask (c s : Nat) : Room := { frames := 6, cells := c, slots := s, locals := 94 }
set_option maxHeartbeats 4000000 in
set_option maxRecDepth 100000 in
theorem hmet_X1_ask (l : Launch) (hst : l.stackTraces = false) (E : hEnv) (A : Nat → Prop) (w : hW) (x1 : Int32) (QX : String → hO → Prop) (Q : hO → Prop) (h : hf_X1_ask E.2.2 w x1 QX Q) : vx_Met l yX1_ask (ws_ yX1_ask cX1_ask 1 (none)) (hrm_X1_ask w.2.1 w.2.2) (va_Pc [.int x1] (gPre (hK E A) (hP E A w.1))) (hQv E A Q) (hXC E A QX) w.2.1 w.2.2 A := by
  refine hx_met (own := RX1) (by decide +kernel) rfl (Nat.le_of_ble_eq_true rfl) ?_
  intro p e s m args below meth c ls cb sb F hr hlk ht hK S hl
  have hx := F.1
  have hb := F.2.1
  have hl : lv_has ls 1 [(0, .int x1)] := hl
  unfold hf_X1_ask at h
  refine lv_iload_n hx hb dX1_ask_0 rfl (lv_at hl 0 rfl) ?_
  refine lv_if_ne (tgt := 12) hx hb dX1_ask_1 (by decide) (fun c1 => ?_) (fun c1 => ?_)
  · rw [hIf_neg c1] at h
    exact vx_ret (h_vret F hr hlk S h dX1_ask_12)
  · rw [hIf_pos c1] at h
    exact h_throwIAE hst F hlk hK S ht rfl rfl h hl.1 ⟨Nat.le_of_ble_eq_true rfl, Nat.le_of_ble_eq_true rfl⟩ dX1_ask_4 dX1_ask_7 dX1_ask_8 dX1_ask_11
theorem hpc_X3_isOn_X1_100 {p : Program} {l : Launch} {e : Env} {s : State} {m : MethodId} {args : Array Value} {below : List Frame} {meth : Method} {c : Code} {R : Room} {H : Heap} {locs : List Loc} {cb sb pc nL : Nat} {Q : State → Prop} {ls : Array Slot} {rest : List Value} {cc : ByteArray} {E : hEnv} {A : Nat → Prop} {w : hW} {d : hD} {g : mS} {a : Nat} {x1 : Int32} {x2 : Int32} {r : Int32} (F : CallFix p m c cc nL s args lw_all RX1) (hK : hK E A s) (S : hS E A s.heap cb sb w H locs) (hr : hRel d g w.1) (hd : d.1 100 = a) (h : fc_X3_isOn g 100 x1 x2 = some r) (hrc : R.cells = cb) (hrs : R.slots = sb) (hls : ls.size = nL) (hWt : (rest.map fun v => v.category).sum ≤ 8) (hR : rm_c_X3_isOn.frames + 1 ≤ R.frames ∧ 8 + (3 + 11) + rm_c_X3_isOn.locals ≤ R.locals) (hdg : decode cc pc = .ok (.invokevirtual 100, 3))
    (kk : ∀ (H1 : Heap) (locs1 : List Loc), hS E A s.heap cb sb w H1 locs1 → W p l e R s m args below meth c H1 locs1 (cb - w.2.1) (sb - w.2.2) Q (F0 m (pc + 3) ls (.int r :: rest))) : W p l e R s m args below meth c H locs (cb - w.2.1) (sb - w.2.2) Q (F0 m pc ls (.int x2 :: .int x1 :: .ref a :: rest)) := by
  subst hd
  refine hb_ki hK S hr (gZ := g) (va_runV (g := F0 m pc ls _) F (met_c_X3_isOn l (hDE E d g H.size) g 100 x1 x2 hOk100 r h) (cwV 2 F.2.2.2.2 (lw_V q1459 q414 q415 q115 q416) rfl rfl rfl (by decide +kernel) hR) ⟨gBlind (cKm (hDE E d g H.size)), h_recv hK S (ci := 3) rfl (hRel_w hr), fun U hU hW => ⟨rfl, hB_pre hK S hr U hU hW⟩⟩ rfl rfl hls rfl (lv_room hWt) hdg ⟨by rw [hrc]; exact Nat.sub_le _ _, by rw [hrs]; exact Nat.sub_le _ _⟩) (fun w' H1 locs1 hw _ S1 => ?_)
  rw [hPut_self hr] at hw
  subst hw
  exact kk H1 locs1 S1
def hf_X1_cellOf (pl : Nat → Nat) (w : hW) (a0 : Nat) (x1 : Int32) (x2 : Int32) (QX : String → hO → Prop) (Q : Int32 → hO → Prop) : Prop :=
  obd (hgP w a0 1 3) fun v1 =>
  ∃ (d3 : hD) (g4 : mS), hRel d3 g4 w.1 ∧ d3.1 100 = v1 ∧ obd (fc_X3_isOn g4 100 x1 x2) fun v7 =>
  hIf (v7 = 0) (
    hthr w "java/lang/IndexOutOfBoundsException" QX) <|
    Q ((10 * x2) + x1) w.1
abbrev hrm_X1_cellOf (c s : Nat) : Room := { frames := 6, cells := c, slots := s, locals := 94 }
set_option maxHeartbeats 4000000 in
set_option maxRecDepth 100000 in
theorem hmet_X1_cellOf (l : Launch) (hst : l.stackTraces = false) (E : hEnv) (A : Nat → Prop) (w : hW) (a0 : Nat) (x1 : Int32) (x2 : Int32) (QX : String → hO → Prop) (Q : Int32 → hO → Prop) (h : hf_X1_cellOf E.2.2 w a0 x1 x2 QX Q) : vx_Met l yX1_cellOf (ws_ yX1_cellOf cX1_cellOf 3 (some .int)) (hrm_X1_cellOf w.2.1 w.2.2) (va_Pc [.ref a0, .int x1, .int x2] (gPre (hK E A) (hP E A w.1))) (hQi E A Q) (hXC E A QX) w.2.1 w.2.2 A := by
  refine hx_met (own := RX1) (by decide +kernel) rfl (Nat.le_of_ble_eq_true rfl) ?_
  intro p e s m args below meth c ls cb sb F hr hlk ht hK S hl
  have hx := F.1
  have hb := F.2.1
  have hl : lv_has ls 3 [(0, .ref a0), (1, .int x1), (2, .int x2)] := hl
  unfold hf_X1_cellOf at h
  refine lv_aload_n hx hb dX1_cellOf_0 rfl (lv_at hl 0 rfl) ?_
  obtain ⟨v1, e2, h⟩ := obd_inv h
  refine hg_X1_47 F hK S e2 dX1_cellOf_1 ?_
  refine lv_iload_n hx hb dX1_cellOf_4 rfl (lv_at hl 1 rfl) ?_
  refine lv_iload_n hx hb dX1_cellOf_5 rfl (lv_at hl 2 rfl) ?_
  obtain ⟨d3, g4, hrl, hdl, h⟩ := h
  obtain ⟨v7, e6, h⟩ := obd_inv h
  refine hpc_X3_isOn_X1_100 F hK S hrl hdl e6 rfl rfl hl.1 (Nat.le_of_ble_eq_true rfl) ⟨Nat.le_of_ble_eq_true rfl, Nat.le_of_ble_eq_true rfl⟩ dX1_cellOf_6 (fun H locs S => ?_)
  refine lv_if_ne (tgt := 20) hx hb dX1_cellOf_9 (by decide) (fun c8 => ?_) (fun c8 => ?_)
  · rw [hIf_neg c8] at h
    refine lv_bipush (v := 10) hx hb dX1_cellOf_20 (by decide) ?_
    refine lv_iload_n hx hb dX1_cellOf_22 rfl (lv_at hl 2 rfl) ?_
    refine lv_imul hx hb dX1_cellOf_23 ?_
    refine lv_iload_n hx hb dX1_cellOf_24 rfl (lv_at hl 1 rfl) ?_
    refine lv_iadd hx hb dX1_cellOf_25 ?_
    exact vx_ret (h_iret F hr hlk S h dX1_cellOf_26)
  · rw [hIf_pos c8] at h
    exact h_throwIOE hst F hlk hK S ht rfl rfl h hl.1 ⟨Nat.le_of_ble_eq_true rfl, Nat.le_of_ble_eq_true rfl⟩ dX1_cellOf_12 dX1_cellOf_15 dX1_cellOf_16 dX1_cellOf_19
theorem hcl_X3_all_X1_131 {p : Program} {l : Launch} {e : Env} {s : State} {m : MethodId} {args : Array Value} {below : List Frame} {meth : Method} {c : Code} {R : Room} {H : Heap} {locs : List Loc} {cb sb pc nL : Nat} {Q : State → Prop} {ls : Array Slot} {rest : List Value} {cc : ByteArray} {E : hEnv} {A : Nat → Prop} {w : hW} {a0 : Nat} {x1 : Int32} {Q' : Nat → hO → Prop} {c1 s1 : Nat} (F : CallFix p m c cc nL s args lw_all RX1) (hK : hK E A s) (S : hS E A s.heap cb sb w H locs) (hrv : ∃ (b : Bool) (fs : List Value), w.1 a0 = some (b, .inl (3, fs))) (h1 : c1 ≤ w.2.1) (h2 : s1 ≤ w.2.2) (h : hf_X3_all E.2.2 (w.1, c1, s1) a0 x1 Q') (hrc : R.cells = cb) (hrs : R.slots = sb) (hls : ls.size = nL) (hWt : (rest.map fun v => v.category).sum ≤ 8) (hR : 7 + 1 ≤ R.frames ∧ 8 + (7 + 11) + 170 ≤ R.locals) (hdg : decode cc pc = .ok (.invokevirtual 131, 3))
    (kk : ∀ (v : Nat) (o : hO) (w' : hW) (H1 : Heap) (locs1 : List Loc), w' = (o, w.2.1 - c1, w.2.2 - s1) → Q' v o → hS E A s.heap cb sb w' H1 locs1 → W p l e R s m args below meth c H1 locs1 (cb - w'.2.1) (sb - w'.2.2) Q (F0 m (pc + 3) ls (.ref v :: rest))) : W p l e R s m args below meth c H locs (cb - w.2.1) (sb - w.2.2) Q (F0 m pc ls (.int x1 :: .ref a0 :: rest)) :=
  h_kp (g_runV F hK (hKm E A) S.1 (hmet_X3_all l E A (w.1, c1, s1) a0 x1 Q' h) (cwV 1 F.2.2.2.2 (lw_V q1232 q1233 q1234 q115 q1235) rfl rfl rfl (by decide +kernel) hR) (h_recv hK S (ci := 3) rfl hrv) rfl hls rfl hWt hdg ⟨by rw [hrc]; exact (h_left S h1 h2).1, by rw [hrs]; exact (h_left S h1 h2).2⟩) S h1 h2 kk
theorem hcl_J18_size_X1_135 {p : Program} {l : Launch} {e : Env} {s : State} {m : MethodId} {args : Array Value} {below : List Frame} {meth : Method} {c : Code} {R : Room} {H : Heap} {locs : List Loc} {cb sb pc nL : Nat} {Q : State → Prop} {ls : Array Slot} {rest : List Value} {cc : ByteArray} {E : hEnv} {A : Nat → Prop} {w : hW} {a0 : Nat} {Q' : Int32 → hO → Prop} {c1 s1 : Nat} (F : CallFix p m c cc nL s args lw_all RX1) (hK : hK E A s) (S : hS E A s.heap cb sb w H locs) (hrv : ∃ (b : Bool) (fs : List Value), w.1 a0 = some (b, .inl (13, fs))) (h1 : c1 ≤ w.2.1) (h2 : s1 ≤ w.2.2) (h : hf_J18_size E.2.2 (w.1, c1, s1) a0 Q') (hrc : R.cells = cb) (hrs : R.slots = sb) (hls : ls.size = nL) (hWt : (rest.map fun v => v.category).sum ≤ 8) (hR : 0 + 1 ≤ R.frames ∧ 8 + (1 + 11) + 0 ≤ R.locals) (hdg : decode cc pc = .ok (.invokevirtual 135, 3))
    (kk : ∀ (v : Int32) (o : hO) (w' : hW) (H1 : Heap) (locs1 : List Loc), w' = (o, w.2.1 - c1, w.2.2 - s1) → Q' v o → hS E A s.heap cb sb w' H1 locs1 → W p l e R s m args below meth c H1 locs1 (cb - w'.2.1) (sb - w'.2.2) Q (F0 m (pc + 3) ls (.int v :: rest))) : W p l e R s m args below meth c H locs (cb - w.2.1) (sb - w.2.2) Q (F0 m pc ls (.ref a0 :: rest)) :=
  h_ki (g_runV F hK (hKm E A) S.1 (hmet_J18_size l E A (w.1, c1, s1) a0 Q' h) (cwV 0 F.2.2.2.2 (lw_V q1279 q1280 q1281 q144 q1282) rfl rfl rfl (by decide +kernel) hR) (h_recv hK S (ci := 13) rfl hrv) rfl hls rfl hWt hdg ⟨by rw [hrc]; exact (h_left S h1 h2).1, by rw [hrs]; exact (h_left S h1 h2).2⟩) S h1 h2 kk
theorem hcl_J18_get_X1_249 {p : Program} {l : Launch} {e : Env} {s : State} {m : MethodId} {args : Array Value} {below : List Frame} {meth : Method} {c : Code} {R : Room} {H : Heap} {locs : List Loc} {cb sb pc nL : Nat} {Q : State → Prop} {ls : Array Slot} {rest : List Value} {cc : ByteArray} {E : hEnv} {A : Nat → Prop} {w : hW} {a0 : Nat} {x1 : Int32} {Q' : Nat → hO → Prop} {c1 s1 : Nat} (F : CallFix p m c cc nL s args lw_all RX1) (hK : hK E A s) (S : hS E A s.heap cb sb w H locs) (hrv : ∃ (b : Bool) (fs : List Value), w.1 a0 = some (b, .inl (13, fs))) (h1 : c1 ≤ w.2.1) (h2 : s1 ≤ w.2.2) (h : hf_J18_get E.2.2 (w.1, c1, s1) a0 x1 Q') (hrc : R.cells = cb) (hrs : R.slots = sb) (hls : ls.size = nL) (hWt : (rest.map fun v => v.category).sum ≤ 8) (hR : 2 + 1 ≤ R.frames ∧ 8 + (2 + 11) + 43 ≤ R.locals) (hdg : decode cc pc = .ok (.invokevirtual 249, 3))
    (kk : ∀ (v : Nat) (o : hO) (w' : hW) (H1 : Heap) (locs1 : List Loc), w' = (o, w.2.1 - c1, w.2.2 - s1) → Q' v o → hS E A s.heap cb sb w' H1 locs1 → W p l e R s m args below meth c H1 locs1 (cb - w'.2.1) (sb - w'.2.2) Q (F0 m (pc + 3) ls (.ref v :: rest))) : W p l e R s m args below meth c H locs (cb - w.2.1) (sb - w.2.2) Q (F0 m pc ls (.int x1 :: .ref a0 :: rest)) :=
  h_kp (g_runV F hK (hKm E A) S.1 (hmet_J18_get l E A (w.1, c1, s1) a0 x1 Q' h) (cwV 1 F.2.2.2.2 (lw_V q1662 q1663 q1664 q144 q1665) rfl rfl rfl (by decide +kernel) hR) (h_recv hK S (ci := 13) rfl hrv) rfl hls rfl hWt hdg ⟨by rw [hrc]; exact (h_left S h1 h2).1, by rw [hrs]; exact (h_left S h1 h2).2⟩) S h1 h2 kk
def hf_X1_thing (pl : Nat → Nat) (w : hW) (a0 : Nat) (x1 : Int32) (x2 : Int32) (QX : String → hO → Prop) (Q : Nat → hO → Prop) : Prop :=
  obd (hgP w a0 1 3) fun v1 =>
  obd (hIs w v1 3) fun u3 =>
  hcall w fun n5 n6 => hf_X3_all pl (w.1, n5, n6) v1 x1 fun v9 o8 => hret w n5 n6 o8 fun w7 =>
  obd (hIs w7 v9 13) fun u10 =>
  hcall w7 fun n12 n13 => hf_J18_size pl (w7.1, n12, n13) v9 fun v16 o15 => hret w7 n12 n13 o15 fun w14 =>
  obd (fp_isIn g00 x2 0 (v16 - 1)) fun v17 =>
  hIf (v17 = 0) (
    hthr w14 "java/util/NoSuchElementException" QX) <|
    obd (hIs w14 v9 13) fun u20 =>
    hcall w14 fun n22 n23 => hf_J18_get pl (w14.1, n22, n23) v9 x2 fun v26 o25 => hret w14 n22 n23 o25 fun w24 =>
    obd (hIsC w24 v26) fun u27 =>
    Q v26 w24.1
abbrev hrm_X1_thing (c s : Nat) : Room := { frames := 8, cells := c, slots := s, locals := 196 }
set_option maxHeartbeats 4000000 in
set_option maxRecDepth 100000 in
theorem hmet_X1_thing (l : Launch) (hst : l.stackTraces = false) (E : hEnv) (A : Nat → Prop) (w : hW) (a0 : Nat) (x1 : Int32) (x2 : Int32) (QX : String → hO → Prop) (Q : Nat → hO → Prop) (h : hf_X1_thing E.2.2 w a0 x1 x2 QX Q) : vx_Met l yX1_thing (ws_ yX1_thing cX1_thing 4 (some (.object "MirrorDoors$Cell"))) (hrm_X1_thing w.2.1 w.2.2) (va_Pc [.ref a0, .int x1, .int x2] (gPre (hK E A) (hP E A w.1))) (hQp E A Q) (hXC E A QX) w.2.1 w.2.2 A := by
  refine hx_met (own := RX1) (by decide +kernel) rfl (Nat.le_of_ble_eq_true rfl) ?_
  intro p e s m args below meth c ls cb sb F hr hlk ht hK S hl
  have hx := F.1
  have hb := F.2.1
  have hl : lv_has ls 4 [(0, .ref a0), (1, .int x1), (2, .int x2)] := hl
  unfold hf_X1_thing at h
  refine lv_aload_n hx hb dX1_thing_0 rfl (lv_at hl 0 rfl) ?_
  obtain ⟨v1, e2, h⟩ := obd_inv h
  refine hg_X1_47 F hK S e2 dX1_thing_1 ?_
  refine lv_iload_n hx hb dX1_thing_4 rfl (lv_at hl 1 rfl) ?_
  obtain ⟨u3, e4, h⟩ := obd_inv h
  obtain ⟨n5, n6, h1, h2, h⟩ := hcall_inv h
  refine hcl_X3_all_X1_131 F hK S (hIs_inv e4) h1 h2 h rfl rfl hl.1 (Nat.le_of_ble_eq_true rfl) ⟨Nat.le_of_ble_eq_true rfl, Nat.le_of_ble_eq_true rfl⟩ dX1_thing_5 (fun v9 o8 w7 H locs hw h S => ?_)
  replace h := hret_mp h hw
  clear hw h1 h2
  refine lv_astore_n (lv' := [(3, .ref v9), (0, .ref a0), (1, .int x1), (2, .int x2)]) hx hb dX1_thing_8 rfl hl (by decide) rfl (fun ls hl => ?_)
  refine lv_iload_n hx hb dX1_thing_9 rfl (lv_at hl 3 rfl) ?_
  refine lv_iconst (v := 0) hx hb dX1_thing_10 (by decide) ?_
  refine lv_aload_n hx hb dX1_thing_11 rfl (lv_at hl 0 rfl) ?_
  obtain ⟨u10, e11, h⟩ := obd_inv h
  obtain ⟨n12, n13, h1, h2, h⟩ := hcall_inv h
  refine hcl_J18_size_X1_135 F hK S (hIs_inv e11) h1 h2 h rfl rfl hl.1 (Nat.le_of_ble_eq_true rfl) ⟨Nat.le_of_ble_eq_true rfl, Nat.le_of_ble_eq_true rfl⟩ dX1_thing_12 (fun v16 o15 w14 H locs hw h S => ?_)
  replace h := hret_mp h hw
  clear hw h1 h2
  refine lv_iconst (v := 1) hx hb dX1_thing_15 (by decide) ?_
  refine lv_isub hx hb dX1_thing_16 ?_
  obtain ⟨v17, e18, h⟩ := obd_inv h
  refine call_p_isIn_X1_165 (hKm E A) F hK S.1 e18 hl.1 (Nat.le_of_ble_eq_true rfl) ⟨Nat.le_of_ble_eq_true rfl, Nat.le_of_ble_eq_true rfl⟩ ⟨Nat.sub_le _ _, Nat.sub_le _ _⟩ dX1_thing_17 (fun H1 locs1 S1 => ?_)
  have S : hS E A s.heap _ _ _ _ _ := ⟨S1, S.2⟩
  refine lv_if_ne (tgt := 31) hx hb dX1_thing_20 (by decide) (fun c19 => ?_) (fun c19 => ?_)
  · rw [hIf_neg c19] at h
    refine lv_aload_n hx hb dX1_thing_31 rfl (lv_at hl 0 rfl) ?_
    refine lv_iload_n hx hb dX1_thing_32 rfl (lv_at hl 3 rfl) ?_
    obtain ⟨u20, e21, h⟩ := obd_inv h
    obtain ⟨n22, n23, h1, h2, h⟩ := hcall_inv h
    refine hcl_J18_get_X1_249 F hK S (hIs_inv e21) h1 h2 h rfl rfl hl.1 (Nat.le_of_ble_eq_true rfl) ⟨Nat.le_of_ble_eq_true rfl, Nat.le_of_ble_eq_true rfl⟩ dX1_thing_33 (fun v26 o25 w24 H locs hw h S => ?_)
    replace h := hret_mp h hw
    clear hw h1 h2
    obtain ⟨u27, e28, h⟩ := obd_inv h
    refine h_castC F hK S e28 q317 dX1_thing_36 ?_
    exact vx_ret (h_aret F hr (Or.inl ⟨_, rfl⟩) hlk S h dX1_thing_39)
  · rw [hIf_pos c19] at h
    exact h_throwNSE hst F hlk hK S ht rfl rfl h hl.1 ⟨Nat.le_of_ble_eq_true rfl, Nat.le_of_ble_eq_true rfl⟩ dX1_thing_23 dX1_thing_26 dX1_thing_27 dX1_thing_30
theorem hcl_X1_cellOf_X1_146 {p : Program} {l : Launch} {e : Env} {s : State} {m : MethodId} {args : Array Value} {below : List Frame} {meth : Method} {c : Code} {R : Room} {H : Heap} {locs : List Loc} {cb sb pc nL : Nat} {ls : Array Slot} {rest : List Value} {cc : ByteArray} {E : hEnv} {A : Nat → Prop} {w : hW} {a0 : Nat} {x1 : Int32} {x2 : Int32} {QX : String → hO → Prop} {Q' : Int32 → hO → Prop} {Qa : Array Value → State → Outcome → State → Prop} {c1 s1 : Nat} (hst : l.stackTraces = false) (hlk : meth.locks = false) (ht : ∀ x ∈ c.exceptionTable.toList, False) (F : CallFix p m c cc nL s args lw_all RX1) (hK : hK E A s) (S : hS E A s.heap cb sb w H locs) (hrv : ∃ (b : Bool) (fs : List Value), w.1 a0 = some (b, .inl (1, fs))) (h1 : c1 ≤ w.2.1) (h2 : s1 ≤ w.2.2) (h : hf_X1_cellOf E.2.2 (w.1, c1, s1) a0 x1 x2 QX Q') (hrc : R.cells = cb) (hrs : R.slots = sb) (hls : ls.size = nL) (hWt : (rest.map fun v => v.category).sum ≤ 8) (hR : 6 + 1 ≤ R.frames ∧ 8 + (3 + 11) + 94 ≤ R.locals) (hdg : decode cc pc = .ok (.invokevirtual 146, 3))
    (kk : ∀ (v : Int32) (o : hO) (w' : hW) (H1 : Heap) (locs1 : List Loc), w' = (o, w.2.1 - c1, w.2.2 - s1) → Q' v o → hS E A s.heap cb sb w' H1 locs1 → W p l e R s m args below meth c H1 locs1 (cb - w'.2.1) (sb - w'.2.2) (vx_MQ below Qa (hXC E A QX) args s cb sb A) (F0 m (pc + 3) ls (.int v :: rest))) : W p l e R s m args below meth c H locs (cb - w.2.1) (sb - w.2.2) (vx_MQ below Qa (hXC E A QX) args s cb sb A) (F0 m pc ls (.int x2 :: .int x1 :: .ref a0 :: rest)) :=
  hx_ki F hlk ht (vx_runV (g := F0 m pc ls _) F (hmet_X1_cellOf l hst E A (w.1, c1, s1) a0 x1 x2 QX Q' h) (cwV 2 F.2.2.2.2 (lw_V q1455 q1457 qs31 q111 q1458) rfl rfl rfl (by decide +kernel) hR) ⟨gBlind (hKm E A), (h_recv hK S (ci := 1) rfl hrv), fun U hU hW => ⟨rfl, by rw [hU]; exact S.1.1, hKm E A s U hW (by rw [hU]; exact S.1.2.1) (by rw [hU]; exact S.1.2.2.1) hK⟩⟩ rfl rfl hls rfl (lv_room hWt) hdg ⟨by rw [hrc]; exact (h_left S h1 h2).1, by rw [hrs]; exact (h_left S h1 h2).2⟩) S h1 h2 kk
theorem hcl_X1_whyNotLay_X1_150 {p : Program} {l : Launch} {e : Env} {s : State} {m : MethodId} {args : Array Value} {below : List Frame} {meth : Method} {c : Code} {R : Room} {H : Heap} {locs : List Loc} {cb sb pc nL : Nat} {Q : State → Prop} {ls : Array Slot} {rest : List Value} {cc : ByteArray} {E : hEnv} {A : Nat → Prop} {w : hW} {a0 : Nat} {x1 : Int32} {x2 : Int32} {Q' : Int32 → hO → Prop} {c1 s1 : Nat} (F : CallFix p m c cc nL s args lw_all RX1) (hK : hK E A s) (S : hS E A s.heap cb sb w H locs) (hrv : ∃ (b : Bool) (fs : List Value), w.1 a0 = some (b, .inl (1, fs))) (h1 : c1 ≤ w.2.1) (h2 : s1 ≤ w.2.2) (h : hf_X1_whyNotLay E.2.2 (w.1, c1, s1) a0 x1 x2 Q') (hrc : R.cells = cb) (hrs : R.slots = sb) (hls : ls.size = nL) (hWt : (rest.map fun v => v.category).sum ≤ 8) (hR : 2 + 1 ≤ R.frames ∧ 8 + (3 + 11) + 41 ≤ R.locals) (hdg : decode cc pc = .ok (.invokevirtual 150, 3))
    (kk : ∀ (v : Int32) (o : hO) (w' : hW) (H1 : Heap) (locs1 : List Loc), w' = (o, w.2.1 - c1, w.2.2 - s1) → Q' v o → hS E A s.heap cb sb w' H1 locs1 → W p l e R s m args below meth c H1 locs1 (cb - w'.2.1) (sb - w'.2.2) Q (F0 m (pc + 3) ls (.int v :: rest))) : W p l e R s m args below meth c H locs (cb - w.2.1) (sb - w.2.2) Q (F0 m pc ls (.int x2 :: .int x1 :: .ref a0 :: rest)) :=
  h_ki (g_runV F hK (hKm E A) S.1 (hmet_X1_whyNotLay l E A (w.1, c1, s1) a0 x1 x2 Q' h) (cwV 2 F.2.2.2.2 (lw_V q1475 q1477 qs32 q111 q1478) rfl rfl rfl (by decide +kernel) hR) (h_recv hK S (ci := 1) rfl hrv) rfl hls rfl hWt hdg ⟨by rw [hrc]; exact (h_left S h1 h2).1, by rw [hrs]; exact (h_left S h1 h2).2⟩) S h1 h2 kk
theorem hn_X1_154 {p : Program} {l : Launch} {e : Env} {s : State} {m : MethodId} {args : Array Value} {below : List Frame} {meth : Method} {c : Code} {R : Room} {H : Heap} {locs : List Loc} {cb sb pc nL : Nat} {Q : State → Prop} {ls : Array Slot} {rest : List Value} {cc : ByteArray} {E : hEnv} {A : Nat → Prop} {w : hW} (F : CallFix p m c cc nL s args lw_all RX1) (hK : hK E A s) (S : hS E A s.heap cb sb w H locs) (hrc : R.cells = cb) (hrs : R.slots = sb) {f : Nat → hW → Prop} (h : hNew w (.inl (5, [.int 0, .int 0])) 2 f) (hdg : decode cc pc = .ok (.new 154, 3)) (kk : ∀ (q : Nat) (w' : hW) (H1 : Heap), f q w' → hS E A s.heap cb sb w' H1 locs → W p l e R s m args below meth c H1 locs (cb - w'.2.1) (sb - w'.2.2) Q (F0 m (pc + 3) ls (.ref q :: rest))) : W p l e R s m args below meth c H locs (cb - w.2.1) (sb - w.2.2) Q (F0 m pc ls rest) :=
  h_new F hK S hrc hrs (C := RX6) (T := TX6) (N := 2) tyX6 tyX6_ok q1483 q307 q118 in_X6 rfl (fun j hj => by match j, hj with | 0, _ => rfl | 1, _ => rfl) h hdg kk
theorem hcl_X6_init_2_X1_156 {p : Program} {l : Launch} {e : Env} {s : State} {m : MethodId} {args : Array Value} {below : List Frame} {meth : Method} {c : Code} {R : Room} {H : Heap} {locs : List Loc} {cb sb pc nL : Nat} {Q : State → Prop} {ls : Array Slot} {rest : List Value} {cc : ByteArray} {E : hEnv} {A : Nat → Prop} {w : hW} {a0 : Nat} {x1 : Int32} {Q' : hO → Prop} {c1 s1 : Nat} (F : CallFix p m c cc nL s args lw_all RX1) (hK : hK E A s) (S : hS E A s.heap cb sb w H locs) (h1 : c1 ≤ w.2.1) (h2 : s1 ≤ w.2.2) (h : hf_X6_init_2 E.2.2 (w.1, c1, s1) a0 x1 Q') (hrc : R.cells = cb) (hrs : R.slots = sb) (hls : ls.size = nL) (hWt : (rest.map fun v => v.category).sum ≤ 8) (hR : 3 + 1 ≤ R.frames ∧ 8 + (2 + 11) + 63 ≤ R.locals) (hdg : decode cc pc = .ok (.invokespecial 156, 3))
    (kk : ∀ (o : hO) (w' : hW) (H1 : Heap) (locs1 : List Loc), w' = (o, w.2.1 - c1, w.2.2 - s1) → Q' o → hS E A s.heap cb sb w' H1 locs1 → W p l e R s m args below meth c H1 locs1 (cb - w'.2.1) (sb - w'.2.2) Q (F0 m (pc + 3) ls (rest))) : W p l e R s m args below meth c H locs (cb - w.2.1) (sb - w.2.2) Q (F0 m pc ls (.int x1 :: .ref a0 :: rest)) :=
  h_kv (g_runI F hK (hKm E A) S.1 (hmet_X6_init_2 l E A (w.1, c1, s1) a0 x1 Q' h) (cwI 1 F.2.2.2.2 (lw_meth q1042) rfl rfl rfl (F.2.2.2.2 _ q118) (F.2.2.2.2 _ q1484) (F.2.2.2.2 _ q1041) rfl (by decide +kernel) hR) rfl hls rfl hWt hdg ⟨by rw [hrc]; exact (h_left S h1 h2).1, by rw [hrs]; exact (h_left S h1 h2).2⟩) S h1 h2 kk
theorem hcl_X1_put_2_X1_157 {p : Program} {l : Launch} {e : Env} {s : State} {m : MethodId} {args : Array Value} {below : List Frame} {meth : Method} {c : Code} {R : Room} {H : Heap} {locs : List Loc} {cb sb pc nL : Nat} {Q : State → Prop} {ls : Array Slot} {rest : List Value} {cc : ByteArray} {E : hEnv} {A : Nat → Prop} {w : hW} {a0 : Nat} {x1 : Nat} {Q' : Nat → hO → Prop} {c1 s1 : Nat} (F : CallFix p m c cc nL s args lw_all RX1) (hK : hK E A s) (S : hS E A s.heap cb sb w H locs) (hrv : ∃ (b : Bool) (fs : List Value), w.1 a0 = some (b, .inl (1, fs))) (h1 : c1 ≤ w.2.1) (h2 : s1 ≤ w.2.2) (h : hf_X1_put_2 E.2.2 (w.1, c1, s1) a0 x1 Q') (hrc : R.cells = cb) (hrs : R.slots = sb) (hls : ls.size = nL) (hWt : (rest.map fun v => v.category).sum ≤ 8) (hR : 8 + 1 ≤ R.frames ∧ 8 + (3 + 11) + 179 ≤ R.locals) (hdg : decode cc pc = .ok (.invokevirtual 157, 3))
    (kk : ∀ (v : Nat) (o : hO) (w' : hW) (H1 : Heap) (locs1 : List Loc), w' = (o, w.2.1 - c1, w.2.2 - s1) → Q' v o → hS E A s.heap cb sb w' H1 locs1 → W p l e R s m args below meth c H1 locs1 (cb - w'.2.1) (sb - w'.2.2) Q (F0 m (pc + 3) ls (.ref v :: rest))) : W p l e R s m args below meth c H locs (cb - w.2.1) (sb - w.2.2) Q (F0 m pc ls (.ref x1 :: .ref a0 :: rest)) :=
  h_kp (g_runV F hK (hKm E A) S.1 (hmet_X1_put_2 l E A (w.1, c1, s1) a0 x1 Q' h) (cwV 1 F.2.2.2.2 (lw_V q1485 q1487 qs34 q111 q1488) rfl rfl rfl (by decide +kernel) hR) (h_recv hK S (ci := 1) rfl hrv) rfl hls rfl hWt hdg ⟨by rw [hrc]; exact (h_left S h1 h2).1, by rw [hrs]; exact (h_left S h1 h2).2⟩) S h1 h2 kk
theorem hpc_X3_many_X1_161 {p : Program} {l : Launch} {e : Env} {s : State} {m : MethodId} {args : Array Value} {below : List Frame} {meth : Method} {c : Code} {R : Room} {H : Heap} {locs : List Loc} {cb sb pc nL : Nat} {Q : State → Prop} {ls : Array Slot} {rest : List Value} {cc : ByteArray} {E : hEnv} {A : Nat → Prop} {w : hW} {d : hD} {g : mS} {a : Nat} {x1 : Int32} {r : Int32} (F : CallFix p m c cc nL s args lw_all RX1) (hK : hK E A s) (S : hS E A s.heap cb sb w H locs) (hr : hRel d g w.1) (hd : d.1 100 = a) (h : fc_X3_many g 100 x1 = some r) (hrc : R.cells = cb) (hrs : R.slots = sb) (hls : ls.size = nL) (hWt : (rest.map fun v => v.category).sum ≤ 8) (hR : rm_c_X3_many.frames + 1 ≤ R.frames ∧ 8 + (5 + 11) + rm_c_X3_many.locals ≤ R.locals) (hdg : decode cc pc = .ok (.invokevirtual 161, 3))
    (kk : ∀ (H1 : Heap) (locs1 : List Loc), hS E A s.heap cb sb w H1 locs1 → W p l e R s m args below meth c H1 locs1 (cb - w.2.1) (sb - w.2.2) Q (F0 m (pc + 3) ls (.int r :: rest))) : W p l e R s m args below meth c H locs (cb - w.2.1) (sb - w.2.2) Q (F0 m pc ls (.int x1 :: .ref a :: rest)) := by
  subst hd
  refine hb_ki hK S hr (gZ := g) (va_runV (g := F0 m pc ls _) F (met_c_X3_many l (hDE E d g H.size) g 100 x1 hOk100 r h) (cwV 1 F.2.2.2.2 (lw_V q1489 q1006 q1007 q115 q1008) rfl rfl rfl (by decide +kernel) hR) ⟨gBlind (cKm (hDE E d g H.size)), h_recv hK S (ci := 3) rfl (hRel_w hr), fun U hU hW => ⟨rfl, hB_pre hK S hr U hU hW⟩⟩ rfl rfl hls rfl (lv_room hWt) hdg ⟨by rw [hrc]; exact Nat.sub_le _ _, by rw [hrs]; exact Nat.sub_le _ _⟩) (fun w' H1 locs1 hw _ S1 => ?_)
  rw [hPut_self hr] at hw
  subst hw
  exact kk H1 locs1 S1
def hf_X1_putWall (pl : Nat → Nat) (w : hW) (a0 : Nat) (x1 : Int32) (x2 : Int32) (QX : String → hO → Prop) (Q : Int32 → hO → Prop) : Prop :=
  obd (hIs w a0 1) fun u1 =>
  hcall w fun n3 n4 => hf_X1_cellOf pl (w.1, n3, n4) a0 x1 x2 QX fun v7 o6 => hret w n3 n4 o6 fun w5 =>
  obd (hIs w5 a0 1) fun u8 =>
  hcall w5 fun n10 n11 => hf_X1_whyNotLay pl (w5.1, n10, n11) a0 v7 1 fun v14 o13 => hret w5 n10 n11 o13 fun w12 =>
  hjoin (fun (v38 : Int32) (g39 : hW) =>
    Q v38 g39.1) fun k41 =>
  hIf (v14 = 0) (
    hNewR 6 w12 1 fun q16 w17 =>
    hNew w17 (.inl (5, [.int 0, .int 0])) 2 fun q18 w19 =>
    hcall w19 fun n20 n21 => hf_X6_init_2 pl (w19.1, n20, n21) q18 v7 fun o23 => hret w19 n20 n21 o23 fun w22 =>
    obd (hsR w22 q16 0 (some q18)) fun w24 =>
    obd (hIs w24 a0 1) fun u26 =>
    hcall w24 fun n28 n29 => hf_X1_put_2 pl (w24.1, n28, n29) a0 q16 fun v32 o31 => hret w24 n28 n29 o31 fun w30 =>
    ∃ (d33 : hD) (g34 : mS), hRel d33 g34 w30.1 ∧ d33.1 100 = v32 ∧ obd (fc_X3_many g34 100 0) fun v37 =>
    k41 v37 w30) <|
    k41 v14 w12
abbrev hrm_X1_putWall (c s : Nat) : Room := { frames := 9, cells := c, slots := s, locals := 201 }
set_option maxHeartbeats 4000000 in
set_option maxRecDepth 100000 in
theorem hmet_X1_putWall (l : Launch) (hst : l.stackTraces = false) (E : hEnv) (A : Nat → Prop) (w : hW) (a0 : Nat) (x1 : Int32) (x2 : Int32) (QX : String → hO → Prop) (Q : Int32 → hO → Prop) (h : hf_X1_putWall E.2.2 w a0 x1 x2 QX Q) : vx_Met l yX1_putWall (ws_ yX1_putWall cX1_putWall 5 (some .int)) (hrm_X1_putWall w.2.1 w.2.2) (va_Pc [.ref a0, .int x1, .int x2] (gPre (hK E A) (hP E A w.1))) (hQi E A Q) (hXC E A QX) w.2.1 w.2.2 A := by
  refine hx_met (own := RX1) (by decide +kernel) rfl (Nat.le_of_ble_eq_true rfl) ?_
  intro p e s m args below meth c ls cb sb F hr hlk ht hK S hl
  have hx := F.1
  have hb := F.2.1
  have hl : lv_has ls 5 [(0, .ref a0), (1, .int x1), (2, .int x2)] := hl
  unfold hf_X1_putWall at h
  refine lv_aload_n hx hb dX1_putWall_0 rfl (lv_at hl 0 rfl) ?_
  refine lv_iload_n hx hb dX1_putWall_1 rfl (lv_at hl 1 rfl) ?_
  refine lv_iload_n hx hb dX1_putWall_2 rfl (lv_at hl 2 rfl) ?_
  obtain ⟨u1, e2, h⟩ := obd_inv h
  obtain ⟨n3, n4, h1, h2, h⟩ := hcall_inv h
  refine hcl_X1_cellOf_X1_146 hst hlk ht F hK S (hIs_inv e2) h1 h2 h rfl rfl hl.1 (Nat.le_of_ble_eq_true rfl) ⟨Nat.le_of_ble_eq_true rfl, Nat.le_of_ble_eq_true rfl⟩ dX1_putWall_3 (fun v7 o6 w5 H locs hw h S => ?_)
  replace h := hret_mp h hw
  clear hw h1 h2
  refine lv_istore_n (lv' := [(3, .int v7), (0, .ref a0), (1, .int x1), (2, .int x2)]) hx hb dX1_putWall_6 rfl hl (by decide) rfl (fun ls hl => ?_)
  refine lv_aload_n hx hb dX1_putWall_7 rfl (lv_at hl 1 rfl) ?_
  refine lv_iload_n hx hb dX1_putWall_8 rfl (lv_at hl 0 rfl) ?_
  refine lv_iconst (v := 1) hx hb dX1_putWall_9 (by decide) ?_
  obtain ⟨u8, e9, h⟩ := obd_inv h
  obtain ⟨n10, n11, h1, h2, h⟩ := hcall_inv h
  refine hcl_X1_whyNotLay_X1_150 F hK S (hIs_inv e9) h1 h2 h rfl rfl hl.1 (Nat.le_of_ble_eq_true rfl) ⟨Nat.le_of_ble_eq_true rfl, Nat.le_of_ble_eq_true rfl⟩ dX1_putWall_10 (fun v14 o13 w12 H locs hw h S => ?_)
  replace h := hret_mp h hw
  clear hw h1 h2
  refine lv_istore (lv' := [(4, .int v14), (3, .int v7), (0, .ref a0), (1, .int x1), (2, .int x2)]) hx hb dX1_putWall_13 hl (by decide) rfl (fun ls hl => ?_)
  refine lv_iload hx hb dX1_putWall_15 (lv_at hl 0 rfl) ?_
  obtain ⟨k41, hk41, h⟩ := hj2_inv h
  have hJ48 : ∀ (v38 : Int32) (g39 : hW) (H : Heap) (locs : List Loc) (ls : Array Slot), k41 v38 g39 → hS E A s.heap cb sb g39 H locs → lv_has ls 5 [] → W p l e (hrm_X1_putWall cb sb) s m args below meth c H locs (cb - g39.2.1) (sb - g39.2.2) (vx_MQ below (hQi E A Q) (hXC E A QX) args s cb sb A) (F0 m 48 ls [.int v38]) := by
    intro v38 g39 H locs ls h S hl
    replace h := hk41 _ _ h
    exact vx_ret (h_iret F hr hlk S h dX1_putWall_48)
  clear hk41
  refine lv_if_eq (tgt := 25) hx hb dX1_putWall_17 (by decide) (fun c15 => ?_) (fun c15 => ?_)
  · rw [hIf_pos c15] at h
    refine lv_aload_n hx hb dX1_putWall_25 rfl (lv_at hl 2 rfl) ?_
    refine lv_iconst (v := 1) hx hb dX1_putWall_26 (by decide) ?_
    refine h_newR 6 rfl rfl F hK S rfl rfl h q317 hK.2.1.2.2.2.2.2.2.2.1 dX1_putWall_27 (fun q16 w17 H h S => ?_)
    refine lv_dup hx hb dX1_putWall_30 rfl ?_
    refine lv_iconst (v := 0) hx hb dX1_putWall_31 (by decide) ?_
    refine hn_X1_154 F hK S rfl rfl h dX1_putWall_32 (fun q18 w19 H h S => ?_)
    refine lv_dup hx hb dX1_putWall_35 rfl ?_
    refine lv_iload_n hx hb dX1_putWall_36 rfl (lv_at hl 1 rfl) ?_
    obtain ⟨n20, n21, h1, h2, h⟩ := hcall_inv h
    refine hcl_X6_init_2_X1_156 F hK S h1 h2 h rfl rfl hl.1 (Nat.le_of_ble_eq_true rfl) ⟨Nat.le_of_ble_eq_true rfl, Nat.le_of_ble_eq_true rfl⟩ dX1_putWall_37 (fun o23 w22 H locs hw h S => ?_)
    replace h := hret_mp h hw
    clear hw h1 h2
    obtain ⟨w24, e25, h⟩ := obd_inv h
    refine h_aast F hK S e25 dX1_putWall_40 (fun H locs S => ?_)
    obtain ⟨u26, e27, h⟩ := obd_inv h
    obtain ⟨n28, n29, h1, h2, h⟩ := hcall_inv h
    refine hcl_X1_put_2_X1_157 F hK S (hIs_inv e27) h1 h2 h rfl rfl hl.1 (Nat.le_of_ble_eq_true rfl) ⟨Nat.le_of_ble_eq_true rfl, Nat.le_of_ble_eq_true rfl⟩ dX1_putWall_41 (fun v32 o31 w30 H locs hw h S => ?_)
    replace h := hret_mp h hw
    clear hw h1 h2
    refine lv_iconst (v := 0) hx hb dX1_putWall_44 (by decide) ?_
    obtain ⟨d33, g34, hrl, hdl, h⟩ := h
    obtain ⟨v37, e36, h⟩ := obd_inv h
    refine hpc_X3_many_X1_161 F hK S hrl hdl e36 rfl rfl hl.1 (Nat.le_of_ble_eq_true rfl) ⟨Nat.le_of_ble_eq_true rfl, Nat.le_of_ble_eq_true rfl⟩ dX1_putWall_45 (fun H locs S => ?_)
    exact hJ48 _ _ _ _ _ h S (lv_sub hl [] rfl)
  · rw [hIf_neg c15] at h
    refine lv_iload hx hb dX1_putWall_20 (lv_at hl 0 rfl) ?_
    refine lv_goto (tgt := 48) hx hb dX1_putWall_22 (by decide) ?_
    exact hJ48 _ _ _ _ _ h S (lv_sub hl [] rfl)
theorem hcl_X1_ask_X1_169 {p : Program} {l : Launch} {e : Env} {s : State} {m : MethodId} {args : Array Value} {below : List Frame} {meth : Method} {c : Code} {R : Room} {H : Heap} {locs : List Loc} {cb sb pc nL : Nat} {ls : Array Slot} {rest : List Value} {cc : ByteArray} {E : hEnv} {A : Nat → Prop} {w : hW} {x1 : Int32} {QX : String → hO → Prop} {Q' : hO → Prop} {Qa : Array Value → State → Outcome → State → Prop} {c1 s1 : Nat} (hst : l.stackTraces = false) (hlk : meth.locks = false) (ht : ∀ x ∈ c.exceptionTable.toList, False) (F : CallFix p m c cc nL s args lw_all RX1) (hK : hK E A s) (S : hS E A s.heap cb sb w H locs) (h1 : c1 ≤ w.2.1) (h2 : s1 ≤ w.2.2) (h : hf_X1_ask E.2.2 (w.1, c1, s1) x1 QX Q') (hrc : R.cells = cb) (hrs : R.slots = sb) (hls : ls.size = nL) (hWt : (rest.map fun v => v.category).sum ≤ 8) (hR : 6 + 1 ≤ R.frames ∧ 8 + (1 + 11) + 94 ≤ R.locals) (hdg : decode cc pc = .ok (.invokestatic 169, 3))
    (kk : ∀ (o : hO) (w' : hW) (H1 : Heap) (locs1 : List Loc), w' = (o, w.2.1 - c1, w.2.2 - s1) → Q' o → hS E A s.heap cb sb w' H1 locs1 → W p l e R s m args below meth c H1 locs1 (cb - w'.2.1) (sb - w'.2.2) (vx_MQ below Qa (hXC E A QX) args s cb sb A) (F0 m (pc + 3) ls (rest))) : W p l e R s m args below meth c H locs (cb - w.2.1) (sb - w.2.2) (vx_MQ below Qa (hXC E A QX) args s cb sb A) (F0 m pc ls (.int x1 :: rest)) :=
  hx_kv F hlk ht (vx_runS (g := F0 m pc ls _) F (hmet_X1_ask l hst E A (w.1, c1, s1) x1 QX Q' h) (va_cwS 1 F.2.2.2.2 (lw_S q1498 q1499 q111 q1500) rfl rfl rfl (by decide +kernel) hR) ⟨gBlind (hKm E A), fun U hU hW => ⟨rfl, by rw [hU]; exact S.1.1, hKm E A s U hW (by rw [hU]; exact S.1.2.1) (by rw [hU]; exact S.1.2.2.1) hK⟩⟩ rfl rfl hls rfl (lv_room hWt) hdg ⟨by rw [hrc]; exact (h_left S h1 h2).1, by rw [hrs]; exact (h_left S h1 h2).2⟩) S h1 h2 kk
theorem hcl_X3_numberOf_X1_173 {p : Program} {l : Launch} {e : Env} {s : State} {m : MethodId} {args : Array Value} {below : List Frame} {meth : Method} {c : Code} {R : Room} {H : Heap} {locs : List Loc} {cb sb pc nL : Nat} {Q : State → Prop} {ls : Array Slot} {rest : List Value} {cc : ByteArray} {E : hEnv} {A : Nat → Prop} {w : hW} {a0 : Nat} {x1 : Nat} {Q' : Int32 → hO → Prop} {c1 s1 : Nat} (F : CallFix p m c cc nL s args lw_all RX1) (hK : hK E A s) (S : hS E A s.heap cb sb w H locs) (hrv : ∃ (b : Bool) (fs : List Value), w.1 a0 = some (b, .inl (3, fs))) (h1 : c1 ≤ w.2.1) (h2 : s1 ≤ w.2.2) (h : hf_X3_numberOf E.2.2 (w.1, c1, s1) a0 x1 Q') (hrc : R.cells = cb) (hrs : R.slots = sb) (hls : ls.size = nL) (hWt : (rest.map fun v => v.category).sum ≤ 8) (hR : 8 + 1 ≤ R.frames ∧ 8 + (2 + 11) + 196 ≤ R.locals) (hdg : decode cc pc = .ok (.invokevirtual 173, 3))
    (kk : ∀ (v : Int32) (o : hO) (w' : hW) (H1 : Heap) (locs1 : List Loc), w' = (o, w.2.1 - c1, w.2.2 - s1) → Q' v o → hS E A s.heap cb sb w' H1 locs1 → W p l e R s m args below meth c H1 locs1 (cb - w'.2.1) (sb - w'.2.2) Q (F0 m (pc + 3) ls (.int v :: rest))) : W p l e R s m args below meth c H locs (cb - w.2.1) (sb - w.2.2) Q (F0 m pc ls (.ref x1 :: .ref a0 :: rest)) :=
  h_ki (g_runV F hK (hKm E A) S.1 (hmet_X3_numberOf l E A (w.1, c1, s1) a0 x1 Q' h) (cwV 1 F.2.2.2.2 (lw_V q1506 q1507 q1508 q115 q1509) rfl rfl rfl (by decide +kernel) hR) (h_recv hK S (ci := 3) rfl hrv) rfl hls rfl hWt hdg ⟨by rw [hrc]; exact (h_left S h1 h2).1, by rw [hrs]; exact (h_left S h1 h2).2⟩) S h1 h2 kk
def hf_X1_putMirror (pl : Nat → Nat) (w : hW) (a0 : Nat) (x1 : Int32) (x2 : Int32) (x3 : Int32) (x4 : Int32) (x5 : Int32) (QX : String → hO → Prop) (Q : Int32 → hO → Prop) : Prop :=
  obd (hIs w a0 1) fun u1 =>
  hcall w fun n3 n4 => hf_X1_cellOf pl (w.1, n3, n4) a0 x1 x2 QX fun v7 o6 => hret w n3 n4 o6 fun w5 =>
  obd (fp_isIn g00 x4 0 1) fun v8 =>
  hjoin (fun (v14 : Int32) =>
    hcall w5 fun n15 n16 => hf_X1_ask pl (w5.1, n15, n16) v14 QX fun o18 => hret w5 n15 n16 o18 fun w17 =>
    obd (hgP w17 a0 1 3) fun v19 =>
    obd (hIs w17 v19 3) fun u21 =>
    hcall w17 fun n23 n24 => hf_X3_all pl (w17.1, n23, n24) v19 1 fun v27 o26 => hret w17 n23 n24 o26 fun w25 =>
    obd (hIs w25 v27 13) fun u28 =>
    hcall w25 fun n30 n31 => hf_J18_size pl (w25.1, n30, n31) v27 fun v34 o33 => hret w25 n30 n31 o33 fun w32 =>
    hjoin (fun (v36 : Int32) =>
      obd (hIs w32 a0 1) fun u37 =>
      hcall w32 fun n39 n40 => hf_X1_whyNotLay pl (w32.1, n39, n40) a0 v7 v36 fun v43 o42 => hret w32 n39 n40 o42 fun w41 =>
      hIf (v43 = 0) (
        hNew w41 (.inl (6, [.int 0, .int 0, .int 0, .int 0, .int 0, .int 0])) 6 fun q45 w46 =>
        hcall w46 fun n47 n48 => hf_X7_init pl (w46.1, n47, n48) q45 v7 x3 x4 x5 fun o50 => hret w46 n47 n48 o50 fun w49 =>
        hNewR 6 w49 1 fun q51 w52 =>
        obd (hsR w52 q51 0 (some q45)) fun w53 =>
        obd (hIs w53 a0 1) fun u55 =>
        hcall w53 fun n57 n58 => hf_X1_put_2 pl (w53.1, n57, n58) a0 q51 fun v61 o60 => hret w53 n57 n58 o60 fun w59 =>
        obd (hIs w59 v61 3) fun u62 =>
        hcall w59 fun n64 n65 => hf_X3_numberOf pl (w59.1, n64, n65) v61 q45 fun v68 o67 => hret w59 n64 n65 o67 fun w66 =>
        Q v68 w66.1) <|
        Q v43 w41.1) fun k70 =>
    hIf (12 ≤ v34) (
      k70 0) <|
      k70 1) fun k72 =>
  hIf (v8 = 0) (
    k72 0) <|
    obd (fp_isIn g00 x5 0 2) fun v11 =>
    hIf (v11 = 0) (
      k72 0) <|
      k72 1
abbrev hrm_X1_putMirror (c s : Nat) : Room := { frames := 9, cells := c, slots := s, locals := 217 }
set_option maxHeartbeats 4000000 in
set_option maxRecDepth 100000 in
theorem hmet_X1_putMirror (l : Launch) (hst : l.stackTraces = false) (E : hEnv) (A : Nat → Prop) (w : hW) (a0 : Nat) (x1 : Int32) (x2 : Int32) (x3 : Int32) (x4 : Int32) (x5 : Int32) (QX : String → hO → Prop) (Q : Int32 → hO → Prop) (h : hf_X1_putMirror E.2.2 w a0 x1 x2 x3 x4 x5 QX Q) : vx_Met l yX1_putMirror (ws_ yX1_putMirror cX1_putMirror 9 (some .int)) (hrm_X1_putMirror w.2.1 w.2.2) (va_Pc [.ref a0, .int x1, .int x2, .int x3, .int x4, .int x5] (gPre (hK E A) (hP E A w.1))) (hQi E A Q) (hXC E A QX) w.2.1 w.2.2 A := by
  refine hx_met (own := RX1) (by decide +kernel) rfl (Nat.le_of_ble_eq_true rfl) ?_
  intro p e s m args below meth c ls cb sb F hr hlk ht hK S hl
  have hx := F.1
  have hb := F.2.1
  have hl : lv_has ls 9 [(0, .ref a0), (1, .int x1), (2, .int x2), (3, .int x3), (4, .int x4), (5, .int x5)] := hl
  unfold hf_X1_putMirror at h
  refine lv_aload_n hx hb dX1_putMirror_0 rfl (lv_at hl 0 rfl) ?_
  refine lv_iload_n hx hb dX1_putMirror_1 rfl (lv_at hl 1 rfl) ?_
  refine lv_iload_n hx hb dX1_putMirror_2 rfl (lv_at hl 2 rfl) ?_
  obtain ⟨u1, e2, h⟩ := obd_inv h
  obtain ⟨n3, n4, h1, h2, h⟩ := hcall_inv h
  refine hcl_X1_cellOf_X1_146 hst hlk ht F hK S (hIs_inv e2) h1 h2 h rfl rfl hl.1 (Nat.le_of_ble_eq_true rfl) ⟨Nat.le_of_ble_eq_true rfl, Nat.le_of_ble_eq_true rfl⟩ dX1_putMirror_3 (fun v7 o6 w5 H locs hw h S => ?_)
  replace h := hret_mp h hw
  clear hw h1 h2
  refine lv_istore (lv' := [(6, .int v7), (0, .ref a0), (1, .int x1), (2, .int x2), (3, .int x3), (4, .int x4), (5, .int x5)]) hx hb dX1_putMirror_6 hl (by decide) rfl (fun ls hl => ?_)
  refine lv_iload hx hb dX1_putMirror_8 (lv_at hl 5 rfl) ?_
  refine lv_iconst (v := 0) hx hb dX1_putMirror_10 (by decide) ?_
  refine lv_iconst (v := 1) hx hb dX1_putMirror_11 (by decide) ?_
  obtain ⟨v8, e9, h⟩ := obd_inv h
  refine call_p_isIn_X1_165 (hKm E A) F hK S.1 e9 hl.1 (Nat.le_of_ble_eq_true rfl) ⟨Nat.le_of_ble_eq_true rfl, Nat.le_of_ble_eq_true rfl⟩ ⟨Nat.sub_le _ _, Nat.sub_le _ _⟩ dX1_putMirror_12 (fun H1 locs1 S1 => ?_)
  have S : hS E A s.heap _ _ _ _ _ := ⟨S1, S.2⟩
  obtain ⟨k72, hk72, h⟩ := hj1_inv h
  have hJ33 : ∀ (v14 : Int32) (H : Heap) (locs : List Loc) (ls : Array Slot), k72 v14 → hS E A s.heap cb sb w5 H locs → lv_has ls 9 [(0, .ref a0), (3, .int x3), (4, .int x4), (5, .int x5), (6, .int v7)] → W p l e (hrm_X1_putMirror cb sb) s m args below meth c H locs (cb - w5.2.1) (sb - w5.2.2) (vx_MQ below (hQi E A Q) (hXC E A QX) args s cb sb A) (F0 m 33 ls [.int v14]) := by
    intro v14 H locs ls h S hl
    replace h := hk72 _ h
    obtain ⟨n15, n16, h1, h2, h⟩ := hcall_inv h
    refine hcl_X1_ask_X1_169 hst hlk ht F hK S h1 h2 h rfl rfl hl.1 (Nat.le_of_ble_eq_true rfl) ⟨Nat.le_of_ble_eq_true rfl, Nat.le_of_ble_eq_true rfl⟩ dX1_putMirror_33 (fun o18 w17 H locs hw h S => ?_)
    replace h := hret_mp h hw
    clear hw h1 h2
    refine lv_aload_n hx hb dX1_putMirror_36 rfl (lv_at hl 0 rfl) ?_
    refine lv_iload hx hb dX1_putMirror_37 (lv_at hl 4 rfl) ?_
    refine lv_aload_n hx hb dX1_putMirror_39 rfl (lv_at hl 0 rfl) ?_
    obtain ⟨v19, e20, h⟩ := obd_inv h
    refine hg_X1_47 F hK S e20 dX1_putMirror_40 ?_
    refine lv_iconst (v := 1) hx hb dX1_putMirror_43 (by decide) ?_
    obtain ⟨u21, e22, h⟩ := obd_inv h
    obtain ⟨n23, n24, h1, h2, h⟩ := hcall_inv h
    refine hcl_X3_all_X1_131 F hK S (hIs_inv e22) h1 h2 h rfl rfl hl.1 (Nat.le_of_ble_eq_true rfl) ⟨Nat.le_of_ble_eq_true rfl, Nat.le_of_ble_eq_true rfl⟩ dX1_putMirror_44 (fun v27 o26 w25 H locs hw h S => ?_)
    replace h := hret_mp h hw
    clear hw h1 h2
    obtain ⟨u28, e29, h⟩ := obd_inv h
    obtain ⟨n30, n31, h1, h2, h⟩ := hcall_inv h
    refine hcl_J18_size_X1_135 F hK S (hIs_inv e29) h1 h2 h rfl rfl hl.1 (Nat.le_of_ble_eq_true rfl) ⟨Nat.le_of_ble_eq_true rfl, Nat.le_of_ble_eq_true rfl⟩ dX1_putMirror_47 (fun v34 o33 w32 H locs hw h S => ?_)
    replace h := hret_mp h hw
    clear hw h1 h2
    refine lv_bipush (v := 12) hx hb dX1_putMirror_50 (by decide) ?_
    obtain ⟨k70, hk70, h⟩ := hj1_inv h
    have hJ60 : ∀ (v36 : Int32) (H : Heap) (locs : List Loc) (ls : Array Slot), k70 v36 → hS E A s.heap cb sb w32 H locs → lv_has ls 9 [(0, .ref a0), (3, .int x3), (4, .int x4), (5, .int x5), (6, .int v7)] → W p l e (hrm_X1_putMirror cb sb) s m args below meth c H locs (cb - w32.2.1) (sb - w32.2.2) (vx_MQ below (hQi E A Q) (hXC E A QX) args s cb sb A) (F0 m 60 ls [.int v36, .int v7, .ref a0]) := by
      intro v36 H locs ls h S hl
      replace h := hk70 _ h
      obtain ⟨u37, e38, h⟩ := obd_inv h
      obtain ⟨n39, n40, h1, h2, h⟩ := hcall_inv h
      refine hcl_X1_whyNotLay_X1_150 F hK S (hIs_inv e38) h1 h2 h rfl rfl hl.1 (Nat.le_of_ble_eq_true rfl) ⟨Nat.le_of_ble_eq_true rfl, Nat.le_of_ble_eq_true rfl⟩ dX1_putMirror_60 (fun v43 o42 w41 H locs hw h S => ?_)
      replace h := hret_mp h hw
      clear hw h1 h2
      refine lv_istore (lv' := [(7, .int v43), (0, .ref a0), (3, .int x3), (4, .int x4), (5, .int x5), (6, .int v7)]) hx hb dX1_putMirror_63 hl (by decide) rfl (fun ls hl => ?_)
      refine lv_iload hx hb dX1_putMirror_65 (lv_at hl 0 rfl) ?_
      refine lv_if_eq (tgt := 73) hx hb dX1_putMirror_67 (by decide) (fun c44 => ?_) (fun c44 => ?_)
      · rw [hIf_pos c44] at h
        refine hn_X1_53 F hK S rfl rfl h dX1_putMirror_73 (fun q45 w46 H h S => ?_)
        refine lv_dup hx hb dX1_putMirror_76 rfl ?_
        refine lv_iload hx hb dX1_putMirror_77 (lv_at hl 5 rfl) ?_
        refine lv_iload_n hx hb dX1_putMirror_79 rfl (lv_at hl 2 rfl) ?_
        refine lv_iload hx hb dX1_putMirror_80 (lv_at hl 3 rfl) ?_
        refine lv_iload hx hb dX1_putMirror_82 (lv_at hl 4 rfl) ?_
        obtain ⟨n47, n48, h1, h2, h⟩ := hcall_inv h
        refine hcl_X7_init_X1_55 F hK S h1 h2 h rfl rfl hl.1 (Nat.le_of_ble_eq_true rfl) ⟨Nat.le_of_ble_eq_true rfl, Nat.le_of_ble_eq_true rfl⟩ dX1_putMirror_84 (fun o50 w49 H locs hw h S => ?_)
        replace h := hret_mp h hw
        clear hw h1 h2
        refine lv_astore (lv' := [(8, .ref q45), (7, .int v43), (0, .ref a0), (3, .int x3), (4, .int x4), (5, .int x5), (6, .int v7)]) hx hb dX1_putMirror_87 hl (by decide) rfl (fun ls hl => ?_)
        refine lv_aload_n hx hb dX1_putMirror_89 rfl (lv_at hl 2 rfl) ?_
        refine lv_iconst (v := 1) hx hb dX1_putMirror_90 (by decide) ?_
        refine h_newR 6 rfl rfl F hK S rfl rfl h q317 hK.2.1.2.2.2.2.2.2.2.1 dX1_putMirror_91 (fun q51 w52 H h S => ?_)
        refine lv_dup hx hb dX1_putMirror_94 rfl ?_
        refine lv_iconst (v := 0) hx hb dX1_putMirror_95 (by decide) ?_
        refine lv_aload hx hb dX1_putMirror_96 (lv_at hl 0 rfl) ?_
        obtain ⟨w53, e54, h⟩ := obd_inv h
        refine h_aast F hK S e54 dX1_putMirror_98 (fun H locs S => ?_)
        obtain ⟨u55, e56, h⟩ := obd_inv h
        obtain ⟨n57, n58, h1, h2, h⟩ := hcall_inv h
        refine hcl_X1_put_2_X1_157 F hK S (hIs_inv e56) h1 h2 h rfl rfl hl.1 (Nat.le_of_ble_eq_true rfl) ⟨Nat.le_of_ble_eq_true rfl, Nat.le_of_ble_eq_true rfl⟩ dX1_putMirror_99 (fun v61 o60 w59 H locs hw h S => ?_)
        replace h := hret_mp h hw
        clear hw h1 h2
        refine lv_aload hx hb dX1_putMirror_102 (lv_at hl 0 rfl) ?_
        obtain ⟨u62, e63, h⟩ := obd_inv h
        obtain ⟨n64, n65, h1, h2, h⟩ := hcall_inv h
        refine hcl_X3_numberOf_X1_173 F hK S (hIs_inv e63) h1 h2 h rfl rfl hl.1 (Nat.le_of_ble_eq_true rfl) ⟨Nat.le_of_ble_eq_true rfl, Nat.le_of_ble_eq_true rfl⟩ dX1_putMirror_104 (fun v68 o67 w66 H locs hw h S => ?_)
        replace h := hret_mp h hw
        clear hw h1 h2
        exact vx_ret (h_iret F hr hlk S h dX1_putMirror_107)
      · rw [hIf_neg c44] at h
        refine lv_iload hx hb dX1_putMirror_70 (lv_at hl 0 rfl) ?_
        exact vx_ret (h_iret F hr hlk S h dX1_putMirror_72)
    clear hk70
    refine lv_icmp_ge (tgt := 59) hx hb dX1_putMirror_52 (by decide) (fun c35 => ?_) (fun c35 => ?_)
    · rw [hIf_pos c35] at h
      refine lv_iconst (v := 0) hx hb dX1_putMirror_59 (by decide) ?_
      exact hJ60 _ _ _ _ h S (lv_sub hl [0, 1, 2, 3, 4] rfl)
    · rw [hIf_neg c35] at h
      refine lv_iconst (v := 1) hx hb dX1_putMirror_55 (by decide) ?_
      refine lv_goto (tgt := 60) hx hb dX1_putMirror_56 (by decide) ?_
      exact hJ60 _ _ _ _ h S (lv_sub hl [0, 1, 2, 3, 4] rfl)
  clear hk72
  refine lv_if_eq (tgt := 32) hx hb dX1_putMirror_15 (by decide) (fun c10 => ?_) (fun c10 => ?_)
  · rw [hIf_pos c10] at h
    refine lv_iconst (v := 0) hx hb dX1_putMirror_32 (by decide) ?_
    exact hJ33 _ _ _ _ h S (lv_sub hl [1, 4, 5, 6, 0] rfl)
  · rw [hIf_neg c10] at h
    refine lv_iload hx hb dX1_putMirror_18 (lv_at hl 6 rfl) ?_
    refine lv_iconst (v := 0) hx hb dX1_putMirror_20 (by decide) ?_
    refine lv_iconst (v := 2) hx hb dX1_putMirror_21 (by decide) ?_
    obtain ⟨v11, e12, h⟩ := obd_inv h
    refine call_p_isIn_X1_165 (hKm E A) F hK S.1 e12 hl.1 (Nat.le_of_ble_eq_true rfl) ⟨Nat.le_of_ble_eq_true rfl, Nat.le_of_ble_eq_true rfl⟩ ⟨Nat.sub_le _ _, Nat.sub_le _ _⟩ dX1_putMirror_22 (fun H1 locs1 S1 => ?_)
    have S : hS E A s.heap _ _ _ _ _ := ⟨S1, S.2⟩
    refine lv_if_eq (tgt := 32) hx hb dX1_putMirror_25 (by decide) (fun c13 => ?_) (fun c13 => ?_)
    · rw [hIf_pos c13] at h
      refine lv_iconst (v := 0) hx hb dX1_putMirror_32 (by decide) ?_
      exact hJ33 _ _ _ _ h S (lv_sub hl [1, 4, 5, 6, 0] rfl)
    · rw [hIf_neg c13] at h
      refine lv_iconst (v := 1) hx hb dX1_putMirror_28 (by decide) ?_
      refine lv_goto (tgt := 33) hx hb dX1_putMirror_29 (by decide) ?_
      exact hJ33 _ _ _ _ h S (lv_sub hl [1, 4, 5, 6, 0] rfl)
def hf_X1_putDoor (pl : Nat → Nat) (w : hW) (a0 : Nat) (x1 : Int32) (x2 : Int32) (x3 : Int32) (QX : String → hO → Prop) (Q : Int32 → hO → Prop) : Prop :=
  obd (hIs w a0 1) fun u1 =>
  hcall w fun n3 n4 => hf_X1_cellOf pl (w.1, n3, n4) a0 x1 x2 QX fun v7 o6 => hret w n3 n4 o6 fun w5 =>
  obd (fp_isIn g00 x3 1 2) fun v8 =>
  hcall w5 fun n10 n11 => hf_X1_ask pl (w5.1, n10, n11) v8 QX fun o13 => hret w5 n10 n11 o13 fun w12 =>
  obd (hgP w12 a0 1 3) fun v14 =>
  obd (hIs w12 v14 3) fun u16 =>
  hcall w12 fun n18 n19 => hf_X3_all pl (w12.1, n18, n19) v14 0 fun v22 o21 => hret w12 n18 n19 o21 fun w20 =>
  obd (hIs w20 v22 13) fun u23 =>
  hcall w20 fun n25 n26 => hf_J18_size pl (w20.1, n25, n26) v22 fun v29 o28 => hret w20 n25 n26 o28 fun w27 =>
  hjoin (fun (v31 : Int32) =>
    obd (hIs w27 a0 1) fun u32 =>
    hcall w27 fun n34 n35 => hf_X1_whyNotLay pl (w27.1, n34, n35) a0 v7 v31 fun v38 o37 => hret w27 n34 n35 o37 fun w36 =>
    hIf (v38 = 0) (
      hNew w36 (.inl (7, [.int 0, .int 0, .int 0])) 3 fun q40 w41 =>
      hcall w41 fun n42 n43 => hf_X8_init pl (w41.1, n42, n43) q40 v7 x3 fun o45 => hret w41 n42 n43 o45 fun w44 =>
      hNewR 6 w44 1 fun q46 w47 =>
      obd (hsR w47 q46 0 (some q40)) fun w48 =>
      obd (hIs w48 a0 1) fun u50 =>
      hcall w48 fun n52 n53 => hf_X1_put_2 pl (w48.1, n52, n53) a0 q46 fun v56 o55 => hret w48 n52 n53 o55 fun w54 =>
      obd (hIs w54 v56 3) fun u57 =>
      hcall w54 fun n59 n60 => hf_X3_numberOf pl (w54.1, n59, n60) v56 q40 fun v63 o62 => hret w54 n59 n60 o62 fun w61 =>
      Q v63 w61.1) <|
      Q v38 w36.1) fun k65 =>
  hIf (8 ≤ v29) (
    k65 0) <|
    k65 1
abbrev hrm_X1_putDoor (c s : Nat) : Room := { frames := 9, cells := c, slots := s, locals := 217 }
set_option maxHeartbeats 4000000 in
set_option maxRecDepth 100000 in
theorem hmet_X1_putDoor (l : Launch) (hst : l.stackTraces = false) (E : hEnv) (A : Nat → Prop) (w : hW) (a0 : Nat) (x1 : Int32) (x2 : Int32) (x3 : Int32) (QX : String → hO → Prop) (Q : Int32 → hO → Prop) (h : hf_X1_putDoor E.2.2 w a0 x1 x2 x3 QX Q) : vx_Met l yX1_putDoor (ws_ yX1_putDoor cX1_putDoor 7 (some .int)) (hrm_X1_putDoor w.2.1 w.2.2) (va_Pc [.ref a0, .int x1, .int x2, .int x3] (gPre (hK E A) (hP E A w.1))) (hQi E A Q) (hXC E A QX) w.2.1 w.2.2 A := by
  refine hx_met (own := RX1) (by decide +kernel) rfl (Nat.le_of_ble_eq_true rfl) ?_
  intro p e s m args below meth c ls cb sb F hr hlk ht hK S hl
  have hx := F.1
  have hb := F.2.1
  have hl : lv_has ls 7 [(0, .ref a0), (1, .int x1), (2, .int x2), (3, .int x3)] := hl
  unfold hf_X1_putDoor at h
  refine lv_aload_n hx hb dX1_putDoor_0 rfl (lv_at hl 0 rfl) ?_
  refine lv_iload_n hx hb dX1_putDoor_1 rfl (lv_at hl 1 rfl) ?_
  refine lv_iload_n hx hb dX1_putDoor_2 rfl (lv_at hl 2 rfl) ?_
  obtain ⟨u1, e2, h⟩ := obd_inv h
  obtain ⟨n3, n4, h1, h2, h⟩ := hcall_inv h
  refine hcl_X1_cellOf_X1_146 hst hlk ht F hK S (hIs_inv e2) h1 h2 h rfl rfl hl.1 (Nat.le_of_ble_eq_true rfl) ⟨Nat.le_of_ble_eq_true rfl, Nat.le_of_ble_eq_true rfl⟩ dX1_putDoor_3 (fun v7 o6 w5 H locs hw h S => ?_)
  replace h := hret_mp h hw
  clear hw h1 h2
  refine lv_istore (lv' := [(4, .int v7), (0, .ref a0), (1, .int x1), (2, .int x2), (3, .int x3)]) hx hb dX1_putDoor_6 hl (by decide) rfl (fun ls hl => ?_)
  refine lv_iload_n hx hb dX1_putDoor_8 rfl (lv_at hl 4 rfl) ?_
  refine lv_iconst (v := 1) hx hb dX1_putDoor_9 (by decide) ?_
  refine lv_iconst (v := 2) hx hb dX1_putDoor_10 (by decide) ?_
  obtain ⟨v8, e9, h⟩ := obd_inv h
  refine call_p_isIn_X1_165 (hKm E A) F hK S.1 e9 hl.1 (Nat.le_of_ble_eq_true rfl) ⟨Nat.le_of_ble_eq_true rfl, Nat.le_of_ble_eq_true rfl⟩ ⟨Nat.sub_le _ _, Nat.sub_le _ _⟩ dX1_putDoor_11 (fun H1 locs1 S1 => ?_)
  have S : hS E A s.heap _ _ _ _ _ := ⟨S1, S.2⟩
  obtain ⟨n10, n11, h1, h2, h⟩ := hcall_inv h
  refine hcl_X1_ask_X1_169 hst hlk ht F hK S h1 h2 h rfl rfl hl.1 (Nat.le_of_ble_eq_true rfl) ⟨Nat.le_of_ble_eq_true rfl, Nat.le_of_ble_eq_true rfl⟩ dX1_putDoor_14 (fun o13 w12 H locs hw h S => ?_)
  replace h := hret_mp h hw
  clear hw h1 h2
  refine lv_aload_n hx hb dX1_putDoor_17 rfl (lv_at hl 1 rfl) ?_
  refine lv_iload hx hb dX1_putDoor_18 (lv_at hl 0 rfl) ?_
  refine lv_aload_n hx hb dX1_putDoor_20 rfl (lv_at hl 1 rfl) ?_
  obtain ⟨v14, e15, h⟩ := obd_inv h
  refine hg_X1_47 F hK S e15 dX1_putDoor_21 ?_
  refine lv_iconst (v := 0) hx hb dX1_putDoor_24 (by decide) ?_
  obtain ⟨u16, e17, h⟩ := obd_inv h
  obtain ⟨n18, n19, h1, h2, h⟩ := hcall_inv h
  refine hcl_X3_all_X1_131 F hK S (hIs_inv e17) h1 h2 h rfl rfl hl.1 (Nat.le_of_ble_eq_true rfl) ⟨Nat.le_of_ble_eq_true rfl, Nat.le_of_ble_eq_true rfl⟩ dX1_putDoor_25 (fun v22 o21 w20 H locs hw h S => ?_)
  replace h := hret_mp h hw
  clear hw h1 h2
  obtain ⟨u23, e24, h⟩ := obd_inv h
  obtain ⟨n25, n26, h1, h2, h⟩ := hcall_inv h
  refine hcl_J18_size_X1_135 F hK S (hIs_inv e24) h1 h2 h rfl rfl hl.1 (Nat.le_of_ble_eq_true rfl) ⟨Nat.le_of_ble_eq_true rfl, Nat.le_of_ble_eq_true rfl⟩ dX1_putDoor_28 (fun v29 o28 w27 H locs hw h S => ?_)
  replace h := hret_mp h hw
  clear hw h1 h2
  refine lv_bipush (v := 8) hx hb dX1_putDoor_31 (by decide) ?_
  obtain ⟨k65, hk65, h⟩ := hj1_inv h
  have hJ41 : ∀ (v31 : Int32) (H : Heap) (locs : List Loc) (ls : Array Slot), k65 v31 → hS E A s.heap cb sb w27 H locs → lv_has ls 7 [(0, .ref a0), (3, .int x3), (4, .int v7)] → W p l e (hrm_X1_putDoor cb sb) s m args below meth c H locs (cb - w27.2.1) (sb - w27.2.2) (vx_MQ below (hQi E A Q) (hXC E A QX) args s cb sb A) (F0 m 41 ls [.int v31, .int v7, .ref a0]) := by
    intro v31 H locs ls h S hl
    replace h := hk65 _ h
    obtain ⟨u32, e33, h⟩ := obd_inv h
    obtain ⟨n34, n35, h1, h2, h⟩ := hcall_inv h
    refine hcl_X1_whyNotLay_X1_150 F hK S (hIs_inv e33) h1 h2 h rfl rfl hl.1 (Nat.le_of_ble_eq_true rfl) ⟨Nat.le_of_ble_eq_true rfl, Nat.le_of_ble_eq_true rfl⟩ dX1_putDoor_41 (fun v38 o37 w36 H locs hw h S => ?_)
    replace h := hret_mp h hw
    clear hw h1 h2
    refine lv_istore (lv' := [(5, .int v38), (0, .ref a0), (3, .int x3), (4, .int v7)]) hx hb dX1_putDoor_44 hl (by decide) rfl (fun ls hl => ?_)
    refine lv_iload hx hb dX1_putDoor_46 (lv_at hl 0 rfl) ?_
    refine lv_if_eq (tgt := 54) hx hb dX1_putDoor_48 (by decide) (fun c39 => ?_) (fun c39 => ?_)
    · rw [hIf_pos c39] at h
      refine hn_X1_58 F hK S rfl rfl h dX1_putDoor_54 (fun q40 w41 H h S => ?_)
      refine lv_dup hx hb dX1_putDoor_57 rfl ?_
      refine lv_iload hx hb dX1_putDoor_58 (lv_at hl 3 rfl) ?_
      refine lv_iload_n hx hb dX1_putDoor_60 rfl (lv_at hl 2 rfl) ?_
      obtain ⟨n42, n43, h1, h2, h⟩ := hcall_inv h
      refine hcl_X8_init_X1_60 F hK S h1 h2 h rfl rfl hl.1 (Nat.le_of_ble_eq_true rfl) ⟨Nat.le_of_ble_eq_true rfl, Nat.le_of_ble_eq_true rfl⟩ dX1_putDoor_61 (fun o45 w44 H locs hw h S => ?_)
      replace h := hret_mp h hw
      clear hw h1 h2
      refine lv_astore (lv' := [(6, .ref q40), (5, .int v38), (0, .ref a0), (3, .int x3), (4, .int v7)]) hx hb dX1_putDoor_64 hl (by decide) rfl (fun ls hl => ?_)
      refine lv_aload_n hx hb dX1_putDoor_66 rfl (lv_at hl 2 rfl) ?_
      refine lv_iconst (v := 1) hx hb dX1_putDoor_67 (by decide) ?_
      refine h_newR 6 rfl rfl F hK S rfl rfl h q317 hK.2.1.2.2.2.2.2.2.2.1 dX1_putDoor_68 (fun q46 w47 H h S => ?_)
      refine lv_dup hx hb dX1_putDoor_71 rfl ?_
      refine lv_iconst (v := 0) hx hb dX1_putDoor_72 (by decide) ?_
      refine lv_aload hx hb dX1_putDoor_73 (lv_at hl 0 rfl) ?_
      obtain ⟨w48, e49, h⟩ := obd_inv h
      refine h_aast F hK S e49 dX1_putDoor_75 (fun H locs S => ?_)
      obtain ⟨u50, e51, h⟩ := obd_inv h
      obtain ⟨n52, n53, h1, h2, h⟩ := hcall_inv h
      refine hcl_X1_put_2_X1_157 F hK S (hIs_inv e51) h1 h2 h rfl rfl hl.1 (Nat.le_of_ble_eq_true rfl) ⟨Nat.le_of_ble_eq_true rfl, Nat.le_of_ble_eq_true rfl⟩ dX1_putDoor_76 (fun v56 o55 w54 H locs hw h S => ?_)
      replace h := hret_mp h hw
      clear hw h1 h2
      refine lv_aload hx hb dX1_putDoor_79 (lv_at hl 0 rfl) ?_
      obtain ⟨u57, e58, h⟩ := obd_inv h
      obtain ⟨n59, n60, h1, h2, h⟩ := hcall_inv h
      refine hcl_X3_numberOf_X1_173 F hK S (hIs_inv e58) h1 h2 h rfl rfl hl.1 (Nat.le_of_ble_eq_true rfl) ⟨Nat.le_of_ble_eq_true rfl, Nat.le_of_ble_eq_true rfl⟩ dX1_putDoor_81 (fun v63 o62 w61 H locs hw h S => ?_)
      replace h := hret_mp h hw
      clear hw h1 h2
      exact vx_ret (h_iret F hr hlk S h dX1_putDoor_84)
    · rw [hIf_neg c39] at h
      refine lv_iload hx hb dX1_putDoor_51 (lv_at hl 0 rfl) ?_
      exact vx_ret (h_iret F hr hlk S h dX1_putDoor_53)
  clear hk65
  refine lv_icmp_ge (tgt := 40) hx hb dX1_putDoor_33 (by decide) (fun c30 => ?_) (fun c30 => ?_)
  · rw [hIf_pos c30] at h
    refine lv_iconst (v := 0) hx hb dX1_putDoor_40 (by decide) ?_
    exact hJ41 _ _ _ _ h S (lv_sub hl [1, 4, 0] rfl)
  · rw [hIf_neg c30] at h
    refine lv_iconst (v := 1) hx hb dX1_putDoor_36 (by decide) ?_
    refine lv_goto (tgt := 41) hx hb dX1_putDoor_37 (by decide) ?_
    exact hJ41 _ _ _ _ h S (lv_sub hl [1, 4, 0] rfl)
theorem hn_X1_177 {p : Program} {l : Launch} {e : Env} {s : State} {m : MethodId} {args : Array Value} {below : List Frame} {meth : Method} {c : Code} {R : Room} {H : Heap} {locs : List Loc} {cb sb pc nL : Nat} {Q : State → Prop} {ls : Array Slot} {rest : List Value} {cc : ByteArray} {E : hEnv} {A : Nat → Prop} {w : hW} (F : CallFix p m c cc nL s args lw_all RX1) (hK : hK E A s) (S : hS E A s.heap cb sb w H locs) (hrc : R.cells = cb) (hrs : R.slots = sb) {f : Nat → hW → Prop} (h : hNew w (.inl (8, [.int 0, .int 0])) 2 f) (hdg : decode cc pc = .ok (.new 177, 3)) (kk : ∀ (q : Nat) (w' : hW) (H1 : Heap), f q w' → hS E A s.heap cb sb w' H1 locs → W p l e R s m args below meth c H1 locs (cb - w'.2.1) (sb - w'.2.2) Q (F0 m (pc + 3) ls (.ref q :: rest))) : W p l e R s m args below meth c H locs (cb - w.2.1) (sb - w.2.2) Q (F0 m pc ls rest) :=
  h_new F hK S hrc hrs (C := RX12) (T := TX12) (N := 2) tyX12 tyX12_ok q1556 q1060 q140 in_X12 rfl (fun j hj => by match j, hj with | 0, _ => rfl | 1, _ => rfl) h hdg kk
theorem hcl_X12_init_X1_179 {p : Program} {l : Launch} {e : Env} {s : State} {m : MethodId} {args : Array Value} {below : List Frame} {meth : Method} {c : Code} {R : Room} {H : Heap} {locs : List Loc} {cb sb pc nL : Nat} {Q : State → Prop} {ls : Array Slot} {rest : List Value} {cc : ByteArray} {E : hEnv} {A : Nat → Prop} {w : hW} {a0 : Nat} {x1 : Int32} {x2 : Int32} {Q' : hO → Prop} {c1 s1 : Nat} (F : CallFix p m c cc nL s args lw_all RX1) (hK : hK E A s) (S : hS E A s.heap cb sb w H locs) (h1 : c1 ≤ w.2.1) (h2 : s1 ≤ w.2.2) (h : hf_X12_init E.2.2 (w.1, c1, s1) a0 x1 x2 Q') (hrc : R.cells = cb) (hrs : R.slots = sb) (hls : ls.size = nL) (hWt : (rest.map fun v => v.category).sum ≤ 8) (hR : 2 + 1 ≤ R.frames ∧ 8 + (3 + 11) + 41 ≤ R.locals) (hdg : decode cc pc = .ok (.invokespecial 179, 3))
    (kk : ∀ (o : hO) (w' : hW) (H1 : Heap) (locs1 : List Loc), w' = (o, w.2.1 - c1, w.2.2 - s1) → Q' o → hS E A s.heap cb sb w' H1 locs1 → W p l e R s m args below meth c H1 locs1 (cb - w'.2.1) (sb - w'.2.2) Q (F0 m (pc + 3) ls (rest))) : W p l e R s m args below meth c H locs (cb - w.2.1) (sb - w.2.2) Q (F0 m pc ls (.int x2 :: .int x1 :: .ref a0 :: rest)) :=
  h_kv (g_runI F hK (hKm E A) S.1 (hmet_X12_init l E A (w.1, c1, s1) a0 x1 x2 Q' h) (cwI 2 F.2.2.2.2 (lw_meth q1063) rfl rfl rfl (F.2.2.2.2 _ q140) (F.2.2.2.2 _ q1557) (F.2.2.2.2 _ q1062) rfl (by decide +kernel) hR) rfl hls rfl hWt hdg ⟨by rw [hrc]; exact (h_left S h1 h2).1, by rw [hrs]; exact (h_left S h1 h2).2⟩) S h1 h2 kk
def hf_X1_putGate (pl : Nat → Nat) (w : hW) (a0 : Nat) (x1 : Int32) (x2 : Int32) (x3 : Int32) (QX : String → hO → Prop) (Q : Int32 → hO → Prop) : Prop :=
  obd (hIs w a0 1) fun u1 =>
  hcall w fun n3 n4 => hf_X1_cellOf pl (w.1, n3, n4) a0 x1 x2 QX fun v7 o6 => hret w n3 n4 o6 fun w5 =>
  obd (fp_isIn g00 x3 0 3) fun v8 =>
  hcall w5 fun n10 n11 => hf_X1_ask pl (w5.1, n10, n11) v8 QX fun o13 => hret w5 n10 n11 o13 fun w12 =>
  obd (hIs w12 a0 1) fun u14 =>
  hcall w12 fun n16 n17 => hf_X1_whyNotLay pl (w12.1, n16, n17) a0 v7 1 fun v20 o19 => hret w12 n16 n17 o19 fun w18 =>
  hjoin (fun (v44 : Int32) (g45 : hW) =>
    Q v44 g45.1) fun k47 =>
  hIf (v20 = 0) (
    hNewR 6 w18 1 fun q22 w23 =>
    hNew w23 (.inl (8, [.int 0, .int 0])) 2 fun q24 w25 =>
    hcall w25 fun n26 n27 => hf_X12_init pl (w25.1, n26, n27) q24 v7 x3 fun o29 => hret w25 n26 n27 o29 fun w28 =>
    obd (hsR w28 q22 0 (some q24)) fun w30 =>
    obd (hIs w30 a0 1) fun u32 =>
    hcall w30 fun n34 n35 => hf_X1_put_2 pl (w30.1, n34, n35) a0 q22 fun v38 o37 => hret w30 n34 n35 o37 fun w36 =>
    ∃ (d39 : hD) (g40 : mS), hRel d39 g40 w36.1 ∧ d39.1 100 = v38 ∧ obd (fc_X3_many g40 100 0) fun v43 =>
    k47 v43 w36) <|
    k47 v20 w18
abbrev hrm_X1_putGate (c s : Nat) : Room := { frames := 9, cells := c, slots := s, locals := 201 }
set_option maxHeartbeats 4000000 in
set_option maxRecDepth 100000 in
theorem hmet_X1_putGate (l : Launch) (hst : l.stackTraces = false) (E : hEnv) (A : Nat → Prop) (w : hW) (a0 : Nat) (x1 : Int32) (x2 : Int32) (x3 : Int32) (QX : String → hO → Prop) (Q : Int32 → hO → Prop) (h : hf_X1_putGate E.2.2 w a0 x1 x2 x3 QX Q) : vx_Met l yX1_putGate (ws_ yX1_putGate cX1_putGate 6 (some .int)) (hrm_X1_putGate w.2.1 w.2.2) (va_Pc [.ref a0, .int x1, .int x2, .int x3] (gPre (hK E A) (hP E A w.1))) (hQi E A Q) (hXC E A QX) w.2.1 w.2.2 A := by
  refine hx_met (own := RX1) (by decide +kernel) rfl (Nat.le_of_ble_eq_true rfl) ?_
  intro p e s m args below meth c ls cb sb F hr hlk ht hK S hl
  have hx := F.1
  have hb := F.2.1
  have hl : lv_has ls 6 [(0, .ref a0), (1, .int x1), (2, .int x2), (3, .int x3)] := hl
  unfold hf_X1_putGate at h
  refine lv_aload_n hx hb dX1_putGate_0 rfl (lv_at hl 0 rfl) ?_
  refine lv_iload_n hx hb dX1_putGate_1 rfl (lv_at hl 1 rfl) ?_
  refine lv_iload_n hx hb dX1_putGate_2 rfl (lv_at hl 2 rfl) ?_
  obtain ⟨u1, e2, h⟩ := obd_inv h
  obtain ⟨n3, n4, h1, h2, h⟩ := hcall_inv h
  refine hcl_X1_cellOf_X1_146 hst hlk ht F hK S (hIs_inv e2) h1 h2 h rfl rfl hl.1 (Nat.le_of_ble_eq_true rfl) ⟨Nat.le_of_ble_eq_true rfl, Nat.le_of_ble_eq_true rfl⟩ dX1_putGate_3 (fun v7 o6 w5 H locs hw h S => ?_)
  replace h := hret_mp h hw
  clear hw h1 h2
  refine lv_istore (lv' := [(4, .int v7), (0, .ref a0), (1, .int x1), (2, .int x2), (3, .int x3)]) hx hb dX1_putGate_6 hl (by decide) rfl (fun ls hl => ?_)
  refine lv_iload_n hx hb dX1_putGate_8 rfl (lv_at hl 4 rfl) ?_
  refine lv_iconst (v := 0) hx hb dX1_putGate_9 (by decide) ?_
  refine lv_iconst (v := 3) hx hb dX1_putGate_10 (by decide) ?_
  obtain ⟨v8, e9, h⟩ := obd_inv h
  refine call_p_isIn_X1_165 (hKm E A) F hK S.1 e9 hl.1 (Nat.le_of_ble_eq_true rfl) ⟨Nat.le_of_ble_eq_true rfl, Nat.le_of_ble_eq_true rfl⟩ ⟨Nat.sub_le _ _, Nat.sub_le _ _⟩ dX1_putGate_11 (fun H1 locs1 S1 => ?_)
  have S : hS E A s.heap _ _ _ _ _ := ⟨S1, S.2⟩
  obtain ⟨n10, n11, h1, h2, h⟩ := hcall_inv h
  refine hcl_X1_ask_X1_169 hst hlk ht F hK S h1 h2 h rfl rfl hl.1 (Nat.le_of_ble_eq_true rfl) ⟨Nat.le_of_ble_eq_true rfl, Nat.le_of_ble_eq_true rfl⟩ dX1_putGate_14 (fun o13 w12 H locs hw h S => ?_)
  replace h := hret_mp h hw
  clear hw h1 h2
  refine lv_aload_n hx hb dX1_putGate_17 rfl (lv_at hl 1 rfl) ?_
  refine lv_iload hx hb dX1_putGate_18 (lv_at hl 0 rfl) ?_
  refine lv_iconst (v := 1) hx hb dX1_putGate_20 (by decide) ?_
  obtain ⟨u14, e15, h⟩ := obd_inv h
  obtain ⟨n16, n17, h1, h2, h⟩ := hcall_inv h
  refine hcl_X1_whyNotLay_X1_150 F hK S (hIs_inv e15) h1 h2 h rfl rfl hl.1 (Nat.le_of_ble_eq_true rfl) ⟨Nat.le_of_ble_eq_true rfl, Nat.le_of_ble_eq_true rfl⟩ dX1_putGate_21 (fun v20 o19 w18 H locs hw h S => ?_)
  replace h := hret_mp h hw
  clear hw h1 h2
  refine lv_istore (lv' := [(5, .int v20), (4, .int v7), (0, .ref a0), (1, .int x1), (2, .int x2), (3, .int x3)]) hx hb dX1_putGate_24 hl (by decide) rfl (fun ls hl => ?_)
  refine lv_iload hx hb dX1_putGate_26 (lv_at hl 0 rfl) ?_
  obtain ⟨k47, hk47, h⟩ := hj2_inv h
  have hJ61 : ∀ (v44 : Int32) (g45 : hW) (H : Heap) (locs : List Loc) (ls : Array Slot), k47 v44 g45 → hS E A s.heap cb sb g45 H locs → lv_has ls 6 [] → W p l e (hrm_X1_putGate cb sb) s m args below meth c H locs (cb - g45.2.1) (sb - g45.2.2) (vx_MQ below (hQi E A Q) (hXC E A QX) args s cb sb A) (F0 m 61 ls [.int v44]) := by
    intro v44 g45 H locs ls h S hl
    replace h := hk47 _ _ h
    exact vx_ret (h_iret F hr hlk S h dX1_putGate_61)
  clear hk47
  refine lv_if_eq (tgt := 36) hx hb dX1_putGate_28 (by decide) (fun c21 => ?_) (fun c21 => ?_)
  · rw [hIf_pos c21] at h
    refine lv_aload_n hx hb dX1_putGate_36 rfl (lv_at hl 2 rfl) ?_
    refine lv_iconst (v := 1) hx hb dX1_putGate_37 (by decide) ?_
    refine h_newR 6 rfl rfl F hK S rfl rfl h q317 hK.2.1.2.2.2.2.2.2.2.1 dX1_putGate_38 (fun q22 w23 H h S => ?_)
    refine lv_dup hx hb dX1_putGate_41 rfl ?_
    refine lv_iconst (v := 0) hx hb dX1_putGate_42 (by decide) ?_
    refine hn_X1_177 F hK S rfl rfl h dX1_putGate_43 (fun q24 w25 H h S => ?_)
    refine lv_dup hx hb dX1_putGate_46 rfl ?_
    refine lv_iload hx hb dX1_putGate_47 (lv_at hl 1 rfl) ?_
    refine lv_iload_n hx hb dX1_putGate_49 rfl (lv_at hl 5 rfl) ?_
    obtain ⟨n26, n27, h1, h2, h⟩ := hcall_inv h
    refine hcl_X12_init_X1_179 F hK S h1 h2 h rfl rfl hl.1 (Nat.le_of_ble_eq_true rfl) ⟨Nat.le_of_ble_eq_true rfl, Nat.le_of_ble_eq_true rfl⟩ dX1_putGate_50 (fun o29 w28 H locs hw h S => ?_)
    replace h := hret_mp h hw
    clear hw h1 h2
    obtain ⟨w30, e31, h⟩ := obd_inv h
    refine h_aast F hK S e31 dX1_putGate_53 (fun H locs S => ?_)
    obtain ⟨u32, e33, h⟩ := obd_inv h
    obtain ⟨n34, n35, h1, h2, h⟩ := hcall_inv h
    refine hcl_X1_put_2_X1_157 F hK S (hIs_inv e33) h1 h2 h rfl rfl hl.1 (Nat.le_of_ble_eq_true rfl) ⟨Nat.le_of_ble_eq_true rfl, Nat.le_of_ble_eq_true rfl⟩ dX1_putGate_54 (fun v38 o37 w36 H locs hw h S => ?_)
    replace h := hret_mp h hw
    clear hw h1 h2
    refine lv_iconst (v := 0) hx hb dX1_putGate_57 (by decide) ?_
    obtain ⟨d39, g40, hrl, hdl, h⟩ := h
    obtain ⟨v43, e42, h⟩ := obd_inv h
    refine hpc_X3_many_X1_161 F hK S hrl hdl e42 rfl rfl hl.1 (Nat.le_of_ble_eq_true rfl) ⟨Nat.le_of_ble_eq_true rfl, Nat.le_of_ble_eq_true rfl⟩ dX1_putGate_58 (fun H locs S => ?_)
    exact hJ61 _ _ _ _ _ h S (lv_sub hl [] rfl)
  · rw [hIf_neg c21] at h
    refine lv_iload hx hb dX1_putGate_31 (lv_at hl 0 rfl) ?_
    refine lv_goto (tgt := 61) hx hb dX1_putGate_33 (by decide) ?_
    exact hJ61 _ _ _ _ _ h S (lv_sub hl [] rfl)
theorem hn_X1_180 {p : Program} {l : Launch} {e : Env} {s : State} {m : MethodId} {args : Array Value} {below : List Frame} {meth : Method} {c : Code} {R : Room} {H : Heap} {locs : List Loc} {cb sb pc nL : Nat} {Q : State → Prop} {ls : Array Slot} {rest : List Value} {cc : ByteArray} {E : hEnv} {A : Nat → Prop} {w : hW} (F : CallFix p m c cc nL s args lw_all RX1) (hK : hK E A s) (S : hS E A s.heap cb sb w H locs) (hrc : R.cells = cb) (hrs : R.slots = sb) {f : Nat → hW → Prop} (h : hNew w (.inl (9, [.int 0, .int 0])) 2 f) (hdg : decode cc pc = .ok (.new 180, 3)) (kk : ∀ (q : Nat) (w' : hW) (H1 : Heap), f q w' → hS E A s.heap cb sb w' H1 locs → W p l e R s m args below meth c H1 locs (cb - w'.2.1) (sb - w'.2.2) Q (F0 m (pc + 3) ls (.ref q :: rest))) : W p l e R s m args below meth c H locs (cb - w.2.1) (sb - w.2.2) Q (F0 m pc ls rest) :=
  h_new F hK S hrc hrs (C := RX13) (T := TX13) (N := 2) tyX13 tyX13_ok q1565 q1075 q141 in_X13 rfl (fun j hj => by match j, hj with | 0, _ => rfl | 1, _ => rfl) h hdg kk
theorem hcl_X13_init_X1_182 {p : Program} {l : Launch} {e : Env} {s : State} {m : MethodId} {args : Array Value} {below : List Frame} {meth : Method} {c : Code} {R : Room} {H : Heap} {locs : List Loc} {cb sb pc nL : Nat} {Q : State → Prop} {ls : Array Slot} {rest : List Value} {cc : ByteArray} {E : hEnv} {A : Nat → Prop} {w : hW} {a0 : Nat} {x1 : Int32} {x2 : Int32} {Q' : hO → Prop} {c1 s1 : Nat} (F : CallFix p m c cc nL s args lw_all RX1) (hK : hK E A s) (S : hS E A s.heap cb sb w H locs) (h1 : c1 ≤ w.2.1) (h2 : s1 ≤ w.2.2) (h : hf_X13_init E.2.2 (w.1, c1, s1) a0 x1 x2 Q') (hrc : R.cells = cb) (hrs : R.slots = sb) (hls : ls.size = nL) (hWt : (rest.map fun v => v.category).sum ≤ 8) (hR : 2 + 1 ≤ R.frames ∧ 8 + (3 + 11) + 41 ≤ R.locals) (hdg : decode cc pc = .ok (.invokespecial 182, 3))
    (kk : ∀ (o : hO) (w' : hW) (H1 : Heap) (locs1 : List Loc), w' = (o, w.2.1 - c1, w.2.2 - s1) → Q' o → hS E A s.heap cb sb w' H1 locs1 → W p l e R s m args below meth c H1 locs1 (cb - w'.2.1) (sb - w'.2.2) Q (F0 m (pc + 3) ls (rest))) : W p l e R s m args below meth c H locs (cb - w.2.1) (sb - w.2.2) Q (F0 m pc ls (.int x2 :: .int x1 :: .ref a0 :: rest)) :=
  h_kv (g_runI F hK (hKm E A) S.1 (hmet_X13_init l E A (w.1, c1, s1) a0 x1 x2 Q' h) (cwI 2 F.2.2.2.2 (lw_meth q1078) rfl rfl rfl (F.2.2.2.2 _ q141) (F.2.2.2.2 _ q1566) (F.2.2.2.2 _ q1077) rfl (by decide +kernel) hR) rfl hls rfl hWt hdg ⟨by rw [hrc]; exact (h_left S h1 h2).1, by rw [hrs]; exact (h_left S h1 h2).2⟩) S h1 h2 kk
def hf_X1_putPortals (pl : Nat → Nat) (w : hW) (a0 : Nat) (x1 : Int32) (x2 : Int32) (x3 : Int32) (x4 : Int32) (QX : String → hO → Prop) (Q : Int32 → hO → Prop) : Prop :=
  obd (hIs w a0 1) fun u1 =>
  hcall w fun n3 n4 => hf_X1_cellOf pl (w.1, n3, n4) a0 x1 x2 QX fun v7 o6 => hret w n3 n4 o6 fun w5 =>
  obd (hIs w5 a0 1) fun u8 =>
  hcall w5 fun n10 n11 => hf_X1_cellOf pl (w5.1, n10, n11) a0 x3 x4 QX fun v14 o13 => hret w5 n10 n11 o13 fun w12 =>
  hjoin (fun (v16 : Int32) =>
    hcall w12 fun n17 n18 => hf_X1_ask pl (w12.1, n17, n18) v16 QX fun o20 => hret w12 n17 n18 o20 fun w19 =>
    obd (hIs w19 a0 1) fun u21 =>
    hcall w19 fun n23 n24 => hf_X1_isEmpty pl (w19.1, n23, n24) a0 v7 fun v27 o26 => hret w19 n23 n24 o26 fun w25 =>
    hjoin (fun (v29 : Int32) =>
      obd (hgP w25 a0 1 3) fun v30 =>
      ∃ (d32 : hD) (g33 : mS), hRel d32 g33 w25.1 ∧ d32.1 100 = v30 ∧ obd (fc_X3_many g33 100 6) fun v36 =>
      hjoin (fun (v38 : Int32) =>
        obd (hIs w25 a0 1) fun u39 =>
        hcall w25 fun n41 n42 => hf_X1_whyNotLay pl (w25.1, n41, n42) a0 v29 v38 fun v45 o44 => hret w25 n41 n42 o44 fun w43 =>
        hjoin (fun (v77 : Int32) (g78 : hW) =>
          Q v77 g78.1) fun k80 =>
        hIf (v45 = 0) (
          hNewR 6 w43 2 fun q47 w48 =>
          hNew w48 (.inl (9, [.int 0, .int 0])) 2 fun q49 w50 =>
          hcall w50 fun n51 n52 => hf_X13_init pl (w50.1, n51, n52) q49 v7 v14 fun o54 => hret w50 n51 n52 o54 fun w53 =>
          obd (hsR w53 q47 0 (some q49)) fun w55 =>
          hNew w55 (.inl (9, [.int 0, .int 0])) 2 fun q57 w58 =>
          hcall w58 fun n59 n60 => hf_X13_init pl (w58.1, n59, n60) q57 v14 v7 fun o62 => hret w58 n59 n60 o62 fun w61 =>
          obd (hsR w61 q47 1 (some q57)) fun w63 =>
          obd (hIs w63 a0 1) fun u65 =>
          hcall w63 fun n67 n68 => hf_X1_put_2 pl (w63.1, n67, n68) a0 q47 fun v71 o70 => hret w63 n67 n68 o70 fun w69 =>
          ∃ (d72 : hD) (g73 : mS), hRel d72 g73 w69.1 ∧ d72.1 100 = v71 ∧ obd (fc_X3_many g73 100 6) fun v76 =>
          k80 (v76 / 2) w69) <|
          k80 v45 w43) fun k82 =>
      hIf (8 ≤ v36) (
        k82 0) <|
        k82 1) fun k84 =>
    hIf (v27 = 0) (
      k84 v7) <|
      k84 v14) fun k86 =>
  hIf (v7 = v14) (
    k86 0) <|
    k86 1
abbrev hrm_X1_putPortals (c s : Nat) : Room := { frames := 9, cells := c, slots := s, locals := 201 }
set_option maxHeartbeats 4000000 in
set_option maxRecDepth 100000 in
theorem hmet_X1_putPortals (l : Launch) (hst : l.stackTraces = false) (E : hEnv) (A : Nat → Prop) (w : hW) (a0 : Nat) (x1 : Int32) (x2 : Int32) (x3 : Int32) (x4 : Int32) (QX : String → hO → Prop) (Q : Int32 → hO → Prop) (h : hf_X1_putPortals E.2.2 w a0 x1 x2 x3 x4 QX Q) : vx_Met l yX1_putPortals (ws_ yX1_putPortals cX1_putPortals 8 (some .int)) (hrm_X1_putPortals w.2.1 w.2.2) (va_Pc [.ref a0, .int x1, .int x2, .int x3, .int x4] (gPre (hK E A) (hP E A w.1))) (hQi E A Q) (hXC E A QX) w.2.1 w.2.2 A := by
  refine hx_met (own := RX1) (by decide +kernel) rfl (Nat.le_of_ble_eq_true rfl) ?_
  intro p e s m args below meth c ls cb sb F hr hlk ht hK S hl
  have hx := F.1
  have hb := F.2.1
  have hl : lv_has ls 8 [(0, .ref a0), (1, .int x1), (2, .int x2), (3, .int x3), (4, .int x4)] := hl
  unfold hf_X1_putPortals at h
  refine lv_aload_n hx hb dX1_putPortals_0 rfl (lv_at hl 0 rfl) ?_
  refine lv_iload_n hx hb dX1_putPortals_1 rfl (lv_at hl 1 rfl) ?_
  refine lv_iload_n hx hb dX1_putPortals_2 rfl (lv_at hl 2 rfl) ?_
  obtain ⟨u1, e2, h⟩ := obd_inv h
  obtain ⟨n3, n4, h1, h2, h⟩ := hcall_inv h
  refine hcl_X1_cellOf_X1_146 hst hlk ht F hK S (hIs_inv e2) h1 h2 h rfl rfl hl.1 (Nat.le_of_ble_eq_true rfl) ⟨Nat.le_of_ble_eq_true rfl, Nat.le_of_ble_eq_true rfl⟩ dX1_putPortals_3 (fun v7 o6 w5 H locs hw h S => ?_)
  replace h := hret_mp h hw
  clear hw h1 h2
  refine lv_istore (lv' := [(5, .int v7), (0, .ref a0), (1, .int x1), (2, .int x2), (3, .int x3), (4, .int x4)]) hx hb dX1_putPortals_6 hl (by decide) rfl (fun ls hl => ?_)
  refine lv_aload_n hx hb dX1_putPortals_8 rfl (lv_at hl 1 rfl) ?_
  refine lv_iload_n hx hb dX1_putPortals_9 rfl (lv_at hl 4 rfl) ?_
  refine lv_iload hx hb dX1_putPortals_10 (lv_at hl 5 rfl) ?_
  obtain ⟨u8, e9, h⟩ := obd_inv h
  obtain ⟨n10, n11, h1, h2, h⟩ := hcall_inv h
  refine hcl_X1_cellOf_X1_146 hst hlk ht F hK S (hIs_inv e9) h1 h2 h rfl rfl hl.1 (Nat.le_of_ble_eq_true rfl) ⟨Nat.le_of_ble_eq_true rfl, Nat.le_of_ble_eq_true rfl⟩ dX1_putPortals_12 (fun v14 o13 w12 H locs hw h S => ?_)
  replace h := hret_mp h hw
  clear hw h1 h2
  refine lv_istore (lv' := [(6, .int v14), (5, .int v7), (0, .ref a0), (1, .int x1), (2, .int x2), (3, .int x3), (4, .int x4)]) hx hb dX1_putPortals_15 hl (by decide) rfl (fun ls hl => ?_)
  refine lv_iload hx hb dX1_putPortals_17 (lv_at hl 1 rfl) ?_
  refine lv_iload hx hb dX1_putPortals_19 (lv_at hl 0 rfl) ?_
  obtain ⟨k86, hk86, h⟩ := hj1_inv h
  have hJ29 : ∀ (v16 : Int32) (H : Heap) (locs : List Loc) (ls : Array Slot), k86 v16 → hS E A s.heap cb sb w12 H locs → lv_has ls 8 [(0, .ref a0), (5, .int v7), (6, .int v14)] → W p l e (hrm_X1_putPortals cb sb) s m args below meth c H locs (cb - w12.2.1) (sb - w12.2.2) (vx_MQ below (hQi E A Q) (hXC E A QX) args s cb sb A) (F0 m 29 ls [.int v16]) := by
    intro v16 H locs ls h S hl
    replace h := hk86 _ h
    obtain ⟨n17, n18, h1, h2, h⟩ := hcall_inv h
    refine hcl_X1_ask_X1_169 hst hlk ht F hK S h1 h2 h rfl rfl hl.1 (Nat.le_of_ble_eq_true rfl) ⟨Nat.le_of_ble_eq_true rfl, Nat.le_of_ble_eq_true rfl⟩ dX1_putPortals_29 (fun o20 w19 H locs hw h S => ?_)
    replace h := hret_mp h hw
    clear hw h1 h2
    refine lv_aload_n hx hb dX1_putPortals_32 rfl (lv_at hl 0 rfl) ?_
    refine lv_aload_n hx hb dX1_putPortals_33 rfl (lv_at hl 0 rfl) ?_
    refine lv_iload hx hb dX1_putPortals_34 (lv_at hl 1 rfl) ?_
    obtain ⟨u21, e22, h⟩ := obd_inv h
    obtain ⟨n23, n24, h1, h2, h⟩ := hcall_inv h
    refine hcl_X1_isEmpty_X1_113 F hK S (hIs_inv e22) h1 h2 h rfl rfl hl.1 (Nat.le_of_ble_eq_true rfl) ⟨Nat.le_of_ble_eq_true rfl, Nat.le_of_ble_eq_true rfl⟩ dX1_putPortals_36 (fun v27 o26 w25 H locs hw h S => ?_)
    replace h := hret_mp h hw
    clear hw h1 h2
    obtain ⟨k84, hk84, h⟩ := hj1_inv h
    have hJ49 : ∀ (v29 : Int32) (H : Heap) (locs : List Loc) (ls : Array Slot), k84 v29 → hS E A s.heap cb sb w25 H locs → lv_has ls 8 [(0, .ref a0), (5, .int v7), (6, .int v14)] → W p l e (hrm_X1_putPortals cb sb) s m args below meth c H locs (cb - w25.2.1) (sb - w25.2.2) (vx_MQ below (hQi E A Q) (hXC E A QX) args s cb sb A) (F0 m 49 ls [.int v29, .ref a0]) := by
      intro v29 H locs ls h S hl
      replace h := hk84 _ h
      refine lv_aload_n hx hb dX1_putPortals_49 rfl (lv_at hl 0 rfl) ?_
      obtain ⟨v30, e31, h⟩ := obd_inv h
      refine hg_X1_47 F hK S e31 dX1_putPortals_50 ?_
      refine lv_bipush (v := 6) hx hb dX1_putPortals_53 (by decide) ?_
      obtain ⟨d32, g33, hrl, hdl, h⟩ := h
      obtain ⟨v36, e35, h⟩ := obd_inv h
      refine hpc_X3_many_X1_161 F hK S hrl hdl e35 rfl rfl hl.1 (Nat.le_of_ble_eq_true rfl) ⟨Nat.le_of_ble_eq_true rfl, Nat.le_of_ble_eq_true rfl⟩ dX1_putPortals_55 (fun H locs S => ?_)
      refine lv_bipush (v := 8) hx hb dX1_putPortals_58 (by decide) ?_
      obtain ⟨k82, hk82, h⟩ := hj1_inv h
      have hJ68 : ∀ (v38 : Int32) (H : Heap) (locs : List Loc) (ls : Array Slot), k82 v38 → hS E A s.heap cb sb w25 H locs → lv_has ls 8 [(0, .ref a0), (5, .int v7), (6, .int v14)] → W p l e (hrm_X1_putPortals cb sb) s m args below meth c H locs (cb - w25.2.1) (sb - w25.2.2) (vx_MQ below (hQi E A Q) (hXC E A QX) args s cb sb A) (F0 m 68 ls [.int v38, .int v29, .ref a0]) := by
        intro v38 H locs ls h S hl
        replace h := hk82 _ h
        obtain ⟨u39, e40, h⟩ := obd_inv h
        obtain ⟨n41, n42, h1, h2, h⟩ := hcall_inv h
        refine hcl_X1_whyNotLay_X1_150 F hK S (hIs_inv e40) h1 h2 h rfl rfl hl.1 (Nat.le_of_ble_eq_true rfl) ⟨Nat.le_of_ble_eq_true rfl, Nat.le_of_ble_eq_true rfl⟩ dX1_putPortals_68 (fun v45 o44 w43 H locs hw h S => ?_)
        replace h := hret_mp h hw
        clear hw h1 h2
        refine lv_istore (lv' := [(7, .int v45), (0, .ref a0), (5, .int v7), (6, .int v14)]) hx hb dX1_putPortals_71 hl (by decide) rfl (fun ls hl => ?_)
        refine lv_iload hx hb dX1_putPortals_73 (lv_at hl 0 rfl) ?_
        obtain ⟨k80, hk80, h⟩ := hj2_inv h
        have hJ126 : ∀ (v77 : Int32) (g78 : hW) (H : Heap) (locs : List Loc) (ls : Array Slot), k80 v77 g78 → hS E A s.heap cb sb g78 H locs → lv_has ls 8 [] → W p l e (hrm_X1_putPortals cb sb) s m args below meth c H locs (cb - g78.2.1) (sb - g78.2.2) (vx_MQ below (hQi E A Q) (hXC E A QX) args s cb sb A) (F0 m 126 ls [.int v77]) := by
          intro v77 g78 H locs ls h S hl
          replace h := hk80 _ _ h
          exact vx_ret (h_iret F hr hlk S h dX1_putPortals_126)
        clear hk80
        refine lv_if_eq (tgt := 83) hx hb dX1_putPortals_75 (by decide) (fun c46 => ?_) (fun c46 => ?_)
        · rw [hIf_pos c46] at h
          refine lv_aload_n hx hb dX1_putPortals_83 rfl (lv_at hl 1 rfl) ?_
          refine lv_iconst (v := 2) hx hb dX1_putPortals_84 (by decide) ?_
          refine h_newR 6 rfl rfl F hK S rfl rfl h q317 hK.2.1.2.2.2.2.2.2.2.1 dX1_putPortals_85 (fun q47 w48 H h S => ?_)
          refine lv_dup hx hb dX1_putPortals_88 rfl ?_
          refine lv_iconst (v := 0) hx hb dX1_putPortals_89 (by decide) ?_
          refine hn_X1_180 F hK S rfl rfl h dX1_putPortals_90 (fun q49 w50 H h S => ?_)
          refine lv_dup hx hb dX1_putPortals_93 rfl ?_
          refine lv_iload hx hb dX1_putPortals_94 (lv_at hl 2 rfl) ?_
          refine lv_iload hx hb dX1_putPortals_96 (lv_at hl 3 rfl) ?_
          obtain ⟨n51, n52, h1, h2, h⟩ := hcall_inv h
          refine hcl_X13_init_X1_182 F hK S h1 h2 h rfl rfl hl.1 (Nat.le_of_ble_eq_true rfl) ⟨Nat.le_of_ble_eq_true rfl, Nat.le_of_ble_eq_true rfl⟩ dX1_putPortals_98 (fun o54 w53 H locs hw h S => ?_)
          replace h := hret_mp h hw
          clear hw h1 h2
          obtain ⟨w55, e56, h⟩ := obd_inv h
          refine h_aast F hK S e56 dX1_putPortals_101 (fun H locs S => ?_)
          refine lv_dup hx hb dX1_putPortals_102 rfl ?_
          refine lv_iconst (v := 1) hx hb dX1_putPortals_103 (by decide) ?_
          refine hn_X1_180 F hK S rfl rfl h dX1_putPortals_104 (fun q57 w58 H h S => ?_)
          refine lv_dup hx hb dX1_putPortals_107 rfl ?_
          refine lv_iload hx hb dX1_putPortals_108 (lv_at hl 3 rfl) ?_
          refine lv_iload hx hb dX1_putPortals_110 (lv_at hl 2 rfl) ?_
          obtain ⟨n59, n60, h1, h2, h⟩ := hcall_inv h
          refine hcl_X13_init_X1_182 F hK S h1 h2 h rfl rfl hl.1 (Nat.le_of_ble_eq_true rfl) ⟨Nat.le_of_ble_eq_true rfl, Nat.le_of_ble_eq_true rfl⟩ dX1_putPortals_112 (fun o62 w61 H locs hw h S => ?_)
          replace h := hret_mp h hw
          clear hw h1 h2
          obtain ⟨w63, e64, h⟩ := obd_inv h
          refine h_aast F hK S e64 dX1_putPortals_115 (fun H locs S => ?_)
          obtain ⟨u65, e66, h⟩ := obd_inv h
          obtain ⟨n67, n68, h1, h2, h⟩ := hcall_inv h
          refine hcl_X1_put_2_X1_157 F hK S (hIs_inv e66) h1 h2 h rfl rfl hl.1 (Nat.le_of_ble_eq_true rfl) ⟨Nat.le_of_ble_eq_true rfl, Nat.le_of_ble_eq_true rfl⟩ dX1_putPortals_116 (fun v71 o70 w69 H locs hw h S => ?_)
          replace h := hret_mp h hw
          clear hw h1 h2
          refine lv_bipush (v := 6) hx hb dX1_putPortals_119 (by decide) ?_
          obtain ⟨d72, g73, hrl, hdl, h⟩ := h
          obtain ⟨v76, e75, h⟩ := obd_inv h
          refine hpc_X3_many_X1_161 F hK S hrl hdl e75 rfl rfl hl.1 (Nat.le_of_ble_eq_true rfl) ⟨Nat.le_of_ble_eq_true rfl, Nat.le_of_ble_eq_true rfl⟩ dX1_putPortals_121 (fun H locs S => ?_)
          refine lv_iconst (v := 2) hx hb dX1_putPortals_124 (by decide) ?_
          refine lv_idiv hx hb dX1_putPortals_125 (by decide) ?_
          exact hJ126 _ _ _ _ _ h S (lv_sub hl [] rfl)
        · rw [hIf_neg c46] at h
          refine lv_iload hx hb dX1_putPortals_78 (lv_at hl 0 rfl) ?_
          refine lv_goto (tgt := 126) hx hb dX1_putPortals_80 (by decide) ?_
          exact hJ126 _ _ _ _ _ h S (lv_sub hl [] rfl)
      clear hk82
      refine lv_icmp_ge (tgt := 67) hx hb dX1_putPortals_60 (by decide) (fun c37 => ?_) (fun c37 => ?_)
      · rw [hIf_pos c37] at h
        refine lv_iconst (v := 0) hx hb dX1_putPortals_67 (by decide) ?_
        exact hJ68 _ _ _ _ h S (lv_sub hl [0, 1, 2] rfl)
      · rw [hIf_neg c37] at h
        refine lv_iconst (v := 1) hx hb dX1_putPortals_63 (by decide) ?_
        refine lv_goto (tgt := 68) hx hb dX1_putPortals_64 (by decide) ?_
        exact hJ68 _ _ _ _ h S (lv_sub hl [0, 1, 2] rfl)
    clear hk84
    refine lv_if_eq (tgt := 47) hx hb dX1_putPortals_39 (by decide) (fun c28 => ?_) (fun c28 => ?_)
    · rw [hIf_pos c28] at h
      refine lv_iload hx hb dX1_putPortals_47 (lv_at hl 1 rfl) ?_
      exact hJ49 _ _ _ _ h S (lv_sub hl [0, 1, 2] rfl)
    · rw [hIf_neg c28] at h
      refine lv_iload hx hb dX1_putPortals_42 (lv_at hl 2 rfl) ?_
      refine lv_goto (tgt := 49) hx hb dX1_putPortals_44 (by decide) ?_
      exact hJ49 _ _ _ _ h S (lv_sub hl [0, 1, 2] rfl)
  clear hk86
  refine lv_icmp_eq (tgt := 28) hx hb dX1_putPortals_21 (by decide) (fun c15 => ?_) (fun c15 => ?_)
  · rw [hIf_pos c15] at h
    refine lv_iconst (v := 0) hx hb dX1_putPortals_28 (by decide) ?_
    exact hJ29 _ _ _ _ h S (lv_sub hl [2, 1, 0] rfl)
  · rw [hIf_neg c15] at h
    refine lv_iconst (v := 1) hx hb dX1_putPortals_24 (by decide) ?_
    refine lv_goto (tgt := 29) hx hb dX1_putPortals_25 (by decide) ?_
    exact hJ29 _ _ _ _ h S (lv_sub hl [2, 1, 0] rfl)
theorem hn_X1_186 {p : Program} {l : Launch} {e : Env} {s : State} {m : MethodId} {args : Array Value} {below : List Frame} {meth : Method} {c : Code} {R : Room} {H : Heap} {locs : List Loc} {cb sb pc nL : Nat} {Q : State → Prop} {ls : Array Slot} {rest : List Value} {cc : ByteArray} {E : hEnv} {A : Nat → Prop} {w : hW} (F : CallFix p m c cc nL s args lw_all RX1) (hK : hK E A s) (S : hS E A s.heap cb sb w H locs) (hrc : R.cells = cb) (hrs : R.slots = sb) {f : Nat → hW → Prop} (h : hNew w (.inl (4, [.int 0])) 1 f) (hdg : decode cc pc = .ok (.new 186, 3)) (kk : ∀ (q : Nat) (w' : hW) (H1 : Heap), f q w' → hS E A s.heap cb sb w' H1 locs → W p l e R s m args below meth c H1 locs (cb - w'.2.1) (sb - w'.2.2) Q (F0 m (pc + 3) ls (.ref q :: rest))) : W p l e R s m args below meth c H locs (cb - w.2.1) (sb - w.2.2) Q (F0 m pc ls rest) :=
  h_new F hK S hrc hrs (C := RX5) (T := TX5) (N := 1) tyX5 tyX5_ok q1574 q282 q117 in_X5 rfl (fun j hj => by match j, hj with | 0, _ => rfl) h hdg kk
theorem hcl_X5_init_X1_188 {p : Program} {l : Launch} {e : Env} {s : State} {m : MethodId} {args : Array Value} {below : List Frame} {meth : Method} {c : Code} {R : Room} {H : Heap} {locs : List Loc} {cb sb pc nL : Nat} {Q : State → Prop} {ls : Array Slot} {rest : List Value} {cc : ByteArray} {E : hEnv} {A : Nat → Prop} {w : hW} {a0 : Nat} {x1 : Int32} {Q' : hO → Prop} {c1 s1 : Nat} (F : CallFix p m c cc nL s args lw_all RX1) (hK : hK E A s) (S : hS E A s.heap cb sb w H locs) (h1 : c1 ≤ w.2.1) (h2 : s1 ≤ w.2.2) (h : hf_X5_init E.2.2 (w.1, c1, s1) a0 x1 Q') (hrc : R.cells = cb) (hrs : R.slots = sb) (hls : ls.size = nL) (hWt : (rest.map fun v => v.category).sum ≤ 8) (hR : 2 + 1 ≤ R.frames ∧ 8 + (2 + 11) + 41 ≤ R.locals) (hdg : decode cc pc = .ok (.invokespecial 188, 3))
    (kk : ∀ (o : hO) (w' : hW) (H1 : Heap) (locs1 : List Loc), w' = (o, w.2.1 - c1, w.2.2 - s1) → Q' o → hS E A s.heap cb sb w' H1 locs1 → W p l e R s m args below meth c H1 locs1 (cb - w'.2.1) (sb - w'.2.2) Q (F0 m (pc + 3) ls (rest))) : W p l e R s m args below meth c H locs (cb - w.2.1) (sb - w.2.2) Q (F0 m pc ls (.int x1 :: .ref a0 :: rest)) :=
  h_kv (g_runI F hK (hKm E A) S.1 (hmet_X5_init l E A (w.1, c1, s1) a0 x1 Q' h) (cwI 1 F.2.2.2.2 (lw_meth q285) rfl rfl rfl (F.2.2.2.2 _ q117) (F.2.2.2.2 _ q1575) (F.2.2.2.2 _ q284) rfl (by decide +kernel) hR) rfl hls rfl hWt hdg ⟨by rw [hrc]; exact (h_left S h1 h2).1, by rw [hrs]; exact (h_left S h1 h2).2⟩) S h1 h2 kk
def hf_X1_clear (pl : Nat → Nat) (w : hW) (a0 : Nat) (x1 : Int32) (x2 : Int32) (QX : String → hO → Prop) (Q : Int32 → hO → Prop) : Prop :=
  obd (hIs w a0 1) fun u1 =>
  hcall w fun n3 n4 => hf_X1_cellOf pl (w.1, n3, n4) a0 x1 x2 QX fun v7 o6 => hret w n3 n4 o6 fun w5 =>
  obd (hgP w5 a0 1 3) fun v8 =>
  obd (hgP w5 v8 3 3) fun v10 =>
  obd (haP w5 v10 v7) fun v12 =>
  hcall w5 fun n14 n15 => hv_kind pl (w5.1, n14, n15) v12 fun v18 o17 => hret w5 n14 n15 o17 fun w16 =>
  obd (hgP w16 a0 1 3) fun v19 =>
  obd (hgI w16 v19 3 7) fun v21 =>
  hIf (v21 ≤ 0) (
    hIf (v18 = 0) (
      Q (-5) w16.1) <|
      hIf (v18 = 7) (
        Q (-5) w16.1) <|
        hjoin (fun (v38 : Int32) (g39 : hW) =>
          hNewR 6 g39 2 fun q40 w41 =>
          hNew w41 (.inl (4, [.int 0])) 1 fun q42 w43 =>
          hcall w43 fun n44 n45 => hf_X5_init pl (w43.1, n44, n45) q42 v7 fun o47 => hret w43 n44 n45 o47 fun w46 =>
          obd (hsR w46 q40 0 (some q42)) fun w48 =>
          hNew w48 (.inl (4, [.int 0])) 1 fun q50 w51 =>
          hcall w51 fun n52 n53 => hf_X5_init pl (w51.1, n52, n53) q50 v38 fun o55 => hret w51 n52 n53 o55 fun w54 =>
          obd (hsR w54 q40 1 (some q50)) fun w56 =>
          obd (hIs w56 a0 1) fun u58 =>
          hcall w56 fun n60 n61 => hf_X1_put_2 pl (w56.1, n60, n61) a0 q40 fun v64 o63 => hret w56 n60 n61 o63 fun w62 =>
          Q v18 w62.1) fun k66 =>
        hIf (v18 = 6) (
          obd (hgP w16 a0 1 3) fun v27 =>
          obd (hgP w16 v27 3 3) fun v29 =>
          obd (haP w16 v29 v7) fun v31 =>
          hcall w16 fun n33 n34 => hv_form pl (w16.1, n33, n34) v31 fun v37 o36 => hret w16 n33 n34 o36 fun w35 =>
          k66 v37 w35) <|
          k66 v7 w16) <|
    Q (-2) w16.1
abbrev hrm_X1_clear (c s : Nat) : Room := { frames := 9, cells := c, slots := s, locals := 201 }
set_option maxHeartbeats 4000000 in
set_option maxRecDepth 100000 in
theorem hmet_X1_clear (l : Launch) (hst : l.stackTraces = false) (E : hEnv) (A : Nat → Prop) (w : hW) (a0 : Nat) (x1 : Int32) (x2 : Int32) (QX : String → hO → Prop) (Q : Int32 → hO → Prop) (h : hf_X1_clear E.2.2 w a0 x1 x2 QX Q) : vx_Met l yX1_clear (ws_ yX1_clear cX1_clear 6 (some .int)) (hrm_X1_clear w.2.1 w.2.2) (va_Pc [.ref a0, .int x1, .int x2] (gPre (hK E A) (hP E A w.1))) (hQi E A Q) (hXC E A QX) w.2.1 w.2.2 A := by
  refine hx_met (own := RX1) (by decide +kernel) rfl (Nat.le_of_ble_eq_true rfl) ?_
  intro p e s m args below meth c ls cb sb F hr hlk ht hK S hl
  have hx := F.1
  have hb := F.2.1
  have hl : lv_has ls 6 [(0, .ref a0), (1, .int x1), (2, .int x2)] := hl
  unfold hf_X1_clear at h
  refine lv_aload_n hx hb dX1_clear_0 rfl (lv_at hl 0 rfl) ?_
  refine lv_iload_n hx hb dX1_clear_1 rfl (lv_at hl 1 rfl) ?_
  refine lv_iload_n hx hb dX1_clear_2 rfl (lv_at hl 2 rfl) ?_
  obtain ⟨u1, e2, h⟩ := obd_inv h
  obtain ⟨n3, n4, h1, h2, h⟩ := hcall_inv h
  refine hcl_X1_cellOf_X1_146 hst hlk ht F hK S (hIs_inv e2) h1 h2 h rfl rfl hl.1 (Nat.le_of_ble_eq_true rfl) ⟨Nat.le_of_ble_eq_true rfl, Nat.le_of_ble_eq_true rfl⟩ dX1_clear_3 (fun v7 o6 w5 H locs hw h S => ?_)
  replace h := hret_mp h hw
  clear hw h1 h2
  refine lv_istore_n (lv' := [(3, .int v7), (0, .ref a0), (1, .int x1), (2, .int x2)]) hx hb dX1_clear_6 rfl hl (by decide) rfl (fun ls hl => ?_)
  refine lv_aload_n hx hb dX1_clear_7 rfl (lv_at hl 1 rfl) ?_
  obtain ⟨v8, e9, h⟩ := obd_inv h
  refine hg_X1_47 F hK S e9 dX1_clear_8 ?_
  obtain ⟨v10, e11, h⟩ := obd_inv h
  refine hg_X1_74 F hK S e11 dX1_clear_11 ?_
  refine lv_iload_n hx hb dX1_clear_14 rfl (lv_at hl 0 rfl) ?_
  obtain ⟨v12, e13, h⟩ := obd_inv h
  refine h_aald F hK S e13 dX1_clear_15 ?_
  obtain ⟨n14, n15, h1, h2, h⟩ := hcall_inv h
  refine hcv_kind_X1_107 F hK S h1 h2 h rfl rfl hl.1 (Nat.le_of_ble_eq_true rfl) ⟨Nat.le_of_ble_eq_true rfl, Nat.le_of_ble_eq_true rfl⟩ dX1_clear_16 (fun v18 o17 w16 H locs hw h S => ?_)
  replace h := hret_mp h hw
  clear hw h1 h2
  refine lv_istore (lv' := [(4, .int v18), (3, .int v7), (0, .ref a0), (1, .int x1), (2, .int x2)]) hx hb dX1_clear_19 hl (by decide) rfl (fun ls hl => ?_)
  refine lv_aload_n hx hb dX1_clear_21 rfl (lv_at hl 2 rfl) ?_
  obtain ⟨v19, e20, h⟩ := obd_inv h
  refine hg_X1_47 F hK S e20 dX1_clear_22 ?_
  obtain ⟨v21, e22, h⟩ := obd_inv h
  refine hg_X1_110 F hK S e22 dX1_clear_25 ?_
  refine lv_if_le (tgt := 34) hx hb dX1_clear_28 (by decide) (fun c23 => ?_) (fun c23 => ?_)
  · rw [hIf_pos c23] at h
    refine lv_iload hx hb dX1_clear_34 (lv_at hl 0 rfl) ?_
    refine lv_if_eq (tgt := 46) hx hb dX1_clear_36 (by decide) (fun c24 => ?_) (fun c24 => ?_)
    · rw [hIf_pos c24] at h
      refine lv_bipush (v := (-5)) hx hb dX1_clear_46 (by decide) ?_
      exact vx_ret (h_iret F hr hlk S h dX1_clear_48)
    · rw [hIf_neg c24] at h
      refine lv_iload hx hb dX1_clear_39 (lv_at hl 0 rfl) ?_
      refine lv_bipush (v := 7) hx hb dX1_clear_41 (by decide) ?_
      refine lv_icmp_ne (tgt := 49) hx hb dX1_clear_43 (by decide) (fun c25 => ?_) (fun c25 => ?_)
      · rw [hIf_neg c25] at h
        refine lv_iload hx hb dX1_clear_49 (lv_at hl 0 rfl) ?_
        refine lv_bipush (v := 6) hx hb dX1_clear_51 (by decide) ?_
        obtain ⟨k66, hk66, h⟩ := hj2_inv h
        have hJ72 : ∀ (v38 : Int32) (g39 : hW) (H : Heap) (locs : List Loc) (ls : Array Slot), k66 v38 g39 → hS E A s.heap cb sb g39 H locs → lv_has ls 6 [(0, .ref a0), (3, .int v7), (4, .int v18)] → W p l e (hrm_X1_clear cb sb) s m args below meth c H locs (cb - g39.2.1) (sb - g39.2.2) (vx_MQ below (hQi E A Q) (hXC E A QX) args s cb sb A) (F0 m 72 ls [.int v38]) := by
          intro v38 g39 H locs ls h S hl
          replace h := hk66 _ _ h
          refine lv_istore (lv' := [(5, .int v38), (0, .ref a0), (3, .int v7), (4, .int v18)]) hx hb dX1_clear_72 hl (by decide) rfl (fun ls hl => ?_)
          refine lv_aload_n hx hb dX1_clear_74 rfl (lv_at hl 1 rfl) ?_
          refine lv_iconst (v := 2) hx hb dX1_clear_75 (by decide) ?_
          refine h_newR 6 rfl rfl F hK S rfl rfl h q317 hK.2.1.2.2.2.2.2.2.2.1 dX1_clear_76 (fun q40 w41 H h S => ?_)
          refine lv_dup hx hb dX1_clear_79 rfl ?_
          refine lv_iconst (v := 0) hx hb dX1_clear_80 (by decide) ?_
          refine hn_X1_186 F hK S rfl rfl h dX1_clear_81 (fun q42 w43 H h S => ?_)
          refine lv_dup hx hb dX1_clear_84 rfl ?_
          refine lv_iload_n hx hb dX1_clear_85 rfl (lv_at hl 2 rfl) ?_
          obtain ⟨n44, n45, h1, h2, h⟩ := hcall_inv h
          refine hcl_X5_init_X1_188 F hK S h1 h2 h rfl rfl hl.1 (Nat.le_of_ble_eq_true rfl) ⟨Nat.le_of_ble_eq_true rfl, Nat.le_of_ble_eq_true rfl⟩ dX1_clear_86 (fun o47 w46 H locs hw h S => ?_)
          replace h := hret_mp h hw
          clear hw h1 h2
          obtain ⟨w48, e49, h⟩ := obd_inv h
          refine h_aast F hK S e49 dX1_clear_89 (fun H locs S => ?_)
          refine lv_dup hx hb dX1_clear_90 rfl ?_
          refine lv_iconst (v := 1) hx hb dX1_clear_91 (by decide) ?_
          refine hn_X1_186 F hK S rfl rfl h dX1_clear_92 (fun q50 w51 H h S => ?_)
          refine lv_dup hx hb dX1_clear_95 rfl ?_
          refine lv_iload hx hb dX1_clear_96 (lv_at hl 0 rfl) ?_
          obtain ⟨n52, n53, h1, h2, h⟩ := hcall_inv h
          refine hcl_X5_init_X1_188 F hK S h1 h2 h rfl rfl hl.1 (Nat.le_of_ble_eq_true rfl) ⟨Nat.le_of_ble_eq_true rfl, Nat.le_of_ble_eq_true rfl⟩ dX1_clear_98 (fun o55 w54 H locs hw h S => ?_)
          replace h := hret_mp h hw
          clear hw h1 h2
          obtain ⟨w56, e57, h⟩ := obd_inv h
          refine h_aast F hK S e57 dX1_clear_101 (fun H locs S => ?_)
          obtain ⟨u58, e59, h⟩ := obd_inv h
          obtain ⟨n60, n61, h1, h2, h⟩ := hcall_inv h
          refine hcl_X1_put_2_X1_157 F hK S (hIs_inv e59) h1 h2 h rfl rfl hl.1 (Nat.le_of_ble_eq_true rfl) ⟨Nat.le_of_ble_eq_true rfl, Nat.le_of_ble_eq_true rfl⟩ dX1_clear_102 (fun v64 o63 w62 H locs hw h S => ?_)
          replace h := hret_mp h hw
          clear hw h1 h2
          refine lv_pop hx hb dX1_clear_105 rfl ?_
          refine lv_iload hx hb dX1_clear_106 (lv_at hl 3 rfl) ?_
          exact vx_ret (h_iret F hr hlk S h dX1_clear_108)
        clear hk66
        refine lv_icmp_ne (tgt := 71) hx hb dX1_clear_53 (by decide) (fun c26 => ?_) (fun c26 => ?_)
        · rw [hIf_neg c26] at h
          refine lv_iload_n hx hb dX1_clear_71 rfl (lv_at hl 1 rfl) ?_
          exact hJ72 _ _ _ _ _ h S (lv_sub hl [2, 1, 0] rfl)
        · rw [hIf_pos c26] at h
          refine lv_aload_n hx hb dX1_clear_56 rfl (lv_at hl 2 rfl) ?_
          obtain ⟨v27, e28, h⟩ := obd_inv h
          refine hg_X1_47 F hK S e28 dX1_clear_57 ?_
          obtain ⟨v29, e30, h⟩ := obd_inv h
          refine hg_X1_74 F hK S e30 dX1_clear_60 ?_
          refine lv_iload_n hx hb dX1_clear_63 rfl (lv_at hl 1 rfl) ?_
          obtain ⟨v31, e32, h⟩ := obd_inv h
          refine h_aald F hK S e32 dX1_clear_64 ?_
          obtain ⟨n33, n34, h1, h2, h⟩ := hcall_inv h
          refine hcv_form_X1_183 F hK S h1 h2 h rfl rfl hl.1 (Nat.le_of_ble_eq_true rfl) ⟨Nat.le_of_ble_eq_true rfl, Nat.le_of_ble_eq_true rfl⟩ dX1_clear_65 (fun v37 o36 w35 H locs hw h S => ?_)
          replace h := hret_mp h hw
          clear hw h1 h2
          refine lv_goto (tgt := 72) hx hb dX1_clear_68 (by decide) ?_
          exact hJ72 _ _ _ _ _ h S (lv_sub hl [2, 1, 0] rfl)
      · rw [hIf_pos c25] at h
        refine lv_bipush (v := (-5)) hx hb dX1_clear_46 (by decide) ?_
        exact vx_ret (h_iret F hr hlk S h dX1_clear_48)
  · rw [hIf_neg c23] at h
    refine lv_bipush (v := (-2)) hx hb dX1_clear_31 (by decide) ?_
    exact vx_ret (h_iret F hr hlk S h dX1_clear_33)
theorem hpc_X3_lampDirection_X1_192 {p : Program} {l : Launch} {e : Env} {s : State} {m : MethodId} {args : Array Value} {below : List Frame} {meth : Method} {c : Code} {R : Room} {H : Heap} {locs : List Loc} {cb sb pc nL : Nat} {Q : State → Prop} {ls : Array Slot} {rest : List Value} {cc : ByteArray} {E : hEnv} {A : Nat → Prop} {w : hW} {d : hD} {g : mS} {a : Nat} {r : Int32} (F : CallFix p m c cc nL s args lw_all RX1) (hK : hK E A s) (S : hS E A s.heap cb sb w H locs) (hr : hRel d g w.1) (hd : d.1 100 = a) (h : fc_X3_lampDirection g 100 = some r) (hrc : R.cells = cb) (hrs : R.slots = sb) (hls : ls.size = nL) (hWt : (rest.map fun v => v.category).sum ≤ 8) (hR : rm_c_X3_lampDirection.frames + 1 ≤ R.frames ∧ 8 + (1 + 11) + rm_c_X3_lampDirection.locals ≤ R.locals) (hdg : decode cc pc = .ok (.invokevirtual 192, 3))
    (kk : ∀ (H1 : Heap) (locs1 : List Loc), hS E A s.heap cb sb w H1 locs1 → W p l e R s m args below meth c H1 locs1 (cb - w.2.1) (sb - w.2.2) Q (F0 m (pc + 3) ls (.int r :: rest))) : W p l e R s m args below meth c H locs (cb - w.2.1) (sb - w.2.2) Q (F0 m pc ls (.ref a :: rest)) := by
  subst hd
  refine hb_ki hK S hr (gZ := g) (va_runV (g := F0 m pc ls _) F (met_c_X3_lampDirection l (hDE E d g H.size) g 100 hOk100 r h) (cwV 0 F.2.2.2.2 (lw_V q1583 q384 q385 q115 q386) rfl rfl rfl (by decide +kernel) hR) ⟨gBlind (cKm (hDE E d g H.size)), h_recv hK S (ci := 3) rfl (hRel_w hr), fun U hU hW => ⟨rfl, hB_pre hK S hr U hU hW⟩⟩ rfl rfl hls rfl (lv_room hWt) hdg ⟨by rw [hrc]; exact Nat.sub_le _ _, by rw [hrs]; exact Nat.sub_le _ _⟩) (fun w' H1 locs1 hw _ S1 => ?_)
  rw [hPut_self hr] at hw
  subst hw
  exact kk H1 locs1 S1
theorem hg_X1_189 {p : Program} {l : Launch} {e : Env} {s : State} {m : MethodId} {args : Array Value} {below : List Frame} {meth : Method} {c : Code} {R : Room} {H : Heap} {locs : List Loc} {cb sb pc nL : Nat} {Q : State → Prop} {ls : Array Slot} {rest : List Value} {cc : ByteArray} {E : hEnv} {A : Nat → Prop} {w : hW} {a : Nat} {v : Int32} (F : CallFix p m c cc nL s args lw_all RX1) (hK : hK E A s) (S : hS E A s.heap cb sb w H locs) (h : hgI w a 3 4 = some v) (hdg : decode cc pc = .ok (.getfield 189, 3)) (kk : W p l e R s m args below meth c H locs (cb - w.2.1) (sb - w.2.2) Q (F0 m (pc + 3) ls (.int v :: rest))) : W p l e R s m args below meth c H locs (cb - w.2.1) (sb - w.2.2) Q (F0 m pc ls (.ref a :: rest)) := by
  obtain ⟨b, fs, ho, hv⟩ := hgI_inv h
  exact h_getN F hK S ho (ci := 3) (C := RX3) (T := TX3) (N := 9) (k := 4) rfl in_X3 (by decide) (hK.2.1.1 _ (List.mem_of_getElem? (i := 5) rfl)) (fun x h => h) hv hdg kk
theorem hcl_X6_init_X1_195 {p : Program} {l : Launch} {e : Env} {s : State} {m : MethodId} {args : Array Value} {below : List Frame} {meth : Method} {c : Code} {R : Room} {H : Heap} {locs : List Loc} {cb sb pc nL : Nat} {Q : State → Prop} {ls : Array Slot} {rest : List Value} {cc : ByteArray} {E : hEnv} {A : Nat → Prop} {w : hW} {a0 : Nat} {x1 : Int32} {x2 : Int32} {Q' : hO → Prop} {c1 s1 : Nat} (F : CallFix p m c cc nL s args lw_all RX1) (hK : hK E A s) (S : hS E A s.heap cb sb w H locs) (h1 : c1 ≤ w.2.1) (h2 : s1 ≤ w.2.2) (h : hf_X6_init E.2.2 (w.1, c1, s1) a0 x1 x2 Q') (hrc : R.cells = cb) (hrs : R.slots = sb) (hls : ls.size = nL) (hWt : (rest.map fun v => v.category).sum ≤ 8) (hR : 2 + 1 ≤ R.frames ∧ 8 + (3 + 11) + 41 ≤ R.locals) (hdg : decode cc pc = .ok (.invokespecial 195, 3))
    (kk : ∀ (o : hO) (w' : hW) (H1 : Heap) (locs1 : List Loc), w' = (o, w.2.1 - c1, w.2.2 - s1) → Q' o → hS E A s.heap cb sb w' H1 locs1 → W p l e R s m args below meth c H1 locs1 (cb - w'.2.1) (sb - w'.2.2) Q (F0 m (pc + 3) ls (rest))) : W p l e R s m args below meth c H locs (cb - w.2.1) (sb - w.2.2) Q (F0 m pc ls (.int x2 :: .int x1 :: .ref a0 :: rest)) :=
  h_kv (g_runI F hK (hKm E A) S.1 (hmet_X6_init l E A (w.1, c1, s1) a0 x1 x2 Q' h) (cwI 2 F.2.2.2.2 (lw_meth q310) rfl rfl rfl (F.2.2.2.2 _ q118) (F.2.2.2.2 _ q1584) (F.2.2.2.2 _ q309) rfl (by decide +kernel) hR) rfl hls rfl hWt hdg ⟨by rw [hrc]; exact (h_left S h1 h2).1, by rw [hrs]; exact (h_left S h1 h2).2⟩) S h1 h2 kk
theorem hp_X1_189 {p : Program} {l : Launch} {e : Env} {s : State} {m : MethodId} {args : Array Value} {below : List Frame} {meth : Method} {c : Code} {R : Room} {H : Heap} {locs : List Loc} {cb sb pc nL : Nat} {Q : State → Prop} {ls : Array Slot} {rest : List Value} {cc : ByteArray} {E : hEnv} {A : Nat → Prop} {w : hW} {a : Nat} {w' : hW} {v : Int32} (F : CallFix p m c cc nL s args lw_all RX1) (hK : hK E A s) (S : hS E A s.heap cb sb w H locs) (h : hpV w a 3 4 (.int v) = some w') (hdg : decode cc pc = .ok (.putfield 189, 3)) (kk : ∀ (H1 : Heap) (locs1 : List Loc), hS E A s.heap cb sb w' H1 locs1 → W p l e R s m args below meth c H1 locs1 (cb - w'.2.1) (sb - w'.2.2) Q (F0 m (pc + 3) ls rest)) : W p l e R s m args below meth c H locs (cb - w.2.1) (sb - w.2.2) Q (F0 m pc ls (.int v :: .ref a :: rest)) :=
  h_putN F hK S h (ci := 3) (C := RX3) (T := TX3) (N := 9) (k := 4) rfl in_X3 tyX3 tyX3_ok nmX3 (by decide) (hK.2.1.1 _ (List.mem_of_getElem? (i := 5) rfl)) (fun x h => h) rfl (ty := .int) (by decide +kernel) rfl rfl hdg kk
def hf_X1_setLamp (pl : Nat → Nat) (w : hW) (a0 : Nat) (x1 : Int32) (x2 : Int32) (x3 : Int32) (QX : String → hO → Prop) (Q : Int32 → hO → Prop) : Prop :=
  obd (hIs w a0 1) fun u1 =>
  hcall w fun n3 n4 => hf_X1_cellOf pl (w.1, n3, n4) a0 x1 x2 QX fun v7 o6 => hret w n3 n4 o6 fun w5 =>
  obd (fp_isIn g00 x3 0 3) fun v8 =>
  hcall w5 fun n10 n11 => hf_X1_ask pl (w5.1, n10, n11) v8 QX fun o13 => hret w5 n10 n11 o13 fun w12 =>
  obd (hgP w12 a0 1 3) fun v14 =>
  obd (hgI w12 v14 3 7) fun v16 =>
  hIf (0 < v16) (
    obd (hgP w12 a0 1 3) fun v19 =>
    obd (hgI w12 v19 3 7) fun v21 =>
    hjoin (fun (v24 : Int32) =>
      Q v24 w12.1) fun k26 =>
    hIf (v21 ≤ 0) (
      k26 (-3)) <|
      k26 (-2)) <|
    obd (hIs w12 a0 1) fun u27 =>
    hcall w12 fun n29 n30 => hf_X1_isEmpty pl (w12.1, n29, n30) a0 v7 fun v33 o32 => hret w12 n29 n30 o32 fun w31 =>
    hIf (v33 = 0) (
      obd (hgP w31 a0 1 3) fun v82 =>
      obd (hgI w31 v82 3 4) fun v84 =>
      hIf (v7 = v84) (
        obd (hgP w31 a0 1 3) fun v87 =>
        ∃ (d89 : hD) (g90 : mS), hRel d89 g90 w31.1 ∧ d89.1 100 = v87 ∧ obd (fc_X3_lampDirection g90 100) fun v93 =>
        obd (hIs w31 a0 1) fun u94 =>
        hcall w31 fun n96 n97 => hf_X1_change_2 pl (w31.1, n96, n97) a0 fun v100 o99 => hret w31 n96 n97 o99 fun w98 =>
        hNewR 6 w98 2 fun q101 w102 =>
        hNew w102 (.inl (4, [.int 0])) 1 fun q103 w104 =>
        obd (hgI w104 v100 3 4) fun v105 =>
        hcall w104 fun n107 n108 => hf_X5_init pl (w104.1, n107, n108) q103 v105 fun o110 => hret w104 n107 n108 o110 fun w109 =>
        obd (hsR w109 q101 0 (some q103)) fun w111 =>
        hNew w111 (.inl (5, [.int 0, .int 0])) 2 fun q113 w114 =>
        hcall w114 fun n115 n116 => hf_X6_init pl (w114.1, n115, n116) q113 v7 x3 fun o118 => hret w114 n115 n116 o118 fun w117 =>
        obd (hsR w117 q101 1 (some q113)) fun w119 =>
        obd (hIs w119 a0 1) fun u121 =>
        hcall w119 fun n123 n124 => hf_X1_lays pl (w119.1, n123, n124) a0 q101 fun o126 => hret w119 n123 n124 o126 fun w125 =>
        obd (hpV w125 v100 3 4 (.int v7)) fun w127 =>
        ∃ (d129 : hD) (g130 : mS), hRel d129 g130 w127.1 ∧ d129.1 100 = v100 ∧ obd (fc_X3_laysOpen g130 100) fun v133 => hpret w127 d129 v133 fun w131 =>
        Q v93 w131.1) <|
        obd (hgP w31 a0 1 3) fun v134 =>
        obd (hgI w31 v134 3 7) fun v136 =>
        hjoin (fun (v139 : Int32) =>
          Q v139 w31.1) fun k141 =>
        hIf (v136 ≤ 0) (
          k141 (-3)) <|
          k141 (-2)) <|
      obd (hgP w31 a0 1 3) fun v35 =>
      ∃ (d37 : hD) (g38 : mS), hRel d37 g38 w31.1 ∧ d37.1 100 = v35 ∧ obd (fc_X3_lampDirection g38 100) fun v41 =>
      obd (hIs w31 a0 1) fun u42 =>
      hcall w31 fun n44 n45 => hf_X1_change_2 pl (w31.1, n44, n45) a0 fun v48 o47 => hret w31 n44 n45 o47 fun w46 =>
      hNewR 6 w46 2 fun q49 w50 =>
      hNew w50 (.inl (4, [.int 0])) 1 fun q51 w52 =>
      obd (hgI w52 v48 3 4) fun v53 =>
      hcall w52 fun n55 n56 => hf_X5_init pl (w52.1, n55, n56) q51 v53 fun o58 => hret w52 n55 n56 o58 fun w57 =>
      obd (hsR w57 q49 0 (some q51)) fun w59 =>
      hNew w59 (.inl (5, [.int 0, .int 0])) 2 fun q61 w62 =>
      hcall w62 fun n63 n64 => hf_X6_init pl (w62.1, n63, n64) q61 v7 x3 fun o66 => hret w62 n63 n64 o66 fun w65 =>
      obd (hsR w65 q49 1 (some q61)) fun w67 =>
      obd (hIs w67 a0 1) fun u69 =>
      hcall w67 fun n71 n72 => hf_X1_lays pl (w67.1, n71, n72) a0 q49 fun o74 => hret w67 n71 n72 o74 fun w73 =>
      obd (hpV w73 v48 3 4 (.int v7)) fun w75 =>
      ∃ (d77 : hD) (g78 : mS), hRel d77 g78 w75.1 ∧ d77.1 100 = v48 ∧ obd (fc_X3_laysOpen g78 100) fun v81 => hpret w75 d77 v81 fun w79 =>
      Q v41 w79.1
abbrev hrm_X1_setLamp (c s : Nat) : Room := { frames := 8, cells := c, slots := s, locals := 179 }
set_option maxHeartbeats 4000000 in
set_option maxRecDepth 100000 in
theorem hmet_X1_setLamp (l : Launch) (hst : l.stackTraces = false) (E : hEnv) (A : Nat → Prop) (w : hW) (a0 : Nat) (x1 : Int32) (x2 : Int32) (x3 : Int32) (QX : String → hO → Prop) (Q : Int32 → hO → Prop) (h : hf_X1_setLamp E.2.2 w a0 x1 x2 x3 QX Q) : vx_Met l yX1_setLamp (ws_ yX1_setLamp cX1_setLamp 7 (some .int)) (hrm_X1_setLamp w.2.1 w.2.2) (va_Pc [.ref a0, .int x1, .int x2, .int x3] (gPre (hK E A) (hP E A w.1))) (hQi E A Q) (hXC E A QX) w.2.1 w.2.2 A := by
  refine hx_met (own := RX1) (by decide +kernel) rfl (Nat.le_of_ble_eq_true rfl) ?_
  intro p e s m args below meth c ls cb sb F hr hlk ht hK S hl
  have hx := F.1
  have hb := F.2.1
  have hl : lv_has ls 7 [(0, .ref a0), (1, .int x1), (2, .int x2), (3, .int x3)] := hl
  unfold hf_X1_setLamp at h
  refine lv_aload_n hx hb dX1_setLamp_0 rfl (lv_at hl 0 rfl) ?_
  refine lv_iload_n hx hb dX1_setLamp_1 rfl (lv_at hl 1 rfl) ?_
  refine lv_iload_n hx hb dX1_setLamp_2 rfl (lv_at hl 2 rfl) ?_
  obtain ⟨u1, e2, h⟩ := obd_inv h
  obtain ⟨n3, n4, h1, h2, h⟩ := hcall_inv h
  refine hcl_X1_cellOf_X1_146 hst hlk ht F hK S (hIs_inv e2) h1 h2 h rfl rfl hl.1 (Nat.le_of_ble_eq_true rfl) ⟨Nat.le_of_ble_eq_true rfl, Nat.le_of_ble_eq_true rfl⟩ dX1_setLamp_3 (fun v7 o6 w5 H locs hw h S => ?_)
  replace h := hret_mp h hw
  clear hw h1 h2
  refine lv_istore (lv' := [(4, .int v7), (0, .ref a0), (1, .int x1), (2, .int x2), (3, .int x3)]) hx hb dX1_setLamp_6 hl (by decide) rfl (fun ls hl => ?_)
  refine lv_iload_n hx hb dX1_setLamp_8 rfl (lv_at hl 4 rfl) ?_
  refine lv_iconst (v := 0) hx hb dX1_setLamp_9 (by decide) ?_
  refine lv_iconst (v := 3) hx hb dX1_setLamp_10 (by decide) ?_
  obtain ⟨v8, e9, h⟩ := obd_inv h
  refine call_p_isIn_X1_165 (hKm E A) F hK S.1 e9 hl.1 (Nat.le_of_ble_eq_true rfl) ⟨Nat.le_of_ble_eq_true rfl, Nat.le_of_ble_eq_true rfl⟩ ⟨Nat.sub_le _ _, Nat.sub_le _ _⟩ dX1_setLamp_11 (fun H1 locs1 S1 => ?_)
  have S : hS E A s.heap _ _ _ _ _ := ⟨S1, S.2⟩
  obtain ⟨n10, n11, h1, h2, h⟩ := hcall_inv h
  refine hcl_X1_ask_X1_169 hst hlk ht F hK S h1 h2 h rfl rfl hl.1 (Nat.le_of_ble_eq_true rfl) ⟨Nat.le_of_ble_eq_true rfl, Nat.le_of_ble_eq_true rfl⟩ dX1_setLamp_14 (fun o13 w12 H locs hw h S => ?_)
  replace h := hret_mp h hw
  clear hw h1 h2
  refine lv_aload_n hx hb dX1_setLamp_17 rfl (lv_at hl 1 rfl) ?_
  obtain ⟨v14, e15, h⟩ := obd_inv h
  refine hg_X1_47 F hK S e15 dX1_setLamp_18 ?_
  obtain ⟨v16, e17, h⟩ := obd_inv h
  refine hg_X1_110 F hK S e17 dX1_setLamp_21 ?_
  refine lv_if_gt (tgt := 48) hx hb dX1_setLamp_24 (by decide) (fun c18 => ?_) (fun c18 => ?_)
  · rw [hIf_pos c18] at h
    refine lv_aload_n hx hb dX1_setLamp_48 rfl (lv_at hl 1 rfl) ?_
    obtain ⟨v19, e20, h⟩ := obd_inv h
    refine hg_X1_47 F hK S e20 dX1_setLamp_49 ?_
    obtain ⟨v21, e22, h⟩ := obd_inv h
    refine hg_X1_110 F hK S e22 dX1_setLamp_52 ?_
    obtain ⟨k26, hk26, h⟩ := hj1_inv h
    have hJ65 : ∀ (v24 : Int32) (H : Heap) (locs : List Loc) (ls : Array Slot), k26 v24 → hS E A s.heap cb sb w12 H locs → lv_has ls 7 [] → W p l e (hrm_X1_setLamp cb sb) s m args below meth c H locs (cb - w12.2.1) (sb - w12.2.2) (vx_MQ below (hQi E A Q) (hXC E A QX) args s cb sb A) (F0 m 65 ls [.int v24]) := by
      intro v24 H locs ls h S hl
      replace h := hk26 _ h
      exact vx_ret (h_iret F hr hlk S h dX1_setLamp_65)
    clear hk26
    refine lv_if_le (tgt := 63) hx hb dX1_setLamp_55 (by decide) (fun c23 => ?_) (fun c23 => ?_)
    · rw [hIf_pos c23] at h
      refine lv_bipush (v := (-3)) hx hb dX1_setLamp_63 (by decide) ?_
      exact hJ65 _ _ _ _ h S (lv_sub hl [] rfl)
    · rw [hIf_neg c23] at h
      refine lv_bipush (v := (-2)) hx hb dX1_setLamp_58 (by decide) ?_
      refine lv_goto (tgt := 65) hx hb dX1_setLamp_60 (by decide) ?_
      exact hJ65 _ _ _ _ h S (lv_sub hl [] rfl)
  · rw [hIf_neg c18] at h
    refine lv_aload_n hx hb dX1_setLamp_27 rfl (lv_at hl 1 rfl) ?_
    refine lv_iload hx hb dX1_setLamp_28 (lv_at hl 0 rfl) ?_
    obtain ⟨u27, e28, h⟩ := obd_inv h
    obtain ⟨n29, n30, h1, h2, h⟩ := hcall_inv h
    refine hcl_X1_isEmpty_X1_113 F hK S (hIs_inv e28) h1 h2 h rfl rfl hl.1 (Nat.le_of_ble_eq_true rfl) ⟨Nat.le_of_ble_eq_true rfl, Nat.le_of_ble_eq_true rfl⟩ dX1_setLamp_30 (fun v33 o32 w31 H locs hw h S => ?_)
    replace h := hret_mp h hw
    clear hw h1 h2
    refine lv_if_ne (tgt := 66) hx hb dX1_setLamp_33 (by decide) (fun c34 => ?_) (fun c34 => ?_)
    · rw [hIf_neg c34] at h
      refine lv_aload_n hx hb dX1_setLamp_66 rfl (lv_at hl 1 rfl) ?_
      obtain ⟨v35, e36, h⟩ := obd_inv h
      refine hg_X1_47 F hK S e36 dX1_setLamp_67 ?_
      obtain ⟨d37, g38, hrl, hdl, h⟩ := h
      obtain ⟨v41, e40, h⟩ := obd_inv h
      refine hpc_X3_lampDirection_X1_192 F hK S hrl hdl e40 rfl rfl hl.1 (Nat.le_of_ble_eq_true rfl) ⟨Nat.le_of_ble_eq_true rfl, Nat.le_of_ble_eq_true rfl⟩ dX1_setLamp_70 (fun H locs S => ?_)
      refine lv_istore (lv' := [(5, .int v41), (4, .int v7), (0, .ref a0), (1, .int x1), (2, .int x2), (3, .int x3)]) hx hb dX1_setLamp_73 hl (by decide) rfl (fun ls hl => ?_)
      refine lv_aload_n hx hb dX1_setLamp_75 rfl (lv_at hl 2 rfl) ?_
      obtain ⟨u42, e43, h⟩ := obd_inv h
      obtain ⟨n44, n45, h1, h2, h⟩ := hcall_inv h
      refine hcl_X1_change_2_X1_117 F hK S (hIs_inv e43) h1 h2 h rfl rfl hl.1 (Nat.le_of_ble_eq_true rfl) ⟨Nat.le_of_ble_eq_true rfl, Nat.le_of_ble_eq_true rfl⟩ dX1_setLamp_76 (fun v48 o47 w46 H locs hw h S => ?_)
      replace h := hret_mp h hw
      clear hw h1 h2
      refine lv_astore (lv' := [(6, .ref v48), (5, .int v41), (4, .int v7), (0, .ref a0), (1, .int x1), (2, .int x2), (3, .int x3)]) hx hb dX1_setLamp_79 hl (by decide) rfl (fun ls hl => ?_)
      refine lv_aload_n hx hb dX1_setLamp_81 rfl (lv_at hl 3 rfl) ?_
      refine lv_iconst (v := 2) hx hb dX1_setLamp_82 (by decide) ?_
      refine h_newR 6 rfl rfl F hK S rfl rfl h q317 hK.2.1.2.2.2.2.2.2.2.1 dX1_setLamp_83 (fun q49 w50 H h S => ?_)
      refine lv_dup hx hb dX1_setLamp_86 rfl ?_
      refine lv_iconst (v := 0) hx hb dX1_setLamp_87 (by decide) ?_
      refine hn_X1_186 F hK S rfl rfl h dX1_setLamp_88 (fun q51 w52 H h S => ?_)
      refine lv_dup hx hb dX1_setLamp_91 rfl ?_
      refine lv_aload hx hb dX1_setLamp_92 (lv_at hl 0 rfl) ?_
      obtain ⟨v53, e54, h⟩ := obd_inv h
      refine hg_X1_189 F hK S e54 dX1_setLamp_94 ?_
      obtain ⟨n55, n56, h1, h2, h⟩ := hcall_inv h
      refine hcl_X5_init_X1_188 F hK S h1 h2 h rfl rfl hl.1 (Nat.le_of_ble_eq_true rfl) ⟨Nat.le_of_ble_eq_true rfl, Nat.le_of_ble_eq_true rfl⟩ dX1_setLamp_97 (fun o58 w57 H locs hw h S => ?_)
      replace h := hret_mp h hw
      clear hw h1 h2
      obtain ⟨w59, e60, h⟩ := obd_inv h
      refine h_aast F hK S e60 dX1_setLamp_100 (fun H locs S => ?_)
      refine lv_dup hx hb dX1_setLamp_101 rfl ?_
      refine lv_iconst (v := 1) hx hb dX1_setLamp_102 (by decide) ?_
      refine hn_X1_154 F hK S rfl rfl h dX1_setLamp_103 (fun q61 w62 H h S => ?_)
      refine lv_dup hx hb dX1_setLamp_106 rfl ?_
      refine lv_iload hx hb dX1_setLamp_107 (lv_at hl 2 rfl) ?_
      refine lv_iload_n hx hb dX1_setLamp_109 rfl (lv_at hl 6 rfl) ?_
      obtain ⟨n63, n64, h1, h2, h⟩ := hcall_inv h
      refine hcl_X6_init_X1_195 F hK S h1 h2 h rfl rfl hl.1 (Nat.le_of_ble_eq_true rfl) ⟨Nat.le_of_ble_eq_true rfl, Nat.le_of_ble_eq_true rfl⟩ dX1_setLamp_110 (fun o66 w65 H locs hw h S => ?_)
      replace h := hret_mp h hw
      clear hw h1 h2
      obtain ⟨w67, e68, h⟩ := obd_inv h
      refine h_aast F hK S e68 dX1_setLamp_113 (fun H locs S => ?_)
      obtain ⟨u69, e70, h⟩ := obd_inv h
      obtain ⟨n71, n72, h1, h2, h⟩ := hcall_inv h
      refine hcl_X1_lays_X1_63 F hK S (hIs_inv e70) h1 h2 h rfl rfl hl.1 (Nat.le_of_ble_eq_true rfl) ⟨Nat.le_of_ble_eq_true rfl, Nat.le_of_ble_eq_true rfl⟩ dX1_setLamp_114 (fun o74 w73 H locs hw h S => ?_)
      replace h := hret_mp h hw
      clear hw h1 h2
      refine lv_aload hx hb dX1_setLamp_117 (lv_at hl 0 rfl) ?_
      refine lv_iload hx hb dX1_setLamp_119 (lv_at hl 2 rfl) ?_
      obtain ⟨w75, e76, h⟩ := obd_inv h
      refine hp_X1_189 F hK S e76 dX1_setLamp_121 (fun H locs S => ?_)
      refine lv_aload hx hb dX1_setLamp_124 (lv_at hl 0 rfl) ?_
      obtain ⟨d77, g78, hrl, hdl, h⟩ := h
      obtain ⟨v81, e80, h⟩ := obd_inv h
      refine hpc_X3_laysOpen_X1_71 F hK S hrl hdl e80 rfl rfl hl.1 (Nat.le_of_ble_eq_true rfl) ⟨Nat.le_of_ble_eq_true rfl, Nat.le_of_ble_eq_true rfl⟩ dX1_setLamp_126 (fun w79 H locs hw hz S => ?_)
      replace h := hpret_mp h hw hz
      clear hw hz
      refine lv_iload hx hb dX1_setLamp_129 (lv_at hl 1 rfl) ?_
      exact vx_ret (h_iret F hr hlk S h dX1_setLamp_131)
    · rw [hIf_pos c34] at h
      refine lv_iload hx hb dX1_setLamp_36 (lv_at hl 0 rfl) ?_
      refine lv_aload_n hx hb dX1_setLamp_38 rfl (lv_at hl 1 rfl) ?_
      obtain ⟨v82, e83, h⟩ := obd_inv h
      refine hg_X1_47 F hK S e83 dX1_setLamp_39 ?_
      obtain ⟨v84, e85, h⟩ := obd_inv h
      refine hg_X1_189 F hK S e85 dX1_setLamp_42 ?_
      refine lv_icmp_eq (tgt := 66) hx hb dX1_setLamp_45 (by decide) (fun c86 => ?_) (fun c86 => ?_)
      · rw [hIf_pos c86] at h
        refine lv_aload_n hx hb dX1_setLamp_66 rfl (lv_at hl 1 rfl) ?_
        obtain ⟨v87, e88, h⟩ := obd_inv h
        refine hg_X1_47 F hK S e88 dX1_setLamp_67 ?_
        obtain ⟨d89, g90, hrl, hdl, h⟩ := h
        obtain ⟨v93, e92, h⟩ := obd_inv h
        refine hpc_X3_lampDirection_X1_192 F hK S hrl hdl e92 rfl rfl hl.1 (Nat.le_of_ble_eq_true rfl) ⟨Nat.le_of_ble_eq_true rfl, Nat.le_of_ble_eq_true rfl⟩ dX1_setLamp_70 (fun H locs S => ?_)
        refine lv_istore (lv' := [(5, .int v93), (4, .int v7), (0, .ref a0), (1, .int x1), (2, .int x2), (3, .int x3)]) hx hb dX1_setLamp_73 hl (by decide) rfl (fun ls hl => ?_)
        refine lv_aload_n hx hb dX1_setLamp_75 rfl (lv_at hl 2 rfl) ?_
        obtain ⟨u94, e95, h⟩ := obd_inv h
        obtain ⟨n96, n97, h1, h2, h⟩ := hcall_inv h
        refine hcl_X1_change_2_X1_117 F hK S (hIs_inv e95) h1 h2 h rfl rfl hl.1 (Nat.le_of_ble_eq_true rfl) ⟨Nat.le_of_ble_eq_true rfl, Nat.le_of_ble_eq_true rfl⟩ dX1_setLamp_76 (fun v100 o99 w98 H locs hw h S => ?_)
        replace h := hret_mp h hw
        clear hw h1 h2
        refine lv_astore (lv' := [(6, .ref v100), (5, .int v93), (4, .int v7), (0, .ref a0), (1, .int x1), (2, .int x2), (3, .int x3)]) hx hb dX1_setLamp_79 hl (by decide) rfl (fun ls hl => ?_)
        refine lv_aload_n hx hb dX1_setLamp_81 rfl (lv_at hl 3 rfl) ?_
        refine lv_iconst (v := 2) hx hb dX1_setLamp_82 (by decide) ?_
        refine h_newR 6 rfl rfl F hK S rfl rfl h q317 hK.2.1.2.2.2.2.2.2.2.1 dX1_setLamp_83 (fun q101 w102 H h S => ?_)
        refine lv_dup hx hb dX1_setLamp_86 rfl ?_
        refine lv_iconst (v := 0) hx hb dX1_setLamp_87 (by decide) ?_
        refine hn_X1_186 F hK S rfl rfl h dX1_setLamp_88 (fun q103 w104 H h S => ?_)
        refine lv_dup hx hb dX1_setLamp_91 rfl ?_
        refine lv_aload hx hb dX1_setLamp_92 (lv_at hl 0 rfl) ?_
        obtain ⟨v105, e106, h⟩ := obd_inv h
        refine hg_X1_189 F hK S e106 dX1_setLamp_94 ?_
        obtain ⟨n107, n108, h1, h2, h⟩ := hcall_inv h
        refine hcl_X5_init_X1_188 F hK S h1 h2 h rfl rfl hl.1 (Nat.le_of_ble_eq_true rfl) ⟨Nat.le_of_ble_eq_true rfl, Nat.le_of_ble_eq_true rfl⟩ dX1_setLamp_97 (fun o110 w109 H locs hw h S => ?_)
        replace h := hret_mp h hw
        clear hw h1 h2
        obtain ⟨w111, e112, h⟩ := obd_inv h
        refine h_aast F hK S e112 dX1_setLamp_100 (fun H locs S => ?_)
        refine lv_dup hx hb dX1_setLamp_101 rfl ?_
        refine lv_iconst (v := 1) hx hb dX1_setLamp_102 (by decide) ?_
        refine hn_X1_154 F hK S rfl rfl h dX1_setLamp_103 (fun q113 w114 H h S => ?_)
        refine lv_dup hx hb dX1_setLamp_106 rfl ?_
        refine lv_iload hx hb dX1_setLamp_107 (lv_at hl 2 rfl) ?_
        refine lv_iload_n hx hb dX1_setLamp_109 rfl (lv_at hl 6 rfl) ?_
        obtain ⟨n115, n116, h1, h2, h⟩ := hcall_inv h
        refine hcl_X6_init_X1_195 F hK S h1 h2 h rfl rfl hl.1 (Nat.le_of_ble_eq_true rfl) ⟨Nat.le_of_ble_eq_true rfl, Nat.le_of_ble_eq_true rfl⟩ dX1_setLamp_110 (fun o118 w117 H locs hw h S => ?_)
        replace h := hret_mp h hw
        clear hw h1 h2
        obtain ⟨w119, e120, h⟩ := obd_inv h
        refine h_aast F hK S e120 dX1_setLamp_113 (fun H locs S => ?_)
        obtain ⟨u121, e122, h⟩ := obd_inv h
        obtain ⟨n123, n124, h1, h2, h⟩ := hcall_inv h
        refine hcl_X1_lays_X1_63 F hK S (hIs_inv e122) h1 h2 h rfl rfl hl.1 (Nat.le_of_ble_eq_true rfl) ⟨Nat.le_of_ble_eq_true rfl, Nat.le_of_ble_eq_true rfl⟩ dX1_setLamp_114 (fun o126 w125 H locs hw h S => ?_)
        replace h := hret_mp h hw
        clear hw h1 h2
        refine lv_aload hx hb dX1_setLamp_117 (lv_at hl 0 rfl) ?_
        refine lv_iload hx hb dX1_setLamp_119 (lv_at hl 2 rfl) ?_
        obtain ⟨w127, e128, h⟩ := obd_inv h
        refine hp_X1_189 F hK S e128 dX1_setLamp_121 (fun H locs S => ?_)
        refine lv_aload hx hb dX1_setLamp_124 (lv_at hl 0 rfl) ?_
        obtain ⟨d129, g130, hrl, hdl, h⟩ := h
        obtain ⟨v133, e132, h⟩ := obd_inv h
        refine hpc_X3_laysOpen_X1_71 F hK S hrl hdl e132 rfl rfl hl.1 (Nat.le_of_ble_eq_true rfl) ⟨Nat.le_of_ble_eq_true rfl, Nat.le_of_ble_eq_true rfl⟩ dX1_setLamp_126 (fun w131 H locs hw hz S => ?_)
        replace h := hpret_mp h hw hz
        clear hw hz
        refine lv_iload hx hb dX1_setLamp_129 (lv_at hl 1 rfl) ?_
        exact vx_ret (h_iret F hr hlk S h dX1_setLamp_131)
      · rw [hIf_neg c86] at h
        refine lv_aload_n hx hb dX1_setLamp_48 rfl (lv_at hl 1 rfl) ?_
        obtain ⟨v134, e135, h⟩ := obd_inv h
        refine hg_X1_47 F hK S e135 dX1_setLamp_49 ?_
        obtain ⟨v136, e137, h⟩ := obd_inv h
        refine hg_X1_110 F hK S e137 dX1_setLamp_52 ?_
        obtain ⟨k141, hk141, h⟩ := hj1_inv h
        have hJ65 : ∀ (v139 : Int32) (H : Heap) (locs : List Loc) (ls : Array Slot), k141 v139 → hS E A s.heap cb sb w31 H locs → lv_has ls 7 [] → W p l e (hrm_X1_setLamp cb sb) s m args below meth c H locs (cb - w31.2.1) (sb - w31.2.2) (vx_MQ below (hQi E A Q) (hXC E A QX) args s cb sb A) (F0 m 65 ls [.int v139]) := by
          intro v139 H locs ls h S hl
          replace h := hk141 _ h
          exact vx_ret (h_iret F hr hlk S h dX1_setLamp_65)
        clear hk141
        refine lv_if_le (tgt := 63) hx hb dX1_setLamp_55 (by decide) (fun c138 => ?_) (fun c138 => ?_)
        · rw [hIf_pos c138] at h
          refine lv_bipush (v := (-3)) hx hb dX1_setLamp_63 (by decide) ?_
          exact hJ65 _ _ _ _ h S (lv_sub hl [] rfl)
        · rw [hIf_neg c138] at h
          refine lv_bipush (v := (-2)) hx hb dX1_setLamp_58 (by decide) ?_
          refine lv_goto (tgt := 65) hx hb dX1_setLamp_60 (by decide) ?_
          exact hJ65 _ _ _ _ h S (lv_sub hl [] rfl)
theorem hg_X1_67 {p : Program} {l : Launch} {e : Env} {s : State} {m : MethodId} {args : Array Value} {below : List Frame} {meth : Method} {c : Code} {R : Room} {H : Heap} {locs : List Loc} {cb sb pc nL : Nat} {Q : State → Prop} {ls : Array Slot} {rest : List Value} {cc : ByteArray} {E : hEnv} {A : Nat → Prop} {w : hW} {a : Nat} {v : Int32} (F : CallFix p m c cc nL s args lw_all RX1) (hK : hK E A s) (S : hS E A s.heap cb sb w H locs) (h : hgI w a 3 6 = some v) (hdg : decode cc pc = .ok (.getfield 67, 3)) (kk : W p l e R s m args below meth c H locs (cb - w.2.1) (sb - w.2.2) Q (F0 m (pc + 3) ls (.int v :: rest))) : W p l e R s m args below meth c H locs (cb - w.2.1) (sb - w.2.2) Q (F0 m pc ls (.ref a :: rest)) := by
  obtain ⟨b, fs, ho, hv⟩ := hgI_inv h
  exact h_getN F hK S ho (ci := 3) (C := RX3) (T := TX3) (N := 9) (k := 6) rfl in_X3 (by decide) (hK.2.1.1 _ (List.mem_of_getElem? (i := 0) rfl)) (fun x h => h) hv hdg kk
theorem hp_X1_196 {p : Program} {l : Launch} {e : Env} {s : State} {m : MethodId} {args : Array Value} {below : List Frame} {meth : Method} {c : Code} {R : Room} {H : Heap} {locs : List Loc} {cb sb pc nL : Nat} {Q : State → Prop} {ls : Array Slot} {rest : List Value} {cc : ByteArray} {E : hEnv} {A : Nat → Prop} {w : hW} {a : Nat} {w' : hW} {v : Int32} (F : CallFix p m c cc nL s args lw_all RX1) (hK : hK E A s) (S : hS E A s.heap cb sb w H locs) (h : hpV w a 3 5 (.int v) = some w') (hdg : decode cc pc = .ok (.putfield 196, 3)) (kk : ∀ (H1 : Heap) (locs1 : List Loc), hS E A s.heap cb sb w' H1 locs1 → W p l e R s m args below meth c H1 locs1 (cb - w'.2.1) (sb - w'.2.2) Q (F0 m (pc + 3) ls rest)) : W p l e R s m args below meth c H locs (cb - w.2.1) (sb - w.2.2) Q (F0 m pc ls (.int v :: .ref a :: rest)) :=
  h_putN F hK S h (ci := 3) (C := RX3) (T := TX3) (N := 9) (k := 5) rfl in_X3 tyX3 tyX3_ok nmX3 (by decide) (hK.2.1.1 _ (List.mem_of_getElem? (i := 6) rfl)) (fun x h => h) rfl (ty := .int) (by decide +kernel) rfl rfl hdg kk
def hf_X1_set (pl : Nat → Nat) (w : hW) (a0 : Nat) (x1 : Int32) (x2 : Int32) (QX : String → hO → Prop) (Q : Int32 → hO → Prop) : Prop :=
  hjoin (fun (v6 : Int32) =>
    hcall w fun n7 n8 => hf_X1_ask pl (w.1, n7, n8) v6 QX fun o10 => hret w n7 n8 o10 fun w9 =>
    obd (hgP w9 a0 1 3) fun v11 =>
    obd (hgI w9 v11 3 7) fun v13 =>
    hIf (v13 ≤ 0) (
      hjoin (fun (v25 : Int32) =>
        obd (hIs w9 a0 1) fun u26 =>
        hcall w9 fun n28 n29 => hf_X1_change_2 pl (w9.1, n28, n29) a0 fun v32 o31 => hret w9 n28 n29 o31 fun w30 =>
        hjoin (fun (g38 : hW) =>
          Q v25 g38.1) fun k40 =>
        hIf (x1 = 0) (
          obd (hpV w30 v32 3 5 (.int x2)) fun w34 =>
          k40 w34) <|
          obd (hpV w30 v32 3 6 (.int x2)) fun w36 =>
          k40 w36) fun k42 =>
      hIf (x1 = 0) (
        obd (hgP w9 a0 1 3) fun v17 =>
        obd (hgI w9 v17 3 5) fun v19 =>
        k42 v19) <|
        obd (hgP w9 a0 1 3) fun v21 =>
        obd (hgI w9 v21 3 6) fun v23 =>
        k42 v23) <|
      Q (-2) w9.1) fun k44 =>
  hIf (x1 = 0) (
    obd (fp_isIn g00 x2 0 3) fun v2 =>
    k44 v2) <|
    obd (fp_isIn g00 x2 1 99) fun v4 =>
    k44 v4
abbrev hrm_X1_set (c s : Nat) : Room := { frames := 7, cells := c, slots := s, locals := 128 }
set_option maxHeartbeats 4000000 in
set_option maxRecDepth 100000 in
theorem hmet_X1_set (l : Launch) (hst : l.stackTraces = false) (E : hEnv) (A : Nat → Prop) (w : hW) (a0 : Nat) (x1 : Int32) (x2 : Int32) (QX : String → hO → Prop) (Q : Int32 → hO → Prop) (h : hf_X1_set E.2.2 w a0 x1 x2 QX Q) : vx_Met l yX1_set (ws_ yX1_set cX1_set 5 (some .int)) (hrm_X1_set w.2.1 w.2.2) (va_Pc [.ref a0, .int x1, .int x2] (gPre (hK E A) (hP E A w.1))) (hQi E A Q) (hXC E A QX) w.2.1 w.2.2 A := by
  refine hx_met (own := RX1) (by decide +kernel) rfl (Nat.le_of_ble_eq_true rfl) ?_
  intro p e s m args below meth c ls cb sb F hr hlk ht hK S hl
  have hx := F.1
  have hb := F.2.1
  have hl : lv_has ls 5 [(0, .ref a0), (1, .int x1), (2, .int x2)] := hl
  unfold hf_X1_set at h
  refine lv_iload_n hx hb dX1_set_0 rfl (lv_at hl 1 rfl) ?_
  obtain ⟨k44, hk44, h⟩ := hj1_inv h
  have hJ20 : ∀ (v6 : Int32) (H : Heap) (locs : List Loc) (ls : Array Slot), k44 v6 → hS E A s.heap cb sb w H locs → lv_has ls 5 [(0, .ref a0), (1, .int x1), (2, .int x2)] → W p l e (hrm_X1_set cb sb) s m args below meth c H locs (cb - w.2.1) (sb - w.2.2) (vx_MQ below (hQi E A Q) (hXC E A QX) args s cb sb A) (F0 m 20 ls [.int v6]) := by
    intro v6 H locs ls h S hl
    replace h := hk44 _ h
    obtain ⟨n7, n8, h1, h2, h⟩ := hcall_inv h
    refine hcl_X1_ask_X1_169 hst hlk ht F hK S h1 h2 h rfl rfl hl.1 (Nat.le_of_ble_eq_true rfl) ⟨Nat.le_of_ble_eq_true rfl, Nat.le_of_ble_eq_true rfl⟩ dX1_set_20 (fun o10 w9 H locs hw h S => ?_)
    replace h := hret_mp h hw
    clear hw h1 h2
    refine lv_aload_n hx hb dX1_set_23 rfl (lv_at hl 0 rfl) ?_
    obtain ⟨v11, e12, h⟩ := obd_inv h
    refine hg_X1_47 F hK S e12 dX1_set_24 ?_
    obtain ⟨v13, e14, h⟩ := obd_inv h
    refine hg_X1_110 F hK S e14 dX1_set_27 ?_
    refine lv_if_le (tgt := 36) hx hb dX1_set_30 (by decide) (fun c15 => ?_) (fun c15 => ?_)
    · rw [hIf_pos c15] at h
      refine lv_iload_n hx hb dX1_set_36 rfl (lv_at hl 1 rfl) ?_
      obtain ⟨k42, hk42, h⟩ := hj1_inv h
      have hJ57 : ∀ (v25 : Int32) (H : Heap) (locs : List Loc) (ls : Array Slot), k42 v25 → hS E A s.heap cb sb w9 H locs → lv_has ls 5 [(0, .ref a0), (1, .int x1), (2, .int x2)] → W p l e (hrm_X1_set cb sb) s m args below meth c H locs (cb - w9.2.1) (sb - w9.2.2) (vx_MQ below (hQi E A Q) (hXC E A QX) args s cb sb A) (F0 m 57 ls [.int v25]) := by
        intro v25 H locs ls h S hl
        replace h := hk42 _ h
        refine lv_istore_n (lv' := [(3, .int v25), (0, .ref a0), (1, .int x1), (2, .int x2)]) hx hb dX1_set_57 rfl hl (by decide) rfl (fun ls hl => ?_)
        refine lv_aload_n hx hb dX1_set_58 rfl (lv_at hl 1 rfl) ?_
        obtain ⟨u26, e27, h⟩ := obd_inv h
        obtain ⟨n28, n29, h1, h2, h⟩ := hcall_inv h
        refine hcl_X1_change_2_X1_117 F hK S (hIs_inv e27) h1 h2 h rfl rfl hl.1 (Nat.le_of_ble_eq_true rfl) ⟨Nat.le_of_ble_eq_true rfl, Nat.le_of_ble_eq_true rfl⟩ dX1_set_59 (fun v32 o31 w30 H locs hw h S => ?_)
        replace h := hret_mp h hw
        clear hw h1 h2
        refine lv_astore (lv' := [(4, .ref v32), (3, .int v25), (0, .ref a0), (1, .int x1), (2, .int x2)]) hx hb dX1_set_62 hl (by decide) rfl (fun ls hl => ?_)
        refine lv_iload_n hx hb dX1_set_64 rfl (lv_at hl 3 rfl) ?_
        obtain ⟨k40, hk40, h⟩ := hj1_inv h
        have hJ83 : ∀ (g38 : hW) (H : Heap) (locs : List Loc) (ls : Array Slot), k40 g38 → hS E A s.heap cb sb g38 H locs → lv_has ls 5 [(3, .int v25)] → W p l e (hrm_X1_set cb sb) s m args below meth c H locs (cb - g38.2.1) (sb - g38.2.2) (vx_MQ below (hQi E A Q) (hXC E A QX) args s cb sb A) (F0 m 83 ls []) := by
          intro g38 H locs ls h S hl
          replace h := hk40 _ h
          refine lv_iload_n hx hb dX1_set_83 rfl (lv_at hl 0 rfl) ?_
          exact vx_ret (h_iret F hr hlk S h dX1_set_84)
        clear hk40
        refine lv_if_eq (tgt := 77) hx hb dX1_set_65 (by decide) (fun c33 => ?_) (fun c33 => ?_)
        · rw [hIf_pos c33] at h
          refine lv_aload hx hb dX1_set_77 (lv_at hl 0 rfl) ?_
          refine lv_iload_n hx hb dX1_set_79 rfl (lv_at hl 4 rfl) ?_
          obtain ⟨w34, e35, h⟩ := obd_inv h
          refine hp_X1_196 F hK S e35 dX1_set_80 (fun H locs S => ?_)
          exact hJ83 _ _ _ _ h S (lv_sub hl [1] rfl)
        · rw [hIf_neg c33] at h
          refine lv_aload hx hb dX1_set_68 (lv_at hl 0 rfl) ?_
          refine lv_iload_n hx hb dX1_set_70 rfl (lv_at hl 4 rfl) ?_
          obtain ⟨w36, e37, h⟩ := obd_inv h
          refine hp_X1_67 F hK S e37 dX1_set_71 (fun H locs S => ?_)
          refine lv_goto (tgt := 83) hx hb dX1_set_74 (by decide) ?_
          exact hJ83 _ _ _ _ h S (lv_sub hl [1] rfl)
      clear hk42
      refine lv_if_eq (tgt := 50) hx hb dX1_set_37 (by decide) (fun c16 => ?_) (fun c16 => ?_)
      · rw [hIf_pos c16] at h
        refine lv_aload_n hx hb dX1_set_50 rfl (lv_at hl 0 rfl) ?_
        obtain ⟨v17, e18, h⟩ := obd_inv h
        refine hg_X1_47 F hK S e18 dX1_set_51 ?_
        obtain ⟨v19, e20, h⟩ := obd_inv h
        refine hg_X1_196 F hK S e20 dX1_set_54 ?_
        exact hJ57 _ _ _ _ h S (lv_sub hl [0, 1, 2] rfl)
      · rw [hIf_neg c16] at h
        refine lv_aload_n hx hb dX1_set_40 rfl (lv_at hl 0 rfl) ?_
        obtain ⟨v21, e22, h⟩ := obd_inv h
        refine hg_X1_47 F hK S e22 dX1_set_41 ?_
        obtain ⟨v23, e24, h⟩ := obd_inv h
        refine hg_X1_67 F hK S e24 dX1_set_44 ?_
        refine lv_goto (tgt := 57) hx hb dX1_set_47 (by decide) ?_
        exact hJ57 _ _ _ _ h S (lv_sub hl [0, 1, 2] rfl)
    · rw [hIf_neg c15] at h
      refine lv_bipush (v := (-2)) hx hb dX1_set_33 (by decide) ?_
      exact vx_ret (h_iret F hr hlk S h dX1_set_35)
  clear hk44
  refine lv_if_eq (tgt := 14) hx hb dX1_set_1 (by decide) (fun c1 => ?_) (fun c1 => ?_)
  · rw [hIf_pos c1] at h
    refine lv_iload_n hx hb dX1_set_14 rfl (lv_at hl 2 rfl) ?_
    refine lv_iconst (v := 0) hx hb dX1_set_15 (by decide) ?_
    refine lv_iconst (v := 3) hx hb dX1_set_16 (by decide) ?_
    obtain ⟨v2, e3, h⟩ := obd_inv h
    refine call_p_isIn_X1_165 (hKm E A) F hK S.1 e3 hl.1 (Nat.le_of_ble_eq_true rfl) ⟨Nat.le_of_ble_eq_true rfl, Nat.le_of_ble_eq_true rfl⟩ ⟨Nat.sub_le _ _, Nat.sub_le _ _⟩ dX1_set_17 (fun H1 locs1 S1 => ?_)
    have S : hS E A s.heap _ _ _ _ _ := ⟨S1, S.2⟩
    exact hJ20 _ _ _ _ h S (lv_sub hl [0, 1, 2] rfl)
  · rw [hIf_neg c1] at h
    refine lv_iload_n hx hb dX1_set_4 rfl (lv_at hl 2 rfl) ?_
    refine lv_iconst (v := 1) hx hb dX1_set_5 (by decide) ?_
    refine lv_bipush (v := 99) hx hb dX1_set_6 (by decide) ?_
    obtain ⟨v4, e5, h⟩ := obd_inv h
    refine call_p_isIn_X1_165 (hKm E A) F hK S.1 e5 hl.1 (Nat.le_of_ble_eq_true rfl) ⟨Nat.le_of_ble_eq_true rfl, Nat.le_of_ble_eq_true rfl⟩ ⟨Nat.sub_le _ _, Nat.sub_le _ _⟩ dX1_set_8 (fun H1 locs1 S1 => ?_)
    have S : hS E A s.heap _ _ _ _ _ := ⟨S1, S.2⟩
    refine lv_goto (tgt := 20) hx hb dX1_set_11 (by decide) ?_
    exact hJ20 _ _ _ _ h S (lv_sub hl [0, 1, 2] rfl)
theorem hpc_X3_whyNotTurn_X1_199 {p : Program} {l : Launch} {e : Env} {s : State} {m : MethodId} {args : Array Value} {below : List Frame} {meth : Method} {c : Code} {R : Room} {H : Heap} {locs : List Loc} {cb sb pc nL : Nat} {Q : State → Prop} {ls : Array Slot} {rest : List Value} {cc : ByteArray} {E : hEnv} {A : Nat → Prop} {w : hW} {d : hD} {g : mS} {a : Nat} {x1 : Int32} {r : Int32} (F : CallFix p m c cc nL s args lw_all RX1) (hK : hK E A s) (S : hS E A s.heap cb sb w H locs) (hr : hRel d g w.1) (hd : d.1 100 = a) (h : fc_X3_whyNotTurn g 100 x1 = some r) (hrc : R.cells = cb) (hrs : R.slots = sb) (hls : ls.size = nL) (hWt : (rest.map fun v => v.category).sum ≤ 8) (hR : rm_c_X3_whyNotTurn.frames + 1 ≤ R.frames ∧ 8 + (3 + 11) + rm_c_X3_whyNotTurn.locals ≤ R.locals) (hdg : decode cc pc = .ok (.invokevirtual 199, 3))
    (kk : ∀ (H1 : Heap) (locs1 : List Loc), hS E A s.heap cb sb w H1 locs1 → W p l e R s m args below meth c H1 locs1 (cb - w.2.1) (sb - w.2.2) Q (F0 m (pc + 3) ls (.int r :: rest))) : W p l e R s m args below meth c H locs (cb - w.2.1) (sb - w.2.2) Q (F0 m pc ls (.int x1 :: .ref a :: rest)) := by
  subst hd
  refine hb_ki hK S hr (gZ := g) (va_runV (g := F0 m pc ls _) F (met_c_X3_whyNotTurn l (hDE E d g H.size) g 100 x1 hOk100 r h) (cwV 1 F.2.2.2.2 (lw_V q1599 q1091 q1092 q115 q1093) rfl rfl rfl (by decide +kernel) hR) ⟨gBlind (cKm (hDE E d g H.size)), h_recv hK S (ci := 3) rfl (hRel_w hr), fun U hU hW => ⟨rfl, hB_pre hK S hr U hU hW⟩⟩ rfl rfl hls rfl (lv_room hWt) hdg ⟨by rw [hrc]; exact Nat.sub_le _ _, by rw [hrs]; exact Nat.sub_le _ _⟩) (fun w' H1 locs1 hw _ S1 => ?_)
  rw [hPut_self hr] at hw
  subst hw
  exact kk H1 locs1 S1
theorem hpc_X3_moves_X1_202 {p : Program} {l : Launch} {e : Env} {s : State} {m : MethodId} {args : Array Value} {below : List Frame} {meth : Method} {c : Code} {R : Room} {H : Heap} {locs : List Loc} {cb sb pc nL : Nat} {Q : State → Prop} {ls : Array Slot} {rest : List Value} {cc : ByteArray} {E : hEnv} {A : Nat → Prop} {w : hW} {d : hD} {g : mS} {a : Nat} {x1 bx1 : Nat} {r : Int32 × mS} (F : CallFix p m c cc nL s args lw_all RX1) (hK : hK E A s) (S : hS E A s.heap cb sb w H locs) (hr : hRel d g w.1) (hd : d.1 100 = a) (hx1 : x1 < 100 ∧ d.2.2 x1 = bx1) (h : fc_X3_moves g 100 x1 = some r) (hrc : R.cells = cb) (hrs : R.slots = sb) (hls : ls.size = nL) (hWt : (rest.map fun v => v.category).sum ≤ 8) (hR : rm_c_X3_moves.frames + 1 ≤ R.frames ∧ 8 + (7 + 11) + rm_c_X3_moves.locals ≤ R.locals) (hdg : decode cc pc = .ok (.invokevirtual 202, 3))
    (kk : ∀ (w' : hW) (H1 : Heap) (locs1 : List Loc), w' = (hPut d r.2 w.1, w.2) → hRel d r.2 (hPut d r.2 w.1) → hS E A s.heap cb sb w' H1 locs1 → W p l e R s m args below meth c H1 locs1 (cb - w'.2.1) (sb - w'.2.2) Q (F0 m (pc + 3) ls (.int r.1 :: rest))) : W p l e R s m args below meth c H locs (cb - w.2.1) (sb - w.2.2) Q (F0 m pc ls (.ref bx1 :: .ref a :: rest)) := by
  subst hd
  obtain ⟨hx1, rfl⟩ := hx1
  obtain ⟨r, gZ⟩ := r
  exact hb_ki hK S hr (va_runV (g := F0 m pc ls _) F (met_c_X3_moves l (hDE E d g H.size) g 100 x1 hOk100 hx1 r gZ h) (cwV 1 F.2.2.2.2 (lw_V q1328 q1134 q1135 q115 q1136) rfl rfl rfl (by decide +kernel) hR) ⟨gBlind (cKm (hDE E d g H.size)), h_recv hK S (ci := 3) rfl (hRel_w hr), fun U hU hW => ⟨rfl, hB_pre hK S hr U hU hW⟩⟩ rfl rfl hls rfl (lv_room hWt) hdg ⟨by rw [hrc]; exact Nat.sub_le _ _, by rw [hrs]; exact Nat.sub_le _ _⟩) kk
def hf_X1_turn (pl : Nat → Nat) (w : hW) (a0 : Nat) (x1 : Int32) (x2 : Int32) (QX : String → hO → Prop) (Q : Int32 → hO → Prop) : Prop :=
  obd (hIs w a0 1) fun u1 =>
  hcall w fun n3 n4 => hf_X1_cellOf pl (w.1, n3, n4) a0 x1 x2 QX fun v7 o6 => hret w n3 n4 o6 fun w5 =>
  obd (hgP w5 a0 1 3) fun v8 =>
  ∃ (d10 : hD) (g11 : mS), hRel d10 g11 w5.1 ∧ d10.1 100 = v8 ∧ obd (fc_X3_whyNotTurn g11 100 v7) fun v14 =>
  hIf (v14 = 0) (
    obd (hIs w5 a0 1) fun u16 =>
    hcall w5 fun n18 n19 => hf_X1_change_2 pl (w5.1, n18, n19) a0 fun v22 o21 => hret w5 n18 n19 o21 fun w20 =>
    obd (hgP w20 v22 3 3) fun v23 =>
    obd (haP w20 v23 v7) fun v25 =>
    obd (hIs w20 v25 6) fun u27 =>
    ∃ (d29 : hD) (g30 : mS), hRel d29 g30 w20.1 ∧ d29.1 100 = v22 ∧ ∃ c31 : Nat, (c31 < 100 ∧ d29.2.2 c31 = v25) ∧ obd (fc_X3_moves g30 100 c31) fun v34 => hpret w20 d29 v34.2 fun w32 =>
    Q v34.1 w32.1) <|
    Q (-v14) w5.1
abbrev hrm_X1_turn (c s : Nat) : Room := { frames := 9, cells := c, slots := s, locals := 206 }
set_option maxHeartbeats 4000000 in
set_option maxRecDepth 100000 in
theorem hmet_X1_turn (l : Launch) (hst : l.stackTraces = false) (E : hEnv) (A : Nat → Prop) (w : hW) (a0 : Nat) (x1 : Int32) (x2 : Int32) (QX : String → hO → Prop) (Q : Int32 → hO → Prop) (h : hf_X1_turn E.2.2 w a0 x1 x2 QX Q) : vx_Met l yX1_turn (ws_ yX1_turn cX1_turn 6 (some .int)) (hrm_X1_turn w.2.1 w.2.2) (va_Pc [.ref a0, .int x1, .int x2] (gPre (hK E A) (hP E A w.1))) (hQi E A Q) (hXC E A QX) w.2.1 w.2.2 A := by
  refine hx_met (own := RX1) (by decide +kernel) rfl (Nat.le_of_ble_eq_true rfl) ?_
  intro p e s m args below meth c ls cb sb F hr hlk ht hK S hl
  have hx := F.1
  have hb := F.2.1
  have hl : lv_has ls 6 [(0, .ref a0), (1, .int x1), (2, .int x2)] := hl
  unfold hf_X1_turn at h
  refine lv_aload_n hx hb dX1_turn_0 rfl (lv_at hl 0 rfl) ?_
  refine lv_iload_n hx hb dX1_turn_1 rfl (lv_at hl 1 rfl) ?_
  refine lv_iload_n hx hb dX1_turn_2 rfl (lv_at hl 2 rfl) ?_
  obtain ⟨u1, e2, h⟩ := obd_inv h
  obtain ⟨n3, n4, h1, h2, h⟩ := hcall_inv h
  refine hcl_X1_cellOf_X1_146 hst hlk ht F hK S (hIs_inv e2) h1 h2 h rfl rfl hl.1 (Nat.le_of_ble_eq_true rfl) ⟨Nat.le_of_ble_eq_true rfl, Nat.le_of_ble_eq_true rfl⟩ dX1_turn_3 (fun v7 o6 w5 H locs hw h S => ?_)
  replace h := hret_mp h hw
  clear hw h1 h2
  refine lv_istore_n (lv' := [(3, .int v7), (0, .ref a0), (1, .int x1), (2, .int x2)]) hx hb dX1_turn_6 rfl hl (by decide) rfl (fun ls hl => ?_)
  refine lv_aload_n hx hb dX1_turn_7 rfl (lv_at hl 1 rfl) ?_
  obtain ⟨v8, e9, h⟩ := obd_inv h
  refine hg_X1_47 F hK S e9 dX1_turn_8 ?_
  refine lv_iload_n hx hb dX1_turn_11 rfl (lv_at hl 0 rfl) ?_
  obtain ⟨d10, g11, hrl, hdl, h⟩ := h
  obtain ⟨v14, e13, h⟩ := obd_inv h
  refine hpc_X3_whyNotTurn_X1_199 F hK S hrl hdl e13 rfl rfl hl.1 (Nat.le_of_ble_eq_true rfl) ⟨Nat.le_of_ble_eq_true rfl, Nat.le_of_ble_eq_true rfl⟩ dX1_turn_12 (fun H locs S => ?_)
  refine lv_istore (lv' := [(4, .int v14), (3, .int v7), (0, .ref a0), (1, .int x1), (2, .int x2)]) hx hb dX1_turn_15 hl (by decide) rfl (fun ls hl => ?_)
  refine lv_iload hx hb dX1_turn_17 (lv_at hl 0 rfl) ?_
  refine lv_if_eq (tgt := 26) hx hb dX1_turn_19 (by decide) (fun c15 => ?_) (fun c15 => ?_)
  · rw [hIf_pos c15] at h
    refine lv_aload_n hx hb dX1_turn_26 rfl (lv_at hl 2 rfl) ?_
    obtain ⟨u16, e17, h⟩ := obd_inv h
    obtain ⟨n18, n19, h1, h2, h⟩ := hcall_inv h
    refine hcl_X1_change_2_X1_117 F hK S (hIs_inv e17) h1 h2 h rfl rfl hl.1 (Nat.le_of_ble_eq_true rfl) ⟨Nat.le_of_ble_eq_true rfl, Nat.le_of_ble_eq_true rfl⟩ dX1_turn_27 (fun v22 o21 w20 H locs hw h S => ?_)
    replace h := hret_mp h hw
    clear hw h1 h2
    refine lv_astore (lv' := [(5, .ref v22), (4, .int v14), (3, .int v7), (0, .ref a0), (1, .int x1), (2, .int x2)]) hx hb dX1_turn_30 hl (by decide) rfl (fun ls hl => ?_)
    refine lv_aload hx hb dX1_turn_32 (lv_at hl 0 rfl) ?_
    refine lv_aload hx hb dX1_turn_34 (lv_at hl 0 rfl) ?_
    obtain ⟨v23, e24, h⟩ := obd_inv h
    refine hg_X1_74 F hK S e24 dX1_turn_36 ?_
    refine lv_iload_n hx hb dX1_turn_39 rfl (lv_at hl 2 rfl) ?_
    obtain ⟨v25, e26, h⟩ := obd_inv h
    refine h_aald F hK S e26 dX1_turn_40 ?_
    obtain ⟨u27, e28, h⟩ := obd_inv h
    refine h_cast F hK S e28 rfl q318 dX1_turn_41 ?_
    obtain ⟨d29, g30, hrl, hdl, c31, hc, h⟩ := h
    obtain ⟨v34, e33, h⟩ := obd_inv h
    refine hpc_X3_moves_X1_202 F hK S hrl hdl hc e33 rfl rfl hl.1 (Nat.le_of_ble_eq_true rfl) ⟨Nat.le_of_ble_eq_true rfl, Nat.le_of_ble_eq_true rfl⟩ dX1_turn_44 (fun w32 H locs hw hz S => ?_)
    replace h := hpret_mp h hw hz
    clear hw hz
    exact vx_ret (h_iret F hr hlk S h dX1_turn_47)
  · rw [hIf_neg c15] at h
    refine lv_iload hx hb dX1_turn_22 (lv_at hl 0 rfl) ?_
    refine lv_ineg hx hb dX1_turn_24 ?_
    exact vx_ret (h_iret F hr hlk S h dX1_turn_25)
theorem hg_X1_34 {p : Program} {l : Launch} {e : Env} {s : State} {m : MethodId} {args : Array Value} {below : List Frame} {meth : Method} {c : Code} {R : Room} {H : Heap} {locs : List Loc} {cb sb pc nL : Nat} {Q : State → Prop} {ls : Array Slot} {rest : List Value} {cc : ByteArray} {E : hEnv} {A : Nat → Prop} {w : hW} {a : Nat} {v : Nat} (F : CallFix p m c cc nL s args lw_all RX1) (hK : hK E A s) (S : hS E A s.heap cb sb w H locs) (h : hgP w a 1 5 = some v) (hdg : decode cc pc = .ok (.getfield 34, 3)) (kk : W p l e R s m args below meth c H locs (cb - w.2.1) (sb - w.2.2) Q (F0 m (pc + 3) ls (.ref v :: rest))) : W p l e R s m args below meth c H locs (cb - w.2.1) (sb - w.2.2) Q (F0 m pc ls (.ref a :: rest)) := by
  obtain ⟨b, fs, ho, hv⟩ := hgP_inv h
  exact h_get F hK S ho (ci := 1) (C := RX1) (T := TX1) (N := 7) (k := 5) rfl in_X1 (by decide) q475 (fun x h => h) hv hdg kk
def hf_X1_keep (pl : Nat → Nat) (w : hW) (a0 : Nat) (x1 : Int32) (QX : String → hO → Prop) (Q : Int32 → hO → Prop) : Prop :=
  obd (fp_isIn g00 x1 0 1) fun v1 =>
  hcall w fun n3 n4 => hf_X1_ask pl (w.1, n3, n4) v1 QX fun o6 => hret w n3 n4 o6 fun w5 =>
  obd (hgP w5 a0 1 5) fun v7 =>
  hNew w5 (.inl (3, [.null, .int 0, .int 0, .null, .int 0, .int 0, .int 0, .int 0, .int 0])) 9 fun q9 w10 =>
  obd (hgP w10 a0 1 3) fun v11 =>
  hcall w10 fun n13 n14 => hf_X3_init_3 pl (w10.1, n13, n14) q9 v11 fun o16 => hret w10 n13 n14 o16 fun w15 =>
  obd (hsR w15 v7 x1 (some q9)) fun w17 =>
  obd (hgP w17 a0 1 3) fun v19 =>
  obd (hgI w17 v19 3 7) fun v21 =>
  Q v21 w17.1
abbrev hrm_X1_keep (c s : Nat) : Room := { frames := 7, cells := c, slots := s, locals := 114 }
set_option maxHeartbeats 4000000 in
set_option maxRecDepth 100000 in
theorem hmet_X1_keep (l : Launch) (hst : l.stackTraces = false) (E : hEnv) (A : Nat → Prop) (w : hW) (a0 : Nat) (x1 : Int32) (QX : String → hO → Prop) (Q : Int32 → hO → Prop) (h : hf_X1_keep E.2.2 w a0 x1 QX Q) : vx_Met l yX1_keep (ws_ yX1_keep cX1_keep 2 (some .int)) (hrm_X1_keep w.2.1 w.2.2) (va_Pc [.ref a0, .int x1] (gPre (hK E A) (hP E A w.1))) (hQi E A Q) (hXC E A QX) w.2.1 w.2.2 A := by
  refine hx_met (own := RX1) (by decide +kernel) rfl (Nat.le_of_ble_eq_true rfl) ?_
  intro p e s m args below meth c ls cb sb F hr hlk ht hK S hl
  have hx := F.1
  have hb := F.2.1
  have hl : lv_has ls 2 [(0, .ref a0), (1, .int x1)] := hl
  unfold hf_X1_keep at h
  refine lv_iload_n hx hb dX1_keep_0 rfl (lv_at hl 1 rfl) ?_
  refine lv_iconst (v := 0) hx hb dX1_keep_1 (by decide) ?_
  refine lv_iconst (v := 1) hx hb dX1_keep_2 (by decide) ?_
  obtain ⟨v1, e2, h⟩ := obd_inv h
  refine call_p_isIn_X1_165 (hKm E A) F hK S.1 e2 hl.1 (Nat.le_of_ble_eq_true rfl) ⟨Nat.le_of_ble_eq_true rfl, Nat.le_of_ble_eq_true rfl⟩ ⟨Nat.sub_le _ _, Nat.sub_le _ _⟩ dX1_keep_3 (fun H1 locs1 S1 => ?_)
  have S : hS E A s.heap _ _ _ _ _ := ⟨S1, S.2⟩
  obtain ⟨n3, n4, h1, h2, h⟩ := hcall_inv h
  refine hcl_X1_ask_X1_169 hst hlk ht F hK S h1 h2 h rfl rfl hl.1 (Nat.le_of_ble_eq_true rfl) ⟨Nat.le_of_ble_eq_true rfl, Nat.le_of_ble_eq_true rfl⟩ dX1_keep_6 (fun o6 w5 H locs hw h S => ?_)
  replace h := hret_mp h hw
  clear hw h1 h2
  refine lv_aload_n hx hb dX1_keep_9 rfl (lv_at hl 0 rfl) ?_
  obtain ⟨v7, e8, h⟩ := obd_inv h
  refine hg_X1_34 F hK S e8 dX1_keep_10 ?_
  refine lv_iload_n hx hb dX1_keep_13 rfl (lv_at hl 1 rfl) ?_
  refine hn_X1_32 F hK S rfl rfl h dX1_keep_14 (fun q9 w10 H h S => ?_)
  refine lv_dup hx hb dX1_keep_17 rfl ?_
  refine lv_aload_n hx hb dX1_keep_18 rfl (lv_at hl 0 rfl) ?_
  obtain ⟨v11, e12, h⟩ := obd_inv h
  refine hg_X1_47 F hK S e12 dX1_keep_19 ?_
  obtain ⟨n13, n14, h1, h2, h⟩ := hcall_inv h
  refine hcl_X3_init_3_X1_93 F hK S h1 h2 h rfl rfl hl.1 (Nat.le_of_ble_eq_true rfl) ⟨Nat.le_of_ble_eq_true rfl, Nat.le_of_ble_eq_true rfl⟩ dX1_keep_22 (fun o16 w15 H locs hw h S => ?_)
  replace h := hret_mp h hw
  clear hw h1 h2
  obtain ⟨w17, e18, h⟩ := obd_inv h
  refine h_aast F hK S e18 dX1_keep_25 (fun H locs S => ?_)
  refine lv_aload_n hx hb dX1_keep_26 rfl (lv_at hl 0 rfl) ?_
  obtain ⟨v19, e20, h⟩ := obd_inv h
  refine hg_X1_47 F hK S e20 dX1_keep_27 ?_
  obtain ⟨v21, e22, h⟩ := obd_inv h
  refine hg_X1_110 F hK S e22 dX1_keep_30 ?_
  exact vx_ret (h_iret F hr hlk S h dX1_keep_33)
theorem hcl_J1_clear_X1_217 {p : Program} {l : Launch} {e : Env} {s : State} {m : MethodId} {args : Array Value} {below : List Frame} {meth : Method} {c : Code} {R : Room} {H : Heap} {locs : List Loc} {cb sb pc nL : Nat} {Q : State → Prop} {ls : Array Slot} {rest : List Value} {cc : ByteArray} {E : hEnv} {A : Nat → Prop} {w : hW} {a0 : Nat} {Q' : hO → Prop} {c1 s1 : Nat} (F : CallFix p m c cc nL s args lw_all RX1) (hK : hK E A s) (S : hS E A s.heap cb sb w H locs) (hrv : ∃ (b : Bool) (fs : List Value), w.1 a0 = some (b, .inl (12, fs))) (h1 : c1 ≤ w.2.1) (h2 : s1 ≤ w.2.2) (h : hf_J1_clear E.2.2 (w.1, c1, s1) a0 Q') (hrc : R.cells = cb) (hrs : R.slots = sb) (hls : ls.size = nL) (hWt : (rest.map fun v => v.category).sum ≤ 8) (hR : 1 + 1 ≤ R.frames ∧ 8 + (1 + 11) + 23 ≤ R.locals) (hdg : decode cc pc = .ok (.invokevirtual 217, 3))
    (kk : ∀ (o : hO) (w' : hW) (H1 : Heap) (locs1 : List Loc), w' = (o, w.2.1 - c1, w.2.2 - s1) → Q' o → hS E A s.heap cb sb w' H1 locs1 → W p l e R s m args below meth c H1 locs1 (cb - w'.2.1) (sb - w'.2.2) Q (F0 m (pc + 3) ls (rest))) : W p l e R s m args below meth c H locs (cb - w.2.1) (sb - w.2.2) Q (F0 m pc ls (.ref a0 :: rest)) :=
  h_kv (g_runV F hK (hKm E A) S.1 (hmet_J1_clear l E A (w.1, c1, s1) a0 Q' h) (cwV 0 F.2.2.2.2 (lw_V q1614 q1615 q1616 q114 q1617) rfl rfl rfl (by decide +kernel) hR) (h_recv hK S (ci := 12) rfl hrv) rfl hls rfl hWt hdg ⟨by rw [hrc]; exact (h_left S h1 h2).1, by rw [hrs]; exact (h_left S h1 h2).2⟩) S h1 h2 kk
def hf_X1_restore (pl : Nat → Nat) (w : hW) (a0 : Nat) (x1 : Int32) (QX : String → hO → Prop) (Q : Int32 → hO → Prop) : Prop :=
  obd (fp_isIn g00 x1 0 1) fun v1 =>
  hcall w fun n3 n4 => hf_X1_ask pl (w.1, n3, n4) v1 QX fun o6 => hret w n3 n4 o6 fun w5 =>
  obd (hgP w5 a0 1 5) fun v7 =>
  obd (haP w5 v7 x1) fun v9 =>
  hNew w5 (.inl (3, [.null, .int 0, .int 0, .null, .int 0, .int 0, .int 0, .int 0, .int 0])) 9 fun q11 w12 =>
  obd (hgP w12 a0 1 5) fun v13 =>
  obd (haP w12 v13 x1) fun v15 =>
  hcall w12 fun n17 n18 => hf_X3_init_3 pl (w12.1, n17, n18) q11 v15 fun o20 => hret w12 n17 n18 o20 fun w19 =>
  obd (hpV w19 a0 1 3 (.ref q11)) fun w21 =>
  obd (hgP w21 a0 1 4) fun v23 =>
  obd (hIs w21 v23 12) fun u25 =>
  hcall w21 fun n27 n28 => hf_J1_clear pl (w21.1, n27, n28) v23 fun o30 => hret w21 n27 n28 o30 fun w29 =>
  obd (hgP w29 a0 1 3) fun v31 =>
  obd (hgI w29 v31 3 7) fun v33 =>
  Q v33 w29.1
abbrev hrm_X1_restore (c s : Nat) : Room := { frames := 7, cells := c, slots := s, locals := 114 }
set_option maxHeartbeats 4000000 in
set_option maxRecDepth 100000 in
theorem hmet_X1_restore (l : Launch) (hst : l.stackTraces = false) (E : hEnv) (A : Nat → Prop) (w : hW) (a0 : Nat) (x1 : Int32) (QX : String → hO → Prop) (Q : Int32 → hO → Prop) (h : hf_X1_restore E.2.2 w a0 x1 QX Q) : vx_Met l yX1_restore (ws_ yX1_restore cX1_restore 2 (some .int)) (hrm_X1_restore w.2.1 w.2.2) (va_Pc [.ref a0, .int x1] (gPre (hK E A) (hP E A w.1))) (hQi E A Q) (hXC E A QX) w.2.1 w.2.2 A := by
  refine hx_met (own := RX1) (by decide +kernel) rfl (Nat.le_of_ble_eq_true rfl) ?_
  intro p e s m args below meth c ls cb sb F hr hlk ht hK S hl
  have hx := F.1
  have hb := F.2.1
  have hl : lv_has ls 2 [(0, .ref a0), (1, .int x1)] := hl
  unfold hf_X1_restore at h
  refine lv_iload_n hx hb dX1_restore_0 rfl (lv_at hl 1 rfl) ?_
  refine lv_iconst (v := 0) hx hb dX1_restore_1 (by decide) ?_
  refine lv_iconst (v := 1) hx hb dX1_restore_2 (by decide) ?_
  obtain ⟨v1, e2, h⟩ := obd_inv h
  refine call_p_isIn_X1_165 (hKm E A) F hK S.1 e2 hl.1 (Nat.le_of_ble_eq_true rfl) ⟨Nat.le_of_ble_eq_true rfl, Nat.le_of_ble_eq_true rfl⟩ ⟨Nat.sub_le _ _, Nat.sub_le _ _⟩ dX1_restore_3 (fun H1 locs1 S1 => ?_)
  have S : hS E A s.heap _ _ _ _ _ := ⟨S1, S.2⟩
  obtain ⟨n3, n4, h1, h2, h⟩ := hcall_inv h
  refine hcl_X1_ask_X1_169 hst hlk ht F hK S h1 h2 h rfl rfl hl.1 (Nat.le_of_ble_eq_true rfl) ⟨Nat.le_of_ble_eq_true rfl, Nat.le_of_ble_eq_true rfl⟩ dX1_restore_6 (fun o6 w5 H locs hw h S => ?_)
  replace h := hret_mp h hw
  clear hw h1 h2
  refine lv_aload_n hx hb dX1_restore_9 rfl (lv_at hl 0 rfl) ?_
  obtain ⟨v7, e8, h⟩ := obd_inv h
  refine hg_X1_34 F hK S e8 dX1_restore_10 ?_
  refine lv_iload_n hx hb dX1_restore_13 rfl (lv_at hl 1 rfl) ?_
  obtain ⟨v9, e10, h⟩ := obd_inv h
  refine h_aald F hK S e10 dX1_restore_14 ?_
  refine lv_ifnonnull (tgt := 20) hx hb dX1_restore_15 (by decide) ?_
  refine lv_aload_n hx hb dX1_restore_20 rfl (lv_at hl 0 rfl) ?_
  refine hn_X1_32 F hK S rfl rfl h dX1_restore_21 (fun q11 w12 H h S => ?_)
  refine lv_dup hx hb dX1_restore_24 rfl ?_
  refine lv_aload_n hx hb dX1_restore_25 rfl (lv_at hl 0 rfl) ?_
  obtain ⟨v13, e14, h⟩ := obd_inv h
  refine hg_X1_34 F hK S e14 dX1_restore_26 ?_
  refine lv_iload_n hx hb dX1_restore_29 rfl (lv_at hl 1 rfl) ?_
  obtain ⟨v15, e16, h⟩ := obd_inv h
  refine h_aald F hK S e16 dX1_restore_30 ?_
  obtain ⟨n17, n18, h1, h2, h⟩ := hcall_inv h
  refine hcl_X3_init_3_X1_93 F hK S h1 h2 h rfl rfl hl.1 (Nat.le_of_ble_eq_true rfl) ⟨Nat.le_of_ble_eq_true rfl, Nat.le_of_ble_eq_true rfl⟩ dX1_restore_31 (fun o20 w19 H locs hw h S => ?_)
  replace h := hret_mp h hw
  clear hw h1 h2
  obtain ⟨w21, e22, h⟩ := obd_inv h
  refine hp_X1_47 F hK S e22 dX1_restore_34 (fun H locs S => ?_)
  refine lv_aload_n hx hb dX1_restore_37 rfl (lv_at hl 0 rfl) ?_
  obtain ⟨v23, e24, h⟩ := obd_inv h
  refine hg_X1_28 F hK S e24 dX1_restore_38 ?_
  obtain ⟨u25, e26, h⟩ := obd_inv h
  obtain ⟨n27, n28, h1, h2, h⟩ := hcall_inv h
  refine hcl_J1_clear_X1_217 F hK S (hIs_inv e26) h1 h2 h rfl rfl hl.1 (Nat.le_of_ble_eq_true rfl) ⟨Nat.le_of_ble_eq_true rfl, Nat.le_of_ble_eq_true rfl⟩ dX1_restore_41 (fun o30 w29 H locs hw h S => ?_)
  replace h := hret_mp h hw
  clear hw h1 h2
  refine lv_aload_n hx hb dX1_restore_44 rfl (lv_at hl 0 rfl) ?_
  obtain ⟨v31, e32, h⟩ := obd_inv h
  refine hg_X1_47 F hK S e32 dX1_restore_45 ?_
  obtain ⟨v33, e34, h⟩ := obd_inv h
  refine hg_X1_110 F hK S e34 dX1_restore_48 ?_
  exact vx_ret (h_iret F hr hlk S h dX1_restore_51)
def hf_X1_truncate (pl : Nat → Nat) (w : hW) (a0 : Nat) (x1 : Int32) (QX : String → hO → Prop) (Q : Int32 → hO → Prop) : Prop :=
  obd (hgI w a0 1 2) fun v1 =>
  obd (fp_isIn g00 x1 0 v1) fun v3 =>
  hcall w fun n5 n6 => hf_X1_ask pl (w.1, n5, n6) v3 QX fun o8 => hret w n5 n6 o8 fun w7 =>
  obd (hpV w7 a0 1 2 (.int x1)) fun w9 =>
  Q x1 w9.1
abbrev hrm_X1_truncate (c s : Nat) : Room := { frames := 7, cells := c, slots := s, locals := 114 }
set_option maxHeartbeats 4000000 in
set_option maxRecDepth 100000 in
theorem hmet_X1_truncate (l : Launch) (hst : l.stackTraces = false) (E : hEnv) (A : Nat → Prop) (w : hW) (a0 : Nat) (x1 : Int32) (QX : String → hO → Prop) (Q : Int32 → hO → Prop) (h : hf_X1_truncate E.2.2 w a0 x1 QX Q) : vx_Met l yX1_truncate (ws_ yX1_truncate cX1_truncate 2 (some .int)) (hrm_X1_truncate w.2.1 w.2.2) (va_Pc [.ref a0, .int x1] (gPre (hK E A) (hP E A w.1))) (hQi E A Q) (hXC E A QX) w.2.1 w.2.2 A := by
  refine hx_met (own := RX1) (by decide +kernel) rfl (Nat.le_of_ble_eq_true rfl) ?_
  intro p e s m args below meth c ls cb sb F hr hlk ht hK S hl
  have hx := F.1
  have hb := F.2.1
  have hl : lv_has ls 2 [(0, .ref a0), (1, .int x1)] := hl
  unfold hf_X1_truncate at h
  refine lv_iload_n hx hb dX1_truncate_0 rfl (lv_at hl 1 rfl) ?_
  refine lv_iconst (v := 0) hx hb dX1_truncate_1 (by decide) ?_
  refine lv_aload_n hx hb dX1_truncate_2 rfl (lv_at hl 0 rfl) ?_
  obtain ⟨v1, e2, h⟩ := obd_inv h
  refine hg_X1_120 F hK S e2 dX1_truncate_3 ?_
  obtain ⟨v3, e4, h⟩ := obd_inv h
  refine call_p_isIn_X1_165 (hKm E A) F hK S.1 e4 hl.1 (Nat.le_of_ble_eq_true rfl) ⟨Nat.le_of_ble_eq_true rfl, Nat.le_of_ble_eq_true rfl⟩ ⟨Nat.sub_le _ _, Nat.sub_le _ _⟩ dX1_truncate_6 (fun H1 locs1 S1 => ?_)
  have S : hS E A s.heap _ _ _ _ _ := ⟨S1, S.2⟩
  obtain ⟨n5, n6, h1, h2, h⟩ := hcall_inv h
  refine hcl_X1_ask_X1_169 hst hlk ht F hK S h1 h2 h rfl rfl hl.1 (Nat.le_of_ble_eq_true rfl) ⟨Nat.le_of_ble_eq_true rfl, Nat.le_of_ble_eq_true rfl⟩ dX1_truncate_9 (fun o8 w7 H locs hw h S => ?_)
  replace h := hret_mp h hw
  clear hw h1 h2
  refine lv_aload_n hx hb dX1_truncate_12 rfl (lv_at hl 0 rfl) ?_
  refine lv_iload_n hx hb dX1_truncate_13 rfl (lv_at hl 1 rfl) ?_
  obtain ⟨w9, e10, h⟩ := obd_inv h
  refine hp_X1_120 F hK S e10 dX1_truncate_14 (fun H locs S => ?_)
  refine lv_iload_n hx hb dX1_truncate_17 rfl (lv_at hl 1 rfl) ?_
  exact vx_ret (h_iret F hr hlk S h dX1_truncate_18)
theorem hpc_X3_mover_X1_228 {p : Program} {l : Launch} {e : Env} {s : State} {m : MethodId} {args : Array Value} {below : List Frame} {meth : Method} {c : Code} {R : Room} {H : Heap} {locs : List Loc} {cb sb pc nL : Nat} {Q : State → Prop} {ls : Array Slot} {rest : List Value} {cc : ByteArray} {E : hEnv} {A : Nat → Prop} {w : hW} {d : hD} {g : mS} {a : Nat} {r : Int32} (F : CallFix p m c cc nL s args lw_all RX1) (hK : hK E A s) (S : hS E A s.heap cb sb w H locs) (hr : hRel d g w.1) (hd : d.1 100 = a) (h : fc_X3_mover g 100 = some r) (hrc : R.cells = cb) (hrs : R.slots = sb) (hls : ls.size = nL) (hWt : (rest.map fun v => v.category).sum ≤ 8) (hR : rm_c_X3_mover.frames + 1 ≤ R.frames ∧ 8 + (1 + 11) + rm_c_X3_mover.locals ≤ R.locals) (hdg : decode cc pc = .ok (.invokevirtual 228, 3))
    (kk : ∀ (H1 : Heap) (locs1 : List Loc), hS E A s.heap cb sb w H1 locs1 → W p l e R s m args below meth c H1 locs1 (cb - w.2.1) (sb - w.2.2) Q (F0 m (pc + 3) ls (.int r :: rest))) : W p l e R s m args below meth c H locs (cb - w.2.1) (sb - w.2.2) Q (F0 m pc ls (.ref a :: rest)) := by
  subst hd
  refine hb_ki hK S hr (gZ := g) (va_runV (g := F0 m pc ls _) F (met_c_X3_mover l (hDE E d g H.size) g 100 hOk100 r h) (cwV 0 F.2.2.2.2 (lw_V q1635 q1130 q1131 q115 q1132) rfl rfl rfl (by decide +kernel) hR) ⟨gBlind (cKm (hDE E d g H.size)), h_recv hK S (ci := 3) rfl (hRel_w hr), fun U hU hW => ⟨rfl, hB_pre hK S hr U hU hW⟩⟩ rfl rfl hls rfl (lv_room hWt) hdg ⟨by rw [hrc]; exact Nat.sub_le _ _, by rw [hrs]; exact Nat.sub_le _ _⟩) (fun w' H1 locs1 hw _ S1 => ?_)
  rw [hPut_self hr] at hw
  subst hw
  exact kk H1 locs1 S1
theorem hpc_X3_winner_X1_231 {p : Program} {l : Launch} {e : Env} {s : State} {m : MethodId} {args : Array Value} {below : List Frame} {meth : Method} {c : Code} {R : Room} {H : Heap} {locs : List Loc} {cb sb pc nL : Nat} {Q : State → Prop} {ls : Array Slot} {rest : List Value} {cc : ByteArray} {E : hEnv} {A : Nat → Prop} {w : hW} {d : hD} {g : mS} {a : Nat} {r : Int32} (F : CallFix p m c cc nL s args lw_all RX1) (hK : hK E A s) (S : hS E A s.heap cb sb w H locs) (hr : hRel d g w.1) (hd : d.1 100 = a) (h : fc_X3_winner g 100 = some r) (hrc : R.cells = cb) (hrs : R.slots = sb) (hls : ls.size = nL) (hWt : (rest.map fun v => v.category).sum ≤ 8) (hR : rm_c_X3_winner.frames + 1 ≤ R.frames ∧ 8 + (2 + 11) + rm_c_X3_winner.locals ≤ R.locals) (hdg : decode cc pc = .ok (.invokevirtual 231, 3))
    (kk : ∀ (H1 : Heap) (locs1 : List Loc), hS E A s.heap cb sb w H1 locs1 → W p l e R s m args below meth c H1 locs1 (cb - w.2.1) (sb - w.2.2) Q (F0 m (pc + 3) ls (.int r :: rest))) : W p l e R s m args below meth c H locs (cb - w.2.1) (sb - w.2.2) Q (F0 m pc ls (.ref a :: rest)) := by
  subst hd
  refine hb_ki hK S hr (gZ := g) (va_runV (g := F0 m pc ls _) F (met_c_X3_winner l (hDE E d g H.size) g 100 hOk100 r h) (cwV 0 F.2.2.2.2 (lw_V q1636 q1637 q1638 q115 q1639) rfl rfl rfl (by decide +kernel) hR) ⟨gBlind (cKm (hDE E d g H.size)), h_recv hK S (ci := 3) rfl (hRel_w hr), fun U hU hW => ⟨rfl, hB_pre hK S hr U hU hW⟩⟩ rfl rfl hls rfl (lv_room hWt) hdg ⟨by rw [hrc]; exact Nat.sub_le _ _, by rw [hrs]; exact Nat.sub_le _ _⟩) (fun w' H1 locs1 hw _ S1 => ?_)
  rw [hPut_self hr] at hw
  subst hw
  exact kk H1 locs1 S1
def hf_X1_board (pl : Nat → Nat) (w : hW) (a0 : Nat) (x1 : Int32) (QX : String → hO → Prop) (Q : Int32 → hO → Prop) : Prop :=
  obd (fp_isIn g00 x1 0 15) fun v1 =>
  hcall w fun n3 n4 => hf_X1_ask pl (w.1, n3, n4) v1 QX fun o6 => hret w n3 n4 o6 fun w5 =>
  hjoin (fun (v135 : Int32) (g136 : hW) =>
    Q v135 g136.1) fun k138 =>
  hIf (x1 = 0) (
    obd (hgP w5 a0 1 3) fun v8 =>
    obd (hgI w5 v8 3 1) fun v10 =>
    k138 v10 w5) <|
  hIf (x1 = 1) (
    obd (hgP w5 a0 1 3) fun v13 =>
    obd (hgI w5 v13 3 2) fun v15 =>
    k138 v15 w5) <|
  hIf (x1 = 2) (
    obd (hgP w5 a0 1 3) fun v18 =>
    obd (hIs w5 v18 3) fun u20 =>
    hcall w5 fun n22 n23 => hf_X3_all pl (w5.1, n22, n23) v18 1 fun v26 o25 => hret w5 n22 n23 o25 fun w24 =>
    obd (hIs w24 v26 13) fun u27 =>
    hcall w24 fun n29 n30 => hf_J18_size pl (w24.1, n29, n30) v26 fun v33 o32 => hret w24 n29 n30 o32 fun w31 =>
    k138 v33 w31) <|
  hIf (x1 = 3) (
    obd (hgP w5 a0 1 3) fun v35 =>
    obd (hIs w5 v35 3) fun u37 =>
    hcall w5 fun n39 n40 => hf_X3_all pl (w5.1, n39, n40) v35 0 fun v43 o42 => hret w5 n39 n40 o42 fun w41 =>
    obd (hIs w41 v43 13) fun u44 =>
    hcall w41 fun n46 n47 => hf_J18_size pl (w41.1, n46, n47) v43 fun v50 o49 => hret w41 n46 n47 o49 fun w48 =>
    k138 v50 w48) <|
  hIf (x1 = 4) (
    obd (hgP w5 a0 1 3) fun v52 =>
    ∃ (d54 : hD) (g55 : mS), hRel d54 g55 w5.1 ∧ d54.1 100 = v52 ∧ obd (fc_X3_many g55 100 6) fun v58 =>
    k138 (v58 / 2) w5) <|
  hIf (x1 = 5) (
    obd (hgP w5 a0 1 3) fun v60 =>
    ∃ (d62 : hD) (g63 : mS), hRel d62 g63 w5.1 ∧ d62.1 100 = v60 ∧ obd (fc_X3_many g63 100 0) fun v66 =>
    k138 v66 w5) <|
  hIf (x1 = 6) (
    obd (hgP w5 a0 1 3) fun v68 =>
    obd (hgI w5 v68 3 5) fun v70 =>
    k138 v70 w5) <|
  hIf (x1 = 7) (
    obd (hgP w5 a0 1 3) fun v73 =>
    obd (hgI w5 v73 3 6) fun v75 =>
    k138 v75 w5) <|
  hIf (x1 = 8) (
    obd (hgP w5 a0 1 3) fun v78 =>
    obd (hgI w5 v78 3 7) fun v80 =>
    k138 v80 w5) <|
  hIf (x1 = 9) (
    obd (hgP w5 a0 1 3) fun v83 =>
    ∃ (d85 : hD) (g86 : mS), hRel d85 g86 w5.1 ∧ d85.1 100 = v83 ∧ obd (fc_X3_mover g86 100) fun v89 =>
    k138 v89 w5) <|
  hIf (x1 = 10) (
    obd (hgP w5 a0 1 3) fun v91 =>
    ∃ (d93 : hD) (g94 : mS), hRel d93 g94 w5.1 ∧ d93.1 100 = v91 ∧ obd (fc_X3_isOver g94 100) fun v97 =>
    hIf (v97 = 0) (
      k138 0 w5) <|
      k138 1 w5) <|
  hIf (x1 = 11) (
    obd (hgP w5 a0 1 3) fun v100 =>
    ∃ (d102 : hD) (g103 : mS), hRel d102 g103 w5.1 ∧ d102.1 100 = v100 ∧ obd (fc_X3_winner g103 100) fun v106 =>
    k138 v106 w5) <|
  hIf (x1 = 12) (
    obd (hgP w5 a0 1 3) fun v108 =>
    ∃ (d110 : hD) (g111 : mS), hRel d110 g111 w5.1 ∧ d110.1 100 = v108 ∧ obd (fc_X3_points g111 100 (x1 - 11)) fun v114 =>
    k138 v114 w5) <|
  hIf (x1 = 13) (
    obd (hgP w5 a0 1 3) fun v116 =>
    ∃ (d118 : hD) (g119 : mS), hRel d118 g119 w5.1 ∧ d118.1 100 = v116 ∧ obd (fc_X3_points g119 100 (x1 - 11)) fun v122 =>
    k138 v122 w5) <|
  hIf (x1 = 14) (
    obd (hgP w5 a0 1 4) fun v124 =>
    obd (hIs w5 v124 12) fun u126 =>
    hcall w5 fun n128 n129 => hf_J1_size pl (w5.1, n128, n129) v124 fun v132 o131 => hret w5 n128 n129 o131 fun w130 =>
    k138 v132 w130) <|
    obd (hgI w5 a0 1 2) fun v133 =>
    k138 v133 w5
abbrev hrm_X1_board (c s : Nat) : Room := { frames := 8, cells := c, slots := s, locals := 196 }
set_option maxHeartbeats 4000000 in
set_option maxRecDepth 100000 in
theorem hmet_X1_board (l : Launch) (hst : l.stackTraces = false) (E : hEnv) (A : Nat → Prop) (w : hW) (a0 : Nat) (x1 : Int32) (QX : String → hO → Prop) (Q : Int32 → hO → Prop) (h : hf_X1_board E.2.2 w a0 x1 QX Q) : vx_Met l yX1_board (ws_ yX1_board cX1_board 2 (some .int)) (hrm_X1_board w.2.1 w.2.2) (va_Pc [.ref a0, .int x1] (gPre (hK E A) (hP E A w.1))) (hQi E A Q) (hXC E A QX) w.2.1 w.2.2 A := by
  refine hx_met (own := RX1) (by decide +kernel) rfl (Nat.le_of_ble_eq_true rfl) ?_
  intro p e s m args below meth c ls cb sb F hr hlk ht hK S hl
  have hx := F.1
  have hb := F.2.1
  have hl : lv_has ls 2 [(0, .ref a0), (1, .int x1)] := hl
  unfold hf_X1_board at h
  refine lv_iload_n hx hb dX1_board_0 rfl (lv_at hl 1 rfl) ?_
  refine lv_iconst (v := 0) hx hb dX1_board_1 (by decide) ?_
  refine lv_bipush (v := 15) hx hb dX1_board_2 (by decide) ?_
  obtain ⟨v1, e2, h⟩ := obd_inv h
  refine call_p_isIn_X1_165 (hKm E A) F hK S.1 e2 hl.1 (Nat.le_of_ble_eq_true rfl) ⟨Nat.le_of_ble_eq_true rfl, Nat.le_of_ble_eq_true rfl⟩ ⟨Nat.sub_le _ _, Nat.sub_le _ _⟩ dX1_board_4 (fun H1 locs1 S1 => ?_)
  have S : hS E A s.heap _ _ _ _ _ := ⟨S1, S.2⟩
  obtain ⟨n3, n4, h1, h2, h⟩ := hcall_inv h
  refine hcl_X1_ask_X1_169 hst hlk ht F hK S h1 h2 h rfl rfl hl.1 (Nat.le_of_ble_eq_true rfl) ⟨Nat.le_of_ble_eq_true rfl, Nat.le_of_ble_eq_true rfl⟩ dX1_board_7 (fun o6 w5 H locs hw h S => ?_)
  replace h := hret_mp h hw
  clear hw h1 h2
  refine lv_iload_n hx hb dX1_board_10 rfl (lv_at hl 1 rfl) ?_
  obtain ⟨k138, hk138, h⟩ := hj2_inv h
  have hJ253 : ∀ (v135 : Int32) (g136 : hW) (H : Heap) (locs : List Loc) (ls : Array Slot), k138 v135 g136 → hS E A s.heap cb sb g136 H locs → lv_has ls 2 [] → W p l e (hrm_X1_board cb sb) s m args below meth c H locs (cb - g136.2.1) (sb - g136.2.2) (vx_MQ below (hQi E A Q) (hXC E A QX) args s cb sb A) (F0 m 253 ls [.int v135]) := by
    intro v135 g136 H locs ls h S hl
    replace h := hk138 _ _ h
    exact vx_ret (h_iret F hr hlk S h dX1_board_253)
  clear hk138
  by_cases c7 : x1 = 0
  · rw [hIf_pos c7] at h
    refine lv_tableIn (tgt := 84) (off := 73) hx hb dX1_board_11 (by rw [c7]; decide) (by rw [c7]; decide) (by rw [c7]; rfl) (by decide) ?_
    refine lv_aload_n hx hb dX1_board_84 rfl (lv_at hl 0 rfl) ?_
    obtain ⟨v8, e9, h⟩ := obd_inv h
    refine hg_X1_47 F hK S e9 dX1_board_85 ?_
    obtain ⟨v10, e11, h⟩ := obd_inv h
    refine hg_X1_222 F hK S e11 dX1_board_88 ?_
    refine lv_goto (tgt := 253) hx hb dX1_board_91 (by decide) ?_
    exact hJ253 _ _ _ _ _ h S (lv_sub hl [] rfl)
  rw [hIf_neg c7] at h
  by_cases c12 : x1 = 1
  · rw [hIf_pos c12] at h
    refine lv_tableIn (tgt := 94) (off := 83) hx hb dX1_board_11 (by rw [c12]; decide) (by rw [c12]; decide) (by rw [c12]; rfl) (by decide) ?_
    refine lv_aload_n hx hb dX1_board_94 rfl (lv_at hl 0 rfl) ?_
    obtain ⟨v13, e14, h⟩ := obd_inv h
    refine hg_X1_47 F hK S e14 dX1_board_95 ?_
    obtain ⟨v15, e16, h⟩ := obd_inv h
    refine hg_X1_225 F hK S e16 dX1_board_98 ?_
    refine lv_goto (tgt := 253) hx hb dX1_board_101 (by decide) ?_
    exact hJ253 _ _ _ _ _ h S (lv_sub hl [] rfl)
  rw [hIf_neg c12] at h
  by_cases c17 : x1 = 2
  · rw [hIf_pos c17] at h
    refine lv_tableIn (tgt := 104) (off := 93) hx hb dX1_board_11 (by rw [c17]; decide) (by rw [c17]; decide) (by rw [c17]; rfl) (by decide) ?_
    refine lv_aload_n hx hb dX1_board_104 rfl (lv_at hl 0 rfl) ?_
    obtain ⟨v18, e19, h⟩ := obd_inv h
    refine hg_X1_47 F hK S e19 dX1_board_105 ?_
    refine lv_iconst (v := 1) hx hb dX1_board_108 (by decide) ?_
    obtain ⟨u20, e21, h⟩ := obd_inv h
    obtain ⟨n22, n23, h1, h2, h⟩ := hcall_inv h
    refine hcl_X3_all_X1_131 F hK S (hIs_inv e21) h1 h2 h rfl rfl hl.1 (Nat.le_of_ble_eq_true rfl) ⟨Nat.le_of_ble_eq_true rfl, Nat.le_of_ble_eq_true rfl⟩ dX1_board_109 (fun v26 o25 w24 H locs hw h S => ?_)
    replace h := hret_mp h hw
    clear hw h1 h2
    obtain ⟨u27, e28, h⟩ := obd_inv h
    obtain ⟨n29, n30, h1, h2, h⟩ := hcall_inv h
    refine hcl_J18_size_X1_135 F hK S (hIs_inv e28) h1 h2 h rfl rfl hl.1 (Nat.le_of_ble_eq_true rfl) ⟨Nat.le_of_ble_eq_true rfl, Nat.le_of_ble_eq_true rfl⟩ dX1_board_112 (fun v33 o32 w31 H locs hw h S => ?_)
    replace h := hret_mp h hw
    clear hw h1 h2
    refine lv_goto (tgt := 253) hx hb dX1_board_115 (by decide) ?_
    exact hJ253 _ _ _ _ _ h S (lv_sub hl [] rfl)
  rw [hIf_neg c17] at h
  by_cases c34 : x1 = 3
  · rw [hIf_pos c34] at h
    refine lv_tableIn (tgt := 118) (off := 107) hx hb dX1_board_11 (by rw [c34]; decide) (by rw [c34]; decide) (by rw [c34]; rfl) (by decide) ?_
    refine lv_aload_n hx hb dX1_board_118 rfl (lv_at hl 0 rfl) ?_
    obtain ⟨v35, e36, h⟩ := obd_inv h
    refine hg_X1_47 F hK S e36 dX1_board_119 ?_
    refine lv_iconst (v := 0) hx hb dX1_board_122 (by decide) ?_
    obtain ⟨u37, e38, h⟩ := obd_inv h
    obtain ⟨n39, n40, h1, h2, h⟩ := hcall_inv h
    refine hcl_X3_all_X1_131 F hK S (hIs_inv e38) h1 h2 h rfl rfl hl.1 (Nat.le_of_ble_eq_true rfl) ⟨Nat.le_of_ble_eq_true rfl, Nat.le_of_ble_eq_true rfl⟩ dX1_board_123 (fun v43 o42 w41 H locs hw h S => ?_)
    replace h := hret_mp h hw
    clear hw h1 h2
    obtain ⟨u44, e45, h⟩ := obd_inv h
    obtain ⟨n46, n47, h1, h2, h⟩ := hcall_inv h
    refine hcl_J18_size_X1_135 F hK S (hIs_inv e45) h1 h2 h rfl rfl hl.1 (Nat.le_of_ble_eq_true rfl) ⟨Nat.le_of_ble_eq_true rfl, Nat.le_of_ble_eq_true rfl⟩ dX1_board_126 (fun v50 o49 w48 H locs hw h S => ?_)
    replace h := hret_mp h hw
    clear hw h1 h2
    refine lv_goto (tgt := 253) hx hb dX1_board_129 (by decide) ?_
    exact hJ253 _ _ _ _ _ h S (lv_sub hl [] rfl)
  rw [hIf_neg c34] at h
  by_cases c51 : x1 = 4
  · rw [hIf_pos c51] at h
    refine lv_tableIn (tgt := 132) (off := 121) hx hb dX1_board_11 (by rw [c51]; decide) (by rw [c51]; decide) (by rw [c51]; rfl) (by decide) ?_
    refine lv_aload_n hx hb dX1_board_132 rfl (lv_at hl 0 rfl) ?_
    obtain ⟨v52, e53, h⟩ := obd_inv h
    refine hg_X1_47 F hK S e53 dX1_board_133 ?_
    refine lv_bipush (v := 6) hx hb dX1_board_136 (by decide) ?_
    obtain ⟨d54, g55, hrl, hdl, h⟩ := h
    obtain ⟨v58, e57, h⟩ := obd_inv h
    refine hpc_X3_many_X1_161 F hK S hrl hdl e57 rfl rfl hl.1 (Nat.le_of_ble_eq_true rfl) ⟨Nat.le_of_ble_eq_true rfl, Nat.le_of_ble_eq_true rfl⟩ dX1_board_138 (fun H locs S => ?_)
    refine lv_iconst (v := 2) hx hb dX1_board_141 (by decide) ?_
    refine lv_idiv hx hb dX1_board_142 (by decide) ?_
    refine lv_goto (tgt := 253) hx hb dX1_board_143 (by decide) ?_
    exact hJ253 _ _ _ _ _ h S (lv_sub hl [] rfl)
  rw [hIf_neg c51] at h
  by_cases c59 : x1 = 5
  · rw [hIf_pos c59] at h
    refine lv_tableIn (tgt := 146) (off := 135) hx hb dX1_board_11 (by rw [c59]; decide) (by rw [c59]; decide) (by rw [c59]; rfl) (by decide) ?_
    refine lv_aload_n hx hb dX1_board_146 rfl (lv_at hl 0 rfl) ?_
    obtain ⟨v60, e61, h⟩ := obd_inv h
    refine hg_X1_47 F hK S e61 dX1_board_147 ?_
    refine lv_iconst (v := 0) hx hb dX1_board_150 (by decide) ?_
    obtain ⟨d62, g63, hrl, hdl, h⟩ := h
    obtain ⟨v66, e65, h⟩ := obd_inv h
    refine hpc_X3_many_X1_161 F hK S hrl hdl e65 rfl rfl hl.1 (Nat.le_of_ble_eq_true rfl) ⟨Nat.le_of_ble_eq_true rfl, Nat.le_of_ble_eq_true rfl⟩ dX1_board_151 (fun H locs S => ?_)
    refine lv_goto (tgt := 253) hx hb dX1_board_154 (by decide) ?_
    exact hJ253 _ _ _ _ _ h S (lv_sub hl [] rfl)
  rw [hIf_neg c59] at h
  by_cases c67 : x1 = 6
  · rw [hIf_pos c67] at h
    refine lv_tableIn (tgt := 157) (off := 146) hx hb dX1_board_11 (by rw [c67]; decide) (by rw [c67]; decide) (by rw [c67]; rfl) (by decide) ?_
    refine lv_aload_n hx hb dX1_board_157 rfl (lv_at hl 0 rfl) ?_
    obtain ⟨v68, e69, h⟩ := obd_inv h
    refine hg_X1_47 F hK S e69 dX1_board_158 ?_
    obtain ⟨v70, e71, h⟩ := obd_inv h
    refine hg_X1_196 F hK S e71 dX1_board_161 ?_
    refine lv_goto (tgt := 253) hx hb dX1_board_164 (by decide) ?_
    exact hJ253 _ _ _ _ _ h S (lv_sub hl [] rfl)
  rw [hIf_neg c67] at h
  by_cases c72 : x1 = 7
  · rw [hIf_pos c72] at h
    refine lv_tableIn (tgt := 167) (off := 156) hx hb dX1_board_11 (by rw [c72]; decide) (by rw [c72]; decide) (by rw [c72]; rfl) (by decide) ?_
    refine lv_aload_n hx hb dX1_board_167 rfl (lv_at hl 0 rfl) ?_
    obtain ⟨v73, e74, h⟩ := obd_inv h
    refine hg_X1_47 F hK S e74 dX1_board_168 ?_
    obtain ⟨v75, e76, h⟩ := obd_inv h
    refine hg_X1_67 F hK S e76 dX1_board_171 ?_
    refine lv_goto (tgt := 253) hx hb dX1_board_174 (by decide) ?_
    exact hJ253 _ _ _ _ _ h S (lv_sub hl [] rfl)
  rw [hIf_neg c72] at h
  by_cases c77 : x1 = 8
  · rw [hIf_pos c77] at h
    refine lv_tableIn (tgt := 177) (off := 166) hx hb dX1_board_11 (by rw [c77]; decide) (by rw [c77]; decide) (by rw [c77]; rfl) (by decide) ?_
    refine lv_aload_n hx hb dX1_board_177 rfl (lv_at hl 0 rfl) ?_
    obtain ⟨v78, e79, h⟩ := obd_inv h
    refine hg_X1_47 F hK S e79 dX1_board_178 ?_
    obtain ⟨v80, e81, h⟩ := obd_inv h
    refine hg_X1_110 F hK S e81 dX1_board_181 ?_
    refine lv_goto (tgt := 253) hx hb dX1_board_184 (by decide) ?_
    exact hJ253 _ _ _ _ _ h S (lv_sub hl [] rfl)
  rw [hIf_neg c77] at h
  by_cases c82 : x1 = 9
  · rw [hIf_pos c82] at h
    refine lv_tableIn (tgt := 187) (off := 176) hx hb dX1_board_11 (by rw [c82]; decide) (by rw [c82]; decide) (by rw [c82]; rfl) (by decide) ?_
    refine lv_aload_n hx hb dX1_board_187 rfl (lv_at hl 0 rfl) ?_
    obtain ⟨v83, e84, h⟩ := obd_inv h
    refine hg_X1_47 F hK S e84 dX1_board_188 ?_
    obtain ⟨d85, g86, hrl, hdl, h⟩ := h
    obtain ⟨v89, e88, h⟩ := obd_inv h
    refine hpc_X3_mover_X1_228 F hK S hrl hdl e88 rfl rfl hl.1 (Nat.le_of_ble_eq_true rfl) ⟨Nat.le_of_ble_eq_true rfl, Nat.le_of_ble_eq_true rfl⟩ dX1_board_191 (fun H locs S => ?_)
    refine lv_goto (tgt := 253) hx hb dX1_board_194 (by decide) ?_
    exact hJ253 _ _ _ _ _ h S (lv_sub hl [] rfl)
  rw [hIf_neg c82] at h
  by_cases c90 : x1 = 10
  · rw [hIf_pos c90] at h
    refine lv_tableIn (tgt := 197) (off := 186) hx hb dX1_board_11 (by rw [c90]; decide) (by rw [c90]; decide) (by rw [c90]; rfl) (by decide) ?_
    refine lv_aload_n hx hb dX1_board_197 rfl (lv_at hl 0 rfl) ?_
    obtain ⟨v91, e92, h⟩ := obd_inv h
    refine hg_X1_47 F hK S e92 dX1_board_198 ?_
    obtain ⟨d93, g94, hrl, hdl, h⟩ := h
    obtain ⟨v97, e96, h⟩ := obd_inv h
    refine hpc_X3_isOver_X1_205 F hK S hrl hdl e96 rfl rfl hl.1 (Nat.le_of_ble_eq_true rfl) ⟨Nat.le_of_ble_eq_true rfl, Nat.le_of_ble_eq_true rfl⟩ dX1_board_201 (fun H locs S => ?_)
    refine lv_if_eq (tgt := 211) hx hb dX1_board_204 (by decide) (fun c98 => ?_) (fun c98 => ?_)
    · rw [hIf_pos c98] at h
      refine lv_iconst (v := 0) hx hb dX1_board_211 (by decide) ?_
      refine lv_goto (tgt := 253) hx hb dX1_board_212 (by decide) ?_
      exact hJ253 _ _ _ _ _ h S (lv_sub hl [] rfl)
    · rw [hIf_neg c98] at h
      refine lv_iconst (v := 1) hx hb dX1_board_207 (by decide) ?_
      refine lv_goto (tgt := 253) hx hb dX1_board_208 (by decide) ?_
      exact hJ253 _ _ _ _ _ h S (lv_sub hl [] rfl)
  rw [hIf_neg c90] at h
  by_cases c99 : x1 = 11
  · rw [hIf_pos c99] at h
    refine lv_tableIn (tgt := 215) (off := 204) hx hb dX1_board_11 (by rw [c99]; decide) (by rw [c99]; decide) (by rw [c99]; rfl) (by decide) ?_
    refine lv_aload_n hx hb dX1_board_215 rfl (lv_at hl 0 rfl) ?_
    obtain ⟨v100, e101, h⟩ := obd_inv h
    refine hg_X1_47 F hK S e101 dX1_board_216 ?_
    obtain ⟨d102, g103, hrl, hdl, h⟩ := h
    obtain ⟨v106, e105, h⟩ := obd_inv h
    refine hpc_X3_winner_X1_231 F hK S hrl hdl e105 rfl rfl hl.1 (Nat.le_of_ble_eq_true rfl) ⟨Nat.le_of_ble_eq_true rfl, Nat.le_of_ble_eq_true rfl⟩ dX1_board_219 (fun H locs S => ?_)
    refine lv_goto (tgt := 253) hx hb dX1_board_222 (by decide) ?_
    exact hJ253 _ _ _ _ _ h S (lv_sub hl [] rfl)
  rw [hIf_neg c99] at h
  by_cases c107 : x1 = 12
  · rw [hIf_pos c107] at h
    refine lv_tableIn (tgt := 225) (off := 214) hx hb dX1_board_11 (by rw [c107]; decide) (by rw [c107]; decide) (by rw [c107]; rfl) (by decide) ?_
    refine lv_aload_n hx hb dX1_board_225 rfl (lv_at hl 0 rfl) ?_
    obtain ⟨v108, e109, h⟩ := obd_inv h
    refine hg_X1_47 F hK S e109 dX1_board_226 ?_
    refine lv_iload_n hx hb dX1_board_229 rfl (lv_at hl 1 rfl) ?_
    refine lv_bipush (v := 11) hx hb dX1_board_230 (by decide) ?_
    refine lv_isub hx hb dX1_board_232 ?_
    obtain ⟨d110, g111, hrl, hdl, h⟩ := h
    obtain ⟨v114, e113, h⟩ := obd_inv h
    refine hpc_X3_points_X1_234 F hK S hrl hdl e113 rfl rfl hl.1 (Nat.le_of_ble_eq_true rfl) ⟨Nat.le_of_ble_eq_true rfl, Nat.le_of_ble_eq_true rfl⟩ dX1_board_233 (fun H locs S => ?_)
    refine lv_goto (tgt := 253) hx hb dX1_board_236 (by decide) ?_
    exact hJ253 _ _ _ _ _ h S (lv_sub hl [] rfl)
  rw [hIf_neg c107] at h
  by_cases c115 : x1 = 13
  · rw [hIf_pos c115] at h
    refine lv_tableIn (tgt := 225) (off := 214) hx hb dX1_board_11 (by rw [c115]; decide) (by rw [c115]; decide) (by rw [c115]; rfl) (by decide) ?_
    refine lv_aload_n hx hb dX1_board_225 rfl (lv_at hl 0 rfl) ?_
    obtain ⟨v116, e117, h⟩ := obd_inv h
    refine hg_X1_47 F hK S e117 dX1_board_226 ?_
    refine lv_iload_n hx hb dX1_board_229 rfl (lv_at hl 1 rfl) ?_
    refine lv_bipush (v := 11) hx hb dX1_board_230 (by decide) ?_
    refine lv_isub hx hb dX1_board_232 ?_
    obtain ⟨d118, g119, hrl, hdl, h⟩ := h
    obtain ⟨v122, e121, h⟩ := obd_inv h
    refine hpc_X3_points_X1_234 F hK S hrl hdl e121 rfl rfl hl.1 (Nat.le_of_ble_eq_true rfl) ⟨Nat.le_of_ble_eq_true rfl, Nat.le_of_ble_eq_true rfl⟩ dX1_board_233 (fun H locs S => ?_)
    refine lv_goto (tgt := 253) hx hb dX1_board_236 (by decide) ?_
    exact hJ253 _ _ _ _ _ h S (lv_sub hl [] rfl)
  rw [hIf_neg c115] at h
  by_cases c123 : x1 = 14
  · rw [hIf_pos c123] at h
    refine lv_tableIn (tgt := 239) (off := 228) hx hb dX1_board_11 (by rw [c123]; decide) (by rw [c123]; decide) (by rw [c123]; rfl) (by decide) ?_
    refine lv_aload_n hx hb dX1_board_239 rfl (lv_at hl 0 rfl) ?_
    obtain ⟨v124, e125, h⟩ := obd_inv h
    refine hg_X1_28 F hK S e125 dX1_board_240 ?_
    obtain ⟨u126, e127, h⟩ := obd_inv h
    obtain ⟨n128, n129, h1, h2, h⟩ := hcall_inv h
    refine hcl_J1_size_X1_81 F hK S (hIs_inv e127) h1 h2 h rfl rfl hl.1 (Nat.le_of_ble_eq_true rfl) ⟨Nat.le_of_ble_eq_true rfl, Nat.le_of_ble_eq_true rfl⟩ dX1_board_243 (fun v132 o131 w130 H locs hw h S => ?_)
    replace h := hret_mp h hw
    clear hw h1 h2
    refine lv_goto (tgt := 253) hx hb dX1_board_246 (by decide) ?_
    exact hJ253 _ _ _ _ _ h S (lv_sub hl [] rfl)
  rw [hIf_neg c123] at h
  refine lv_tableOut (tgt := 249) hx hb dX1_board_11 (by have t0 := lv_neT (a := 0) c7 (by decide); have t1 := lv_neT (a := 1) c12 (by decide); have t2 := lv_neT (a := 2) c17 (by decide); have t3 := lv_neT (a := 3) c34 (by decide); have t4 := lv_neT (a := 4) c51 (by decide); have t5 := lv_neT (a := 5) c59 (by decide); have t6 := lv_neT (a := 6) c67 (by decide); have t7 := lv_neT (a := 7) c72 (by decide); have t8 := lv_neT (a := 8) c77 (by decide); have t9 := lv_neT (a := 9) c82 (by decide); have t10 := lv_neT (a := 10) c90 (by decide); have t11 := lv_neT (a := 11) c99 (by decide); have t12 := lv_neT (a := 12) c107 (by decide); have t13 := lv_neT (a := 13) c115 (by decide); have t14 := lv_neT (a := 14) c123 (by decide); omega) (by decide) ?_
  refine lv_aload_n hx hb dX1_board_249 rfl (lv_at hl 0 rfl) ?_
  obtain ⟨v133, e134, h⟩ := obd_inv h
  refine hg_X1_120 F hK S e134 dX1_board_250 ?_
  exact hJ253 _ _ _ _ _ h S (lv_sub hl [] rfl)
def hv_owner (pl : Nat → Nat) (w : hW) (a0 : Nat) (Q : Int32 → hO → Prop) : Prop := (hCls w a0 = some 4 ∧ hf_X4_owner pl w a0 Q) ∨ (hCls w a0 = some 5 ∧ hf_X4_owner pl w a0 Q) ∨ (hCls w a0 = some 6 ∧ hf_X7_owner pl w a0 Q) ∨ (hCls w a0 = some 7 ∧ hf_X8_owner pl w a0 Q) ∨ (hCls w a0 = some 8 ∧ hf_X4_owner pl w a0 Q) ∨ (hCls w a0 = some 9 ∧ hf_X4_owner pl w a0 Q)
theorem hcv_owner_X1_237 {p : Program} {l : Launch} {e : Env} {s : State} {m : MethodId} {args : Array Value} {below : List Frame} {meth : Method} {c : Code} {R : Room} {H : Heap} {locs : List Loc} {cb sb pc nL : Nat} {Q : State → Prop} {ls : Array Slot} {rest : List Value} {cc : ByteArray} {E : hEnv} {A : Nat → Prop} {w : hW} {a0 : Nat} {Q' : Int32 → hO → Prop} {c1 s1 : Nat} (F : CallFix p m c cc nL s args lw_all RX1) (hK : hK E A s) (S : hS E A s.heap cb sb w H locs) (h1 : c1 ≤ w.2.1) (h2 : s1 ≤ w.2.2) (h : hv_owner E.2.2 (w.1, c1, s1) a0 Q') (hrc : R.cells = cb) (hrs : R.slots = sb) (hls : ls.size = nL) (hWt : (rest.map fun v => v.category).sum ≤ 8) (hR : 0 + 1 ≤ R.frames ∧ 8 + (1 + 11) + 0 ≤ R.locals) (hdg : decode cc pc = .ok (.invokevirtual 237, 3))
    (kk : ∀ (v : Int32) (o : hO) (w' : hW) (H1 : Heap) (locs1 : List Loc), w' = (o, w.2.1 - c1, w.2.2 - s1) → Q' v o → hS E A s.heap cb sb w' H1 locs1 → W p l e R s m args below meth c H1 locs1 (cb - w'.2.1) (sb - w'.2.2) Q (F0 m (pc + 3) ls (.int v :: rest))) : W p l e R s m args below meth c H locs (cb - w.2.1) (sb - w.2.2) Q (F0 m pc ls (.ref a0 :: rest)) := by
  rcases h with ⟨hc, h⟩ | ⟨hc, h⟩ | ⟨hc, h⟩ | ⟨hc, h⟩ | ⟨hc, h⟩ | ⟨hc, h⟩
  · exact h_ki (g_runU F hK (hKm E A) S.1 (hmet_X4_owner l E A (w.1, c1, s1) a0 Q' h) (va_cwU 0 F.2.2.2.2 (gw_U q1647 q1108 q1112 q1107 q116 q1119) rfl rfl rfl rfl (by decide +kernel) ⟨Nat.le_trans (Nat.le_of_ble_eq_true rfl) hR.1, Nat.le_trans (Nat.le_of_ble_eq_true rfl) hR.2⟩) (h_recv hK S (ci := 4) rfl (hCls_inv hc)) rfl hls rfl hWt hdg ⟨by rw [hrc]; exact (h_left S h1 h2).1, by rw [hrs]; exact (h_left S h1 h2).2⟩) S h1 h2 kk
  · exact h_ki (g_runU F hK (hKm E A) S.1 (hmet_X4_owner l E A (w.1, c1, s1) a0 Q' h) (va_cwU 0 F.2.2.2.2 (gw_U q1647 q1108 q1118 q1107 q116 q1119) rfl rfl rfl rfl (by decide +kernel) ⟨Nat.le_trans (Nat.le_of_ble_eq_true rfl) hR.1, Nat.le_trans (Nat.le_of_ble_eq_true rfl) hR.2⟩) (h_recv hK S (ci := 5) rfl (hCls_inv hc)) rfl hls rfl hWt hdg ⟨by rw [hrc]; exact (h_left S h1 h2).1, by rw [hrs]; exact (h_left S h1 h2).2⟩) S h1 h2 kk
  · exact h_ki (g_runU F hK (hKm E A) S.1 (hmet_X7_owner l E A (w.1, c1, s1) a0 Q' h) (va_cwO 0 F.2.2.2.2 (gw_O q1647 q1108 q1107 q1114 q1115 q119 q1116) rfl rfl rfl q1119 (by decide +kernel) ⟨Nat.le_trans (Nat.le_of_ble_eq_true rfl) hR.1, Nat.le_trans (Nat.le_of_ble_eq_true rfl) hR.2⟩) (h_recv hK S (ci := 6) rfl (hCls_inv hc)) rfl hls rfl hWt hdg ⟨by rw [hrc]; exact (h_left S h1 h2).1, by rw [hrs]; exact (h_left S h1 h2).2⟩) S h1 h2 kk
  · exact h_ki (g_runU F hK (hKm E A) S.1 (hmet_X8_owner l E A (w.1, c1, s1) a0 Q' h) (va_cwO 0 F.2.2.2.2 (gw_O q1647 q1108 q1107 q1109 q1110 q120 q1111) rfl rfl rfl q1119 (by decide +kernel) ⟨Nat.le_trans (Nat.le_of_ble_eq_true rfl) hR.1, Nat.le_trans (Nat.le_of_ble_eq_true rfl) hR.2⟩) (h_recv hK S (ci := 7) rfl (hCls_inv hc)) rfl hls rfl hWt hdg ⟨by rw [hrc]; exact (h_left S h1 h2).1, by rw [hrs]; exact (h_left S h1 h2).2⟩) S h1 h2 kk
  · exact h_ki (g_runU F hK (hKm E A) S.1 (hmet_X4_owner l E A (w.1, c1, s1) a0 Q' h) (va_cwU 0 F.2.2.2.2 (gw_U q1647 q1108 q1113 q1107 q116 q1119) rfl rfl rfl rfl (by decide +kernel) ⟨Nat.le_trans (Nat.le_of_ble_eq_true rfl) hR.1, Nat.le_trans (Nat.le_of_ble_eq_true rfl) hR.2⟩) (h_recv hK S (ci := 8) rfl (hCls_inv hc)) rfl hls rfl hWt hdg ⟨by rw [hrc]; exact (h_left S h1 h2).1, by rw [hrs]; exact (h_left S h1 h2).2⟩) S h1 h2 kk
  · exact h_ki (g_runU F hK (hKm E A) S.1 (hmet_X4_owner l E A (w.1, c1, s1) a0 Q' h) (va_cwU 0 F.2.2.2.2 (gw_U q1647 q1108 q1117 q1107 q116 q1119) rfl rfl rfl rfl (by decide +kernel) ⟨Nat.le_trans (Nat.le_of_ble_eq_true rfl) hR.1, Nat.le_trans (Nat.le_of_ble_eq_true rfl) hR.2⟩) (h_recv hK S (ci := 9) rfl (hCls_inv hc)) rfl hls rfl hWt hdg ⟨by rw [hrc]; exact (h_left S h1 h2).1, by rw [hrs]; exact (h_left S h1 h2).2⟩) S h1 h2 kk
def hf_X1_cell (pl : Nat → Nat) (w : hW) (a0 : Nat) (x1 : Int32) (x2 : Int32) (x3 : Int32) (QX : String → hO → Prop) (Q : Int32 → hO → Prop) : Prop :=
  obd (hgP w a0 1 3) fun v1 =>
  obd (hgP w v1 3 3) fun v3 =>
  obd (hIs w a0 1) fun u5 =>
  hcall w fun n7 n8 => hf_X1_cellOf pl (w.1, n7, n8) a0 x1 x2 QX fun v11 o10 => hret w n7 n8 o10 fun w9 =>
  obd (haP w9 v3 v11) fun v12 =>
  obd (fp_isIn g00 x3 0 4) fun v14 =>
  hcall w9 fun n16 n17 => hf_X1_ask pl (w9.1, n16, n17) v14 QX fun o19 => hret w9 n16 n17 o19 fun w18 =>
  hIf (x3 = 0) (
    hcall w18 fun n21 n22 => hv_kind pl (w18.1, n21, n22) v12 fun v25 o24 => hret w18 n21 n22 o24 fun w23 =>
    Q v25 w23.1) <|
  hIf (x3 = 1) (
    hcall w18 fun n27 n28 => hv_form pl (w18.1, n27, n28) v12 fun v31 o30 => hret w18 n27 n28 o30 fun w29 =>
    Q v31 w29.1) <|
  hIf (x3 = 2) (
    hcall w18 fun n33 n34 => hv_owner pl (w18.1, n33, n34) v12 fun v37 o36 => hret w18 n33 n34 o36 fun w35 =>
    Q v37 w35.1) <|
  hIf (x3 = 3) (
    obd (hInst 6 w18 v12) fun v39 =>
    hjoin (fun (v63 : Int32) (g64 : hW) =>
      Q v63 g64.1) fun k66 =>
    hIf (v39 = 0) (
      obd (hInst 7 w18 v12) fun v51 =>
      hIf (v51 = 0) (
        k66 (-1) w18) <|
        obd (hgP w18 a0 1 3) fun v54 =>
        obd (hIs w18 v54 3) fun u56 =>
        hcall w18 fun n58 n59 => hf_X3_numberOf pl (w18.1, n58, n59) v54 v12 fun v62 o61 => hret w18 n58 n59 o61 fun w60 =>
        k66 v62 w60) <|
      obd (hgP w18 a0 1 3) fun v42 =>
      obd (hIs w18 v42 3) fun u44 =>
      hcall w18 fun n46 n47 => hf_X3_numberOf pl (w18.1, n46, n47) v42 v12 fun v50 o49 => hret w18 n46 n47 o49 fun w48 =>
      k66 v50 w48) <|
    obd (hgP w18 a0 1 3) fun v67 =>
    ∃ (d69 : hD) (g70 : mS), hRel d69 g70 w18.1 ∧ d69.1 100 = v67 ∧ obd (fc_X3_ray g70 100) fun v73 => hpret w18 d69 v73 fun w71 =>
    obd (hgC w71 v12) fun v74 =>
    ∃ (d76 : hD) (g77 : mS), hRel d76 g77 w71.1 ∧ d76.1 0 = (d69.1 0) ∧ obd (fc_X2_lights g77 v74) fun v80 =>
    Q v80 w71.1
abbrev hrm_X1_cell (c s : Nat) : Room := { frames := 9, cells := c, slots := s, locals := 217 }
set_option maxHeartbeats 4000000 in
set_option maxRecDepth 100000 in
theorem hmet_X1_cell (l : Launch) (hst : l.stackTraces = false) (E : hEnv) (A : Nat → Prop) (w : hW) (a0 : Nat) (x1 : Int32) (x2 : Int32) (x3 : Int32) (QX : String → hO → Prop) (Q : Int32 → hO → Prop) (h : hf_X1_cell E.2.2 w a0 x1 x2 x3 QX Q) : vx_Met l yX1_cell (ws_ yX1_cell cX1_cell 5 (some .int)) (hrm_X1_cell w.2.1 w.2.2) (va_Pc [.ref a0, .int x1, .int x2, .int x3] (gPre (hK E A) (hP E A w.1))) (hQi E A Q) (hXC E A QX) w.2.1 w.2.2 A := by
  refine hx_met (own := RX1) (by decide +kernel) rfl (Nat.le_of_ble_eq_true rfl) ?_
  intro p e s m args below meth c ls cb sb F hr hlk ht hK S hl
  have hx := F.1
  have hb := F.2.1
  have hl : lv_has ls 5 [(0, .ref a0), (1, .int x1), (2, .int x2), (3, .int x3)] := hl
  unfold hf_X1_cell at h
  refine lv_aload_n hx hb dX1_cell_0 rfl (lv_at hl 0 rfl) ?_
  obtain ⟨v1, e2, h⟩ := obd_inv h
  refine hg_X1_47 F hK S e2 dX1_cell_1 ?_
  obtain ⟨v3, e4, h⟩ := obd_inv h
  refine hg_X1_74 F hK S e4 dX1_cell_4 ?_
  refine lv_aload_n hx hb dX1_cell_7 rfl (lv_at hl 0 rfl) ?_
  refine lv_iload_n hx hb dX1_cell_8 rfl (lv_at hl 1 rfl) ?_
  refine lv_iload_n hx hb dX1_cell_9 rfl (lv_at hl 2 rfl) ?_
  obtain ⟨u5, e6, h⟩ := obd_inv h
  obtain ⟨n7, n8, h1, h2, h⟩ := hcall_inv h
  refine hcl_X1_cellOf_X1_146 hst hlk ht F hK S (hIs_inv e6) h1 h2 h rfl rfl hl.1 (Nat.le_of_ble_eq_true rfl) ⟨Nat.le_of_ble_eq_true rfl, Nat.le_of_ble_eq_true rfl⟩ dX1_cell_10 (fun v11 o10 w9 H locs hw h S => ?_)
  replace h := hret_mp h hw
  clear hw h1 h2
  obtain ⟨v12, e13, h⟩ := obd_inv h
  refine h_aald F hK S e13 dX1_cell_13 ?_
  refine lv_astore (lv' := [(4, .ref v12), (0, .ref a0), (1, .int x1), (2, .int x2), (3, .int x3)]) hx hb dX1_cell_14 hl (by decide) rfl (fun ls hl => ?_)
  refine lv_iload_n hx hb dX1_cell_16 rfl (lv_at hl 4 rfl) ?_
  refine lv_iconst (v := 0) hx hb dX1_cell_17 (by decide) ?_
  refine lv_iconst (v := 4) hx hb dX1_cell_18 (by decide) ?_
  obtain ⟨v14, e15, h⟩ := obd_inv h
  refine call_p_isIn_X1_165 (hKm E A) F hK S.1 e15 hl.1 (Nat.le_of_ble_eq_true rfl) ⟨Nat.le_of_ble_eq_true rfl, Nat.le_of_ble_eq_true rfl⟩ ⟨Nat.sub_le _ _, Nat.sub_le _ _⟩ dX1_cell_19 (fun H1 locs1 S1 => ?_)
  have S : hS E A s.heap _ _ _ _ _ := ⟨S1, S.2⟩
  obtain ⟨n16, n17, h1, h2, h⟩ := hcall_inv h
  refine hcl_X1_ask_X1_169 hst hlk ht F hK S h1 h2 h rfl rfl hl.1 (Nat.le_of_ble_eq_true rfl) ⟨Nat.le_of_ble_eq_true rfl, Nat.le_of_ble_eq_true rfl⟩ dX1_cell_22 (fun o19 w18 H locs hw h S => ?_)
  replace h := hret_mp h hw
  clear hw h1 h2
  refine lv_iload_n hx hb dX1_cell_25 rfl (lv_at hl 4 rfl) ?_
  by_cases c20 : x3 = 0
  · rw [hIf_pos c20] at h
    refine lv_tableIn (tgt := 56) (off := 30) hx hb dX1_cell_26 (by rw [c20]; decide) (by rw [c20]; decide) (by rw [c20]; rfl) (by decide) ?_
    refine lv_aload hx hb dX1_cell_56 (lv_at hl 0 rfl) ?_
    obtain ⟨n21, n22, h1, h2, h⟩ := hcall_inv h
    refine hcv_kind_X1_107 F hK S h1 h2 h rfl rfl hl.1 (Nat.le_of_ble_eq_true rfl) ⟨Nat.le_of_ble_eq_true rfl, Nat.le_of_ble_eq_true rfl⟩ dX1_cell_58 (fun v25 o24 w23 H locs hw h S => ?_)
    replace h := hret_mp h hw
    clear hw h1 h2
    exact vx_ret (h_iret F hr hlk S h dX1_cell_61)
  rw [hIf_neg c20] at h
  by_cases c26 : x3 = 1
  · rw [hIf_pos c26] at h
    refine lv_tableIn (tgt := 62) (off := 36) hx hb dX1_cell_26 (by rw [c26]; decide) (by rw [c26]; decide) (by rw [c26]; rfl) (by decide) ?_
    refine lv_aload hx hb dX1_cell_62 (lv_at hl 0 rfl) ?_
    obtain ⟨n27, n28, h1, h2, h⟩ := hcall_inv h
    refine hcv_form_X1_183 F hK S h1 h2 h rfl rfl hl.1 (Nat.le_of_ble_eq_true rfl) ⟨Nat.le_of_ble_eq_true rfl, Nat.le_of_ble_eq_true rfl⟩ dX1_cell_64 (fun v31 o30 w29 H locs hw h S => ?_)
    replace h := hret_mp h hw
    clear hw h1 h2
    exact vx_ret (h_iret F hr hlk S h dX1_cell_67)
  rw [hIf_neg c26] at h
  by_cases c32 : x3 = 2
  · rw [hIf_pos c32] at h
    refine lv_tableIn (tgt := 68) (off := 42) hx hb dX1_cell_26 (by rw [c32]; decide) (by rw [c32]; decide) (by rw [c32]; rfl) (by decide) ?_
    refine lv_aload hx hb dX1_cell_68 (lv_at hl 0 rfl) ?_
    obtain ⟨n33, n34, h1, h2, h⟩ := hcall_inv h
    refine hcv_owner_X1_237 F hK S h1 h2 h rfl rfl hl.1 (Nat.le_of_ble_eq_true rfl) ⟨Nat.le_of_ble_eq_true rfl, Nat.le_of_ble_eq_true rfl⟩ dX1_cell_70 (fun v37 o36 w35 H locs hw h S => ?_)
    replace h := hret_mp h hw
    clear hw h1 h2
    exact vx_ret (h_iret F hr hlk S h dX1_cell_73)
  rw [hIf_neg c32] at h
  by_cases c38 : x3 = 3
  · rw [hIf_pos c38] at h
    refine lv_tableIn (tgt := 74) (off := 48) hx hb dX1_cell_26 (by rw [c38]; decide) (by rw [c38]; decide) (by rw [c38]; rfl) (by decide) ?_
    refine lv_aload hx hb dX1_cell_74 (lv_at hl 0 rfl) ?_
    obtain ⟨v39, e40, h⟩ := obd_inv h
    refine h_inst6 F hK S e40 q318 dX1_cell_76 ?_
    obtain ⟨k66, hk66, h⟩ := hj2_inv h
    have hJ103 : ∀ (v63 : Int32) (g64 : hW) (H : Heap) (locs : List Loc) (ls : Array Slot), k66 v63 g64 → hS E A s.heap cb sb g64 H locs → lv_has ls 5 [] → W p l e (hrm_X1_cell cb sb) s m args below meth c H locs (cb - g64.2.1) (sb - g64.2.2) (vx_MQ below (hQi E A Q) (hXC E A QX) args s cb sb A) (F0 m 103 ls [.int v63]) := by
      intro v63 g64 H locs ls h S hl
      replace h := hk66 _ _ h
      exact vx_ret (h_iret F hr hlk S h dX1_cell_103)
    clear hk66
    refine lv_if_ne (tgt := 90) hx hb dX1_cell_79 (by decide) (fun c41 => ?_) (fun c41 => ?_)
    · rw [hIf_neg c41] at h
      refine lv_aload_n hx hb dX1_cell_90 rfl (lv_at hl 1 rfl) ?_
      obtain ⟨v42, e43, h⟩ := obd_inv h
      refine hg_X1_47 F hK S e43 dX1_cell_91 ?_
      refine lv_aload hx hb dX1_cell_94 (lv_at hl 0 rfl) ?_
      obtain ⟨u44, e45, h⟩ := obd_inv h
      obtain ⟨n46, n47, h1, h2, h⟩ := hcall_inv h
      refine hcl_X3_numberOf_X1_173 F hK S (hIs_inv e45) h1 h2 h rfl rfl hl.1 (Nat.le_of_ble_eq_true rfl) ⟨Nat.le_of_ble_eq_true rfl, Nat.le_of_ble_eq_true rfl⟩ dX1_cell_96 (fun v50 o49 w48 H locs hw h S => ?_)
      replace h := hret_mp h hw
      clear hw h1 h2
      refine lv_goto (tgt := 103) hx hb dX1_cell_99 (by decide) ?_
      exact hJ103 _ _ _ _ _ h S (lv_sub hl [] rfl)
    · rw [hIf_pos c41] at h
      refine lv_aload hx hb dX1_cell_82 (lv_at hl 0 rfl) ?_
      obtain ⟨v51, e52, h⟩ := obd_inv h
      refine h_inst7 F hK S e52 q350 dX1_cell_84 ?_
      refine lv_if_eq (tgt := 102) hx hb dX1_cell_87 (by decide) (fun c53 => ?_) (fun c53 => ?_)
      · rw [hIf_pos c53] at h
        refine lv_iconst (v := (-1)) hx hb dX1_cell_102 (by decide) ?_
        exact hJ103 _ _ _ _ _ h S (lv_sub hl [] rfl)
      · rw [hIf_neg c53] at h
        refine lv_aload_n hx hb dX1_cell_90 rfl (lv_at hl 1 rfl) ?_
        obtain ⟨v54, e55, h⟩ := obd_inv h
        refine hg_X1_47 F hK S e55 dX1_cell_91 ?_
        refine lv_aload hx hb dX1_cell_94 (lv_at hl 0 rfl) ?_
        obtain ⟨u56, e57, h⟩ := obd_inv h
        obtain ⟨n58, n59, h1, h2, h⟩ := hcall_inv h
        refine hcl_X3_numberOf_X1_173 F hK S (hIs_inv e57) h1 h2 h rfl rfl hl.1 (Nat.le_of_ble_eq_true rfl) ⟨Nat.le_of_ble_eq_true rfl, Nat.le_of_ble_eq_true rfl⟩ dX1_cell_96 (fun v62 o61 w60 H locs hw h S => ?_)
        replace h := hret_mp h hw
        clear hw h1 h2
        refine lv_goto (tgt := 103) hx hb dX1_cell_99 (by decide) ?_
        exact hJ103 _ _ _ _ _ h S (lv_sub hl [] rfl)
  rw [hIf_neg c38] at h
  refine lv_tableOut (tgt := 104) hx hb dX1_cell_26 (by have t0 := lv_neT (a := 0) c20 (by decide); have t1 := lv_neT (a := 1) c26 (by decide); have t2 := lv_neT (a := 2) c32 (by decide); have t3 := lv_neT (a := 3) c38 (by decide); omega) (by decide) ?_
  refine lv_aload_n hx hb dX1_cell_104 rfl (lv_at hl 1 rfl) ?_
  obtain ⟨v67, e68, h⟩ := obd_inv h
  refine hg_X1_47 F hK S e68 dX1_cell_105 ?_
  obtain ⟨d69, g70, hrl, hdl, h⟩ := h
  obtain ⟨v73, e72, h⟩ := obd_inv h
  refine hpc_X3_ray_X1_240 F hK S hrl hdl e72 rfl rfl hl.1 (Nat.le_of_ble_eq_true rfl) ⟨Nat.le_of_ble_eq_true rfl, Nat.le_of_ble_eq_true rfl⟩ dX1_cell_108 (fun w71 H locs hw hz S => ?_)
  replace h := hpret_mp h hw hz
  clear hw hz
  refine lv_aload hx hb dX1_cell_111 (lv_at hl 0 rfl) ?_
  obtain ⟨v74, e75, h⟩ := obd_inv h
  refine hg_X1_78 F hK S e75 dX1_cell_113 ?_
  obtain ⟨d76, g77, hrl, hdl, h⟩ := h
  obtain ⟨v80, e79, h⟩ := obd_inv h
  refine hpc_X2_lights_X1_243 F hK S hrl hdl e79 rfl rfl hl.1 (Nat.le_of_ble_eq_true rfl) ⟨Nat.le_of_ble_eq_true rfl, Nat.le_of_ble_eq_true rfl⟩ dX1_cell_116 (fun H locs S => ?_)
  exact vx_ret (h_iret F hr hlk S h dX1_cell_119)
theorem hcl_X1_thing_X1_258 {p : Program} {l : Launch} {e : Env} {s : State} {m : MethodId} {args : Array Value} {below : List Frame} {meth : Method} {c : Code} {R : Room} {H : Heap} {locs : List Loc} {cb sb pc nL : Nat} {ls : Array Slot} {rest : List Value} {cc : ByteArray} {E : hEnv} {A : Nat → Prop} {w : hW} {a0 : Nat} {x1 : Int32} {x2 : Int32} {QX : String → hO → Prop} {Q' : Nat → hO → Prop} {Qa : Array Value → State → Outcome → State → Prop} {c1 s1 : Nat} (hst : l.stackTraces = false) (hlk : meth.locks = false) (ht : ∀ x ∈ c.exceptionTable.toList, False) (F : CallFix p m c cc nL s args lw_all RX1) (hK : hK E A s) (S : hS E A s.heap cb sb w H locs) (hrv : ∃ (b : Bool) (fs : List Value), w.1 a0 = some (b, .inl (1, fs))) (h1 : c1 ≤ w.2.1) (h2 : s1 ≤ w.2.2) (h : hf_X1_thing E.2.2 (w.1, c1, s1) a0 x1 x2 QX Q') (hrc : R.cells = cb) (hrs : R.slots = sb) (hls : ls.size = nL) (hWt : (rest.map fun v => v.category).sum ≤ 8) (hR : 8 + 1 ≤ R.frames ∧ 8 + (4 + 11) + 196 ≤ R.locals) (hdg : decode cc pc = .ok (.invokevirtual 258, 3))
    (kk : ∀ (v : Nat) (o : hO) (w' : hW) (H1 : Heap) (locs1 : List Loc), w' = (o, w.2.1 - c1, w.2.2 - s1) → Q' v o → hS E A s.heap cb sb w' H1 locs1 → W p l e R s m args below meth c H1 locs1 (cb - w'.2.1) (sb - w'.2.2) (vx_MQ below Qa (hXC E A QX) args s cb sb A) (F0 m (pc + 3) ls (.ref v :: rest))) : W p l e R s m args below meth c H locs (cb - w.2.1) (sb - w.2.2) (vx_MQ below Qa (hXC E A QX) args s cb sb A) (F0 m pc ls (.int x2 :: .int x1 :: .ref a0 :: rest)) :=
  hx_kp F hlk ht (vx_runV (g := F0 m pc ls _) F (hmet_X1_thing l hst E A (w.1, c1, s1) a0 x1 x2 QX Q' h) (cwV 2 F.2.2.2.2 (lw_V q1656 q1658 qs35 q111 q1659) rfl rfl rfl (by decide +kernel) hR) ⟨gBlind (hKm E A), (h_recv hK S (ci := 1) rfl hrv), fun U hU hW => ⟨rfl, by rw [hU]; exact S.1.1, hKm E A s U hW (by rw [hU]; exact S.1.2.1) (by rw [hU]; exact S.1.2.2.1) hK⟩⟩ rfl rfl hls rfl (lv_room hWt) hdg ⟨by rw [hrc]; exact (h_left S h1 h2).1, by rw [hrs]; exact (h_left S h1 h2).2⟩) S h1 h2 kk
theorem hg_X1_262 {p : Program} {l : Launch} {e : Env} {s : State} {m : MethodId} {args : Array Value} {below : List Frame} {meth : Method} {c : Code} {R : Room} {H : Heap} {locs : List Loc} {cb sb pc nL : Nat} {Q : State → Prop} {ls : Array Slot} {rest : List Value} {cc : ByteArray} {E : hEnv} {A : Nat → Prop} {w : hW} {a : Nat} {v : Int32} (F : CallFix p m c cc nL s args lw_all RX1) (hK : hK E A s) (S : hS E A s.heap cb sb w H locs) (h : hgI w a 6 0 = some v) (hdg : decode cc pc = .ok (.getfield 262, 3)) (kk : W p l e R s m args below meth c H locs (cb - w.2.1) (sb - w.2.2) Q (F0 m (pc + 3) ls (.int v :: rest))) : W p l e R s m args below meth c H locs (cb - w.2.1) (sb - w.2.2) Q (F0 m pc ls (.ref a :: rest)) := by
  obtain ⟨b, fs, ho, hv⟩ := hgI_inv h
  exact h_get F hK S ho (ci := 6) (C := RX7) (T := TX7) (N := 6) (k := 0) rfl in_X7 (by decide) q301 (fun x h => u_same (F.2.2.2.2 _ q294) x h) hv hdg kk
theorem hg_X1_263 {p : Program} {l : Launch} {e : Env} {s : State} {m : MethodId} {args : Array Value} {below : List Frame} {meth : Method} {c : Code} {R : Room} {H : Heap} {locs : List Loc} {cb sb pc nL : Nat} {Q : State → Prop} {ls : Array Slot} {rest : List Value} {cc : ByteArray} {E : hEnv} {A : Nat → Prop} {w : hW} {a : Nat} {v : Int32} (F : CallFix p m c cc nL s args lw_all RX1) (hK : hK E A s) (S : hS E A s.heap cb sb w H locs) (h : hgI w a 6 3 = some v) (hdg : decode cc pc = .ok (.getfield 263, 3)) (kk : W p l e R s m args below meth c H locs (cb - w.2.1) (sb - w.2.2) Q (F0 m (pc + 3) ls (.int v :: rest))) : W p l e R s m args below meth c H locs (cb - w.2.1) (sb - w.2.2) Q (F0 m pc ls (.ref a :: rest)) := by
  obtain ⟨b, fs, ho, hv⟩ := hgI_inv h
  exact h_getN F hK S ho (ci := 6) (C := RX7) (T := TX7) (N := 6) (k := 3) rfl in_X7 (by decide) (hK.2.1.1 _ (List.mem_of_getElem? (i := 9) rfl)) (fun x h => h) hv hdg kk
theorem hg_X1_266 {p : Program} {l : Launch} {e : Env} {s : State} {m : MethodId} {args : Array Value} {below : List Frame} {meth : Method} {c : Code} {R : Room} {H : Heap} {locs : List Loc} {cb sb pc nL : Nat} {Q : State → Prop} {ls : Array Slot} {rest : List Value} {cc : ByteArray} {E : hEnv} {A : Nat → Prop} {w : hW} {a : Nat} {v : Int32} (F : CallFix p m c cc nL s args lw_all RX1) (hK : hK E A s) (S : hS E A s.heap cb sb w H locs) (h : hgI w a 6 2 = some v) (hdg : decode cc pc = .ok (.getfield 266, 3)) (kk : W p l e R s m args below meth c H locs (cb - w.2.1) (sb - w.2.2) Q (F0 m (pc + 3) ls (.int v :: rest))) : W p l e R s m args below meth c H locs (cb - w.2.1) (sb - w.2.2) Q (F0 m pc ls (.ref a :: rest)) := by
  obtain ⟨b, fs, ho, hv⟩ := hgI_inv h
  exact h_getN F hK S ho (ci := 6) (C := RX7) (T := TX7) (N := 6) (k := 2) rfl in_X7 (by decide) (hK.2.1.1 _ (List.mem_of_getElem? (i := 10) rfl)) (fun x h => h) hv hdg kk
theorem hg_X1_269 {p : Program} {l : Launch} {e : Env} {s : State} {m : MethodId} {args : Array Value} {below : List Frame} {meth : Method} {c : Code} {R : Room} {H : Heap} {locs : List Loc} {cb sb pc nL : Nat} {Q : State → Prop} {ls : Array Slot} {rest : List Value} {cc : ByteArray} {E : hEnv} {A : Nat → Prop} {w : hW} {a : Nat} {v : Int32} (F : CallFix p m c cc nL s args lw_all RX1) (hK : hK E A s) (S : hS E A s.heap cb sb w H locs) (h : hgI w a 6 1 = some v) (hdg : decode cc pc = .ok (.getfield 269, 3)) (kk : W p l e R s m args below meth c H locs (cb - w.2.1) (sb - w.2.2) Q (F0 m (pc + 3) ls (.int v :: rest))) : W p l e R s m args below meth c H locs (cb - w.2.1) (sb - w.2.2) Q (F0 m pc ls (.ref a :: rest)) := by
  obtain ⟨b, fs, ho, hv⟩ := hgI_inv h
  exact h_getN F hK S ho (ci := 6) (C := RX7) (T := TX7) (N := 6) (k := 1) rfl in_X7 (by decide) (hK.2.1.1 _ (List.mem_of_getElem? (i := 12) rfl)) (fun x h => h) hv hdg kk
theorem hg_X1_273 {p : Program} {l : Launch} {e : Env} {s : State} {m : MethodId} {args : Array Value} {below : List Frame} {meth : Method} {c : Code} {R : Room} {H : Heap} {locs : List Loc} {cb sb pc nL : Nat} {Q : State → Prop} {ls : Array Slot} {rest : List Value} {cc : ByteArray} {E : hEnv} {A : Nat → Prop} {w : hW} {a : Nat} {v : Int32} (F : CallFix p m c cc nL s args lw_all RX1) (hK : hK E A s) (S : hS E A s.heap cb sb w H locs) (h : hgI w a 6 5 = some v) (hdg : decode cc pc = .ok (.getfield 273, 3)) (kk : W p l e R s m args below meth c H locs (cb - w.2.1) (sb - w.2.2) Q (F0 m (pc + 3) ls (.int v :: rest))) : W p l e R s m args below meth c H locs (cb - w.2.1) (sb - w.2.2) Q (F0 m pc ls (.ref a :: rest)) := by
  obtain ⟨b, fs, ho, hv⟩ := hgI_inv h
  exact h_getN F hK S ho (ci := 6) (C := RX7) (T := TX7) (N := 6) (k := 5) rfl in_X7 (by decide) (hK.2.1.1 _ (List.mem_of_getElem? (i := 13) rfl)) (fun x h => h) hv hdg kk
theorem hcl_X1_beamsAt_X1_276 {p : Program} {l : Launch} {e : Env} {s : State} {m : MethodId} {args : Array Value} {below : List Frame} {meth : Method} {c : Code} {R : Room} {H : Heap} {locs : List Loc} {cb sb pc nL : Nat} {Q : State → Prop} {ls : Array Slot} {rest : List Value} {cc : ByteArray} {E : hEnv} {A : Nat → Prop} {w : hW} {a0 : Nat} {x1 : Int32} {Q' : Int32 → hO → Prop} {c1 s1 : Nat} (F : CallFix p m c cc nL s args lw_all RX1) (hK : hK E A s) (S : hS E A s.heap cb sb w H locs) (hrv : ∃ (b : Bool) (fs : List Value), w.1 a0 = some (b, .inl (1, fs))) (h1 : c1 ≤ w.2.1) (h2 : s1 ≤ w.2.2) (h : hf_X1_beamsAt E.2.2 (w.1, c1, s1) a0 x1 Q') (hrc : R.cells = cb) (hrs : R.slots = sb) (hls : ls.size = nL) (hWt : (rest.map fun v => v.category).sum ≤ 8) (hR : 7 + 1 ≤ R.frames ∧ 8 + (2 + 11) + 155 ≤ R.locals) (hdg : decode cc pc = .ok (.invokevirtual 276, 3))
    (kk : ∀ (v : Int32) (o : hO) (w' : hW) (H1 : Heap) (locs1 : List Loc), w' = (o, w.2.1 - c1, w.2.2 - s1) → Q' v o → hS E A s.heap cb sb w' H1 locs1 → W p l e R s m args below meth c H1 locs1 (cb - w'.2.1) (sb - w'.2.2) Q (F0 m (pc + 3) ls (.int v :: rest))) : W p l e R s m args below meth c H locs (cb - w.2.1) (sb - w.2.2) Q (F0 m pc ls (.int x1 :: .ref a0 :: rest)) :=
  h_ki (g_runV F hK (hKm E A) S.1 (hmet_X1_beamsAt l E A (w.1, c1, s1) a0 x1 Q' h) (cwV 1 F.2.2.2.2 (lw_V q1674 q1676 qs36 q111 q1677) rfl rfl rfl (by decide +kernel) hR) (h_recv hK S (ci := 1) rfl hrv) rfl hls rfl hWt hdg ⟨by rw [hrc]; exact (h_left S h1 h2).1, by rw [hrs]; exact (h_left S h1 h2).2⟩) S h1 h2 kk
def hf_X1_mirror (pl : Nat → Nat) (w : hW) (a0 : Nat) (x1 : Int32) (x2 : Int32) (QX : String → hO → Prop) (Q : Int32 → hO → Prop) : Prop :=
  obd (hIs w a0 1) fun u1 =>
  hcall w fun n3 n4 => hf_X1_thing pl (w.1, n3, n4) a0 1 x1 QX fun v7 o6 => hret w n3 n4 o6 fun w5 =>
  obd (hIs w5 v7 6) fun u8 =>
  obd (fp_isIn g00 x2 0 8) fun v10 =>
  hcall w5 fun n12 n13 => hf_X1_ask pl (w5.1, n12, n13) v10 QX fun o15 => hret w5 n12 n13 o15 fun w14 =>
  hIf (x2 = 0) (
    obd (hgI w14 v7 6 0) fun v17 =>
    Q (irm v17 10) w14.1) <|
  hIf (x2 = 1) (
    obd (hgI w14 v7 6 0) fun v20 =>
    Q (v20 / 10) w14.1) <|
  hIf (x2 = 2) (
    obd (hgI w14 v7 6 3) fun v23 =>
    Q v23 w14.1) <|
  hIf (x2 = 3) (
    obd (hgI w14 v7 6 2) fun v26 =>
    Q v26 w14.1) <|
  hIf (x2 = 4) (
    obd (hgI w14 v7 6 4) fun v29 =>
    Q v29 w14.1) <|
  hIf (x2 = 5) (
    obd (hgI w14 v7 6 1) fun v32 =>
    hjoin (fun (v35 : Int32) =>
      Q v35 w14.1) fun k37 =>
    hIf (v32 = 0) (
      k37 0) <|
      k37 1) <|
  hIf (x2 = 6) (
    obd (hgI w14 v7 6 5) fun v39 =>
    Q v39 w14.1) <|
  hIf (x2 = 7) (
    obd (hgP w14 a0 1 3) fun v42 =>
    obd (hgI w14 v7 6 0) fun v44 =>
    ∃ (d46 : hD) (g47 : mS), hRel d46 g47 w14.1 ∧ d46.1 100 = v42 ∧ obd (fc_X3_whyNotTurn g47 100 v44) fun v50 =>
    hjoin (fun (v52 : Int32) =>
      Q v52 w14.1) fun k54 =>
    hIf (v50 = 0) (
      k54 1) <|
      k54 0) <|
    obd (hgI w14 v7 6 0) fun v55 =>
    obd (hIs w14 a0 1) fun u57 =>
    hcall w14 fun n59 n60 => hf_X1_beamsAt pl (w14.1, n59, n60) a0 v55 fun v63 o62 => hret w14 n59 n60 o62 fun w61 =>
    Q v63 w61.1
abbrev hrm_X1_mirror (c s : Nat) : Room := { frames := 9, cells := c, slots := s, locals := 219 }
set_option maxHeartbeats 4000000 in
set_option maxRecDepth 100000 in
theorem hmet_X1_mirror (l : Launch) (hst : l.stackTraces = false) (E : hEnv) (A : Nat → Prop) (w : hW) (a0 : Nat) (x1 : Int32) (x2 : Int32) (QX : String → hO → Prop) (Q : Int32 → hO → Prop) (h : hf_X1_mirror E.2.2 w a0 x1 x2 QX Q) : vx_Met l yX1_mirror (ws_ yX1_mirror cX1_mirror 4 (some .int)) (hrm_X1_mirror w.2.1 w.2.2) (va_Pc [.ref a0, .int x1, .int x2] (gPre (hK E A) (hP E A w.1))) (hQi E A Q) (hXC E A QX) w.2.1 w.2.2 A := by
  refine hx_met (own := RX1) (by decide +kernel) rfl (Nat.le_of_ble_eq_true rfl) ?_
  intro p e s m args below meth c ls cb sb F hr hlk ht hK S hl
  have hx := F.1
  have hb := F.2.1
  have hl : lv_has ls 4 [(0, .ref a0), (1, .int x1), (2, .int x2)] := hl
  unfold hf_X1_mirror at h
  refine lv_aload_n hx hb dX1_mirror_0 rfl (lv_at hl 0 rfl) ?_
  refine lv_iconst (v := 1) hx hb dX1_mirror_1 (by decide) ?_
  refine lv_iload_n hx hb dX1_mirror_2 rfl (lv_at hl 1 rfl) ?_
  obtain ⟨u1, e2, h⟩ := obd_inv h
  obtain ⟨n3, n4, h1, h2, h⟩ := hcall_inv h
  refine hcl_X1_thing_X1_258 hst hlk ht F hK S (hIs_inv e2) h1 h2 h rfl rfl hl.1 (Nat.le_of_ble_eq_true rfl) ⟨Nat.le_of_ble_eq_true rfl, Nat.le_of_ble_eq_true rfl⟩ dX1_mirror_3 (fun v7 o6 w5 H locs hw h S => ?_)
  replace h := hret_mp h hw
  clear hw h1 h2
  obtain ⟨u8, e9, h⟩ := obd_inv h
  refine h_cast F hK S e9 rfl q318 dX1_mirror_6 ?_
  refine lv_astore_n (lv' := [(3, .ref v7), (0, .ref a0), (1, .int x1), (2, .int x2)]) hx hb dX1_mirror_9 rfl hl (by decide) rfl (fun ls hl => ?_)
  refine lv_iload_n hx hb dX1_mirror_10 rfl (lv_at hl 3 rfl) ?_
  refine lv_iconst (v := 0) hx hb dX1_mirror_11 (by decide) ?_
  refine lv_bipush (v := 8) hx hb dX1_mirror_12 (by decide) ?_
  obtain ⟨v10, e11, h⟩ := obd_inv h
  refine call_p_isIn_X1_165 (hKm E A) F hK S.1 e11 hl.1 (Nat.le_of_ble_eq_true rfl) ⟨Nat.le_of_ble_eq_true rfl, Nat.le_of_ble_eq_true rfl⟩ ⟨Nat.sub_le _ _, Nat.sub_le _ _⟩ dX1_mirror_14 (fun H1 locs1 S1 => ?_)
  have S : hS E A s.heap _ _ _ _ _ := ⟨S1, S.2⟩
  obtain ⟨n12, n13, h1, h2, h⟩ := hcall_inv h
  refine hcl_X1_ask_X1_169 hst hlk ht F hK S h1 h2 h rfl rfl hl.1 (Nat.le_of_ble_eq_true rfl) ⟨Nat.le_of_ble_eq_true rfl, Nat.le_of_ble_eq_true rfl⟩ dX1_mirror_17 (fun o15 w14 H locs hw h S => ?_)
  replace h := hret_mp h hw
  clear hw h1 h2
  refine lv_iload_n hx hb dX1_mirror_20 rfl (lv_at hl 3 rfl) ?_
  by_cases c16 : x2 = 0
  · rw [hIf_pos c16] at h
    refine lv_tableIn (tgt := 68) (off := 47) hx hb dX1_mirror_21 (by rw [c16]; decide) (by rw [c16]; decide) (by rw [c16]; rfl) (by decide) ?_
    refine lv_aload_n hx hb dX1_mirror_68 rfl (lv_at hl 0 rfl) ?_
    obtain ⟨v17, e18, h⟩ := obd_inv h
    refine hg_X1_262 F hK S e18 dX1_mirror_69 ?_
    refine lv_bipush (v := 10) hx hb dX1_mirror_72 (by decide) ?_
    refine lv_irem hx hb dX1_mirror_74 (by decide) ?_
    exact vx_ret (h_iret F hr hlk S h dX1_mirror_75)
  rw [hIf_neg c16] at h
  by_cases c19 : x2 = 1
  · rw [hIf_pos c19] at h
    refine lv_tableIn (tgt := 76) (off := 55) hx hb dX1_mirror_21 (by rw [c19]; decide) (by rw [c19]; decide) (by rw [c19]; rfl) (by decide) ?_
    refine lv_aload_n hx hb dX1_mirror_76 rfl (lv_at hl 0 rfl) ?_
    obtain ⟨v20, e21, h⟩ := obd_inv h
    refine hg_X1_262 F hK S e21 dX1_mirror_77 ?_
    refine lv_bipush (v := 10) hx hb dX1_mirror_80 (by decide) ?_
    refine lv_idiv hx hb dX1_mirror_82 (by decide) ?_
    exact vx_ret (h_iret F hr hlk S h dX1_mirror_83)
  rw [hIf_neg c19] at h
  by_cases c22 : x2 = 2
  · rw [hIf_pos c22] at h
    refine lv_tableIn (tgt := 84) (off := 63) hx hb dX1_mirror_21 (by rw [c22]; decide) (by rw [c22]; decide) (by rw [c22]; rfl) (by decide) ?_
    refine lv_aload_n hx hb dX1_mirror_84 rfl (lv_at hl 0 rfl) ?_
    obtain ⟨v23, e24, h⟩ := obd_inv h
    refine hg_X1_263 F hK S e24 dX1_mirror_85 ?_
    exact vx_ret (h_iret F hr hlk S h dX1_mirror_88)
  rw [hIf_neg c22] at h
  by_cases c25 : x2 = 3
  · rw [hIf_pos c25] at h
    refine lv_tableIn (tgt := 89) (off := 68) hx hb dX1_mirror_21 (by rw [c25]; decide) (by rw [c25]; decide) (by rw [c25]; rfl) (by decide) ?_
    refine lv_aload_n hx hb dX1_mirror_89 rfl (lv_at hl 0 rfl) ?_
    obtain ⟨v26, e27, h⟩ := obd_inv h
    refine hg_X1_266 F hK S e27 dX1_mirror_90 ?_
    exact vx_ret (h_iret F hr hlk S h dX1_mirror_93)
  rw [hIf_neg c25] at h
  by_cases c28 : x2 = 4
  · rw [hIf_pos c28] at h
    refine lv_tableIn (tgt := 94) (off := 73) hx hb dX1_mirror_21 (by rw [c28]; decide) (by rw [c28]; decide) (by rw [c28]; rfl) (by decide) ?_
    refine lv_aload_n hx hb dX1_mirror_94 rfl (lv_at hl 0 rfl) ?_
    obtain ⟨v29, e30, h⟩ := obd_inv h
    refine hg_X1_268 F hK S e30 dX1_mirror_95 ?_
    exact vx_ret (h_iret F hr hlk S h dX1_mirror_98)
  rw [hIf_neg c28] at h
  by_cases c31 : x2 = 5
  · rw [hIf_pos c31] at h
    refine lv_tableIn (tgt := 99) (off := 78) hx hb dX1_mirror_21 (by rw [c31]; decide) (by rw [c31]; decide) (by rw [c31]; rfl) (by decide) ?_
    refine lv_aload_n hx hb dX1_mirror_99 rfl (lv_at hl 0 rfl) ?_
    obtain ⟨v32, e33, h⟩ := obd_inv h
    refine hg_X1_269 F hK S e33 dX1_mirror_100 ?_
    obtain ⟨k37, hk37, h⟩ := hj1_inv h
    have hJ111 : ∀ (v35 : Int32) (H : Heap) (locs : List Loc) (ls : Array Slot), k37 v35 → hS E A s.heap cb sb w14 H locs → lv_has ls 4 [] → W p l e (hrm_X1_mirror cb sb) s m args below meth c H locs (cb - w14.2.1) (sb - w14.2.2) (vx_MQ below (hQi E A Q) (hXC E A QX) args s cb sb A) (F0 m 111 ls [.int v35]) := by
      intro v35 H locs ls h S hl
      replace h := hk37 _ h
      exact vx_ret (h_iret F hr hlk S h dX1_mirror_111)
    clear hk37
    refine lv_if_eq (tgt := 110) hx hb dX1_mirror_103 (by decide) (fun c34 => ?_) (fun c34 => ?_)
    · rw [hIf_pos c34] at h
      refine lv_iconst (v := 0) hx hb dX1_mirror_110 (by decide) ?_
      exact hJ111 _ _ _ _ h S (lv_sub hl [] rfl)
    · rw [hIf_neg c34] at h
      refine lv_iconst (v := 1) hx hb dX1_mirror_106 (by decide) ?_
      refine lv_goto (tgt := 111) hx hb dX1_mirror_107 (by decide) ?_
      exact hJ111 _ _ _ _ h S (lv_sub hl [] rfl)
  rw [hIf_neg c31] at h
  by_cases c38 : x2 = 6
  · rw [hIf_pos c38] at h
    refine lv_tableIn (tgt := 112) (off := 91) hx hb dX1_mirror_21 (by rw [c38]; decide) (by rw [c38]; decide) (by rw [c38]; rfl) (by decide) ?_
    refine lv_aload_n hx hb dX1_mirror_112 rfl (lv_at hl 0 rfl) ?_
    obtain ⟨v39, e40, h⟩ := obd_inv h
    refine hg_X1_273 F hK S e40 dX1_mirror_113 ?_
    exact vx_ret (h_iret F hr hlk S h dX1_mirror_116)
  rw [hIf_neg c38] at h
  by_cases c41 : x2 = 7
  · rw [hIf_pos c41] at h
    refine lv_tableIn (tgt := 117) (off := 96) hx hb dX1_mirror_21 (by rw [c41]; decide) (by rw [c41]; decide) (by rw [c41]; rfl) (by decide) ?_
    refine lv_aload_n hx hb dX1_mirror_117 rfl (lv_at hl 1 rfl) ?_
    obtain ⟨v42, e43, h⟩ := obd_inv h
    refine hg_X1_47 F hK S e43 dX1_mirror_118 ?_
    refine lv_aload_n hx hb dX1_mirror_121 rfl (lv_at hl 0 rfl) ?_
    obtain ⟨v44, e45, h⟩ := obd_inv h
    refine hg_X1_262 F hK S e45 dX1_mirror_122 ?_
    obtain ⟨d46, g47, hrl, hdl, h⟩ := h
    obtain ⟨v50, e49, h⟩ := obd_inv h
    refine hpc_X3_whyNotTurn_X1_199 F hK S hrl hdl e49 rfl rfl hl.1 (Nat.le_of_ble_eq_true rfl) ⟨Nat.le_of_ble_eq_true rfl, Nat.le_of_ble_eq_true rfl⟩ dX1_mirror_125 (fun H locs S => ?_)
    obtain ⟨k54, hk54, h⟩ := hj1_inv h
    have hJ136 : ∀ (v52 : Int32) (H : Heap) (locs : List Loc) (ls : Array Slot), k54 v52 → hS E A s.heap cb sb w14 H locs → lv_has ls 4 [] → W p l e (hrm_X1_mirror cb sb) s m args below meth c H locs (cb - w14.2.1) (sb - w14.2.2) (vx_MQ below (hQi E A Q) (hXC E A QX) args s cb sb A) (F0 m 136 ls [.int v52]) := by
      intro v52 H locs ls h S hl
      replace h := hk54 _ h
      exact vx_ret (h_iret F hr hlk S h dX1_mirror_136)
    clear hk54
    refine lv_if_ne (tgt := 135) hx hb dX1_mirror_128 (by decide) (fun c51 => ?_) (fun c51 => ?_)
    · rw [hIf_neg c51] at h
      refine lv_iconst (v := 0) hx hb dX1_mirror_135 (by decide) ?_
      exact hJ136 _ _ _ _ h S (lv_sub hl [] rfl)
    · rw [hIf_pos c51] at h
      refine lv_iconst (v := 1) hx hb dX1_mirror_131 (by decide) ?_
      refine lv_goto (tgt := 136) hx hb dX1_mirror_132 (by decide) ?_
      exact hJ136 _ _ _ _ h S (lv_sub hl [] rfl)
  rw [hIf_neg c41] at h
  refine lv_tableOut (tgt := 137) hx hb dX1_mirror_21 (by have t0 := lv_neT (a := 0) c16 (by decide); have t1 := lv_neT (a := 1) c19 (by decide); have t2 := lv_neT (a := 2) c22 (by decide); have t3 := lv_neT (a := 3) c25 (by decide); have t4 := lv_neT (a := 4) c28 (by decide); have t5 := lv_neT (a := 5) c31 (by decide); have t6 := lv_neT (a := 6) c38 (by decide); have t7 := lv_neT (a := 7) c41 (by decide); omega) (by decide) ?_
  refine lv_aload_n hx hb dX1_mirror_137 rfl (lv_at hl 1 rfl) ?_
  refine lv_aload_n hx hb dX1_mirror_138 rfl (lv_at hl 0 rfl) ?_
  obtain ⟨v55, e56, h⟩ := obd_inv h
  refine hg_X1_262 F hK S e56 dX1_mirror_139 ?_
  obtain ⟨u57, e58, h⟩ := obd_inv h
  obtain ⟨n59, n60, h1, h2, h⟩ := hcall_inv h
  refine hcl_X1_beamsAt_X1_276 F hK S (hIs_inv e58) h1 h2 h rfl rfl hl.1 (Nat.le_of_ble_eq_true rfl) ⟨Nat.le_of_ble_eq_true rfl, Nat.le_of_ble_eq_true rfl⟩ dX1_mirror_142 (fun v63 o62 w61 H locs hw h S => ?_)
  replace h := hret_mp h hw
  clear hw h1 h2
  exact vx_ret (h_iret F hr hlk S h dX1_mirror_145)
theorem hg_X1_279 {p : Program} {l : Launch} {e : Env} {s : State} {m : MethodId} {args : Array Value} {below : List Frame} {meth : Method} {c : Code} {R : Room} {H : Heap} {locs : List Loc} {cb sb pc nL : Nat} {Q : State → Prop} {ls : Array Slot} {rest : List Value} {cc : ByteArray} {E : hEnv} {A : Nat → Prop} {w : hW} {a : Nat} {v : Int32} (F : CallFix p m c cc nL s args lw_all RX1) (hK : hK E A s) (S : hS E A s.heap cb sb w H locs) (h : hgI w a 7 0 = some v) (hdg : decode cc pc = .ok (.getfield 279, 3)) (kk : W p l e R s m args below meth c H locs (cb - w.2.1) (sb - w.2.2) Q (F0 m (pc + 3) ls (.int v :: rest))) : W p l e R s m args below meth c H locs (cb - w.2.1) (sb - w.2.2) Q (F0 m pc ls (.ref a :: rest)) := by
  obtain ⟨b, fs, ho, hv⟩ := hgI_inv h
  exact h_get F hK S ho (ci := 7) (C := RX8) (T := TX8) (N := 3) (k := 0) rfl in_X8 (by decide) q302 (fun x h => u_same (F.2.2.2.2 _ q292) x h) hv hdg kk
theorem hg_X1_280 {p : Program} {l : Launch} {e : Env} {s : State} {m : MethodId} {args : Array Value} {below : List Frame} {meth : Method} {c : Code} {R : Room} {H : Heap} {locs : List Loc} {cb sb pc nL : Nat} {Q : State → Prop} {ls : Array Slot} {rest : List Value} {cc : ByteArray} {E : hEnv} {A : Nat → Prop} {w : hW} {a : Nat} {v : Int32} (F : CallFix p m c cc nL s args lw_all RX1) (hK : hK E A s) (S : hS E A s.heap cb sb w H locs) (h : hgI w a 7 1 = some v) (hdg : decode cc pc = .ok (.getfield 280, 3)) (kk : W p l e R s m args below meth c H locs (cb - w.2.1) (sb - w.2.2) Q (F0 m (pc + 3) ls (.int v :: rest))) : W p l e R s m args below meth c H locs (cb - w.2.1) (sb - w.2.2) Q (F0 m pc ls (.ref a :: rest)) := by
  obtain ⟨b, fs, ho, hv⟩ := hgI_inv h
  exact h_getN F hK S ho (ci := 7) (C := RX8) (T := TX8) (N := 3) (k := 1) rfl in_X8 (by decide) (hK.2.1.1 _ (List.mem_of_getElem? (i := 14) rfl)) (fun x h => h) hv hdg kk
def hf_X1_door (pl : Nat → Nat) (w : hW) (a0 : Nat) (x1 : Int32) (x2 : Int32) (QX : String → hO → Prop) (Q : Int32 → hO → Prop) : Prop :=
  obd (hIs w a0 1) fun u1 =>
  hcall w fun n3 n4 => hf_X1_thing pl (w.1, n3, n4) a0 0 x1 QX fun v7 o6 => hret w n3 n4 o6 fun w5 =>
  obd (hIs w5 v7 7) fun u8 =>
  obd (fp_isIn g00 x2 0 5) fun v10 =>
  hcall w5 fun n12 n13 => hf_X1_ask pl (w5.1, n12, n13) v10 QX fun o15 => hret w5 n12 n13 o15 fun w14 =>
  hIf (x2 = 0) (
    obd (hgI w14 v7 7 0) fun v17 =>
    Q (irm v17 10) w14.1) <|
  hIf (x2 = 1) (
    obd (hgI w14 v7 7 0) fun v20 =>
    Q (v20 / 10) w14.1) <|
  hIf (x2 = 2) (
    obd (hgI w14 v7 7 1) fun v23 =>
    Q v23 w14.1) <|
  hIf (x2 = 3) (
    obd (hIs w14 v7 7) fun u26 =>
    hcall w14 fun n28 n29 => hf_X8_isOpen pl (w14.1, n28, n29) v7 fun v32 o31 => hret w14 n28 n29 o31 fun w30 =>
    hjoin (fun (v34 : Int32) =>
      Q v34 w30.1) fun k36 =>
    hIf (v32 = 0) (
      k36 0) <|
      k36 1) <|
  hIf (x2 = 4) (
    obd (hgI w14 v7 7 0) fun v38 =>
    obd (hIs w14 a0 1) fun u40 =>
    hcall w14 fun n42 n43 => hf_X1_beamsAt pl (w14.1, n42, n43) a0 v38 fun v46 o45 => hret w14 n42 n43 o45 fun w44 =>
    hjoin (fun (v48 : Int32) =>
      Q v48 w44.1) fun k50 =>
    hIf (v46 ≤ 0) (
      k50 0) <|
      k50 1) <|
    obd (hgI w14 v7 7 2) fun v51 =>
    Q v51 w14.1
abbrev hrm_X1_door (c s : Nat) : Room := { frames := 9, cells := c, slots := s, locals := 219 }
set_option maxHeartbeats 4000000 in
set_option maxRecDepth 100000 in
theorem hmet_X1_door (l : Launch) (hst : l.stackTraces = false) (E : hEnv) (A : Nat → Prop) (w : hW) (a0 : Nat) (x1 : Int32) (x2 : Int32) (QX : String → hO → Prop) (Q : Int32 → hO → Prop) (h : hf_X1_door E.2.2 w a0 x1 x2 QX Q) : vx_Met l yX1_door (ws_ yX1_door cX1_door 4 (some .int)) (hrm_X1_door w.2.1 w.2.2) (va_Pc [.ref a0, .int x1, .int x2] (gPre (hK E A) (hP E A w.1))) (hQi E A Q) (hXC E A QX) w.2.1 w.2.2 A := by
  refine hx_met (own := RX1) (by decide +kernel) rfl (Nat.le_of_ble_eq_true rfl) ?_
  intro p e s m args below meth c ls cb sb F hr hlk ht hK S hl
  have hx := F.1
  have hb := F.2.1
  have hl : lv_has ls 4 [(0, .ref a0), (1, .int x1), (2, .int x2)] := hl
  unfold hf_X1_door at h
  refine lv_aload_n hx hb dX1_door_0 rfl (lv_at hl 0 rfl) ?_
  refine lv_iconst (v := 0) hx hb dX1_door_1 (by decide) ?_
  refine lv_iload_n hx hb dX1_door_2 rfl (lv_at hl 1 rfl) ?_
  obtain ⟨u1, e2, h⟩ := obd_inv h
  obtain ⟨n3, n4, h1, h2, h⟩ := hcall_inv h
  refine hcl_X1_thing_X1_258 hst hlk ht F hK S (hIs_inv e2) h1 h2 h rfl rfl hl.1 (Nat.le_of_ble_eq_true rfl) ⟨Nat.le_of_ble_eq_true rfl, Nat.le_of_ble_eq_true rfl⟩ dX1_door_3 (fun v7 o6 w5 H locs hw h S => ?_)
  replace h := hret_mp h hw
  clear hw h1 h2
  obtain ⟨u8, e9, h⟩ := obd_inv h
  refine h_cast F hK S e9 rfl q350 dX1_door_6 ?_
  refine lv_astore_n (lv' := [(3, .ref v7), (0, .ref a0), (1, .int x1), (2, .int x2)]) hx hb dX1_door_9 rfl hl (by decide) rfl (fun ls hl => ?_)
  refine lv_iload_n hx hb dX1_door_10 rfl (lv_at hl 3 rfl) ?_
  refine lv_iconst (v := 0) hx hb dX1_door_11 (by decide) ?_
  refine lv_iconst (v := 5) hx hb dX1_door_12 (by decide) ?_
  obtain ⟨v10, e11, h⟩ := obd_inv h
  refine call_p_isIn_X1_165 (hKm E A) F hK S.1 e11 hl.1 (Nat.le_of_ble_eq_true rfl) ⟨Nat.le_of_ble_eq_true rfl, Nat.le_of_ble_eq_true rfl⟩ ⟨Nat.sub_le _ _, Nat.sub_le _ _⟩ dX1_door_13 (fun H1 locs1 S1 => ?_)
  have S : hS E A s.heap _ _ _ _ _ := ⟨S1, S.2⟩
  obtain ⟨n12, n13, h1, h2, h⟩ := hcall_inv h
  refine hcl_X1_ask_X1_169 hst hlk ht F hK S h1 h2 h rfl rfl hl.1 (Nat.le_of_ble_eq_true rfl) ⟨Nat.le_of_ble_eq_true rfl, Nat.le_of_ble_eq_true rfl⟩ dX1_door_16 (fun o15 w14 H locs hw h S => ?_)
  replace h := hret_mp h hw
  clear hw h1 h2
  refine lv_iload_n hx hb dX1_door_19 rfl (lv_at hl 3 rfl) ?_
  by_cases c16 : x2 = 0
  · rw [hIf_pos c16] at h
    refine lv_tableIn (tgt := 56) (off := 36) hx hb dX1_door_20 (by rw [c16]; decide) (by rw [c16]; decide) (by rw [c16]; rfl) (by decide) ?_
    refine lv_aload_n hx hb dX1_door_56 rfl (lv_at hl 0 rfl) ?_
    obtain ⟨v17, e18, h⟩ := obd_inv h
    refine hg_X1_279 F hK S e18 dX1_door_57 ?_
    refine lv_bipush (v := 10) hx hb dX1_door_60 (by decide) ?_
    refine lv_irem hx hb dX1_door_62 (by decide) ?_
    exact vx_ret (h_iret F hr hlk S h dX1_door_63)
  rw [hIf_neg c16] at h
  by_cases c19 : x2 = 1
  · rw [hIf_pos c19] at h
    refine lv_tableIn (tgt := 64) (off := 44) hx hb dX1_door_20 (by rw [c19]; decide) (by rw [c19]; decide) (by rw [c19]; rfl) (by decide) ?_
    refine lv_aload_n hx hb dX1_door_64 rfl (lv_at hl 0 rfl) ?_
    obtain ⟨v20, e21, h⟩ := obd_inv h
    refine hg_X1_279 F hK S e21 dX1_door_65 ?_
    refine lv_bipush (v := 10) hx hb dX1_door_68 (by decide) ?_
    refine lv_idiv hx hb dX1_door_70 (by decide) ?_
    exact vx_ret (h_iret F hr hlk S h dX1_door_71)
  rw [hIf_neg c19] at h
  by_cases c22 : x2 = 2
  · rw [hIf_pos c22] at h
    refine lv_tableIn (tgt := 72) (off := 52) hx hb dX1_door_20 (by rw [c22]; decide) (by rw [c22]; decide) (by rw [c22]; rfl) (by decide) ?_
    refine lv_aload_n hx hb dX1_door_72 rfl (lv_at hl 0 rfl) ?_
    obtain ⟨v23, e24, h⟩ := obd_inv h
    refine hg_X1_280 F hK S e24 dX1_door_73 ?_
    exact vx_ret (h_iret F hr hlk S h dX1_door_76)
  rw [hIf_neg c22] at h
  by_cases c25 : x2 = 3
  · rw [hIf_pos c25] at h
    refine lv_tableIn (tgt := 77) (off := 57) hx hb dX1_door_20 (by rw [c25]; decide) (by rw [c25]; decide) (by rw [c25]; rfl) (by decide) ?_
    refine lv_aload_n hx hb dX1_door_77 rfl (lv_at hl 0 rfl) ?_
    obtain ⟨u26, e27, h⟩ := obd_inv h
    obtain ⟨n28, n29, h1, h2, h⟩ := hcall_inv h
    refine hcl_X8_isOpen_X1_281 F hK S (hIs_inv e27) h1 h2 h rfl rfl hl.1 (Nat.le_of_ble_eq_true rfl) ⟨Nat.le_of_ble_eq_true rfl, Nat.le_of_ble_eq_true rfl⟩ dX1_door_78 (fun v32 o31 w30 H locs hw h S => ?_)
    replace h := hret_mp h hw
    clear hw h1 h2
    obtain ⟨k36, hk36, h⟩ := hj1_inv h
    have hJ89 : ∀ (v34 : Int32) (H : Heap) (locs : List Loc) (ls : Array Slot), k36 v34 → hS E A s.heap cb sb w30 H locs → lv_has ls 4 [] → W p l e (hrm_X1_door cb sb) s m args below meth c H locs (cb - w30.2.1) (sb - w30.2.2) (vx_MQ below (hQi E A Q) (hXC E A QX) args s cb sb A) (F0 m 89 ls [.int v34]) := by
      intro v34 H locs ls h S hl
      replace h := hk36 _ h
      exact vx_ret (h_iret F hr hlk S h dX1_door_89)
    clear hk36
    refine lv_if_eq (tgt := 88) hx hb dX1_door_81 (by decide) (fun c33 => ?_) (fun c33 => ?_)
    · rw [hIf_pos c33] at h
      refine lv_iconst (v := 0) hx hb dX1_door_88 (by decide) ?_
      exact hJ89 _ _ _ _ h S (lv_sub hl [] rfl)
    · rw [hIf_neg c33] at h
      refine lv_iconst (v := 1) hx hb dX1_door_84 (by decide) ?_
      refine lv_goto (tgt := 89) hx hb dX1_door_85 (by decide) ?_
      exact hJ89 _ _ _ _ h S (lv_sub hl [] rfl)
  rw [hIf_neg c25] at h
  by_cases c37 : x2 = 4
  · rw [hIf_pos c37] at h
    refine lv_tableIn (tgt := 90) (off := 70) hx hb dX1_door_20 (by rw [c37]; decide) (by rw [c37]; decide) (by rw [c37]; rfl) (by decide) ?_
    refine lv_aload_n hx hb dX1_door_90 rfl (lv_at hl 1 rfl) ?_
    refine lv_aload_n hx hb dX1_door_91 rfl (lv_at hl 0 rfl) ?_
    obtain ⟨v38, e39, h⟩ := obd_inv h
    refine hg_X1_279 F hK S e39 dX1_door_92 ?_
    obtain ⟨u40, e41, h⟩ := obd_inv h
    obtain ⟨n42, n43, h1, h2, h⟩ := hcall_inv h
    refine hcl_X1_beamsAt_X1_276 F hK S (hIs_inv e41) h1 h2 h rfl rfl hl.1 (Nat.le_of_ble_eq_true rfl) ⟨Nat.le_of_ble_eq_true rfl, Nat.le_of_ble_eq_true rfl⟩ dX1_door_95 (fun v46 o45 w44 H locs hw h S => ?_)
    replace h := hret_mp h hw
    clear hw h1 h2
    obtain ⟨k50, hk50, h⟩ := hj1_inv h
    have hJ106 : ∀ (v48 : Int32) (H : Heap) (locs : List Loc) (ls : Array Slot), k50 v48 → hS E A s.heap cb sb w44 H locs → lv_has ls 4 [] → W p l e (hrm_X1_door cb sb) s m args below meth c H locs (cb - w44.2.1) (sb - w44.2.2) (vx_MQ below (hQi E A Q) (hXC E A QX) args s cb sb A) (F0 m 106 ls [.int v48]) := by
      intro v48 H locs ls h S hl
      replace h := hk50 _ h
      exact vx_ret (h_iret F hr hlk S h dX1_door_106)
    clear hk50
    refine lv_if_le (tgt := 105) hx hb dX1_door_98 (by decide) (fun c47 => ?_) (fun c47 => ?_)
    · rw [hIf_pos c47] at h
      refine lv_iconst (v := 0) hx hb dX1_door_105 (by decide) ?_
      exact hJ106 _ _ _ _ h S (lv_sub hl [] rfl)
    · rw [hIf_neg c47] at h
      refine lv_iconst (v := 1) hx hb dX1_door_101 (by decide) ?_
      refine lv_goto (tgt := 106) hx hb dX1_door_102 (by decide) ?_
      exact hJ106 _ _ _ _ h S (lv_sub hl [] rfl)
  rw [hIf_neg c37] at h
  refine lv_tableOut (tgt := 107) hx hb dX1_door_20 (by have t0 := lv_neT (a := 0) c16 (by decide); have t1 := lv_neT (a := 1) c19 (by decide); have t2 := lv_neT (a := 2) c22 (by decide); have t3 := lv_neT (a := 3) c25 (by decide); have t4 := lv_neT (a := 4) c37 (by decide); omega) (by decide) ?_
  refine lv_aload_n hx hb dX1_door_107 rfl (lv_at hl 0 rfl) ?_
  obtain ⟨v51, e52, h⟩ := obd_inv h
  refine hg_X1_284 F hK S e52 dX1_door_108 ?_
  exact vx_ret (h_iret F hr hlk S h dX1_door_111)
theorem hg_X1_287 {p : Program} {l : Launch} {e : Env} {s : State} {m : MethodId} {args : Array Value} {below : List Frame} {meth : Method} {c : Code} {R : Room} {H : Heap} {locs : List Loc} {cb sb pc nL : Nat} {Q : State → Prop} {ls : Array Slot} {rest : List Value} {cc : ByteArray} {E : hEnv} {A : Nat → Prop} {w : hW} {a : Nat} {v : Int32} (F : CallFix p m c cc nL s args lw_all RX1) (hK : hK E A s) (S : hS E A s.heap cb sb w H locs) (h : hgI w a 2 4 = some v) (hdg : decode cc pc = .ok (.getfield 287, 3)) (kk : W p l e R s m args below meth c H locs (cb - w.2.1) (sb - w.2.2) Q (F0 m (pc + 3) ls (.int v :: rest))) : W p l e R s m args below meth c H locs (cb - w.2.1) (sb - w.2.2) Q (F0 m pc ls (.ref a :: rest)) := by
  obtain ⟨b, fs, ho, hv⟩ := hgI_inv h
  exact h_getN F hK S ho (ci := 2) (C := RX2) (T := TX2) (N := 12) (k := 4) rfl in_X2 (by decide) (hK.2.1.1 _ (List.mem_of_getElem? (i := 16) rfl)) (fun x h => h) hv hdg kk
theorem hpc_X2_inRings_X1_289 {p : Program} {l : Launch} {e : Env} {s : State} {m : MethodId} {args : Array Value} {below : List Frame} {meth : Method} {c : Code} {R : Room} {H : Heap} {locs : List Loc} {cb sb pc nL : Nat} {Q : State → Prop} {ls : Array Slot} {rest : List Value} {cc : ByteArray} {E : hEnv} {A : Nat → Prop} {w : hW} {d : hD} {g : mS} {a : Nat} {r : Int32 × mS} (F : CallFix p m c cc nL s args lw_all RX1) (hK : hK E A s) (S : hS E A s.heap cb sb w H locs) (hr : hRel d g w.1) (hd : d.1 0 = a) (h : fc_X2_inRings g = some r) (hrc : R.cells = cb) (hrs : R.slots = sb) (hls : ls.size = nL) (hWt : (rest.map fun v => v.category).sum ≤ 8) (hR : rm_c_X2_inRings.frames + 1 ≤ R.frames ∧ 8 + (3 + 11) + rm_c_X2_inRings.locals ≤ R.locals) (hdg : decode cc pc = .ok (.invokevirtual 289, 3))
    (kk : ∀ (w' : hW) (H1 : Heap) (locs1 : List Loc), w' = (hPut d r.2 w.1, w.2) → hRel d r.2 (hPut d r.2 w.1) → hS E A s.heap cb sb w' H1 locs1 → W p l e R s m args below meth c H1 locs1 (cb - w'.2.1) (sb - w'.2.2) Q (F0 m (pc + 3) ls (.int r.1 :: rest))) : W p l e R s m args below meth c H locs (cb - w.2.1) (sb - w.2.2) Q (F0 m pc ls (.ref a :: rest)) := by
  subst hd
  obtain ⟨r, gZ⟩ := r
  exact hb_ki hK S hr (va_runV (g := F0 m pc ls _) F (met_c_X2_inRings l (hDE E d g H.size) g r gZ h) (cwV 0 F.2.2.2.2 (lw_V q1698 q1699 q1700 q112 q1701) rfl rfl rfl (by decide +kernel) hR) ⟨gBlind (cKm (hDE E d g H.size)), h_recv hK S (ci := 2) rfl (hRel_ray hr), fun U hU hW => ⟨rfl, hB_pre hK S hr U hU hW⟩⟩ rfl rfl hls rfl (lv_room hWt) hdg ⟨by rw [hrc]; exact Nat.sub_le _ _, by rw [hrs]; exact Nat.sub_le _ _⟩) kk
theorem hg_X1_292 {p : Program} {l : Launch} {e : Env} {s : State} {m : MethodId} {args : Array Value} {below : List Frame} {meth : Method} {c : Code} {R : Room} {H : Heap} {locs : List Loc} {cb sb pc nL : Nat} {Q : State → Prop} {ls : Array Slot} {rest : List Value} {cc : ByteArray} {E : hEnv} {A : Nat → Prop} {w : hW} {a : Nat} {v : Int32} (F : CallFix p m c cc nL s args lw_all RX1) (hK : hK E A s) (S : hS E A s.heap cb sb w H locs) (h : hgI w a 2 5 = some v) (hdg : decode cc pc = .ok (.getfield 292, 3)) (kk : W p l e R s m args below meth c H locs (cb - w.2.1) (sb - w.2.2) Q (F0 m (pc + 3) ls (.int v :: rest))) : W p l e R s m args below meth c H locs (cb - w.2.1) (sb - w.2.2) Q (F0 m pc ls (.ref a :: rest)) := by
  obtain ⟨b, fs, ho, hv⟩ := hgI_inv h
  exact h_getN F hK S ho (ci := 2) (C := RX2) (T := TX2) (N := 12) (k := 5) rfl in_X2 (by decide) (hK.2.1.1 _ (List.mem_of_getElem? (i := 17) rfl)) (fun x h => h) hv hdg kk
theorem hpc_X3_hits_X1_295 {p : Program} {l : Launch} {e : Env} {s : State} {m : MethodId} {args : Array Value} {below : List Frame} {meth : Method} {c : Code} {R : Room} {H : Heap} {locs : List Loc} {cb sb pc nL : Nat} {Q : State → Prop} {ls : Array Slot} {rest : List Value} {cc : ByteArray} {E : hEnv} {A : Nat → Prop} {w : hW} {d : hD} {g : mS} {a : Nat} {r : Int32 × mS} (F : CallFix p m c cc nL s args lw_all RX1) (hK : hK E A s) (S : hS E A s.heap cb sb w H locs) (hr : hRel d g w.1) (hd : d.1 100 = a) (h : fc_X3_hits g 100 = some r) (hrc : R.cells = cb) (hrs : R.slots = sb) (hls : ls.size = nL) (hWt : (rest.map fun v => v.category).sum ≤ 8) (hR : rm_c_X3_hits.frames + 1 ≤ R.frames ∧ 8 + (7 + 11) + rm_c_X3_hits.locals ≤ R.locals) (hdg : decode cc pc = .ok (.invokevirtual 295, 3))
    (kk : ∀ (w' : hW) (H1 : Heap) (locs1 : List Loc), w' = (hPut d r.2 w.1, w.2) → hRel d r.2 (hPut d r.2 w.1) → hS E A s.heap cb sb w' H1 locs1 → W p l e R s m args below meth c H1 locs1 (cb - w'.2.1) (sb - w'.2.2) Q (F0 m (pc + 3) ls (.int r.1 :: rest))) : W p l e R s m args below meth c H locs (cb - w.2.1) (sb - w.2.2) Q (F0 m pc ls (.ref a :: rest)) := by
  subst hd
  obtain ⟨r, gZ⟩ := r
  exact hb_ki hK S hr (va_runV (g := F0 m pc ls _) F (met_c_X3_hits l (hDE E d g H.size) g 100 hOk100 r gZ h) (cwV 0 F.2.2.2.2 (lw_V q1706 q1707 q1708 q115 q1709) rfl rfl rfl (by decide +kernel) hR) ⟨gBlind (cKm (hDE E d g H.size)), h_recv hK S (ci := 3) rfl (hRel_w hr), fun U hU hW => ⟨rfl, hB_pre hK S hr U hU hW⟩⟩ rfl rfl hls rfl (lv_room hWt) hdg ⟨by rw [hrc]; exact Nat.sub_le _ _, by rw [hrs]; exact Nat.sub_le _ _⟩) kk
theorem hpc_X2_stopped_X1_302 {p : Program} {l : Launch} {e : Env} {s : State} {m : MethodId} {args : Array Value} {below : List Frame} {meth : Method} {c : Code} {R : Room} {H : Heap} {locs : List Loc} {cb sb pc nL : Nat} {Q : State → Prop} {ls : Array Slot} {rest : List Value} {cc : ByteArray} {E : hEnv} {A : Nat → Prop} {w : hW} {d : hD} {g : mS} {a : Nat} {r : Int32} (F : CallFix p m c cc nL s args lw_all RX1) (hK : hK E A s) (S : hS E A s.heap cb sb w H locs) (hr : hRel d g w.1) (hd : d.1 0 = a) (h : fc_X2_stopped g = some r) (hrc : R.cells = cb) (hrs : R.slots = sb) (hls : ls.size = nL) (hWt : (rest.map fun v => v.category).sum ≤ 8) (hR : rm_c_X2_stopped.frames + 1 ≤ R.frames ∧ 8 + (4 + 11) + rm_c_X2_stopped.locals ≤ R.locals) (hdg : decode cc pc = .ok (.invokevirtual 302, 3))
    (kk : ∀ (H1 : Heap) (locs1 : List Loc), hS E A s.heap cb sb w H1 locs1 → W p l e R s m args below meth c H1 locs1 (cb - w.2.1) (sb - w.2.2) Q (F0 m (pc + 3) ls (.int r :: rest))) : W p l e R s m args below meth c H locs (cb - w.2.1) (sb - w.2.2) Q (F0 m pc ls (.ref a :: rest)) := by
  subst hd
  refine hb_ki hK S hr (gZ := g) (va_runV (g := F0 m pc ls _) F (met_c_X2_stopped l (hDE E d g H.size) g r h) (cwV 0 F.2.2.2.2 (lw_V q1710 q1711 q1712 q112 q1713) rfl rfl rfl (by decide +kernel) hR) ⟨gBlind (cKm (hDE E d g H.size)), h_recv hK S (ci := 2) rfl (hRel_ray hr), fun U hU hW => ⟨rfl, hB_pre hK S hr U hU hW⟩⟩ rfl rfl hls rfl (lv_room hWt) hdg ⟨by rw [hrc]; exact Nat.sub_le _ _, by rw [hrs]; exact Nat.sub_le _ _⟩) (fun w' H1 locs1 hw _ S1 => ?_)
  rw [hPut_self hr] at hw
  subst hw
  exact kk H1 locs1 S1
theorem hpc_X2_mostFollowing_X1_305 {p : Program} {l : Launch} {e : Env} {s : State} {m : MethodId} {args : Array Value} {below : List Frame} {meth : Method} {c : Code} {R : Room} {H : Heap} {locs : List Loc} {cb sb pc nL : Nat} {Q : State → Prop} {ls : Array Slot} {rest : List Value} {cc : ByteArray} {E : hEnv} {A : Nat → Prop} {w : hW} {d : hD} {g : mS} {a : Nat} {r : Int32 × mS} (F : CallFix p m c cc nL s args lw_all RX1) (hK : hK E A s) (S : hS E A s.heap cb sb w H locs) (hr : hRel d g w.1) (hd : d.1 0 = a) (h : fc_X2_mostFollowing g = some r) (hrc : R.cells = cb) (hrs : R.slots = sb) (hls : ls.size = nL) (hWt : (rest.map fun v => v.category).sum ≤ 8) (hR : rm_c_X2_mostFollowing.frames + 1 ≤ R.frames ∧ 8 + (3 + 11) + rm_c_X2_mostFollowing.locals ≤ R.locals) (hdg : decode cc pc = .ok (.invokevirtual 305, 3))
    (kk : ∀ (w' : hW) (H1 : Heap) (locs1 : List Loc), w' = (hPut d r.2 w.1, w.2) → hRel d r.2 (hPut d r.2 w.1) → hS E A s.heap cb sb w' H1 locs1 → W p l e R s m args below meth c H1 locs1 (cb - w'.2.1) (sb - w'.2.2) Q (F0 m (pc + 3) ls (.int r.1 :: rest))) : W p l e R s m args below meth c H locs (cb - w.2.1) (sb - w.2.2) Q (F0 m pc ls (.ref a :: rest)) := by
  subst hd
  obtain ⟨r, gZ⟩ := r
  exact hb_ki hK S hr (va_runV (g := F0 m pc ls _) F (met_c_X2_mostFollowing l (hDE E d g H.size) g r gZ h) (cwV 0 F.2.2.2.2 (lw_V q1716 q1717 q1718 q112 q1719) rfl rfl rfl (by decide +kernel) hR) ⟨gBlind (cKm (hDE E d g H.size)), h_recv hK S (ci := 2) rfl (hRel_ray hr), fun U hU hW => ⟨rfl, hB_pre hK S hr U hU hW⟩⟩ rfl rfl hls rfl (lv_room hWt) hdg ⟨by rw [hrc]; exact Nat.sub_le _ _, by rw [hrs]; exact Nat.sub_le _ _⟩) kk
def hf_X1_ray (pl : Nat → Nat) (w : hW) (a0 : Nat) (x1 : Int32) (QX : String → hO → Prop) (Q : Int32 → hO → Prop) : Prop :=
  obd (fp_isIn g00 x1 0 7) fun v1 =>
  hcall w fun n3 n4 => hf_X1_ask pl (w.1, n3, n4) v1 QX fun o6 => hret w n3 n4 o6 fun w5 =>
  obd (hgP w5 a0 1 3) fun v7 =>
  ∃ (d9 : hD) (g10 : mS), hRel d9 g10 w5.1 ∧ d9.1 100 = v7 ∧ obd (fc_X3_ray g10 100) fun v13 => hpret w5 d9 v13 fun w11 =>
  hIf (x1 = 0) (
    obd (hgP w11 a0 1 0) fun v15 =>
    obd (hgI w11 v15 2 4) fun v17 =>
    Q v17 w11.1) <|
  hIf (x1 = 1) (
    obd (hgP w11 a0 1 0) fun v20 =>
    ∃ (d22 : hD) (g23 : mS), hRel d22 g23 w11.1 ∧ d22.1 0 = v20 ∧ obd (fc_X2_inRings g23) fun v26 => hpret w11 d22 v26.2 fun w24 =>
    Q v26.1 w24.1) <|
  hIf (x1 = 2) (
    obd (hgP w11 a0 1 0) fun v28 =>
    obd (hgI w11 v28 2 5) fun v30 =>
    Q v30 w11.1) <|
  hIf (x1 = 3) (
    obd (hgP w11 a0 1 3) fun v33 =>
    ∃ (d35 : hD) (g36 : mS), hRel d35 g36 w11.1 ∧ d35.1 100 = v33 ∧ obd (fc_X3_hits g36 100) fun v39 => hpret w11 d35 v39.2 fun w37 =>
    obd (fp_bitCount g00 v39.1) fun v40 =>
    Q v40 w37.1) <|
  hIf (x1 = 4) (
    obd (hIs w11 a0 1) fun u43 =>
    hcall w11 fun n45 n46 => hf_X1_lit pl (w11.1, n45, n46) a0 0 fun v49 o48 => hret w11 n45 n46 o48 fun w47 =>
    Q v49 w47.1) <|
  hIf (x1 = 5) (
    obd (hIs w11 a0 1) fun u51 =>
    hcall w11 fun n53 n54 => hf_X1_lit pl (w11.1, n53, n54) a0 1 fun v57 o56 => hret w11 n53 n54 o56 fun w55 =>
    Q v57 w55.1) <|
  hIf (x1 = 6) (
    obd (hgP w11 a0 1 0) fun v59 =>
    ∃ (d61 : hD) (g62 : mS), hRel d61 g62 w11.1 ∧ d61.1 0 = v59 ∧ obd (fc_X2_stopped g62) fun v65 =>
    Q v65 w11.1) <|
    obd (hgP w11 a0 1 0) fun v66 =>
    ∃ (d68 : hD) (g69 : mS), hRel d68 g69 w11.1 ∧ d68.1 0 = v66 ∧ obd (fc_X2_mostFollowing g69) fun v72 => hpret w11 d68 v72.2 fun w70 =>
    Q v72.1 w70.1
abbrev hrm_X1_ray (c s : Nat) : Room := { frames := 8, cells := c, slots := s, locals := 181 }
set_option maxHeartbeats 4000000 in
set_option maxRecDepth 100000 in
theorem hmet_X1_ray (l : Launch) (hst : l.stackTraces = false) (E : hEnv) (A : Nat → Prop) (w : hW) (a0 : Nat) (x1 : Int32) (QX : String → hO → Prop) (Q : Int32 → hO → Prop) (h : hf_X1_ray E.2.2 w a0 x1 QX Q) : vx_Met l yX1_ray (ws_ yX1_ray cX1_ray 2 (some .int)) (hrm_X1_ray w.2.1 w.2.2) (va_Pc [.ref a0, .int x1] (gPre (hK E A) (hP E A w.1))) (hQi E A Q) (hXC E A QX) w.2.1 w.2.2 A := by
  refine hx_met (own := RX1) (by decide +kernel) rfl (Nat.le_of_ble_eq_true rfl) ?_
  intro p e s m args below meth c ls cb sb F hr hlk ht hK S hl
  have hx := F.1
  have hb := F.2.1
  have hl : lv_has ls 2 [(0, .ref a0), (1, .int x1)] := hl
  unfold hf_X1_ray at h
  refine lv_iload_n hx hb dX1_ray_0 rfl (lv_at hl 1 rfl) ?_
  refine lv_iconst (v := 0) hx hb dX1_ray_1 (by decide) ?_
  refine lv_bipush (v := 7) hx hb dX1_ray_2 (by decide) ?_
  obtain ⟨v1, e2, h⟩ := obd_inv h
  refine call_p_isIn_X1_165 (hKm E A) F hK S.1 e2 hl.1 (Nat.le_of_ble_eq_true rfl) ⟨Nat.le_of_ble_eq_true rfl, Nat.le_of_ble_eq_true rfl⟩ ⟨Nat.sub_le _ _, Nat.sub_le _ _⟩ dX1_ray_4 (fun H1 locs1 S1 => ?_)
  have S : hS E A s.heap _ _ _ _ _ := ⟨S1, S.2⟩
  obtain ⟨n3, n4, h1, h2, h⟩ := hcall_inv h
  refine hcl_X1_ask_X1_169 hst hlk ht F hK S h1 h2 h rfl rfl hl.1 (Nat.le_of_ble_eq_true rfl) ⟨Nat.le_of_ble_eq_true rfl, Nat.le_of_ble_eq_true rfl⟩ dX1_ray_7 (fun o6 w5 H locs hw h S => ?_)
  replace h := hret_mp h hw
  clear hw h1 h2
  refine lv_aload_n hx hb dX1_ray_10 rfl (lv_at hl 0 rfl) ?_
  obtain ⟨v7, e8, h⟩ := obd_inv h
  refine hg_X1_47 F hK S e8 dX1_ray_11 ?_
  obtain ⟨d9, g10, hrl, hdl, h⟩ := h
  obtain ⟨v13, e12, h⟩ := obd_inv h
  refine hpc_X3_ray_X1_240 F hK S hrl hdl e12 rfl rfl hl.1 (Nat.le_of_ble_eq_true rfl) ⟨Nat.le_of_ble_eq_true rfl, Nat.le_of_ble_eq_true rfl⟩ dX1_ray_14 (fun w11 H locs hw hz S => ?_)
  replace h := hpret_mp h hw hz
  clear hw hz
  refine lv_pop hx hb dX1_ray_17 rfl ?_
  refine lv_iload_n hx hb dX1_ray_18 rfl (lv_at hl 1 rfl) ?_
  by_cases c14 : x1 = 0
  · rw [hIf_pos c14] at h
    refine lv_tableIn (tgt := 60) (off := 41) hx hb dX1_ray_19 (by rw [c14]; decide) (by rw [c14]; decide) (by rw [c14]; rfl) (by decide) ?_
    refine lv_aload_n hx hb dX1_ray_60 rfl (lv_at hl 0 rfl) ?_
    obtain ⟨v15, e16, h⟩ := obd_inv h
    refine hg_X1_13 F hK S e16 dX1_ray_61 ?_
    obtain ⟨v17, e18, h⟩ := obd_inv h
    refine hg_X1_287 F hK S e18 dX1_ray_64 ?_
    exact vx_ret (h_iret F hr hlk S h dX1_ray_67)
  rw [hIf_neg c14] at h
  by_cases c19 : x1 = 1
  · rw [hIf_pos c19] at h
    refine lv_tableIn (tgt := 68) (off := 49) hx hb dX1_ray_19 (by rw [c19]; decide) (by rw [c19]; decide) (by rw [c19]; rfl) (by decide) ?_
    refine lv_aload_n hx hb dX1_ray_68 rfl (lv_at hl 0 rfl) ?_
    obtain ⟨v20, e21, h⟩ := obd_inv h
    refine hg_X1_13 F hK S e21 dX1_ray_69 ?_
    obtain ⟨d22, g23, hrl, hdl, h⟩ := h
    obtain ⟨v26, e25, h⟩ := obd_inv h
    refine hpc_X2_inRings_X1_289 F hK S hrl hdl e25 rfl rfl hl.1 (Nat.le_of_ble_eq_true rfl) ⟨Nat.le_of_ble_eq_true rfl, Nat.le_of_ble_eq_true rfl⟩ dX1_ray_72 (fun w24 H locs hw hz S => ?_)
    replace h := hpret_mp h hw hz
    clear hw hz
    exact vx_ret (h_iret F hr hlk S h dX1_ray_75)
  rw [hIf_neg c19] at h
  by_cases c27 : x1 = 2
  · rw [hIf_pos c27] at h
    refine lv_tableIn (tgt := 76) (off := 57) hx hb dX1_ray_19 (by rw [c27]; decide) (by rw [c27]; decide) (by rw [c27]; rfl) (by decide) ?_
    refine lv_aload_n hx hb dX1_ray_76 rfl (lv_at hl 0 rfl) ?_
    obtain ⟨v28, e29, h⟩ := obd_inv h
    refine hg_X1_13 F hK S e29 dX1_ray_77 ?_
    obtain ⟨v30, e31, h⟩ := obd_inv h
    refine hg_X1_292 F hK S e31 dX1_ray_80 ?_
    exact vx_ret (h_iret F hr hlk S h dX1_ray_83)
  rw [hIf_neg c27] at h
  by_cases c32 : x1 = 3
  · rw [hIf_pos c32] at h
    refine lv_tableIn (tgt := 84) (off := 65) hx hb dX1_ray_19 (by rw [c32]; decide) (by rw [c32]; decide) (by rw [c32]; rfl) (by decide) ?_
    refine lv_aload_n hx hb dX1_ray_84 rfl (lv_at hl 0 rfl) ?_
    obtain ⟨v33, e34, h⟩ := obd_inv h
    refine hg_X1_47 F hK S e34 dX1_ray_85 ?_
    obtain ⟨d35, g36, hrl, hdl, h⟩ := h
    obtain ⟨v39, e38, h⟩ := obd_inv h
    refine hpc_X3_hits_X1_295 F hK S hrl hdl e38 rfl rfl hl.1 (Nat.le_of_ble_eq_true rfl) ⟨Nat.le_of_ble_eq_true rfl, Nat.le_of_ble_eq_true rfl⟩ dX1_ray_88 (fun w37 H locs hw hz S => ?_)
    replace h := hpret_mp h hw hz
    clear hw hz
    obtain ⟨v40, e41, h⟩ := obd_inv h
    refine call_p_bitCount_X1_253 (hKm E A) F hK S.1 e41 hl.1 (Nat.le_of_ble_eq_true rfl) ⟨Nat.le_of_ble_eq_true rfl, Nat.le_of_ble_eq_true rfl⟩ ⟨Nat.sub_le _ _, Nat.sub_le _ _⟩ dX1_ray_91 (fun H1 locs1 S1 => ?_)
    have S : hS E A s.heap _ _ _ _ _ := ⟨S1, S.2⟩
    exact vx_ret (h_iret F hr hlk S h dX1_ray_94)
  rw [hIf_neg c32] at h
  by_cases c42 : x1 = 4
  · rw [hIf_pos c42] at h
    refine lv_tableIn (tgt := 95) (off := 76) hx hb dX1_ray_19 (by rw [c42]; decide) (by rw [c42]; decide) (by rw [c42]; rfl) (by decide) ?_
    refine lv_aload_n hx hb dX1_ray_95 rfl (lv_at hl 0 rfl) ?_
    refine lv_iconst (v := 0) hx hb dX1_ray_96 (by decide) ?_
    obtain ⟨u43, e44, h⟩ := obd_inv h
    obtain ⟨n45, n46, h1, h2, h⟩ := hcall_inv h
    refine hcl_X1_lit_X1_298 F hK S (hIs_inv e44) h1 h2 h rfl rfl hl.1 (Nat.le_of_ble_eq_true rfl) ⟨Nat.le_of_ble_eq_true rfl, Nat.le_of_ble_eq_true rfl⟩ dX1_ray_97 (fun v49 o48 w47 H locs hw h S => ?_)
    replace h := hret_mp h hw
    clear hw h1 h2
    exact vx_ret (h_iret F hr hlk S h dX1_ray_100)
  rw [hIf_neg c42] at h
  by_cases c50 : x1 = 5
  · rw [hIf_pos c50] at h
    refine lv_tableIn (tgt := 101) (off := 82) hx hb dX1_ray_19 (by rw [c50]; decide) (by rw [c50]; decide) (by rw [c50]; rfl) (by decide) ?_
    refine lv_aload_n hx hb dX1_ray_101 rfl (lv_at hl 0 rfl) ?_
    refine lv_iconst (v := 1) hx hb dX1_ray_102 (by decide) ?_
    obtain ⟨u51, e52, h⟩ := obd_inv h
    obtain ⟨n53, n54, h1, h2, h⟩ := hcall_inv h
    refine hcl_X1_lit_X1_298 F hK S (hIs_inv e52) h1 h2 h rfl rfl hl.1 (Nat.le_of_ble_eq_true rfl) ⟨Nat.le_of_ble_eq_true rfl, Nat.le_of_ble_eq_true rfl⟩ dX1_ray_103 (fun v57 o56 w55 H locs hw h S => ?_)
    replace h := hret_mp h hw
    clear hw h1 h2
    exact vx_ret (h_iret F hr hlk S h dX1_ray_106)
  rw [hIf_neg c50] at h
  by_cases c58 : x1 = 6
  · rw [hIf_pos c58] at h
    refine lv_tableIn (tgt := 107) (off := 88) hx hb dX1_ray_19 (by rw [c58]; decide) (by rw [c58]; decide) (by rw [c58]; rfl) (by decide) ?_
    refine lv_aload_n hx hb dX1_ray_107 rfl (lv_at hl 0 rfl) ?_
    obtain ⟨v59, e60, h⟩ := obd_inv h
    refine hg_X1_13 F hK S e60 dX1_ray_108 ?_
    obtain ⟨d61, g62, hrl, hdl, h⟩ := h
    obtain ⟨v65, e64, h⟩ := obd_inv h
    refine hpc_X2_stopped_X1_302 F hK S hrl hdl e64 rfl rfl hl.1 (Nat.le_of_ble_eq_true rfl) ⟨Nat.le_of_ble_eq_true rfl, Nat.le_of_ble_eq_true rfl⟩ dX1_ray_111 (fun H locs S => ?_)
    exact vx_ret (h_iret F hr hlk S h dX1_ray_114)
  rw [hIf_neg c58] at h
  refine lv_tableOut (tgt := 115) hx hb dX1_ray_19 (by have t0 := lv_neT (a := 0) c14 (by decide); have t1 := lv_neT (a := 1) c19 (by decide); have t2 := lv_neT (a := 2) c27 (by decide); have t3 := lv_neT (a := 3) c32 (by decide); have t4 := lv_neT (a := 4) c42 (by decide); have t5 := lv_neT (a := 5) c50 (by decide); have t6 := lv_neT (a := 6) c58 (by decide); omega) (by decide) ?_
  refine lv_aload_n hx hb dX1_ray_115 rfl (lv_at hl 0 rfl) ?_
  obtain ⟨v66, e67, h⟩ := obd_inv h
  refine hg_X1_13 F hK S e67 dX1_ray_116 ?_
  obtain ⟨d68, g69, hrl, hdl, h⟩ := h
  obtain ⟨v72, e71, h⟩ := obd_inv h
  refine hpc_X2_mostFollowing_X1_305 F hK S hrl hdl e71 rfl rfl hl.1 (Nat.le_of_ble_eq_true rfl) ⟨Nat.le_of_ble_eq_true rfl, Nat.le_of_ble_eq_true rfl⟩ dX1_ray_119 (fun w70 H locs hw hz S => ?_)
  replace h := hpret_mp h hw hz
  clear hw hz
  exact vx_ret (h_iret F hr hlk S h dX1_ray_122)
theorem hg_X1_308 {p : Program} {l : Launch} {e : Env} {s : State} {m : MethodId} {args : Array Value} {below : List Frame} {meth : Method} {c : Code} {R : Room} {H : Heap} {locs : List Loc} {cb sb pc nL : Nat} {Q : State → Prop} {ls : Array Slot} {rest : List Value} {cc : ByteArray} {E : hEnv} {A : Nat → Prop} {w : hW} {a : Nat} {v : Nat} (F : CallFix p m c cc nL s args lw_all RX1) (hK : hK E A s) (S : hS E A s.heap cb sb w H locs) (h : hgP w a 2 1 = some v) (hdg : decode cc pc = .ok (.getfield 308, 3)) (kk : W p l e R s m args below meth c H locs (cb - w.2.1) (sb - w.2.2) Q (F0 m (pc + 3) ls (.ref v :: rest))) : W p l e R s m args below meth c H locs (cb - w.2.1) (sb - w.2.2) Q (F0 m pc ls (.ref a :: rest)) := by
  obtain ⟨b, fs, ho, hv⟩ := hgP_inv h
  exact h_getN F hK S ho (ci := 2) (C := RX2) (T := TX2) (N := 12) (k := 1) rfl in_X2 (by decide) (hK.2.1.1 _ (List.mem_of_getElem? (i := 18) rfl)) (fun x h => h) hv hdg kk
theorem hpc_X2_isInRing_X1_312 {p : Program} {l : Launch} {e : Env} {s : State} {m : MethodId} {args : Array Value} {below : List Frame} {meth : Method} {c : Code} {R : Room} {H : Heap} {locs : List Loc} {cb sb pc nL : Nat} {Q : State → Prop} {ls : Array Slot} {rest : List Value} {cc : ByteArray} {E : hEnv} {A : Nat → Prop} {w : hW} {d : hD} {g : mS} {a : Nat} {x1 : Int32} {r : Int32 × mS} (F : CallFix p m c cc nL s args lw_all RX1) (hK : hK E A s) (S : hS E A s.heap cb sb w H locs) (hr : hRel d g w.1) (hd : d.1 0 = a) (h : fc_X2_isInRing g x1 = some r) (hrc : R.cells = cb) (hrs : R.slots = sb) (hls : ls.size = nL) (hWt : (rest.map fun v => v.category).sum ≤ 8) (hR : rm_c_X2_isInRing.frames + 1 ≤ R.frames ∧ 8 + (7 + 11) + rm_c_X2_isInRing.locals ≤ R.locals) (hdg : decode cc pc = .ok (.invokevirtual 312, 3))
    (kk : ∀ (w' : hW) (H1 : Heap) (locs1 : List Loc), w' = (hPut d r.2 w.1, w.2) → hRel d r.2 (hPut d r.2 w.1) → hS E A s.heap cb sb w' H1 locs1 → W p l e R s m args below meth c H1 locs1 (cb - w'.2.1) (sb - w'.2.2) Q (F0 m (pc + 3) ls (.int r.1 :: rest))) : W p l e R s m args below meth c H locs (cb - w.2.1) (sb - w.2.2) Q (F0 m pc ls (.int x1 :: .ref a :: rest)) := by
  subst hd
  obtain ⟨r, gZ⟩ := r
  exact hb_ki hK S hr (va_runV (g := F0 m pc ls _) F (met_c_X2_isInRing l (hDE E d g H.size) g x1 r gZ h) (cwV 1 F.2.2.2.2 (lw_V q1727 q1703 q1704 q112 q1705) rfl rfl rfl (by decide +kernel) hR) ⟨gBlind (cKm (hDE E d g H.size)), h_recv hK S (ci := 2) rfl (hRel_ray hr), fun U hU hW => ⟨rfl, hB_pre hK S hr U hU hW⟩⟩ rfl rfl hls rfl (lv_room hWt) hdg ⟨by rw [hrc]; exact Nat.sub_le _ _, by rw [hrs]; exact Nat.sub_le _ _⟩) kk
theorem hpc_X2_follow_X1_315 {p : Program} {l : Launch} {e : Env} {s : State} {m : MethodId} {args : Array Value} {below : List Frame} {meth : Method} {c : Code} {R : Room} {H : Heap} {locs : List Loc} {cb sb pc nL : Nat} {Q : State → Prop} {ls : Array Slot} {rest : List Value} {cc : ByteArray} {E : hEnv} {A : Nat → Prop} {w : hW} {d : hD} {g : mS} {a : Nat} {x1 : Int32} {r : Int32 × mS} (F : CallFix p m c cc nL s args lw_all RX1) (hK : hK E A s) (S : hS E A s.heap cb sb w H locs) (hr : hRel d g w.1) (hd : d.1 0 = a) (h : fc_X2_follow g x1 = some r) (hrc : R.cells = cb) (hrs : R.slots = sb) (hls : ls.size = nL) (hWt : (rest.map fun v => v.category).sum ≤ 8) (hR : rm_c_X2_follow.frames + 1 ≤ R.frames ∧ 8 + (2 + 11) + rm_c_X2_follow.locals ≤ R.locals) (hdg : decode cc pc = .ok (.invokevirtual 315, 3))
    (kk : ∀ (w' : hW) (H1 : Heap) (locs1 : List Loc), w' = (hPut d r.2 w.1, w.2) → hRel d r.2 (hPut d r.2 w.1) → hS E A s.heap cb sb w' H1 locs1 → W p l e R s m args below meth c H1 locs1 (cb - w'.2.1) (sb - w'.2.2) Q (F0 m (pc + 3) ls (.int r.1 :: rest))) : W p l e R s m args below meth c H locs (cb - w.2.1) (sb - w.2.2) Q (F0 m pc ls (.int x1 :: .ref a :: rest)) := by
  subst hd
  obtain ⟨r, gZ⟩ := r
  exact hb_ki hK S hr (va_runV (g := F0 m pc ls _) F (met_c_X2_follow l (hDE E d g H.size) g x1 r gZ h) (cwV 1 F.2.2.2.2 (lw_V q1728 q425 q426 q112 q427) rfl rfl rfl (by decide +kernel) hR) ⟨gBlind (cKm (hDE E d g H.size)), h_recv hK S (ci := 2) rfl (hRel_ray hr), fun U hU hW => ⟨rfl, hB_pre hK S hr U hU hW⟩⟩ rfl rfl hls rfl (lv_room hWt) hdg ⟨by rw [hrc]; exact Nat.sub_le _ _, by rw [hrs]; exact Nat.sub_le _ _⟩) kk
def hf_X1_beam (pl : Nat → Nat) (w : hW) (a0 : Nat) (x1 : Int32) (x2 : Int32) (QX : String → hO → Prop) (Q : Int32 → hO → Prop) : Prop :=
  obd (hgP w a0 1 3) fun v1 =>
  ∃ (d3 : hD) (g4 : mS), hRel d3 g4 w.1 ∧ d3.1 100 = v1 ∧ obd (fc_X3_ray g4 100) fun v7 => hpret w d3 v7 fun w5 =>
  obd (hgP w5 a0 1 0) fun v8 =>
  obd (hgI w5 v8 2 4) fun v10 =>
  obd (fp_isIn g00 x1 0 (v10 - 1)) fun v12 =>
  hIf (v12 = 0) (
    hthr w5 "java/util/NoSuchElementException" QX) <|
    obd (fp_isIn g00 x2 0 4) fun v15 =>
    hcall w5 fun n17 n18 => hf_X1_ask pl (w5.1, n17, n18) v15 QX fun o20 => hret w5 n17 n18 o20 fun w19 =>
    obd (hgP w19 a0 1 0) fun v21 =>
    obd (hgP w19 v21 2 1) fun v23 =>
    obd (haI 0 w19 v23 x1) fun v25 =>
    hIf (x2 = 0) (
      Q (irm (v25 / 4) 10) w19.1) <|
    hIf (x2 = 1) (
      Q ((v25 / 4) / 10) w19.1) <|
    hIf (x2 = 2) (
      Q (irm v25 4) w19.1) <|
    hIf (x2 = 3) (
      obd (hgP w19 a0 1 0) fun v31 =>
      ∃ (d33 : hD) (g34 : mS), hRel d33 g34 w19.1 ∧ d33.1 0 = v31 ∧ obd (fc_X2_isInRing g34 x1) fun v37 => hpret w19 d33 v37.2 fun w35 =>
      hjoin (fun (v39 : Int32) =>
        Q v39 w35.1) fun k41 =>
      hIf (v37.1 = 0) (
        k41 0) <|
        k41 1) <|
      obd (hgP w19 a0 1 0) fun v42 =>
      ∃ (d44 : hD) (g45 : mS), hRel d44 g45 w19.1 ∧ d44.1 0 = v42 ∧ obd (fc_X2_follow g45 v25) fun v48 => hpret w19 d44 v48.2 fun w46 =>
      Q v48.1 w46.1
abbrev hrm_X1_beam (c s : Nat) : Room := { frames := 7, cells := c, slots := s, locals := 155 }
set_option maxHeartbeats 4000000 in
set_option maxRecDepth 100000 in
theorem hmet_X1_beam (l : Launch) (hst : l.stackTraces = false) (E : hEnv) (A : Nat → Prop) (w : hW) (a0 : Nat) (x1 : Int32) (x2 : Int32) (QX : String → hO → Prop) (Q : Int32 → hO → Prop) (h : hf_X1_beam E.2.2 w a0 x1 x2 QX Q) : vx_Met l yX1_beam (ws_ yX1_beam cX1_beam 4 (some .int)) (hrm_X1_beam w.2.1 w.2.2) (va_Pc [.ref a0, .int x1, .int x2] (gPre (hK E A) (hP E A w.1))) (hQi E A Q) (hXC E A QX) w.2.1 w.2.2 A := by
  refine hx_met (own := RX1) (by decide +kernel) rfl (Nat.le_of_ble_eq_true rfl) ?_
  intro p e s m args below meth c ls cb sb F hr hlk ht hK S hl
  have hx := F.1
  have hb := F.2.1
  have hl : lv_has ls 4 [(0, .ref a0), (1, .int x1), (2, .int x2)] := hl
  unfold hf_X1_beam at h
  refine lv_aload_n hx hb dX1_beam_0 rfl (lv_at hl 0 rfl) ?_
  obtain ⟨v1, e2, h⟩ := obd_inv h
  refine hg_X1_47 F hK S e2 dX1_beam_1 ?_
  obtain ⟨d3, g4, hrl, hdl, h⟩ := h
  obtain ⟨v7, e6, h⟩ := obd_inv h
  refine hpc_X3_ray_X1_240 F hK S hrl hdl e6 rfl rfl hl.1 (Nat.le_of_ble_eq_true rfl) ⟨Nat.le_of_ble_eq_true rfl, Nat.le_of_ble_eq_true rfl⟩ dX1_beam_4 (fun w5 H locs hw hz S => ?_)
  replace h := hpret_mp h hw hz
  clear hw hz
  refine lv_pop hx hb dX1_beam_7 rfl ?_
  refine lv_iload_n hx hb dX1_beam_8 rfl (lv_at hl 1 rfl) ?_
  refine lv_iconst (v := 0) hx hb dX1_beam_9 (by decide) ?_
  refine lv_aload_n hx hb dX1_beam_10 rfl (lv_at hl 0 rfl) ?_
  obtain ⟨v8, e9, h⟩ := obd_inv h
  refine hg_X1_13 F hK S e9 dX1_beam_11 ?_
  obtain ⟨v10, e11, h⟩ := obd_inv h
  refine hg_X1_287 F hK S e11 dX1_beam_14 ?_
  refine lv_iconst (v := 1) hx hb dX1_beam_17 (by decide) ?_
  refine lv_isub hx hb dX1_beam_18 ?_
  obtain ⟨v12, e13, h⟩ := obd_inv h
  refine call_p_isIn_X1_165 (hKm E A) F hK S.1 e13 hl.1 (Nat.le_of_ble_eq_true rfl) ⟨Nat.le_of_ble_eq_true rfl, Nat.le_of_ble_eq_true rfl⟩ ⟨Nat.sub_le _ _, Nat.sub_le _ _⟩ dX1_beam_19 (fun H1 locs1 S1 => ?_)
  have S : hS E A s.heap _ _ _ _ _ := ⟨S1, S.2⟩
  refine lv_if_ne (tgt := 33) hx hb dX1_beam_22 (by decide) (fun c14 => ?_) (fun c14 => ?_)
  · rw [hIf_neg c14] at h
    refine lv_iload_n hx hb dX1_beam_33 rfl (lv_at hl 2 rfl) ?_
    refine lv_iconst (v := 0) hx hb dX1_beam_34 (by decide) ?_
    refine lv_iconst (v := 4) hx hb dX1_beam_35 (by decide) ?_
    obtain ⟨v15, e16, h⟩ := obd_inv h
    refine call_p_isIn_X1_165 (hKm E A) F hK S.1 e16 hl.1 (Nat.le_of_ble_eq_true rfl) ⟨Nat.le_of_ble_eq_true rfl, Nat.le_of_ble_eq_true rfl⟩ ⟨Nat.sub_le _ _, Nat.sub_le _ _⟩ dX1_beam_36 (fun H1 locs1 S1 => ?_)
    have S : hS E A s.heap _ _ _ _ _ := ⟨S1, S.2⟩
    obtain ⟨n17, n18, h1, h2, h⟩ := hcall_inv h
    refine hcl_X1_ask_X1_169 hst hlk ht F hK S h1 h2 h rfl rfl hl.1 (Nat.le_of_ble_eq_true rfl) ⟨Nat.le_of_ble_eq_true rfl, Nat.le_of_ble_eq_true rfl⟩ dX1_beam_39 (fun o20 w19 H locs hw h S => ?_)
    replace h := hret_mp h hw
    clear hw h1 h2
    refine lv_aload_n hx hb dX1_beam_42 rfl (lv_at hl 0 rfl) ?_
    obtain ⟨v21, e22, h⟩ := obd_inv h
    refine hg_X1_13 F hK S e22 dX1_beam_43 ?_
    obtain ⟨v23, e24, h⟩ := obd_inv h
    refine hg_X1_308 F hK S e24 dX1_beam_46 ?_
    refine lv_iload_n hx hb dX1_beam_49 rfl (lv_at hl 1 rfl) ?_
    obtain ⟨v25, e26, h⟩ := obd_inv h
    refine h_iald F hK S e26 dX1_beam_50 ?_
    refine lv_istore_n (lv' := [(3, .int v25), (0, .ref a0), (1, .int x1), (2, .int x2)]) hx hb dX1_beam_51 rfl hl (by decide) rfl (fun ls hl => ?_)
    refine lv_iload_n hx hb dX1_beam_52 rfl (lv_at hl 3 rfl) ?_
    by_cases c27 : x2 = 0
    · rw [hIf_pos c27] at h
      refine lv_tableIn (tgt := 84) (off := 31) hx hb dX1_beam_53 (by rw [c27]; decide) (by rw [c27]; decide) (by rw [c27]; rfl) (by decide) ?_
      refine lv_iload_n hx hb dX1_beam_84 rfl (lv_at hl 0 rfl) ?_
      refine lv_iconst (v := 4) hx hb dX1_beam_85 (by decide) ?_
      refine lv_idiv hx hb dX1_beam_86 (by decide) ?_
      refine lv_bipush (v := 10) hx hb dX1_beam_87 (by decide) ?_
      refine lv_irem hx hb dX1_beam_89 (by decide) ?_
      exact vx_ret (h_iret F hr hlk S h dX1_beam_90)
    rw [hIf_neg c27] at h
    by_cases c28 : x2 = 1
    · rw [hIf_pos c28] at h
      refine lv_tableIn (tgt := 91) (off := 38) hx hb dX1_beam_53 (by rw [c28]; decide) (by rw [c28]; decide) (by rw [c28]; rfl) (by decide) ?_
      refine lv_iload_n hx hb dX1_beam_91 rfl (lv_at hl 0 rfl) ?_
      refine lv_iconst (v := 4) hx hb dX1_beam_92 (by decide) ?_
      refine lv_idiv hx hb dX1_beam_93 (by decide) ?_
      refine lv_bipush (v := 10) hx hb dX1_beam_94 (by decide) ?_
      refine lv_idiv hx hb dX1_beam_96 (by decide) ?_
      exact vx_ret (h_iret F hr hlk S h dX1_beam_97)
    rw [hIf_neg c28] at h
    by_cases c29 : x2 = 2
    · rw [hIf_pos c29] at h
      refine lv_tableIn (tgt := 98) (off := 45) hx hb dX1_beam_53 (by rw [c29]; decide) (by rw [c29]; decide) (by rw [c29]; rfl) (by decide) ?_
      refine lv_iload_n hx hb dX1_beam_98 rfl (lv_at hl 0 rfl) ?_
      refine lv_iconst (v := 4) hx hb dX1_beam_99 (by decide) ?_
      refine lv_irem hx hb dX1_beam_100 (by decide) ?_
      exact vx_ret (h_iret F hr hlk S h dX1_beam_101)
    rw [hIf_neg c29] at h
    by_cases c30 : x2 = 3
    · rw [hIf_pos c30] at h
      refine lv_tableIn (tgt := 102) (off := 49) hx hb dX1_beam_53 (by rw [c30]; decide) (by rw [c30]; decide) (by rw [c30]; rfl) (by decide) ?_
      refine lv_aload_n hx hb dX1_beam_102 rfl (lv_at hl 1 rfl) ?_
      obtain ⟨v31, e32, h⟩ := obd_inv h
      refine hg_X1_13 F hK S e32 dX1_beam_103 ?_
      refine lv_iload_n hx hb dX1_beam_106 rfl (lv_at hl 2 rfl) ?_
      obtain ⟨d33, g34, hrl, hdl, h⟩ := h
      obtain ⟨v37, e36, h⟩ := obd_inv h
      refine hpc_X2_isInRing_X1_312 F hK S hrl hdl e36 rfl rfl hl.1 (Nat.le_of_ble_eq_true rfl) ⟨Nat.le_of_ble_eq_true rfl, Nat.le_of_ble_eq_true rfl⟩ dX1_beam_107 (fun w35 H locs hw hz S => ?_)
      replace h := hpret_mp h hw hz
      clear hw hz
      obtain ⟨k41, hk41, h⟩ := hj1_inv h
      have hJ118 : ∀ (v39 : Int32) (H : Heap) (locs : List Loc) (ls : Array Slot), k41 v39 → hS E A s.heap cb sb w35 H locs → lv_has ls 4 [] → W p l e (hrm_X1_beam cb sb) s m args below meth c H locs (cb - w35.2.1) (sb - w35.2.2) (vx_MQ below (hQi E A Q) (hXC E A QX) args s cb sb A) (F0 m 118 ls [.int v39]) := by
        intro v39 H locs ls h S hl
        replace h := hk41 _ h
        exact vx_ret (h_iret F hr hlk S h dX1_beam_118)
      clear hk41
      refine lv_if_eq (tgt := 117) hx hb dX1_beam_110 (by decide) (fun c38 => ?_) (fun c38 => ?_)
      · rw [hIf_pos c38] at h
        refine lv_iconst (v := 0) hx hb dX1_beam_117 (by decide) ?_
        exact hJ118 _ _ _ _ h S (lv_sub hl [] rfl)
      · rw [hIf_neg c38] at h
        refine lv_iconst (v := 1) hx hb dX1_beam_113 (by decide) ?_
        refine lv_goto (tgt := 118) hx hb dX1_beam_114 (by decide) ?_
        exact hJ118 _ _ _ _ h S (lv_sub hl [] rfl)
    rw [hIf_neg c30] at h
    refine lv_tableOut (tgt := 119) hx hb dX1_beam_53 (by have t0 := lv_neT (a := 0) c27 (by decide); have t1 := lv_neT (a := 1) c28 (by decide); have t2 := lv_neT (a := 2) c29 (by decide); have t3 := lv_neT (a := 3) c30 (by decide); omega) (by decide) ?_
    refine lv_aload_n hx hb dX1_beam_119 rfl (lv_at hl 1 rfl) ?_
    obtain ⟨v42, e43, h⟩ := obd_inv h
    refine hg_X1_13 F hK S e43 dX1_beam_120 ?_
    refine lv_iload_n hx hb dX1_beam_123 rfl (lv_at hl 0 rfl) ?_
    obtain ⟨d44, g45, hrl, hdl, h⟩ := h
    obtain ⟨v48, e47, h⟩ := obd_inv h
    refine hpc_X2_follow_X1_315 F hK S hrl hdl e47 rfl rfl hl.1 (Nat.le_of_ble_eq_true rfl) ⟨Nat.le_of_ble_eq_true rfl, Nat.le_of_ble_eq_true rfl⟩ dX1_beam_124 (fun w46 H locs hw hz S => ?_)
    replace h := hpret_mp h hw hz
    clear hw hz
    exact vx_ret (h_iret F hr hlk S h dX1_beam_127)
  · rw [hIf_pos c14] at h
    exact h_throwNSE hst F hlk hK S ht rfl rfl h hl.1 ⟨Nat.le_of_ble_eq_true rfl, Nat.le_of_ble_eq_true rfl⟩ dX1_beam_25 dX1_beam_28 dX1_beam_29 dX1_beam_32
def hf_X1_stepsTo (pl : Nat → Nat) (w : hW) (a0 : Nat) (x1 : Int32) (QX : String → hO → Prop) (Q : Int32 → hO → Prop) : Prop :=
  obd (hIs w a0 1) fun u1 =>
  hcall w fun n3 n4 => hf_X1_thing pl (w.1, n3, n4) a0 0 x1 QX fun v7 o6 => hret w n3 n4 o6 fun w5 =>
  obd (hgP w5 a0 1 3) fun v8 =>
  ∃ (d10 : hD) (g11 : mS), hRel d10 g11 w5.1 ∧ d10.1 100 = v8 ∧ obd (fc_X3_ray g11 100) fun v14 => hpret w5 d10 v14 fun w12 =>
  obd (hgC w12 v7) fun v15 =>
  ∃ (d17 : hD) (g18 : mS), hRel d17 g18 w12.1 ∧ d17.1 0 = (d10.1 0) ∧ obd (fc_X2_stepsTo g18 v15) fun v21 =>
  Q v21 w12.1
abbrev hrm_X1_stepsTo (c s : Nat) : Room := { frames := 9, cells := c, slots := s, locals := 219 }
set_option maxHeartbeats 4000000 in
set_option maxRecDepth 100000 in
theorem hmet_X1_stepsTo (l : Launch) (hst : l.stackTraces = false) (E : hEnv) (A : Nat → Prop) (w : hW) (a0 : Nat) (x1 : Int32) (QX : String → hO → Prop) (Q : Int32 → hO → Prop) (h : hf_X1_stepsTo E.2.2 w a0 x1 QX Q) : vx_Met l yX1_stepsTo (ws_ yX1_stepsTo cX1_stepsTo 3 (some .int)) (hrm_X1_stepsTo w.2.1 w.2.2) (va_Pc [.ref a0, .int x1] (gPre (hK E A) (hP E A w.1))) (hQi E A Q) (hXC E A QX) w.2.1 w.2.2 A := by
  refine hx_met (own := RX1) (by decide +kernel) rfl (Nat.le_of_ble_eq_true rfl) ?_
  intro p e s m args below meth c ls cb sb F hr hlk ht hK S hl
  have hx := F.1
  have hb := F.2.1
  have hl : lv_has ls 3 [(0, .ref a0), (1, .int x1)] := hl
  unfold hf_X1_stepsTo at h
  refine lv_aload_n hx hb dX1_stepsTo_0 rfl (lv_at hl 0 rfl) ?_
  refine lv_iconst (v := 0) hx hb dX1_stepsTo_1 (by decide) ?_
  refine lv_iload_n hx hb dX1_stepsTo_2 rfl (lv_at hl 1 rfl) ?_
  obtain ⟨u1, e2, h⟩ := obd_inv h
  obtain ⟨n3, n4, h1, h2, h⟩ := hcall_inv h
  refine hcl_X1_thing_X1_258 hst hlk ht F hK S (hIs_inv e2) h1 h2 h rfl rfl hl.1 (Nat.le_of_ble_eq_true rfl) ⟨Nat.le_of_ble_eq_true rfl, Nat.le_of_ble_eq_true rfl⟩ dX1_stepsTo_3 (fun v7 o6 w5 H locs hw h S => ?_)
  replace h := hret_mp h hw
  clear hw h1 h2
  refine lv_astore_n (lv' := [(2, .ref v7), (0, .ref a0), (1, .int x1)]) hx hb dX1_stepsTo_6 rfl hl (by decide) rfl (fun ls hl => ?_)
  refine lv_aload_n hx hb dX1_stepsTo_7 rfl (lv_at hl 1 rfl) ?_
  obtain ⟨v8, e9, h⟩ := obd_inv h
  refine hg_X1_47 F hK S e9 dX1_stepsTo_8 ?_
  obtain ⟨d10, g11, hrl, hdl, h⟩ := h
  obtain ⟨v14, e13, h⟩ := obd_inv h
  refine hpc_X3_ray_X1_240 F hK S hrl hdl e13 rfl rfl hl.1 (Nat.le_of_ble_eq_true rfl) ⟨Nat.le_of_ble_eq_true rfl, Nat.le_of_ble_eq_true rfl⟩ dX1_stepsTo_11 (fun w12 H locs hw hz S => ?_)
  replace h := hpret_mp h hw hz
  clear hw hz
  refine lv_aload_n hx hb dX1_stepsTo_14 rfl (lv_at hl 0 rfl) ?_
  obtain ⟨v15, e16, h⟩ := obd_inv h
  refine hg_X1_78 F hK S e16 dX1_stepsTo_15 ?_
  obtain ⟨d17, g18, hrl, hdl, h⟩ := h
  obtain ⟨v21, e20, h⟩ := obd_inv h
  refine hpc_X2_stepsTo_X1_318 F hK S hrl hdl e20 rfl rfl hl.1 (Nat.le_of_ble_eq_true rfl) ⟨Nat.le_of_ble_eq_true rfl, Nat.le_of_ble_eq_true rfl⟩ dX1_stepsTo_18 (fun H locs S => ?_)
  exact vx_ret (h_iret F hr hlk S h dX1_stepsTo_21)
def hf_X1_whyNot (pl : Nat → Nat) (w : hW) (a0 : Nat) (x1 : Int32) (x2 : Int32) (x3 : Int32) (QX : String → hO → Prop) (Q : Int32 → hO → Prop) : Prop :=
  obd (hIs w a0 1) fun u1 =>
  hcall w fun n3 n4 => hf_X1_cellOf pl (w.1, n3, n4) a0 x1 x2 QX fun v7 o6 => hret w n3 n4 o6 fun w5 =>
  obd (fp_isIn g00 x3 0 1) fun v8 =>
  hcall w5 fun n10 n11 => hf_X1_ask pl (w5.1, n10, n11) v8 QX fun o13 => hret w5 n10 n11 o13 fun w12 =>
  obd (hgP w12 a0 1 3) fun v14 =>
  ∃ (d16 : hD) (g17 : mS), hRel d16 g17 w12.1 ∧ d16.1 100 = v14 ∧ obd (fc_X3_whyNotTurn g17 100 v7) fun v20 =>
  hIf (x3 = 0) (
    Q v20 w12.1) <|
    obd (hgP w12 a0 1 3) fun v22 =>
    obd (hgP w12 v22 3 3) fun v24 =>
    obd (haP w12 v24 v7) fun v26 =>
    hjoin (fun (v53 : Int32) (g54 : hW) =>
      Q v53 g54.1) fun k56 =>
    hIf (v20 = 6) (
      obd (hgP w12 a0 1 3) fun v29 =>
      ∃ (d31 : hD) (g32 : mS), hRel d31 g32 w12.1 ∧ d31.1 100 = v29 ∧ obd (fc_X3_winner g32 100) fun v35 =>
      k56 v35 w12) <|
    hIf (v20 = 7) (
      hcall w12 fun n37 n38 => hv_kind pl (w12.1, n37, n38) v26 fun v41 o40 => hret w12 n37 n38 o40 fun w39 =>
      k56 v41 w39) <|
    hIf (v20 = 8) (
      hcall w12 fun n43 n44 => hv_owner pl (w12.1, n43, n44) v26 fun v47 o46 => hret w12 n43 n44 o46 fun w45 =>
      k56 v47 w45) <|
    hIf (v20 = 9) (
      obd (hIs w12 v26 6) fun u49 =>
      obd (hgI w12 v26 6 4) fun v51 =>
      k56 v51 w12) <|
      k56 (-1) w12
abbrev hrm_X1_whyNot (c s : Nat) : Room := { frames := 7, cells := c, slots := s, locals := 116 }
set_option maxHeartbeats 4000000 in
set_option maxRecDepth 100000 in
theorem hmet_X1_whyNot (l : Launch) (hst : l.stackTraces = false) (E : hEnv) (A : Nat → Prop) (w : hW) (a0 : Nat) (x1 : Int32) (x2 : Int32) (x3 : Int32) (QX : String → hO → Prop) (Q : Int32 → hO → Prop) (h : hf_X1_whyNot E.2.2 w a0 x1 x2 x3 QX Q) : vx_Met l yX1_whyNot (ws_ yX1_whyNot cX1_whyNot 7 (some .int)) (hrm_X1_whyNot w.2.1 w.2.2) (va_Pc [.ref a0, .int x1, .int x2, .int x3] (gPre (hK E A) (hP E A w.1))) (hQi E A Q) (hXC E A QX) w.2.1 w.2.2 A := by
  refine hx_met (own := RX1) (by decide +kernel) rfl (Nat.le_of_ble_eq_true rfl) ?_
  intro p e s m args below meth c ls cb sb F hr hlk ht hK S hl
  have hx := F.1
  have hb := F.2.1
  have hl : lv_has ls 7 [(0, .ref a0), (1, .int x1), (2, .int x2), (3, .int x3)] := hl
  unfold hf_X1_whyNot at h
  refine lv_aload_n hx hb dX1_whyNot_0 rfl (lv_at hl 0 rfl) ?_
  refine lv_iload_n hx hb dX1_whyNot_1 rfl (lv_at hl 1 rfl) ?_
  refine lv_iload_n hx hb dX1_whyNot_2 rfl (lv_at hl 2 rfl) ?_
  obtain ⟨u1, e2, h⟩ := obd_inv h
  obtain ⟨n3, n4, h1, h2, h⟩ := hcall_inv h
  refine hcl_X1_cellOf_X1_146 hst hlk ht F hK S (hIs_inv e2) h1 h2 h rfl rfl hl.1 (Nat.le_of_ble_eq_true rfl) ⟨Nat.le_of_ble_eq_true rfl, Nat.le_of_ble_eq_true rfl⟩ dX1_whyNot_3 (fun v7 o6 w5 H locs hw h S => ?_)
  replace h := hret_mp h hw
  clear hw h1 h2
  refine lv_istore (lv' := [(4, .int v7), (0, .ref a0), (1, .int x1), (2, .int x2), (3, .int x3)]) hx hb dX1_whyNot_6 hl (by decide) rfl (fun ls hl => ?_)
  refine lv_iload_n hx hb dX1_whyNot_8 rfl (lv_at hl 4 rfl) ?_
  refine lv_iconst (v := 0) hx hb dX1_whyNot_9 (by decide) ?_
  refine lv_iconst (v := 1) hx hb dX1_whyNot_10 (by decide) ?_
  obtain ⟨v8, e9, h⟩ := obd_inv h
  refine call_p_isIn_X1_165 (hKm E A) F hK S.1 e9 hl.1 (Nat.le_of_ble_eq_true rfl) ⟨Nat.le_of_ble_eq_true rfl, Nat.le_of_ble_eq_true rfl⟩ ⟨Nat.sub_le _ _, Nat.sub_le _ _⟩ dX1_whyNot_11 (fun H1 locs1 S1 => ?_)
  have S : hS E A s.heap _ _ _ _ _ := ⟨S1, S.2⟩
  obtain ⟨n10, n11, h1, h2, h⟩ := hcall_inv h
  refine hcl_X1_ask_X1_169 hst hlk ht F hK S h1 h2 h rfl rfl hl.1 (Nat.le_of_ble_eq_true rfl) ⟨Nat.le_of_ble_eq_true rfl, Nat.le_of_ble_eq_true rfl⟩ dX1_whyNot_14 (fun o13 w12 H locs hw h S => ?_)
  replace h := hret_mp h hw
  clear hw h1 h2
  refine lv_aload_n hx hb dX1_whyNot_17 rfl (lv_at hl 1 rfl) ?_
  obtain ⟨v14, e15, h⟩ := obd_inv h
  refine hg_X1_47 F hK S e15 dX1_whyNot_18 ?_
  refine lv_iload hx hb dX1_whyNot_21 (lv_at hl 0 rfl) ?_
  obtain ⟨d16, g17, hrl, hdl, h⟩ := h
  obtain ⟨v20, e19, h⟩ := obd_inv h
  refine hpc_X3_whyNotTurn_X1_199 F hK S hrl hdl e19 rfl rfl hl.1 (Nat.le_of_ble_eq_true rfl) ⟨Nat.le_of_ble_eq_true rfl, Nat.le_of_ble_eq_true rfl⟩ dX1_whyNot_23 (fun H locs S => ?_)
  refine lv_istore (lv' := [(5, .int v20), (4, .int v7), (0, .ref a0), (1, .int x1), (2, .int x2), (3, .int x3)]) hx hb dX1_whyNot_26 hl (by decide) rfl (fun ls hl => ?_)
  refine lv_iload_n hx hb dX1_whyNot_28 rfl (lv_at hl 5 rfl) ?_
  refine lv_if_ne (tgt := 35) hx hb dX1_whyNot_29 (by decide) (fun c21 => ?_) (fun c21 => ?_)
  · rw [hIf_neg c21] at h
    refine lv_aload_n hx hb dX1_whyNot_35 rfl (lv_at hl 2 rfl) ?_
    obtain ⟨v22, e23, h⟩ := obd_inv h
    refine hg_X1_47 F hK S e23 dX1_whyNot_36 ?_
    obtain ⟨v24, e25, h⟩ := obd_inv h
    refine hg_X1_74 F hK S e25 dX1_whyNot_39 ?_
    refine lv_iload hx hb dX1_whyNot_42 (lv_at hl 1 rfl) ?_
    obtain ⟨v26, e27, h⟩ := obd_inv h
    refine h_aald F hK S e27 dX1_whyNot_44 ?_
    refine lv_astore (lv' := [(6, .ref v26), (5, .int v20), (4, .int v7), (0, .ref a0), (1, .int x1), (2, .int x2), (3, .int x3)]) hx hb dX1_whyNot_45 hl (by decide) rfl (fun ls hl => ?_)
    refine lv_iload hx hb dX1_whyNot_47 (lv_at hl 1 rfl) ?_
    obtain ⟨k56, hk56, h⟩ := hj2_inv h
    have hJ118 : ∀ (v53 : Int32) (g54 : hW) (H : Heap) (locs : List Loc) (ls : Array Slot), k56 v53 g54 → hS E A s.heap cb sb g54 H locs → lv_has ls 7 [] → W p l e (hrm_X1_whyNot cb sb) s m args below meth c H locs (cb - g54.2.1) (sb - g54.2.2) (vx_MQ below (hQi E A Q) (hXC E A QX) args s cb sb A) (F0 m 118 ls [.int v53]) := by
      intro v53 g54 H locs ls h S hl
      replace h := hk56 _ _ h
      exact vx_ret (h_iret F hr hlk S h dX1_whyNot_118)
    clear hk56
    by_cases c28 : v20 = 6
    · rw [hIf_pos c28] at h
      refine lv_tableIn (tgt := 80) (off := 31) hx hb dX1_whyNot_49 (by rw [c28]; decide) (by rw [c28]; decide) (by rw [c28]; rfl) (by decide) ?_
      refine lv_aload_n hx hb dX1_whyNot_80 rfl (lv_at hl 3 rfl) ?_
      obtain ⟨v29, e30, h⟩ := obd_inv h
      refine hg_X1_47 F hK S e30 dX1_whyNot_81 ?_
      obtain ⟨d31, g32, hrl, hdl, h⟩ := h
      obtain ⟨v35, e34, h⟩ := obd_inv h
      refine hpc_X3_winner_X1_231 F hK S hrl hdl e34 rfl rfl hl.1 (Nat.le_of_ble_eq_true rfl) ⟨Nat.le_of_ble_eq_true rfl, Nat.le_of_ble_eq_true rfl⟩ dX1_whyNot_84 (fun H locs S => ?_)
      refine lv_goto (tgt := 118) hx hb dX1_whyNot_87 (by decide) ?_
      exact hJ118 _ _ _ _ _ h S (lv_sub hl [] rfl)
    rw [hIf_neg c28] at h
    by_cases c36 : v20 = 7
    · rw [hIf_pos c36] at h
      refine lv_tableIn (tgt := 90) (off := 41) hx hb dX1_whyNot_49 (by rw [c36]; decide) (by rw [c36]; decide) (by rw [c36]; rfl) (by decide) ?_
      refine lv_aload hx hb dX1_whyNot_90 (lv_at hl 0 rfl) ?_
      obtain ⟨n37, n38, h1, h2, h⟩ := hcall_inv h
      refine hcv_kind_X1_107 F hK S h1 h2 h rfl rfl hl.1 (Nat.le_of_ble_eq_true rfl) ⟨Nat.le_of_ble_eq_true rfl, Nat.le_of_ble_eq_true rfl⟩ dX1_whyNot_92 (fun v41 o40 w39 H locs hw h S => ?_)
      replace h := hret_mp h hw
      clear hw h1 h2
      refine lv_goto (tgt := 118) hx hb dX1_whyNot_95 (by decide) ?_
      exact hJ118 _ _ _ _ _ h S (lv_sub hl [] rfl)
    rw [hIf_neg c36] at h
    by_cases c42 : v20 = 8
    · rw [hIf_pos c42] at h
      refine lv_tableIn (tgt := 98) (off := 49) hx hb dX1_whyNot_49 (by rw [c42]; decide) (by rw [c42]; decide) (by rw [c42]; rfl) (by decide) ?_
      refine lv_aload hx hb dX1_whyNot_98 (lv_at hl 0 rfl) ?_
      obtain ⟨n43, n44, h1, h2, h⟩ := hcall_inv h
      refine hcv_owner_X1_237 F hK S h1 h2 h rfl rfl hl.1 (Nat.le_of_ble_eq_true rfl) ⟨Nat.le_of_ble_eq_true rfl, Nat.le_of_ble_eq_true rfl⟩ dX1_whyNot_100 (fun v47 o46 w45 H locs hw h S => ?_)
      replace h := hret_mp h hw
      clear hw h1 h2
      refine lv_goto (tgt := 118) hx hb dX1_whyNot_103 (by decide) ?_
      exact hJ118 _ _ _ _ _ h S (lv_sub hl [] rfl)
    rw [hIf_neg c42] at h
    by_cases c48 : v20 = 9
    · rw [hIf_pos c48] at h
      refine lv_tableIn (tgt := 106) (off := 57) hx hb dX1_whyNot_49 (by rw [c48]; decide) (by rw [c48]; decide) (by rw [c48]; rfl) (by decide) ?_
      refine lv_aload hx hb dX1_whyNot_106 (lv_at hl 0 rfl) ?_
      obtain ⟨u49, e50, h⟩ := obd_inv h
      refine h_cast F hK S e50 rfl q318 dX1_whyNot_108 ?_
      obtain ⟨v51, e52, h⟩ := obd_inv h
      refine hg_X1_268 F hK S e52 dX1_whyNot_111 ?_
      refine lv_goto (tgt := 118) hx hb dX1_whyNot_114 (by decide) ?_
      exact hJ118 _ _ _ _ _ h S (lv_sub hl [] rfl)
    rw [hIf_neg c48] at h
    refine lv_tableOut (tgt := 117) hx hb dX1_whyNot_49 (by have t0 := lv_neT (a := 6) c28 (by decide); have t1 := lv_neT (a := 7) c36 (by decide); have t2 := lv_neT (a := 8) c42 (by decide); have t3 := lv_neT (a := 9) c48 (by decide); omega) (by decide) ?_
    refine lv_iconst (v := (-1)) hx hb dX1_whyNot_117 (by decide) ?_
    exact hJ118 _ _ _ _ _ h S (lv_sub hl [] rfl)
  · rw [hIf_pos c21] at h
    refine lv_iload hx hb dX1_whyNot_32 (lv_at hl 0 rfl) ?_
    exact vx_ret (h_iret F hr hlk S h dX1_whyNot_34)
def hf_X1_hitIf (pl : Nat → Nat) (w : hW) (a0 : Nat) (x1 : Int32) (QX : String → hO → Prop) (Q : Int32 → hO → Prop) : Prop :=
  obd (hIs w a0 1) fun u1 =>
  hcall w fun n3 n4 => hf_X1_thing pl (w.1, n3, n4) a0 1 x1 QX fun v7 o6 => hret w n3 n4 o6 fun w5 =>
  hNew w5 (.inl (3, [.null, .int 0, .int 0, .null, .int 0, .int 0, .int 0, .int 0, .int 0])) 9 fun q8 w9 =>
  obd (hgP w9 a0 1 3) fun v10 =>
  hcall w9 fun n12 n13 => hf_X3_init_3 pl (w9.1, n12, n13) q8 v10 fun o15 => hret w9 n12 n13 o15 fun w14 =>
  obd (hIs w14 q8 3) fun u16 =>
  hcall w14 fun n18 n19 => hf_X3_all pl (w14.1, n18, n19) q8 1 fun v22 o21 => hret w14 n18 n19 o21 fun w20 =>
  obd (hIs w20 q8 3) fun u23 =>
  hcall w20 fun n25 n26 => hf_X3_turns pl (w20.1, n25, n26) q8 v22 (1 <<< (x1 &&& 31)) fun o28 => hret w20 n25 n26 o28 fun w27 =>
  ∃ (d29 : hD) (g30 : mS), hRel d29 g30 w27.1 ∧ d29.1 100 = q8 ∧ obd (fc_X3_hits g30 100) fun v33 => hpret w27 d29 v33.2 fun w31 =>
  Q v33.1 w31.1
abbrev hrm_X1_hitIf (c s : Nat) : Room := { frames := 9, cells := c, slots := s, locals := 219 }
set_option maxHeartbeats 4000000 in
set_option maxRecDepth 100000 in
theorem hmet_X1_hitIf (l : Launch) (hst : l.stackTraces = false) (E : hEnv) (A : Nat → Prop) (w : hW) (a0 : Nat) (x1 : Int32) (QX : String → hO → Prop) (Q : Int32 → hO → Prop) (h : hf_X1_hitIf E.2.2 w a0 x1 QX Q) : vx_Met l yX1_hitIf (ws_ yX1_hitIf cX1_hitIf 3 (some .int)) (hrm_X1_hitIf w.2.1 w.2.2) (va_Pc [.ref a0, .int x1] (gPre (hK E A) (hP E A w.1))) (hQi E A Q) (hXC E A QX) w.2.1 w.2.2 A := by
  refine hx_met (own := RX1) (by decide +kernel) rfl (Nat.le_of_ble_eq_true rfl) ?_
  intro p e s m args below meth c ls cb sb F hr hlk ht hK S hl
  have hx := F.1
  have hb := F.2.1
  have hl : lv_has ls 3 [(0, .ref a0), (1, .int x1)] := hl
  unfold hf_X1_hitIf at h
  refine lv_aload_n hx hb dX1_hitIf_0 rfl (lv_at hl 0 rfl) ?_
  refine lv_iconst (v := 1) hx hb dX1_hitIf_1 (by decide) ?_
  refine lv_iload_n hx hb dX1_hitIf_2 rfl (lv_at hl 1 rfl) ?_
  obtain ⟨u1, e2, h⟩ := obd_inv h
  obtain ⟨n3, n4, h1, h2, h⟩ := hcall_inv h
  refine hcl_X1_thing_X1_258 hst hlk ht F hK S (hIs_inv e2) h1 h2 h rfl rfl hl.1 (Nat.le_of_ble_eq_true rfl) ⟨Nat.le_of_ble_eq_true rfl, Nat.le_of_ble_eq_true rfl⟩ dX1_hitIf_3 (fun v7 o6 w5 H locs hw h S => ?_)
  replace h := hret_mp h hw
  clear hw h1 h2
  refine lv_pop hx hb dX1_hitIf_6 rfl ?_
  refine hn_X1_32 F hK S rfl rfl h dX1_hitIf_7 (fun q8 w9 H h S => ?_)
  refine lv_dup hx hb dX1_hitIf_10 rfl ?_
  refine lv_aload_n hx hb dX1_hitIf_11 rfl (lv_at hl 0 rfl) ?_
  obtain ⟨v10, e11, h⟩ := obd_inv h
  refine hg_X1_47 F hK S e11 dX1_hitIf_12 ?_
  obtain ⟨n12, n13, h1, h2, h⟩ := hcall_inv h
  refine hcl_X3_init_3_X1_93 F hK S h1 h2 h rfl rfl hl.1 (Nat.le_of_ble_eq_true rfl) ⟨Nat.le_of_ble_eq_true rfl, Nat.le_of_ble_eq_true rfl⟩ dX1_hitIf_15 (fun o15 w14 H locs hw h S => ?_)
  replace h := hret_mp h hw
  clear hw h1 h2
  refine lv_astore_n (lv' := [(2, .ref q8), (0, .ref a0), (1, .int x1)]) hx hb dX1_hitIf_18 rfl hl (by decide) rfl (fun ls hl => ?_)
  refine lv_aload_n hx hb dX1_hitIf_19 rfl (lv_at hl 0 rfl) ?_
  refine lv_aload_n hx hb dX1_hitIf_20 rfl (lv_at hl 0 rfl) ?_
  refine lv_iconst (v := 1) hx hb dX1_hitIf_21 (by decide) ?_
  obtain ⟨u16, e17, h⟩ := obd_inv h
  obtain ⟨n18, n19, h1, h2, h⟩ := hcall_inv h
  refine hcl_X3_all_X1_131 F hK S (hIs_inv e17) h1 h2 h rfl rfl hl.1 (Nat.le_of_ble_eq_true rfl) ⟨Nat.le_of_ble_eq_true rfl, Nat.le_of_ble_eq_true rfl⟩ dX1_hitIf_22 (fun v22 o21 w20 H locs hw h S => ?_)
  replace h := hret_mp h hw
  clear hw h1 h2
  refine lv_iconst (v := 1) hx hb dX1_hitIf_25 (by decide) ?_
  refine lv_iload_n hx hb dX1_hitIf_26 rfl (lv_at hl 2 rfl) ?_
  refine lv_ishl hx hb dX1_hitIf_27 ?_
  obtain ⟨u23, e24, h⟩ := obd_inv h
  obtain ⟨n25, n26, h1, h2, h⟩ := hcall_inv h
  refine hcl_X3_turns_X1_329 F hK S (hIs_inv e24) h1 h2 h rfl rfl hl.1 (Nat.le_of_ble_eq_true rfl) ⟨Nat.le_of_ble_eq_true rfl, Nat.le_of_ble_eq_true rfl⟩ dX1_hitIf_28 (fun o28 w27 H locs hw h S => ?_)
  replace h := hret_mp h hw
  clear hw h1 h2
  refine lv_aload_n hx hb dX1_hitIf_31 rfl (lv_at hl 0 rfl) ?_
  obtain ⟨d29, g30, hrl, hdl, h⟩ := h
  obtain ⟨v33, e32, h⟩ := obd_inv h
  refine hpc_X3_hits_X1_295 F hK S hrl hdl e32 rfl rfl hl.1 (Nat.le_of_ble_eq_true rfl) ⟨Nat.le_of_ble_eq_true rfl, Nat.le_of_ble_eq_true rfl⟩ dX1_hitIf_32 (fun w31 H locs hw hz S => ?_)
  replace h := hpret_mp h hw hz
  clear hw hz
  exact vx_ret (h_iret F hr hlk S h dX1_hitIf_35)
theorem hcl_X1_isHitBy_X1_332 {p : Program} {l : Launch} {e : Env} {s : State} {m : MethodId} {args : Array Value} {below : List Frame} {meth : Method} {c : Code} {R : Room} {H : Heap} {locs : List Loc} {cb sb pc nL : Nat} {Q : State → Prop} {ls : Array Slot} {rest : List Value} {cc : ByteArray} {E : hEnv} {A : Nat → Prop} {w : hW} {a0 : Nat} {x1 : Nat} {x2 : Nat} {x3 : Int32} {x4 : Int32} {Q' : Int32 → hO → Prop} {c1 s1 : Nat} (F : CallFix p m c cc nL s args lw_all RX1) (hK : hK E A s) (S : hS E A s.heap cb sb w H locs) (hrv : ∃ (b : Bool) (fs : List Value), w.1 a0 = some (b, .inl (1, fs))) (h1 : c1 ≤ w.2.1) (h2 : s1 ≤ w.2.2) (h : hf_X1_isHitBy E.2.2 (w.1, c1, s1) a0 x1 x2 x3 x4 Q') (hrc : R.cells = cb) (hrs : R.slots = sb) (hls : ls.size = nL) (hWt : (rest.map fun v => v.category).sum ≤ 8) (hR : 7 + 1 ≤ R.frames ∧ 8 + (6 + 11) + 155 ≤ R.locals) (hdg : decode cc pc = .ok (.invokevirtual 332, 3))
    (kk : ∀ (v : Int32) (o : hO) (w' : hW) (H1 : Heap) (locs1 : List Loc), w' = (o, w.2.1 - c1, w.2.2 - s1) → Q' v o → hS E A s.heap cb sb w' H1 locs1 → W p l e R s m args below meth c H1 locs1 (cb - w'.2.1) (sb - w'.2.2) Q (F0 m (pc + 3) ls (.int v :: rest))) : W p l e R s m args below meth c H locs (cb - w.2.1) (sb - w.2.2) Q (F0 m pc ls (.int x4 :: .int x3 :: .ref x2 :: .ref x1 :: .ref a0 :: rest)) :=
  h_ki (g_runV F hK (hKm E A) S.1 (hmet_X1_isHitBy l E A (w.1, c1, s1) a0 x1 x2 x3 x4 Q' h) (cwV 4 F.2.2.2.2 (lw_V q1763 q1765 qs37 q111 q1766) rfl rfl rfl (by decide +kernel) hR) (h_recv hK S (ci := 1) rfl hrv) rfl hls rfl hWt hdg ⟨by rw [hrc]; exact (h_left S h1 h2).1, by rw [hrs]; exact (h_left S h1 h2).2⟩) S h1 h2 kk
def hL_X1_fewest_1 (pl : Nat → Nat) (QX : String → hO → Prop) (Q : Int32 → hO → Prop) (K : Int32 → hW → Prop) (y0 : Nat) (y2 : Int32) (y3 : Nat) (y4 : Nat) : Nat → hW → Int32 → Int32 → Prop
  | 0, _, _, _ => False
  | n + 1, w, y5, y6 =>
    obd (hIs w y4 13) fun u25 =>
    hcall w fun n27 n28 => hf_J18_size pl (w.1, n27, n28) y4 fun v31 o30 => hret w n27 n28 o30 fun w29 =>
    hIf ((1 <<< (v31 &&& 31)) ≤ y6) (
      K y5 w29) <|
      hjoin (fun (v39 : Int32) =>
        hjoin (fun (v49 : Int32) (g50 : hW) =>
          hL_X1_fewest_1 pl QX Q K y0 y2 y3 y4 n g50 v49 (y6 + 1)) fun k52 =>
        hIf (v39 = 0) (
          k52 y5 w29) <|
          obd (hIs w29 y0 1) fun u41 =>
          hcall w29 fun n43 n44 => hf_X1_isHitBy pl (w29.1, n43, n44) y0 y3 y4 y6 y2 fun v47 o46 => hret w29 n43 n44 o46 fun w45 =>
          hIf (v47 = 0) (
            k52 y5 w45) <|
            k52 y6 w45) fun k54 =>
      hIf (y5 = (-1)) (
        k54 1) <|
        obd (fp_bitCount g00 y6) fun v34 =>
        obd (fp_bitCount g00 y5) fun v36 =>
        hIf (v36 ≤ v34) (
          k54 0) <|
          k54 1
def hf_X1_fewest (pl : Nat → Nat) (w : hW) (a0 : Nat) (x1 : Int32) (QX : String → hO → Prop) (Q : Int32 → hO → Prop) : Prop :=
  obd (hIs w a0 1) fun u1 =>
  hcall w fun n3 n4 => hf_X1_thing pl (w.1, n3, n4) a0 0 x1 QX fun v7 o6 => hret w n3 n4 o6 fun w5 =>
  obd (hgC w5 v7) fun v8 =>
  hNew w5 (.inl (3, [.null, .int 0, .int 0, .null, .int 0, .int 0, .int 0, .int 0, .int 0])) 9 fun q10 w11 =>
  obd (hgP w11 a0 1 3) fun v12 =>
  hcall w11 fun n14 n15 => hf_X3_init_3 pl (w11.1, n14, n15) q10 v12 fun o17 => hret w11 n14 n15 o17 fun w16 =>
  obd (hIs w16 q10 3) fun u18 =>
  hcall w16 fun n20 n21 => hf_X3_all pl (w16.1, n20, n21) q10 1 fun v24 o23 => hret w16 n20 n21 o23 fun w22 =>
  hL_X1_fewest_1 pl QX Q (fun (v55 : Int32) (w56 : hW) =>
    Q v55 w56.1) a0 v8 q10 v24 FUEL w22 (-1) 0
abbrev hrm_X1_fewest (c s : Nat) : Room := { frames := 9, cells := c, slots := s, locals := 219 }
set_option maxHeartbeats 4000000 in
set_option maxRecDepth 100000 in
theorem hloop_X1_fewest_1 {p : Program} {l : Launch} {e : Env} {s : State} {m : MethodId} {args : Array Value} {below : List Frame} {meth : Method} {c : Code} {cb sb : Nat} {E : hEnv} {A : Nat → Prop} {Q : Int32 → hO → Prop} {QX : String → hO → Prop} {K : Int32 → hW → Prop} {y0 : Nat} {y2 : Int32} {y3 : Nat} {y4 : Nat} (F : CallFix p m c cX1_fewest 8 s args lw_all RX1) (hr : meth.sig.returnType = some .int) (hlk : meth.locks = false) (hK : hK E A s) (hst : l.stackTraces = false) (ht : ∀ x ∈ c.exceptionTable.toList, False) : ∀ (n : Nat) (w : hW) (y5 : Int32) (y6 : Int32), hL_X1_fewest_1 E.2.2 QX Q K y0 y2 y3 y4 n w y5 y6 → ∀ (H : Heap) (locs : List Loc) (ls : Array Slot), hS E A s.heap cb sb w H locs → lv_has ls 8 [(0, .ref y0), (2, .int y2), (3, .ref y3), (4, .ref y4), (5, .int y5), (6, .int y6)] → (∀ (z5 : Int32) (wz : hW) (H : Heap) (locs : List Loc) (ls : Array Slot), K z5 wz → hS E A s.heap cb sb wz H locs → lv_has ls 8 [(5, .int z5)] → W p l e (hrm_X1_fewest cb sb) s m args below meth c H locs (cb - wz.2.1) (sb - wz.2.2) (vx_MQ below (hQi E A Q) (hXC E A QX) args s cb sb A) (F0 m 101 ls [])) → W p l e (hrm_X1_fewest cb sb) s m args below meth c H locs (cb - w.2.1) (sb - w.2.2) (vx_MQ below (hQi E A Q) (hXC E A QX) args s cb sb A) (F0 m 35 ls []) := by
  have hx := F.1
  have hb := F.2.1
  intro n
  induction n with
  | zero =>
    intro w y5 y6 h
    exact False.elim h
  | succ n ih =>
    intro w y5 y6 h H locs ls S hl kx
    rw [hL_X1_fewest_1] at h
    refine lv_iload hx hb dX1_fewest_35 (lv_at hl 5 rfl) ?_
    refine lv_iconst (v := 1) hx hb dX1_fewest_37 (by decide) ?_
    refine lv_aload hx hb dX1_fewest_38 (lv_at hl 3 rfl) ?_
    obtain ⟨u25, e26, h⟩ := obd_inv h
    obtain ⟨n27, n28, h1, h2, h⟩ := hcall_inv h
    refine hcl_J18_size_X1_135 F hK S (hIs_inv e26) h1 h2 h rfl rfl hl.1 (Nat.le_of_ble_eq_true rfl) ⟨Nat.le_of_ble_eq_true rfl, Nat.le_of_ble_eq_true rfl⟩ dX1_fewest_40 (fun v31 o30 w29 H locs hw h S => ?_)
    replace h := hret_mp h hw
    clear hw h1 h2
    refine lv_ishl hx hb dX1_fewest_43 ?_
    refine lv_icmp_ge (tgt := 101) hx hb dX1_fewest_44 (by decide) (fun c32 => ?_) (fun c32 => ?_)
    · rw [hIf_pos c32] at h
      exact kx _ _ _ _ _ h S (lv_sub hl [4] rfl)
    · rw [hIf_neg c32] at h
      refine lv_iload hx hb dX1_fewest_47 (lv_at hl 4 rfl) ?_
      refine lv_iconst (v := (-1)) hx hb dX1_fewest_49 (by decide) ?_
      obtain ⟨k54, hk54, h⟩ := hj1_inv h
      have hJ71 : ∀ (v39 : Int32) (H : Heap) (locs : List Loc) (ls : Array Slot), k54 v39 → hS E A s.heap cb sb w29 H locs → lv_has ls 8 [(0, .ref y0), (2, .int y2), (3, .ref y3), (4, .ref y4), (5, .int y5), (6, .int y6)] → W p l e (hrm_X1_fewest cb sb) s m args below meth c H locs (cb - w29.2.1) (sb - w29.2.2) (vx_MQ below (hQi E A Q) (hXC E A QX) args s cb sb A) (F0 m 71 ls [.int v39]) := by
        intro v39 H locs ls h S hl
        replace h := hk54 _ h
        refine lv_istore (lv' := [(7, .int v39), (0, .ref y0), (2, .int y2), (3, .ref y3), (4, .ref y4), (5, .int y5), (6, .int y6)]) hx hb dX1_fewest_71 hl (by decide) rfl (fun ls hl => ?_)
        refine lv_iload hx hb dX1_fewest_73 (lv_at hl 0 rfl) ?_
        obtain ⟨k52, hk52, h⟩ := hj2_inv h
        have hJ95 : ∀ (v49 : Int32) (g50 : hW) (H : Heap) (locs : List Loc) (ls : Array Slot), k52 v49 g50 → hS E A s.heap cb sb g50 H locs → lv_has ls 8 [(0, .ref y0), (2, .int y2), (3, .ref y3), (4, .ref y4), (5, .int v49), (6, .int y6)] → W p l e (hrm_X1_fewest cb sb) s m args below meth c H locs (cb - g50.2.1) (sb - g50.2.2) (vx_MQ below (hQi E A Q) (hXC E A QX) args s cb sb A) (F0 m 95 ls []) := by
          intro v49 g50 H locs ls h S hl
          replace h := hk52 _ _ h
          refine lv_iinc (v := (y6 + 1)) (lv' := [(6, .int (y6 + 1)), (0, .ref y0), (2, .int y2), (3, .ref y3), (4, .ref y4), (5, .int v49)]) hx hb dX1_fewest_95 hl (k := 5) rfl rfl (by decide) rfl (fun ls hl => ?_)
          refine lv_goto (tgt := 35) hx hb dX1_fewest_98 (by decide) ?_
          exact ih _ _ _ h _ _ _ S (lv_sub hl [1, 2, 3, 4, 5, 0] rfl) kx
        clear hk52
        refine lv_if_eq (tgt := 95) hx hb dX1_fewest_75 (by decide) (fun c40 => ?_) (fun c40 => ?_)
        · rw [hIf_pos c40] at h
          exact hJ95 _ _ _ _ _ h S (lv_sub hl [1, 2, 3, 4, 5, 6] rfl)
        · rw [hIf_neg c40] at h
          refine lv_aload_n hx hb dX1_fewest_78 rfl (lv_at hl 1 rfl) ?_
          refine lv_aload_n hx hb dX1_fewest_79 rfl (lv_at hl 3 rfl) ?_
          refine lv_aload hx hb dX1_fewest_80 (lv_at hl 4 rfl) ?_
          refine lv_iload hx hb dX1_fewest_82 (lv_at hl 6 rfl) ?_
          refine lv_iload_n hx hb dX1_fewest_84 rfl (lv_at hl 2 rfl) ?_
          obtain ⟨u41, e42, h⟩ := obd_inv h
          obtain ⟨n43, n44, h1, h2, h⟩ := hcall_inv h
          refine hcl_X1_isHitBy_X1_332 F hK S (hIs_inv e42) h1 h2 h rfl rfl hl.1 (Nat.le_of_ble_eq_true rfl) ⟨Nat.le_of_ble_eq_true rfl, Nat.le_of_ble_eq_true rfl⟩ dX1_fewest_85 (fun v47 o46 w45 H locs hw h S => ?_)
          replace h := hret_mp h hw
          clear hw h1 h2
          refine lv_if_eq (tgt := 95) hx hb dX1_fewest_88 (by decide) (fun c48 => ?_) (fun c48 => ?_)
          · rw [hIf_pos c48] at h
            exact hJ95 _ _ _ _ _ h S (lv_sub hl [1, 2, 3, 4, 5, 6] rfl)
          · rw [hIf_neg c48] at h
            refine lv_iload hx hb dX1_fewest_91 (lv_at hl 6 rfl) ?_
            refine lv_istore (lv' := [(5, .int y6), (7, .int v39), (0, .ref y0), (2, .int y2), (3, .ref y3), (4, .ref y4), (6, .int y6)]) hx hb dX1_fewest_93 hl (by decide) rfl (fun ls hl => ?_)
            exact hJ95 _ _ _ _ _ h S (lv_sub hl [2, 3, 4, 5, 0, 6] rfl)
      clear hk54
      refine lv_icmp_eq (tgt := 66) hx hb dX1_fewest_50 (by decide) (fun c33 => ?_) (fun c33 => ?_)
      · rw [hIf_pos c33] at h
        refine lv_iconst (v := 1) hx hb dX1_fewest_66 (by decide) ?_
        refine lv_goto (tgt := 71) hx hb dX1_fewest_67 (by decide) ?_
        exact hJ71 _ _ _ _ h S (lv_sub hl [0, 1, 2, 3, 4, 5] rfl)
      · rw [hIf_neg c33] at h
        refine lv_iload hx hb dX1_fewest_53 (lv_at hl 5 rfl) ?_
        obtain ⟨v34, e35, h⟩ := obd_inv h
        refine call_p_bitCount_X1_253 (hKm E A) F hK S.1 e35 hl.1 (Nat.le_of_ble_eq_true rfl) ⟨Nat.le_of_ble_eq_true rfl, Nat.le_of_ble_eq_true rfl⟩ ⟨Nat.sub_le _ _, Nat.sub_le _ _⟩ dX1_fewest_55 (fun H1 locs1 S1 => ?_)
        have S : hS E A s.heap _ _ _ _ _ := ⟨S1, S.2⟩
        refine lv_iload hx hb dX1_fewest_58 (lv_at hl 4 rfl) ?_
        obtain ⟨v36, e37, h⟩ := obd_inv h
        refine call_p_bitCount_X1_253 (hKm E A) F hK S.1 e37 hl.1 (Nat.le_of_ble_eq_true rfl) ⟨Nat.le_of_ble_eq_true rfl, Nat.le_of_ble_eq_true rfl⟩ ⟨Nat.sub_le _ _, Nat.sub_le _ _⟩ dX1_fewest_60 (fun H1 locs1 S1 => ?_)
        have S : hS E A s.heap _ _ _ _ _ := ⟨S1, S.2⟩
        refine lv_icmp_ge (tgt := 70) hx hb dX1_fewest_63 (by decide) (fun c38 => ?_) (fun c38 => ?_)
        · rw [hIf_pos c38] at h
          refine lv_iconst (v := 0) hx hb dX1_fewest_70 (by decide) ?_
          exact hJ71 _ _ _ _ h S (lv_sub hl [0, 1, 2, 3, 4, 5] rfl)
        · rw [hIf_neg c38] at h
          refine lv_iconst (v := 1) hx hb dX1_fewest_66 (by decide) ?_
          refine lv_goto (tgt := 71) hx hb dX1_fewest_67 (by decide) ?_
          exact hJ71 _ _ _ _ h S (lv_sub hl [0, 1, 2, 3, 4, 5] rfl)
set_option maxHeartbeats 4000000 in
set_option maxRecDepth 100000 in
theorem hmet_X1_fewest (l : Launch) (hst : l.stackTraces = false) (E : hEnv) (A : Nat → Prop) (w : hW) (a0 : Nat) (x1 : Int32) (QX : String → hO → Prop) (Q : Int32 → hO → Prop) (h : hf_X1_fewest E.2.2 w a0 x1 QX Q) : vx_Met l yX1_fewest (ws_ yX1_fewest cX1_fewest 8 (some .int)) (hrm_X1_fewest w.2.1 w.2.2) (va_Pc [.ref a0, .int x1] (gPre (hK E A) (hP E A w.1))) (hQi E A Q) (hXC E A QX) w.2.1 w.2.2 A := by
  refine hx_met (own := RX1) (by decide +kernel) rfl (Nat.le_of_ble_eq_true rfl) ?_
  intro p e s m args below meth c ls cb sb F hr hlk ht hK S hl
  have hx := F.1
  have hb := F.2.1
  have hl : lv_has ls 8 [(0, .ref a0), (1, .int x1)] := hl
  unfold hf_X1_fewest at h
  refine lv_aload_n hx hb dX1_fewest_0 rfl (lv_at hl 0 rfl) ?_
  refine lv_iconst (v := 0) hx hb dX1_fewest_1 (by decide) ?_
  refine lv_iload_n hx hb dX1_fewest_2 rfl (lv_at hl 1 rfl) ?_
  obtain ⟨u1, e2, h⟩ := obd_inv h
  obtain ⟨n3, n4, h1, h2, h⟩ := hcall_inv h
  refine hcl_X1_thing_X1_258 hst hlk ht F hK S (hIs_inv e2) h1 h2 h rfl rfl hl.1 (Nat.le_of_ble_eq_true rfl) ⟨Nat.le_of_ble_eq_true rfl, Nat.le_of_ble_eq_true rfl⟩ dX1_fewest_3 (fun v7 o6 w5 H locs hw h S => ?_)
  replace h := hret_mp h hw
  clear hw h1 h2
  obtain ⟨v8, e9, h⟩ := obd_inv h
  refine hg_X1_78 F hK S e9 dX1_fewest_6 ?_
  refine lv_istore_n (lv' := [(2, .int v8), (0, .ref a0), (1, .int x1)]) hx hb dX1_fewest_9 rfl hl (by decide) rfl (fun ls hl => ?_)
  refine hn_X1_32 F hK S rfl rfl h dX1_fewest_10 (fun q10 w11 H h S => ?_)
  refine lv_dup hx hb dX1_fewest_13 rfl ?_
  refine lv_aload_n hx hb dX1_fewest_14 rfl (lv_at hl 1 rfl) ?_
  obtain ⟨v12, e13, h⟩ := obd_inv h
  refine hg_X1_47 F hK S e13 dX1_fewest_15 ?_
  obtain ⟨n14, n15, h1, h2, h⟩ := hcall_inv h
  refine hcl_X3_init_3_X1_93 F hK S h1 h2 h rfl rfl hl.1 (Nat.le_of_ble_eq_true rfl) ⟨Nat.le_of_ble_eq_true rfl, Nat.le_of_ble_eq_true rfl⟩ dX1_fewest_18 (fun o17 w16 H locs hw h S => ?_)
  replace h := hret_mp h hw
  clear hw h1 h2
  refine lv_astore_n (lv' := [(3, .ref q10), (2, .int v8), (0, .ref a0), (1, .int x1)]) hx hb dX1_fewest_21 rfl hl (by decide) rfl (fun ls hl => ?_)
  refine lv_aload_n hx hb dX1_fewest_22 rfl (lv_at hl 0 rfl) ?_
  refine lv_iconst (v := 1) hx hb dX1_fewest_23 (by decide) ?_
  obtain ⟨u18, e19, h⟩ := obd_inv h
  obtain ⟨n20, n21, h1, h2, h⟩ := hcall_inv h
  refine hcl_X3_all_X1_131 F hK S (hIs_inv e19) h1 h2 h rfl rfl hl.1 (Nat.le_of_ble_eq_true rfl) ⟨Nat.le_of_ble_eq_true rfl, Nat.le_of_ble_eq_true rfl⟩ dX1_fewest_24 (fun v24 o23 w22 H locs hw h S => ?_)
  replace h := hret_mp h hw
  clear hw h1 h2
  refine lv_astore (lv' := [(4, .ref v24), (3, .ref q10), (2, .int v8), (0, .ref a0), (1, .int x1)]) hx hb dX1_fewest_27 hl (by decide) rfl (fun ls hl => ?_)
  refine lv_iconst (v := (-1)) hx hb dX1_fewest_29 (by decide) ?_
  refine lv_istore (lv' := [(5, .int (-1)), (4, .ref v24), (3, .ref q10), (2, .int v8), (0, .ref a0), (1, .int x1)]) hx hb dX1_fewest_30 hl (by decide) rfl (fun ls hl => ?_)
  refine lv_iconst (v := 0) hx hb dX1_fewest_32 (by decide) ?_
  refine lv_istore (lv' := [(6, .int 0), (5, .int (-1)), (4, .ref v24), (3, .ref q10), (2, .int v8), (0, .ref a0), (1, .int x1)]) hx hb dX1_fewest_33 hl (by decide) rfl (fun ls hl => ?_)
  refine hloop_X1_fewest_1 F hr hlk hK hst ht _ _ _ _ h _ _ _ S (lv_sub hl [5, 4, 3, 2, 1, 0] rfl) (fun v55 w56 H locs ls h S hl => ?_)
  refine lv_iload hx hb dX1_fewest_101 (lv_at hl 0 rfl) ?_
  exact vx_ret (h_iret F hr hlk S h dX1_fewest_103)
def hL_X1_settings_1 (pl : Nat → Nat) (QX : String → hO → Prop) (Q : Int32 → hO → Prop) (K : Int32 → hW → Prop) (y0 : Nat) (y2 : Int32) (y3 : Nat) (y4 : Nat) : Nat → hW → Int32 → Int32 → Prop
  | 0, _, _, _ => False
  | n + 1, w, y5, y6 =>
    obd (hIs w y4 13) fun u25 =>
    hcall w fun n27 n28 => hf_J18_size pl (w.1, n27, n28) y4 fun v31 o30 => hret w n27 n28 o30 fun w29 =>
    hIf ((1 <<< (v31 &&& 31)) ≤ y6) (
      K y5 w29) <|
      obd (hIs w29 y0 1) fun u33 =>
      hcall w29 fun n35 n36 => hf_X1_isHitBy pl (w29.1, n35, n36) y0 y3 y4 y6 y2 fun v39 o38 => hret w29 n35 n36 o38 fun w37 =>
      hjoin (fun (v41 : Int32) =>
        hL_X1_settings_1 pl QX Q K y0 y2 y3 y4 n w37 (y5 + v41) (y6 + 1)) fun k43 =>
      hIf (v39 = 0) (
        k43 0) <|
        k43 1
def hf_X1_settings (pl : Nat → Nat) (w : hW) (a0 : Nat) (x1 : Int32) (QX : String → hO → Prop) (Q : Int32 → hO → Prop) : Prop :=
  obd (hIs w a0 1) fun u1 =>
  hcall w fun n3 n4 => hf_X1_thing pl (w.1, n3, n4) a0 0 x1 QX fun v7 o6 => hret w n3 n4 o6 fun w5 =>
  obd (hgC w5 v7) fun v8 =>
  hNew w5 (.inl (3, [.null, .int 0, .int 0, .null, .int 0, .int 0, .int 0, .int 0, .int 0])) 9 fun q10 w11 =>
  obd (hgP w11 a0 1 3) fun v12 =>
  hcall w11 fun n14 n15 => hf_X3_init_3 pl (w11.1, n14, n15) q10 v12 fun o17 => hret w11 n14 n15 o17 fun w16 =>
  obd (hIs w16 q10 3) fun u18 =>
  hcall w16 fun n20 n21 => hf_X3_all pl (w16.1, n20, n21) q10 1 fun v24 o23 => hret w16 n20 n21 o23 fun w22 =>
  hL_X1_settings_1 pl QX Q (fun (v44 : Int32) (w45 : hW) =>
    Q v44 w45.1) a0 v8 q10 v24 FUEL w22 0 0
abbrev hrm_X1_settings (c s : Nat) : Room := { frames := 9, cells := c, slots := s, locals := 219 }
set_option maxHeartbeats 4000000 in
set_option maxRecDepth 100000 in
theorem hloop_X1_settings_1 {p : Program} {l : Launch} {e : Env} {s : State} {m : MethodId} {args : Array Value} {below : List Frame} {meth : Method} {c : Code} {cb sb : Nat} {E : hEnv} {A : Nat → Prop} {Q : Int32 → hO → Prop} {QX : String → hO → Prop} {K : Int32 → hW → Prop} {y0 : Nat} {y2 : Int32} {y3 : Nat} {y4 : Nat} (F : CallFix p m c cX1_settings 7 s args lw_all RX1) (hr : meth.sig.returnType = some .int) (hlk : meth.locks = false) (hK : hK E A s) (hst : l.stackTraces = false) (ht : ∀ x ∈ c.exceptionTable.toList, False) : ∀ (n : Nat) (w : hW) (y5 : Int32) (y6 : Int32), hL_X1_settings_1 E.2.2 QX Q K y0 y2 y3 y4 n w y5 y6 → ∀ (H : Heap) (locs : List Loc) (ls : Array Slot), hS E A s.heap cb sb w H locs → lv_has ls 7 [(0, .ref y0), (2, .int y2), (3, .ref y3), (4, .ref y4), (5, .int y5), (6, .int y6)] → (∀ (z5 : Int32) (wz : hW) (H : Heap) (locs : List Loc) (ls : Array Slot), K z5 wz → hS E A s.heap cb sb wz H locs → lv_has ls 7 [(5, .int z5)] → W p l e (hrm_X1_settings cb sb) s m args below meth c H locs (cb - wz.2.1) (sb - wz.2.2) (vx_MQ below (hQi E A Q) (hXC E A QX) args s cb sb A) (F0 m 76 ls [])) → W p l e (hrm_X1_settings cb sb) s m args below meth c H locs (cb - w.2.1) (sb - w.2.2) (vx_MQ below (hQi E A Q) (hXC E A QX) args s cb sb A) (F0 m 35 ls []) := by
  have hx := F.1
  have hb := F.2.1
  intro n
  induction n with
  | zero =>
    intro w y5 y6 h
    exact False.elim h
  | succ n ih =>
    intro w y5 y6 h H locs ls S hl kx
    rw [hL_X1_settings_1] at h
    refine lv_iload hx hb dX1_settings_35 (lv_at hl 5 rfl) ?_
    refine lv_iconst (v := 1) hx hb dX1_settings_37 (by decide) ?_
    refine lv_aload hx hb dX1_settings_38 (lv_at hl 3 rfl) ?_
    obtain ⟨u25, e26, h⟩ := obd_inv h
    obtain ⟨n27, n28, h1, h2, h⟩ := hcall_inv h
    refine hcl_J18_size_X1_135 F hK S (hIs_inv e26) h1 h2 h rfl rfl hl.1 (Nat.le_of_ble_eq_true rfl) ⟨Nat.le_of_ble_eq_true rfl, Nat.le_of_ble_eq_true rfl⟩ dX1_settings_40 (fun v31 o30 w29 H locs hw h S => ?_)
    replace h := hret_mp h hw
    clear hw h1 h2
    refine lv_ishl hx hb dX1_settings_43 ?_
    refine lv_icmp_ge (tgt := 76) hx hb dX1_settings_44 (by decide) (fun c32 => ?_) (fun c32 => ?_)
    · rw [hIf_pos c32] at h
      exact kx _ _ _ _ _ h S (lv_sub hl [4] rfl)
    · rw [hIf_neg c32] at h
      refine lv_iload hx hb dX1_settings_47 (lv_at hl 4 rfl) ?_
      refine lv_aload_n hx hb dX1_settings_49 rfl (lv_at hl 0 rfl) ?_
      refine lv_aload_n hx hb dX1_settings_50 rfl (lv_at hl 2 rfl) ?_
      refine lv_aload hx hb dX1_settings_51 (lv_at hl 3 rfl) ?_
      refine lv_iload hx hb dX1_settings_53 (lv_at hl 5 rfl) ?_
      refine lv_iload_n hx hb dX1_settings_55 rfl (lv_at hl 1 rfl) ?_
      obtain ⟨u33, e34, h⟩ := obd_inv h
      obtain ⟨n35, n36, h1, h2, h⟩ := hcall_inv h
      refine hcl_X1_isHitBy_X1_332 F hK S (hIs_inv e34) h1 h2 h rfl rfl hl.1 (Nat.le_of_ble_eq_true rfl) ⟨Nat.le_of_ble_eq_true rfl, Nat.le_of_ble_eq_true rfl⟩ dX1_settings_56 (fun v39 o38 w37 H locs hw h S => ?_)
      replace h := hret_mp h hw
      clear hw h1 h2
      obtain ⟨k43, hk43, h⟩ := hj1_inv h
      have hJ67 : ∀ (v41 : Int32) (H : Heap) (locs : List Loc) (ls : Array Slot), k43 v41 → hS E A s.heap cb sb w37 H locs → lv_has ls 7 [(0, .ref y0), (2, .int y2), (3, .ref y3), (4, .ref y4), (6, .int y6)] → W p l e (hrm_X1_settings cb sb) s m args below meth c H locs (cb - w37.2.1) (sb - w37.2.2) (vx_MQ below (hQi E A Q) (hXC E A QX) args s cb sb A) (F0 m 67 ls [.int v41, .int y5]) := by
        intro v41 H locs ls h S hl
        replace h := hk43 _ h
        refine lv_iadd hx hb dX1_settings_67 ?_
        refine lv_istore (lv' := [(5, .int (y5 + v41)), (0, .ref y0), (2, .int y2), (3, .ref y3), (4, .ref y4), (6, .int y6)]) hx hb dX1_settings_68 hl (by decide) rfl (fun ls hl => ?_)
        refine lv_iinc (v := (y6 + 1)) (lv' := [(6, .int (y6 + 1)), (5, .int (y5 + v41)), (0, .ref y0), (2, .int y2), (3, .ref y3), (4, .ref y4)]) hx hb dX1_settings_70 hl (k := 5) rfl rfl (by decide) rfl (fun ls hl => ?_)
        refine lv_goto (tgt := 35) hx hb dX1_settings_73 (by decide) ?_
        exact ih _ _ _ h _ _ _ S (lv_sub hl [2, 3, 4, 5, 1, 0] rfl) kx
      clear hk43
      refine lv_if_eq (tgt := 66) hx hb dX1_settings_59 (by decide) (fun c40 => ?_) (fun c40 => ?_)
      · rw [hIf_pos c40] at h
        refine lv_iconst (v := 0) hx hb dX1_settings_66 (by decide) ?_
        exact hJ67 _ _ _ _ h S (lv_sub hl [0, 1, 2, 3, 5] rfl)
      · rw [hIf_neg c40] at h
        refine lv_iconst (v := 1) hx hb dX1_settings_62 (by decide) ?_
        refine lv_goto (tgt := 67) hx hb dX1_settings_63 (by decide) ?_
        exact hJ67 _ _ _ _ h S (lv_sub hl [0, 1, 2, 3, 5] rfl)
set_option maxHeartbeats 4000000 in
set_option maxRecDepth 100000 in
theorem hmet_X1_settings (l : Launch) (hst : l.stackTraces = false) (E : hEnv) (A : Nat → Prop) (w : hW) (a0 : Nat) (x1 : Int32) (QX : String → hO → Prop) (Q : Int32 → hO → Prop) (h : hf_X1_settings E.2.2 w a0 x1 QX Q) : vx_Met l yX1_settings (ws_ yX1_settings cX1_settings 7 (some .int)) (hrm_X1_settings w.2.1 w.2.2) (va_Pc [.ref a0, .int x1] (gPre (hK E A) (hP E A w.1))) (hQi E A Q) (hXC E A QX) w.2.1 w.2.2 A := by
  refine hx_met (own := RX1) (by decide +kernel) rfl (Nat.le_of_ble_eq_true rfl) ?_
  intro p e s m args below meth c ls cb sb F hr hlk ht hK S hl
  have hx := F.1
  have hb := F.2.1
  have hl : lv_has ls 7 [(0, .ref a0), (1, .int x1)] := hl
  unfold hf_X1_settings at h
  refine lv_aload_n hx hb dX1_settings_0 rfl (lv_at hl 0 rfl) ?_
  refine lv_iconst (v := 0) hx hb dX1_settings_1 (by decide) ?_
  refine lv_iload_n hx hb dX1_settings_2 rfl (lv_at hl 1 rfl) ?_
  obtain ⟨u1, e2, h⟩ := obd_inv h
  obtain ⟨n3, n4, h1, h2, h⟩ := hcall_inv h
  refine hcl_X1_thing_X1_258 hst hlk ht F hK S (hIs_inv e2) h1 h2 h rfl rfl hl.1 (Nat.le_of_ble_eq_true rfl) ⟨Nat.le_of_ble_eq_true rfl, Nat.le_of_ble_eq_true rfl⟩ dX1_settings_3 (fun v7 o6 w5 H locs hw h S => ?_)
  replace h := hret_mp h hw
  clear hw h1 h2
  obtain ⟨v8, e9, h⟩ := obd_inv h
  refine hg_X1_78 F hK S e9 dX1_settings_6 ?_
  refine lv_istore_n (lv' := [(2, .int v8), (0, .ref a0), (1, .int x1)]) hx hb dX1_settings_9 rfl hl (by decide) rfl (fun ls hl => ?_)
  refine hn_X1_32 F hK S rfl rfl h dX1_settings_10 (fun q10 w11 H h S => ?_)
  refine lv_dup hx hb dX1_settings_13 rfl ?_
  refine lv_aload_n hx hb dX1_settings_14 rfl (lv_at hl 1 rfl) ?_
  obtain ⟨v12, e13, h⟩ := obd_inv h
  refine hg_X1_47 F hK S e13 dX1_settings_15 ?_
  obtain ⟨n14, n15, h1, h2, h⟩ := hcall_inv h
  refine hcl_X3_init_3_X1_93 F hK S h1 h2 h rfl rfl hl.1 (Nat.le_of_ble_eq_true rfl) ⟨Nat.le_of_ble_eq_true rfl, Nat.le_of_ble_eq_true rfl⟩ dX1_settings_18 (fun o17 w16 H locs hw h S => ?_)
  replace h := hret_mp h hw
  clear hw h1 h2
  refine lv_astore_n (lv' := [(3, .ref q10), (2, .int v8), (0, .ref a0), (1, .int x1)]) hx hb dX1_settings_21 rfl hl (by decide) rfl (fun ls hl => ?_)
  refine lv_aload_n hx hb dX1_settings_22 rfl (lv_at hl 0 rfl) ?_
  refine lv_iconst (v := 1) hx hb dX1_settings_23 (by decide) ?_
  obtain ⟨u18, e19, h⟩ := obd_inv h
  obtain ⟨n20, n21, h1, h2, h⟩ := hcall_inv h
  refine hcl_X3_all_X1_131 F hK S (hIs_inv e19) h1 h2 h rfl rfl hl.1 (Nat.le_of_ble_eq_true rfl) ⟨Nat.le_of_ble_eq_true rfl, Nat.le_of_ble_eq_true rfl⟩ dX1_settings_24 (fun v24 o23 w22 H locs hw h S => ?_)
  replace h := hret_mp h hw
  clear hw h1 h2
  refine lv_astore (lv' := [(4, .ref v24), (3, .ref q10), (2, .int v8), (0, .ref a0), (1, .int x1)]) hx hb dX1_settings_27 hl (by decide) rfl (fun ls hl => ?_)
  refine lv_iconst (v := 0) hx hb dX1_settings_29 (by decide) ?_
  refine lv_istore (lv' := [(5, .int 0), (4, .ref v24), (3, .ref q10), (2, .int v8), (0, .ref a0), (1, .int x1)]) hx hb dX1_settings_30 hl (by decide) rfl (fun ls hl => ?_)
  refine lv_iconst (v := 0) hx hb dX1_settings_32 (by decide) ?_
  refine lv_istore (lv' := [(6, .int 0), (5, .int 0), (4, .ref v24), (3, .ref q10), (2, .int v8), (0, .ref a0), (1, .int x1)]) hx hb dX1_settings_33 hl (by decide) rfl (fun ls hl => ?_)
  refine hloop_X1_settings_1 F hr hlk hK hst ht _ _ _ _ h _ _ _ S (lv_sub hl [5, 4, 3, 2, 1, 0] rfl) (fun v44 w45 H locs ls h S hl => ?_)
  refine lv_iload hx hb dX1_settings_76 (lv_at hl 0 rfl) ?_
  exact vx_ret (h_iret F hr hlk S h dX1_settings_78)
theorem hcl_X3_worthL3_X1_336 {p : Program} {l : Launch} {e : Env} {s : State} {m : MethodId} {args : Array Value} {below : List Frame} {meth : Method} {c : Code} {R : Room} {H : Heap} {locs : List Loc} {cb sb pc nL : Nat} {Q : State → Prop} {ls : Array Slot} {rest : List Value} {cc : ByteArray} {E : hEnv} {A : Nat → Prop} {w : hW} {a0 : Nat} {x1 : Int32} {Q' : Int32 → hO → Prop} {c1 s1 : Nat} (F : CallFix p m c cc nL s args lw_all RX1) (hK : hK E A s) (S : hS E A s.heap cb sb w H locs) (hrv : ∃ (b : Bool) (fs : List Value), w.1 a0 = some (b, .inl (3, fs))) (h1 : c1 ≤ w.2.1) (h2 : s1 ≤ w.2.2) (h : hf_X3_worthL3 E.2.2 (w.1, c1, s1) a0 x1 Q') (hrc : R.cells = cb) (hrs : R.slots = sb) (hls : ls.size = nL) (hWt : (rest.map fun v => v.category).sum ≤ 8) (hR : 14 + 1 ≤ R.frames ∧ 8 + (8 + 11) + 335 ≤ R.locals) (hdg : decode cc pc = .ok (.invokevirtual 336, 3))
    (kk : ∀ (v : Int32) (o : hO) (w' : hW) (H1 : Heap) (locs1 : List Loc), w' = (o, w.2.1 - c1, w.2.2 - s1) → Q' v o → hS E A s.heap cb sb w' H1 locs1 → W p l e R s m args below meth c H1 locs1 (cb - w'.2.1) (sb - w'.2.2) Q (F0 m (pc + 3) ls (.int v :: rest))) : W p l e R s m args below meth c H locs (cb - w.2.1) (sb - w.2.2) Q (F0 m pc ls (.int x1 :: .ref a0 :: rest)) :=
  h_ki (g_runV F hK (hKm E A) S.1 (hmet_X3_worthL3 l E A (w.1, c1, s1) a0 x1 Q' h) (cwV 1 F.2.2.2.2 (lw_V q1781 q1782 q1783 q115 q1784) rfl rfl rfl (by decide +kernel) hR) (h_recv hK S (ci := 3) rfl hrv) rfl hls rfl hWt hdg ⟨by rw [hrc]; exact (h_left S h1 h2).1, by rw [hrs]; exact (h_left S h1 h2).2⟩) S h1 h2 kk
def hf_X1_worth (pl : Nat → Nat) (w : hW) (a0 : Nat) (x1 : Int32) (QX : String → hO → Prop) (Q : Int32 → hO → Prop) : Prop :=
  obd (fp_isIn g00 x1 0 3) fun v1 =>
  hcall w fun n3 n4 => hf_X1_ask pl (w.1, n3, n4) v1 QX fun o6 => hret w n3 n4 o6 fun w5 =>
  hNew w5 (.inl (3, [.null, .int 0, .int 0, .null, .int 0, .int 0, .int 0, .int 0, .int 0])) 9 fun q7 w8 =>
  obd (hgP w8 a0 1 3) fun v9 =>
  hcall w8 fun n11 n12 => hf_X3_init_3 pl (w8.1, n11, n12) q7 v9 fun o14 => hret w8 n11 n12 o14 fun w13 =>
  obd (hIs w13 q7 3) fun u15 =>
  hcall w13 fun n17 n18 => hf_X3_worthL3 pl (w13.1, n17, n18) q7 x1 fun v21 o20 => hret w13 n17 n18 o20 fun w19 =>
  Q v21 w19.1
abbrev hrm_X1_worth (c s : Nat) : Room := { frames := 15, cells := c, slots := s, locals := 362 }
set_option maxHeartbeats 4000000 in
set_option maxRecDepth 100000 in
theorem hmet_X1_worth (l : Launch) (hst : l.stackTraces = false) (E : hEnv) (A : Nat → Prop) (w : hW) (a0 : Nat) (x1 : Int32) (QX : String → hO → Prop) (Q : Int32 → hO → Prop) (h : hf_X1_worth E.2.2 w a0 x1 QX Q) : vx_Met l yX1_worth (ws_ yX1_worth cX1_worth 2 (some .int)) (hrm_X1_worth w.2.1 w.2.2) (va_Pc [.ref a0, .int x1] (gPre (hK E A) (hP E A w.1))) (hQi E A Q) (hXC E A QX) w.2.1 w.2.2 A := by
  refine hx_met (own := RX1) (by decide +kernel) rfl (Nat.le_of_ble_eq_true rfl) ?_
  intro p e s m args below meth c ls cb sb F hr hlk ht hK S hl
  have hx := F.1
  have hb := F.2.1
  have hl : lv_has ls 2 [(0, .ref a0), (1, .int x1)] := hl
  unfold hf_X1_worth at h
  refine lv_iload_n hx hb dX1_worth_0 rfl (lv_at hl 1 rfl) ?_
  refine lv_iconst (v := 0) hx hb dX1_worth_1 (by decide) ?_
  refine lv_iconst (v := 3) hx hb dX1_worth_2 (by decide) ?_
  obtain ⟨v1, e2, h⟩ := obd_inv h
  refine call_p_isIn_X1_165 (hKm E A) F hK S.1 e2 hl.1 (Nat.le_of_ble_eq_true rfl) ⟨Nat.le_of_ble_eq_true rfl, Nat.le_of_ble_eq_true rfl⟩ ⟨Nat.sub_le _ _, Nat.sub_le _ _⟩ dX1_worth_3 (fun H1 locs1 S1 => ?_)
  have S : hS E A s.heap _ _ _ _ _ := ⟨S1, S.2⟩
  obtain ⟨n3, n4, h1, h2, h⟩ := hcall_inv h
  refine hcl_X1_ask_X1_169 hst hlk ht F hK S h1 h2 h rfl rfl hl.1 (Nat.le_of_ble_eq_true rfl) ⟨Nat.le_of_ble_eq_true rfl, Nat.le_of_ble_eq_true rfl⟩ dX1_worth_6 (fun o6 w5 H locs hw h S => ?_)
  replace h := hret_mp h hw
  clear hw h1 h2
  refine hn_X1_32 F hK S rfl rfl h dX1_worth_9 (fun q7 w8 H h S => ?_)
  refine lv_dup hx hb dX1_worth_12 rfl ?_
  refine lv_aload_n hx hb dX1_worth_13 rfl (lv_at hl 0 rfl) ?_
  obtain ⟨v9, e10, h⟩ := obd_inv h
  refine hg_X1_47 F hK S e10 dX1_worth_14 ?_
  obtain ⟨n11, n12, h1, h2, h⟩ := hcall_inv h
  refine hcl_X3_init_3_X1_93 F hK S h1 h2 h rfl rfl hl.1 (Nat.le_of_ble_eq_true rfl) ⟨Nat.le_of_ble_eq_true rfl, Nat.le_of_ble_eq_true rfl⟩ dX1_worth_17 (fun o14 w13 H locs hw h S => ?_)
  replace h := hret_mp h hw
  clear hw h1 h2
  refine lv_iload_n hx hb dX1_worth_20 rfl (lv_at hl 1 rfl) ?_
  obtain ⟨u15, e16, h⟩ := obd_inv h
  obtain ⟨n17, n18, h1, h2, h⟩ := hcall_inv h
  refine hcl_X3_worthL3_X1_336 F hK S (hIs_inv e16) h1 h2 h rfl rfl hl.1 (Nat.le_of_ble_eq_true rfl) ⟨Nat.le_of_ble_eq_true rfl, Nat.le_of_ble_eq_true rfl⟩ dX1_worth_21 (fun v21 o20 w19 H locs hw h S => ?_)
  replace h := hret_mp h hw
  clear hw h1 h2
  exact vx_ret (h_iret F hr hlk S h dX1_worth_24)
theorem hcl_X3_worthBehindL2_X1_339 {p : Program} {l : Launch} {e : Env} {s : State} {m : MethodId} {args : Array Value} {below : List Frame} {meth : Method} {c : Code} {R : Room} {H : Heap} {locs : List Loc} {cb sb pc nL : Nat} {Q : State → Prop} {ls : Array Slot} {rest : List Value} {cc : ByteArray} {E : hEnv} {A : Nat → Prop} {w : hW} {a0 : Nat} {x1 : Nat} {x2 : Int32} {Q' : Int32 → hO → Prop} {c1 s1 : Nat} (F : CallFix p m c cc nL s args lw_all RX1) (hK : hK E A s) (S : hS E A s.heap cb sb w H locs) (hrv : ∃ (b : Bool) (fs : List Value), w.1 a0 = some (b, .inl (3, fs))) (h1 : c1 ≤ w.2.1) (h2 : s1 ≤ w.2.2) (h : hf_X3_worthBehindL2 E.2.2 (w.1, c1, s1) a0 x1 x2 Q') (hrc : R.cells = cb) (hrs : R.slots = sb) (hls : ls.size = nL) (hWt : (rest.map fun v => v.category).sum ≤ 8) (hR : 13 + 1 ≤ R.frames ∧ 8 + (6 + 11) + 310 ≤ R.locals) (hdg : decode cc pc = .ok (.invokevirtual 339, 3))
    (kk : ∀ (v : Int32) (o : hO) (w' : hW) (H1 : Heap) (locs1 : List Loc), w' = (o, w.2.1 - c1, w.2.2 - s1) → Q' v o → hS E A s.heap cb sb w' H1 locs1 → W p l e R s m args below meth c H1 locs1 (cb - w'.2.1) (sb - w'.2.2) Q (F0 m (pc + 3) ls (.int v :: rest))) : W p l e R s m args below meth c H locs (cb - w.2.1) (sb - w.2.2) Q (F0 m pc ls (.int x2 :: .ref x1 :: .ref a0 :: rest)) :=
  h_ki (g_runV F hK (hKm E A) S.1 (hmet_X3_worthBehindL2 l E A (w.1, c1, s1) a0 x1 x2 Q' h) (cwV 2 F.2.2.2.2 (lw_V q1808 q1787 q1788 q115 q1789) rfl rfl rfl (by decide +kernel) hR) (h_recv hK S (ci := 3) rfl hrv) rfl hls rfl hWt hdg ⟨by rw [hrc]; exact (h_left S h1 h2).1, by rw [hrs]; exact (h_left S h1 h2).2⟩) S h1 h2 kk
def hL_X1_best_1 (pl : Nat → Nat) (QX : String → hO → Prop) (Q : Int32 → hO → Prop) (K : Int32 → hW → Prop) (y1 : Int32) (y2 : Nat) (y3 : Nat) : Nat → hW → Int32 → Int32 → Int32 → Prop
  | 0, _, _, _, _ => False
  | n + 1, w, y4, y5, y6 =>
    obd (hIs w y3 13) fun u22 =>
    hcall w fun n24 n25 => hf_J18_size pl (w.1, n24, n25) y3 fun v28 o27 => hret w n24 n25 o27 fun w26 =>
    hIf (v28 ≤ y6) (
      K y4 w26) <|
      obd (hIs w26 y3 13) fun u30 =>
      hcall w26 fun n32 n33 => hf_J18_get pl (w26.1, n32, n33) y3 y6 fun v36 o35 => hret w26 n32 n33 o35 fun w34 =>
      obd (hIsC w34 v36) fun u37 =>
      obd (hgC w34 v36) fun v39 =>
      ∃ (d41 : hD) (g42 : mS), hRel d41 g42 w34.1 ∧ d41.1 100 = y2 ∧ obd (fc_X3_whyNotTurn g42 100 v39) fun v45 =>
      hjoin (fun (v64 : Int32) (v65 : Int32) (g66 : hW) =>
        hL_X1_best_1 pl QX Q K y1 y2 y3 n g66 v64 v65 (y6 + 1)) fun k68 =>
      hIf (v45 = 0) (
        obd (hIs w34 y3 13) fun u47 =>
        hcall w34 fun n49 n50 => hf_J18_get pl (w34.1, n49, n50) y3 y6 fun v53 o52 => hret w34 n49 n50 o52 fun w51 =>
        obd (hIs w51 v53 6) fun u54 =>
        obd (hIs w51 y2 3) fun u56 =>
        hcall w51 fun n58 n59 => hf_X3_worthBehindL2 pl (w51.1, n58, n59) y2 v53 (y1 - 1) fun v62 o61 => hret w51 n58 n59 o61 fun w60 =>
        hIf (y5 ≤ v62) (
          k68 y4 y5 w60) <|
          k68 y6 v62 w60) <|
        k68 y4 y5 w34
def hf_X1_best (pl : Nat → Nat) (w : hW) (a0 : Nat) (x1 : Int32) (QX : String → hO → Prop) (Q : Int32 → hO → Prop) : Prop :=
  obd (fp_isIn g00 x1 1 3) fun v1 =>
  hcall w fun n3 n4 => hf_X1_ask pl (w.1, n3, n4) v1 QX fun o6 => hret w n3 n4 o6 fun w5 =>
  hNew w5 (.inl (3, [.null, .int 0, .int 0, .null, .int 0, .int 0, .int 0, .int 0, .int 0])) 9 fun q7 w8 =>
  obd (hgP w8 a0 1 3) fun v9 =>
  hcall w8 fun n11 n12 => hf_X3_init_3 pl (w8.1, n11, n12) q7 v9 fun o14 => hret w8 n11 n12 o14 fun w13 =>
  obd (hIs w13 q7 3) fun u15 =>
  hcall w13 fun n17 n18 => hf_X3_all pl (w13.1, n17, n18) q7 1 fun v21 o20 => hret w13 n17 n18 o20 fun w19 =>
  hL_X1_best_1 pl QX Q (fun (v69 : Int32) (w70 : hW) =>
    Q v69 w70.1) x1 q7 v21 FUEL w19 (-1) 1000 0
abbrev hrm_X1_best (c s : Nat) : Room := { frames := 14, cells := c, slots := s, locals := 335 }
set_option maxHeartbeats 4000000 in
set_option maxRecDepth 100000 in
theorem hloop_X1_best_1 {p : Program} {l : Launch} {e : Env} {s : State} {m : MethodId} {args : Array Value} {below : List Frame} {meth : Method} {c : Code} {cb sb : Nat} {E : hEnv} {A : Nat → Prop} {Q : Int32 → hO → Prop} {QX : String → hO → Prop} {K : Int32 → hW → Prop} {y1 : Int32} {y2 : Nat} {y3 : Nat} (F : CallFix p m c cX1_best 8 s args lw_all RX1) (hr : meth.sig.returnType = some .int) (hlk : meth.locks = false) (hK : hK E A s) (hst : l.stackTraces = false) (ht : ∀ x ∈ c.exceptionTable.toList, False) : ∀ (n : Nat) (w : hW) (y4 : Int32) (y5 : Int32) (y6 : Int32), hL_X1_best_1 E.2.2 QX Q K y1 y2 y3 n w y4 y5 y6 → ∀ (H : Heap) (locs : List Loc) (ls : Array Slot), hS E A s.heap cb sb w H locs → lv_has ls 8 [(1, .int y1), (2, .ref y2), (3, .ref y3), (4, .int y4), (5, .int y5), (6, .int y6)] → (∀ (z4 : Int32) (wz : hW) (H : Heap) (locs : List Loc) (ls : Array Slot), K z4 wz → hS E A s.heap cb sb wz H locs → lv_has ls 8 [(4, .int z4)] → W p l e (hrm_X1_best cb sb) s m args below meth c H locs (cb - wz.2.1) (sb - wz.2.2) (vx_MQ below (hQi E A Q) (hXC E A QX) args s cb sb A) (F0 m 108 ls [])) → W p l e (hrm_X1_best cb sb) s m args below meth c H locs (cb - w.2.1) (sb - w.2.2) (vx_MQ below (hQi E A Q) (hXC E A QX) args s cb sb A) (F0 m 38 ls []) := by
  have hx := F.1
  have hb := F.2.1
  intro n
  induction n with
  | zero =>
    intro w y4 y5 y6 h
    exact False.elim h
  | succ n ih =>
    intro w y4 y5 y6 h H locs ls S hl kx
    rw [hL_X1_best_1] at h
    refine lv_iload hx hb dX1_best_38 (lv_at hl 5 rfl) ?_
    refine lv_aload_n hx hb dX1_best_40 rfl (lv_at hl 2 rfl) ?_
    obtain ⟨u22, e23, h⟩ := obd_inv h
    obtain ⟨n24, n25, h1, h2, h⟩ := hcall_inv h
    refine hcl_J18_size_X1_135 F hK S (hIs_inv e23) h1 h2 h rfl rfl hl.1 (Nat.le_of_ble_eq_true rfl) ⟨Nat.le_of_ble_eq_true rfl, Nat.le_of_ble_eq_true rfl⟩ dX1_best_41 (fun v28 o27 w26 H locs hw h S => ?_)
    replace h := hret_mp h hw
    clear hw h1 h2
    refine lv_icmp_ge (tgt := 108) hx hb dX1_best_44 (by decide) (fun c29 => ?_) (fun c29 => ?_)
    · rw [hIf_pos c29] at h
      exact kx _ _ _ _ _ h S (lv_sub hl [3] rfl)
    · rw [hIf_neg c29] at h
      refine lv_aload_n hx hb dX1_best_47 rfl (lv_at hl 1 rfl) ?_
      refine lv_aload_n hx hb dX1_best_48 rfl (lv_at hl 2 rfl) ?_
      refine lv_iload hx hb dX1_best_49 (lv_at hl 5 rfl) ?_
      obtain ⟨u30, e31, h⟩ := obd_inv h
      obtain ⟨n32, n33, h1, h2, h⟩ := hcall_inv h
      refine hcl_J18_get_X1_249 F hK S (hIs_inv e31) h1 h2 h rfl rfl hl.1 (Nat.le_of_ble_eq_true rfl) ⟨Nat.le_of_ble_eq_true rfl, Nat.le_of_ble_eq_true rfl⟩ dX1_best_51 (fun v36 o35 w34 H locs hw h S => ?_)
      replace h := hret_mp h hw
      clear hw h1 h2
      obtain ⟨u37, e38, h⟩ := obd_inv h
      refine h_castC F hK S e38 q317 dX1_best_54 ?_
      obtain ⟨v39, e40, h⟩ := obd_inv h
      refine hg_X1_78 F hK S e40 dX1_best_57 ?_
      obtain ⟨d41, g42, hrl, hdl, h⟩ := h
      obtain ⟨v45, e44, h⟩ := obd_inv h
      refine hpc_X3_whyNotTurn_X1_199 F hK S hrl hdl e44 rfl rfl hl.1 (Nat.le_of_ble_eq_true rfl) ⟨Nat.le_of_ble_eq_true rfl, Nat.le_of_ble_eq_true rfl⟩ dX1_best_60 (fun H locs S => ?_)
      obtain ⟨k68, hk68, h⟩ := hj3_inv h
      have hJ102 : ∀ (v64 : Int32) (v65 : Int32) (g66 : hW) (H : Heap) (locs : List Loc) (ls : Array Slot), k68 v64 v65 g66 → hS E A s.heap cb sb g66 H locs → lv_has ls 8 [(1, .int y1), (2, .ref y2), (3, .ref y3), (4, .int v64), (5, .int v65), (6, .int y6)] → W p l e (hrm_X1_best cb sb) s m args below meth c H locs (cb - g66.2.1) (sb - g66.2.2) (vx_MQ below (hQi E A Q) (hXC E A QX) args s cb sb A) (F0 m 102 ls []) := by
        intro v64 v65 g66 H locs ls h S hl
        replace h := hk68 _ _ _ h
        refine lv_iinc (v := (y6 + 1)) (lv' := [(6, .int (y6 + 1)), (1, .int y1), (2, .ref y2), (3, .ref y3), (4, .int v64), (5, .int v65)]) hx hb dX1_best_102 hl (k := 5) rfl rfl (by decide) rfl (fun ls hl => ?_)
        refine lv_goto (tgt := 38) hx hb dX1_best_105 (by decide) ?_
        exact ih _ _ _ _ h _ _ _ S (lv_sub hl [1, 2, 3, 4, 5, 0] rfl) kx
      clear hk68
      refine lv_if_eq (tgt := 69) hx hb dX1_best_63 (by decide) (fun c46 => ?_) (fun c46 => ?_)
      · rw [hIf_pos c46] at h
        refine lv_aload_n hx hb dX1_best_69 rfl (lv_at hl 1 rfl) ?_
        refine lv_aload_n hx hb dX1_best_70 rfl (lv_at hl 2 rfl) ?_
        refine lv_iload hx hb dX1_best_71 (lv_at hl 5 rfl) ?_
        obtain ⟨u47, e48, h⟩ := obd_inv h
        obtain ⟨n49, n50, h1, h2, h⟩ := hcall_inv h
        refine hcl_J18_get_X1_249 F hK S (hIs_inv e48) h1 h2 h rfl rfl hl.1 (Nat.le_of_ble_eq_true rfl) ⟨Nat.le_of_ble_eq_true rfl, Nat.le_of_ble_eq_true rfl⟩ dX1_best_73 (fun v53 o52 w51 H locs hw h S => ?_)
        replace h := hret_mp h hw
        clear hw h1 h2
        obtain ⟨u54, e55, h⟩ := obd_inv h
        refine h_cast F hK S e55 rfl q318 dX1_best_76 ?_
        refine lv_iload_n hx hb dX1_best_79 rfl (lv_at hl 0 rfl) ?_
        refine lv_iconst (v := 1) hx hb dX1_best_80 (by decide) ?_
        refine lv_isub hx hb dX1_best_81 ?_
        obtain ⟨u56, e57, h⟩ := obd_inv h
        obtain ⟨n58, n59, h1, h2, h⟩ := hcall_inv h
        refine hcl_X3_worthBehindL2_X1_339 F hK S (hIs_inv e57) h1 h2 h rfl rfl hl.1 (Nat.le_of_ble_eq_true rfl) ⟨Nat.le_of_ble_eq_true rfl, Nat.le_of_ble_eq_true rfl⟩ dX1_best_82 (fun v62 o61 w60 H locs hw h S => ?_)
        replace h := hret_mp h hw
        clear hw h1 h2
        refine lv_istore (lv' := [(7, .int v62), (1, .int y1), (2, .ref y2), (3, .ref y3), (4, .int y4), (5, .int y5), (6, .int y6)]) hx hb dX1_best_85 hl (by decide) rfl (fun ls hl => ?_)
        refine lv_iload hx hb dX1_best_87 (lv_at hl 0 rfl) ?_
        refine lv_iload hx hb dX1_best_89 (lv_at hl 5 rfl) ?_
        refine lv_icmp_ge (tgt := 102) hx hb dX1_best_91 (by decide) (fun c63 => ?_) (fun c63 => ?_)
        · rw [hIf_pos c63] at h
          exact hJ102 _ _ _ _ _ _ h S (lv_sub hl [1, 2, 3, 4, 5, 6] rfl)
        · rw [hIf_neg c63] at h
          refine lv_iload hx hb dX1_best_94 (lv_at hl 0 rfl) ?_
          refine lv_istore (lv' := [(5, .int v62), (7, .int v62), (1, .int y1), (2, .ref y2), (3, .ref y3), (4, .int y4), (6, .int y6)]) hx hb dX1_best_96 hl (by decide) rfl (fun ls hl => ?_)
          refine lv_iload hx hb dX1_best_98 (lv_at hl 6 rfl) ?_
          refine lv_istore (lv' := [(4, .int y6), (5, .int v62), (7, .int v62), (1, .int y1), (2, .ref y2), (3, .ref y3), (6, .int y6)]) hx hb dX1_best_100 hl (by decide) rfl (fun ls hl => ?_)
          exact hJ102 _ _ _ _ _ _ h S (lv_sub hl [3, 4, 5, 0, 1, 6] rfl)
      · rw [hIf_neg c46] at h
        refine lv_goto (tgt := 102) hx hb dX1_best_66 (by decide) ?_
        exact hJ102 _ _ _ _ _ _ h S (lv_sub hl [0, 1, 2, 3, 4, 5] rfl)
set_option maxHeartbeats 4000000 in
set_option maxRecDepth 100000 in
theorem hmet_X1_best (l : Launch) (hst : l.stackTraces = false) (E : hEnv) (A : Nat → Prop) (w : hW) (a0 : Nat) (x1 : Int32) (QX : String → hO → Prop) (Q : Int32 → hO → Prop) (h : hf_X1_best E.2.2 w a0 x1 QX Q) : vx_Met l yX1_best (ws_ yX1_best cX1_best 8 (some .int)) (hrm_X1_best w.2.1 w.2.2) (va_Pc [.ref a0, .int x1] (gPre (hK E A) (hP E A w.1))) (hQi E A Q) (hXC E A QX) w.2.1 w.2.2 A := by
  refine hx_met (own := RX1) (by decide +kernel) rfl (Nat.le_of_ble_eq_true rfl) ?_
  intro p e s m args below meth c ls cb sb F hr hlk ht hK S hl
  have hx := F.1
  have hb := F.2.1
  have hl : lv_has ls 8 [(0, .ref a0), (1, .int x1)] := hl
  unfold hf_X1_best at h
  refine lv_iload_n hx hb dX1_best_0 rfl (lv_at hl 1 rfl) ?_
  refine lv_iconst (v := 1) hx hb dX1_best_1 (by decide) ?_
  refine lv_iconst (v := 3) hx hb dX1_best_2 (by decide) ?_
  obtain ⟨v1, e2, h⟩ := obd_inv h
  refine call_p_isIn_X1_165 (hKm E A) F hK S.1 e2 hl.1 (Nat.le_of_ble_eq_true rfl) ⟨Nat.le_of_ble_eq_true rfl, Nat.le_of_ble_eq_true rfl⟩ ⟨Nat.sub_le _ _, Nat.sub_le _ _⟩ dX1_best_3 (fun H1 locs1 S1 => ?_)
  have S : hS E A s.heap _ _ _ _ _ := ⟨S1, S.2⟩
  obtain ⟨n3, n4, h1, h2, h⟩ := hcall_inv h
  refine hcl_X1_ask_X1_169 hst hlk ht F hK S h1 h2 h rfl rfl hl.1 (Nat.le_of_ble_eq_true rfl) ⟨Nat.le_of_ble_eq_true rfl, Nat.le_of_ble_eq_true rfl⟩ dX1_best_6 (fun o6 w5 H locs hw h S => ?_)
  replace h := hret_mp h hw
  clear hw h1 h2
  refine hn_X1_32 F hK S rfl rfl h dX1_best_9 (fun q7 w8 H h S => ?_)
  refine lv_dup hx hb dX1_best_12 rfl ?_
  refine lv_aload_n hx hb dX1_best_13 rfl (lv_at hl 0 rfl) ?_
  obtain ⟨v9, e10, h⟩ := obd_inv h
  refine hg_X1_47 F hK S e10 dX1_best_14 ?_
  obtain ⟨n11, n12, h1, h2, h⟩ := hcall_inv h
  refine hcl_X3_init_3_X1_93 F hK S h1 h2 h rfl rfl hl.1 (Nat.le_of_ble_eq_true rfl) ⟨Nat.le_of_ble_eq_true rfl, Nat.le_of_ble_eq_true rfl⟩ dX1_best_17 (fun o14 w13 H locs hw h S => ?_)
  replace h := hret_mp h hw
  clear hw h1 h2
  refine lv_astore_n (lv' := [(2, .ref q7), (0, .ref a0), (1, .int x1)]) hx hb dX1_best_20 rfl hl (by decide) rfl (fun ls hl => ?_)
  refine lv_aload_n hx hb dX1_best_21 rfl (lv_at hl 0 rfl) ?_
  refine lv_iconst (v := 1) hx hb dX1_best_22 (by decide) ?_
  obtain ⟨u15, e16, h⟩ := obd_inv h
  obtain ⟨n17, n18, h1, h2, h⟩ := hcall_inv h
  refine hcl_X3_all_X1_131 F hK S (hIs_inv e16) h1 h2 h rfl rfl hl.1 (Nat.le_of_ble_eq_true rfl) ⟨Nat.le_of_ble_eq_true rfl, Nat.le_of_ble_eq_true rfl⟩ dX1_best_23 (fun v21 o20 w19 H locs hw h S => ?_)
  replace h := hret_mp h hw
  clear hw h1 h2
  refine lv_astore_n (lv' := [(3, .ref v21), (2, .ref q7), (0, .ref a0), (1, .int x1)]) hx hb dX1_best_26 rfl hl (by decide) rfl (fun ls hl => ?_)
  refine lv_iconst (v := (-1)) hx hb dX1_best_27 (by decide) ?_
  refine lv_istore (lv' := [(4, .int (-1)), (3, .ref v21), (2, .ref q7), (0, .ref a0), (1, .int x1)]) hx hb dX1_best_28 hl (by decide) rfl (fun ls hl => ?_)
  refine lv_sipush (v := 1000) hx hb dX1_best_30 (by decide) ?_
  refine lv_istore (lv' := [(5, .int 1000), (4, .int (-1)), (3, .ref v21), (2, .ref q7), (0, .ref a0), (1, .int x1)]) hx hb dX1_best_33 hl (by decide) rfl (fun ls hl => ?_)
  refine lv_iconst (v := 0) hx hb dX1_best_35 (by decide) ?_
  refine lv_istore (lv' := [(6, .int 0), (5, .int 1000), (4, .int (-1)), (3, .ref v21), (2, .ref q7), (0, .ref a0), (1, .int x1)]) hx hb dX1_best_36 hl (by decide) rfl (fun ls hl => ?_)
  refine hloop_X1_best_1 F hr hlk hK hst ht _ _ _ _ _ h _ _ _ S (lv_sub hl [6, 4, 3, 2, 1, 0] rfl) (fun v69 w70 H locs ls h S hl => ?_)
  refine lv_iload hx hb dX1_best_108 (lv_at hl 0 rfl) ?_
  exact vx_ret (h_iret F hr hlk S h dX1_best_110)
