/-! HEAP MODE: strings -/
set_option maxRecDepth 100000
def hf_J8_copyOf (pl : Nat → Nat) (w : hW) (x1 : Nat) (x2 : Int32) (Q : Nat → hO → Prop) : Prop :=
  obd (hLen w x1) fun v1 =>
  hIf (x2 = v1) (
    hClB w x1 fun q10 w11 =>
    obd (hIsB w11 q10) fun u12 =>
    Q q10 w11.1) <|
    hNewI 2 w x2 fun q4 w5 =>
    obd (hLen w5 x1) fun v6 =>
    obd (hCpB w5 x1 0 q4 0 (if x2 < v6 then x2 else v6)) fun w8 =>
    Q q4 w8.1
abbrev hrm_J8_copyOf (c s : Nat) : Room := { frames := 1, cells := c, slots := s, locals := 39 }
set_option maxHeartbeats 4000000 in
set_option maxRecDepth 100000 in
theorem hmet_J8_copyOf (l : Launch) (E : hEnv) (A : Nat → Prop) (w : hW) (x1 : Nat) (x2 : Int32) (Q : Nat → hO → Prop) (h : hf_J8_copyOf E.2.2 w x1 x2 Q) : Met l yJ8_copyOf (ws_ yJ8_copyOf cJ8_copyOf 3 (some (.array (.byte)))) (hrm_J8_copyOf w.2.1 w.2.2) (va_Pc [.ref x1, .int x2] (gPre (hK E A) (hP E A w.1))) (hQp E A Q) w.2.1 w.2.2 A := by
  refine h_met (own := RJ8) (by decide +kernel) rfl (Nat.le_of_ble_eq_true rfl) ?_
  intro p e s m args below meth c ls cb sb F hr hlk hK S hl
  have hx := F.1
  have hb := F.2.1
  have hl : lv_has ls 3 [(0, .ref x1), (1, .int x2)] := hl
  unfold hf_J8_copyOf at h
  refine lv_iload_n hx hb dJ8_copyOf_0 rfl (lv_at hl 1 rfl) ?_
  refine lv_aload_n hx hb dJ8_copyOf_1 rfl (lv_at hl 0 rfl) ?_
  obtain ⟨v1, e2, h⟩ := obd_inv h
  refine h_alen F hK S e2 dJ8_copyOf_2 ?_
  refine lv_icmp_ne (tgt := 14) hx hb dJ8_copyOf_3 (by decide) (fun c3 => ?_) (fun c3 => ?_)
  · rw [hIf_neg c3] at h
    refine lv_iload_n hx hb dJ8_copyOf_14 rfl (lv_at hl 1 rfl) ?_
    refine h_newaB F hK S rfl rfl h dJ8_copyOf_15 (fun q4 w5 H h S => ?_)
    refine lv_astore_n (lv' := [(2, .ref q4), (0, .ref x1), (1, .int x2)]) hx hb dJ8_copyOf_17 rfl hl (by decide) rfl (fun ls hl => ?_)
    refine lv_aload_n hx hb dJ8_copyOf_18 rfl (lv_at hl 1 rfl) ?_
    refine lv_iconst (v := 0) hx hb dJ8_copyOf_19 (by decide) ?_
    refine lv_aload_n hx hb dJ8_copyOf_20 rfl (lv_at hl 0 rfl) ?_
    refine lv_iconst (v := 0) hx hb dJ8_copyOf_21 (by decide) ?_
    refine lv_aload_n hx hb dJ8_copyOf_22 rfl (lv_at hl 1 rfl) ?_
    obtain ⟨v6, e7, h⟩ := obd_inv h
    refine h_alen F hK S e7 dJ8_copyOf_23 ?_
    refine lv_iload_n hx hb dJ8_copyOf_24 rfl (lv_at hl 2 rfl) ?_
    refine va_mmin hx hb (F.2.2.1.trans hl.1.symm) F.2.2.2.1 (F.2.2.2.2 _ q611) (F.2.2.2.2 _ q612) (F.2.2.2.2 _ q128) (F.2.2.2.2 _ q613) (Nat.le_of_ble_eq_true rfl) (Nat.le_of_ble_eq_true rfl) (Nat.sub_le _ _) (Nat.sub_le _ _) dJ8_copyOf_25 ?_
    obtain ⟨w8, e9, h⟩ := obd_inv h
    refine h_copyB F hK S e9 hl.1 q614 q616 q615 q130 (Nat.le_of_ble_eq_true rfl) (Nat.le_of_ble_eq_true rfl) dJ8_copyOf_28 (fun H locs S => ?_)
    refine lv_aload_n hx hb dJ8_copyOf_31 rfl (lv_at hl 0 rfl) ?_
    exact h_aret F hr (Or.inr ⟨_, rfl⟩) hlk S h dJ8_copyOf_32
  · rw [hIf_pos c3] at h
    refine lv_aload_n hx hb dJ8_copyOf_6 rfl (lv_at hl 0 rfl) ?_
    refine h_clone F hK S rfl rfl h hl.1 q604 q605 q606 q607 q608 hK.2.2.1.2.2.2.2.2.2.2.1 (Nat.le_of_ble_eq_true rfl) (Nat.le_of_ble_eq_true rfl) dJ8_copyOf_7 (fun q10 w11 H h S => ?_)
    obtain ⟨u12, e13, h⟩ := obd_inv h
    refine h_castB F hK S e13 q610 dJ8_copyOf_10 ?_
    exact h_aret F hr (Or.inr ⟨_, rfl⟩) hlk S h dJ8_copyOf_13
def hf_J8_checkLength (pl : Nat → Nat) (w : hW) (x1 : Int32) (x2 : Int32) (Q : hO → Prop) : Prop :=
  hIf (x1 ≤ x2) (
    Q w.1) <|
    False
abbrev hrm_J8_checkLength (c s : Nat) : Room := { frames := 0, cells := c, slots := s, locals := 0 }
set_option maxHeartbeats 4000000 in
set_option maxRecDepth 100000 in
theorem hmet_J8_checkLength (l : Launch) (E : hEnv) (A : Nat → Prop) (w : hW) (x1 : Int32) (x2 : Int32) (Q : hO → Prop) (h : hf_J8_checkLength E.2.2 w x1 x2 Q) : Met l yJ8_checkLength (ws_ yJ8_checkLength cJ8_checkLength 2 (none)) (hrm_J8_checkLength w.2.1 w.2.2) (va_Pc [.int x1, .int x2] (gPre (hK E A) (hP E A w.1))) (hQv E A Q) w.2.1 w.2.2 A := by
  refine h_met (own := RJ8) (by decide +kernel) rfl (Nat.le_of_ble_eq_true rfl) ?_
  intro p e s m args below meth c ls cb sb F hr hlk hK S hl
  have hx := F.1
  have hb := F.2.1
  have hl : lv_has ls 2 [(0, .int x1), (1, .int x2)] := hl
  unfold hf_J8_checkLength at h
  refine lv_iload_n hx hb dJ8_checkLength_0 rfl (lv_at hl 1 rfl) ?_
  refine lv_iload_n hx hb dJ8_checkLength_1 rfl (lv_at hl 0 rfl) ?_
  refine lv_icmp_ge (tgt := 37) hx hb dJ8_checkLength_2 (by decide) (fun c1 => ?_) (fun c1 => ?_)
  · rw [hIf_pos c1] at h
    exact h_vret F hr hlk S h dJ8_checkLength_37
  · rw [hIf_neg c1] at h
    exact False.elim h
theorem hcl_J8_checkLength_J8_343 {p : Program} {l : Launch} {e : Env} {s : State} {m : MethodId} {args : Array Value} {below : List Frame} {meth : Method} {c : Code} {R : Room} {H : Heap} {locs : List Loc} {cb sb pc nL : Nat} {Q : State → Prop} {ls : Array Slot} {rest : List Value} {cc : ByteArray} {E : hEnv} {A : Nat → Prop} {w : hW} {x1 : Int32} {x2 : Int32} {Q' : hO → Prop} {c1 s1 : Nat} (F : CallFix p m c cc nL s args lw_all RJ8) (hK : hK E A s) (S : hS E A s.heap cb sb w H locs) (h1 : c1 ≤ w.2.1) (h2 : s1 ≤ w.2.2) (h : hf_J8_checkLength E.2.2 (w.1, c1, s1) x1 x2 Q') (hrc : R.cells = cb) (hrs : R.slots = sb) (hls : ls.size = nL) (hWt : (rest.map fun v => v.category).sum ≤ 8) (hR : 0 + 1 ≤ R.frames ∧ 8 + (2 + 11) + 0 ≤ R.locals) (hdg : decode cc pc = .ok (.invokestatic 343, 3))
    (kk : ∀ (o : hO) (w' : hW) (H1 : Heap) (locs1 : List Loc), w' = (o, w.2.1 - c1, w.2.2 - s1) → Q' o → hS E A s.heap cb sb w' H1 locs1 → W p l e R s m args below meth c H1 locs1 (cb - w'.2.1) (sb - w'.2.2) Q (F0 m (pc + 3) ls (rest))) : W p l e R s m args below meth c H locs (cb - w.2.1) (sb - w.2.2) Q (F0 m pc ls (.int x2 :: .int x1 :: rest)) :=
  h_kv (g_runS F hK (hKm E A) S.1 (hmet_J8_checkLength l E A (w.1, c1, s1) x1 x2 Q' h) (va_cwS 2 F.2.2.2.2 (lw_S q703 q704 q129 q705) rfl rfl rfl (by decide +kernel) hR) rfl hls rfl hWt hdg ⟨by rw [hrc]; exact (h_left S h1 h2).1, by rw [hrs]; exact (h_left S h1 h2).2⟩) S h1 h2 kk
def hf_J8_copyOfRangeByte (pl : Nat → Nat) (w : hW) (x1 : Nat) (x2 : Int32) (x3 : Int32) (Q : Nat → hO → Prop) : Prop :=
  hcall w fun n1 n2 => hf_J8_checkLength pl (w.1, n1, n2) x2 x3 fun o4 => hret w n1 n2 o4 fun w3 =>
  hNewI 2 w3 (x3 - x2) fun q5 w6 =>
  obd (hLen w6 x1) fun v7 =>
  obd (hCpB w6 x1 x2 q5 0 (if (x3 - x2) < (v7 - x2) then (x3 - x2) else (v7 - x2))) fun w9 =>
  Q q5 w9.1
abbrev hrm_J8_copyOfRangeByte (c s : Nat) : Room := { frames := 1, cells := c, slots := s, locals := 39 }
set_option maxHeartbeats 4000000 in
set_option maxRecDepth 100000 in
theorem hmet_J8_copyOfRangeByte (l : Launch) (E : hEnv) (A : Nat → Prop) (w : hW) (x1 : Nat) (x2 : Int32) (x3 : Int32) (Q : Nat → hO → Prop) (h : hf_J8_copyOfRangeByte E.2.2 w x1 x2 x3 Q) : Met l yJ8_copyOfRangeByte (ws_ yJ8_copyOfRangeByte cJ8_copyOfRangeByte 5 (some (.array (.byte)))) (hrm_J8_copyOfRangeByte w.2.1 w.2.2) (va_Pc [.ref x1, .int x2, .int x3] (gPre (hK E A) (hP E A w.1))) (hQp E A Q) w.2.1 w.2.2 A := by
  refine h_met (own := RJ8) (by decide +kernel) rfl (Nat.le_of_ble_eq_true rfl) ?_
  intro p e s m args below meth c ls cb sb F hr hlk hK S hl
  have hx := F.1
  have hb := F.2.1
  have hl : lv_has ls 5 [(0, .ref x1), (1, .int x2), (2, .int x3)] := hl
  unfold hf_J8_copyOfRangeByte at h
  refine lv_iload_n hx hb dJ8_copyOfRangeByte_0 rfl (lv_at hl 1 rfl) ?_
  refine lv_iload_n hx hb dJ8_copyOfRangeByte_1 rfl (lv_at hl 2 rfl) ?_
  obtain ⟨n1, n2, h1, h2, h⟩ := hcall_inv h
  refine hcl_J8_checkLength_J8_343 F hK S h1 h2 h rfl rfl hl.1 (Nat.le_of_ble_eq_true rfl) ⟨Nat.le_of_ble_eq_true rfl, Nat.le_of_ble_eq_true rfl⟩ dJ8_copyOfRangeByte_2 (fun o4 w3 H locs hw h S => ?_)
  replace h := hret_mp h hw
  clear hw h1 h2
  refine lv_iload_n hx hb dJ8_copyOfRangeByte_5 rfl (lv_at hl 2 rfl) ?_
  refine lv_iload_n hx hb dJ8_copyOfRangeByte_6 rfl (lv_at hl 1 rfl) ?_
  refine lv_isub hx hb dJ8_copyOfRangeByte_7 ?_
  refine lv_istore_n (lv' := [(3, .int (x3 - x2)), (0, .ref x1), (1, .int x2), (2, .int x3)]) hx hb dJ8_copyOfRangeByte_8 rfl hl (by decide) rfl (fun ls hl => ?_)
  refine lv_iload_n hx hb dJ8_copyOfRangeByte_9 rfl (lv_at hl 0 rfl) ?_
  refine h_newaB F hK S rfl rfl h dJ8_copyOfRangeByte_10 (fun q5 w6 H h S => ?_)
  refine lv_astore (lv' := [(4, .ref q5), (3, .int (x3 - x2)), (0, .ref x1), (1, .int x2), (2, .int x3)]) hx hb dJ8_copyOfRangeByte_12 hl (by decide) rfl (fun ls hl => ?_)
  refine lv_aload_n hx hb dJ8_copyOfRangeByte_14 rfl (lv_at hl 2 rfl) ?_
  refine lv_iload_n hx hb dJ8_copyOfRangeByte_15 rfl (lv_at hl 3 rfl) ?_
  refine lv_aload hx hb dJ8_copyOfRangeByte_16 (lv_at hl 0 rfl) ?_
  refine lv_iconst (v := 0) hx hb dJ8_copyOfRangeByte_18 (by decide) ?_
  refine lv_aload_n hx hb dJ8_copyOfRangeByte_19 rfl (lv_at hl 2 rfl) ?_
  obtain ⟨v7, e8, h⟩ := obd_inv h
  refine h_alen F hK S e8 dJ8_copyOfRangeByte_20 ?_
  refine lv_iload_n hx hb dJ8_copyOfRangeByte_21 rfl (lv_at hl 3 rfl) ?_
  refine lv_isub hx hb dJ8_copyOfRangeByte_22 ?_
  refine lv_iload_n hx hb dJ8_copyOfRangeByte_23 rfl (lv_at hl 1 rfl) ?_
  refine va_mmin hx hb (F.2.2.1.trans hl.1.symm) F.2.2.2.1 (F.2.2.2.2 _ q611) (F.2.2.2.2 _ q612) (F.2.2.2.2 _ q128) (F.2.2.2.2 _ q613) (Nat.le_of_ble_eq_true rfl) (Nat.le_of_ble_eq_true rfl) (Nat.sub_le _ _) (Nat.sub_le _ _) dJ8_copyOfRangeByte_24 ?_
  obtain ⟨w9, e10, h⟩ := obd_inv h
  refine h_copyB F hK S e10 hl.1 q614 q616 q615 q130 (Nat.le_of_ble_eq_true rfl) (Nat.le_of_ble_eq_true rfl) dJ8_copyOfRangeByte_27 (fun H locs S => ?_)
  refine lv_aload hx hb dJ8_copyOfRangeByte_30 (lv_at hl 0 rfl) ?_
  exact h_aret F hr (Or.inr ⟨_, rfl⟩) hlk S h dJ8_copyOfRangeByte_32
theorem hcl_J8_copyOfRangeByte_J8_339 {p : Program} {l : Launch} {e : Env} {s : State} {m : MethodId} {args : Array Value} {below : List Frame} {meth : Method} {c : Code} {R : Room} {H : Heap} {locs : List Loc} {cb sb pc nL : Nat} {Q : State → Prop} {ls : Array Slot} {rest : List Value} {cc : ByteArray} {E : hEnv} {A : Nat → Prop} {w : hW} {x1 : Nat} {x2 : Int32} {x3 : Int32} {Q' : Nat → hO → Prop} {c1 s1 : Nat} (F : CallFix p m c cc nL s args lw_all RJ8) (hK : hK E A s) (S : hS E A s.heap cb sb w H locs) (h1 : c1 ≤ w.2.1) (h2 : s1 ≤ w.2.2) (h : hf_J8_copyOfRangeByte E.2.2 (w.1, c1, s1) x1 x2 x3 Q') (hrc : R.cells = cb) (hrs : R.slots = sb) (hls : ls.size = nL) (hWt : (rest.map fun v => v.category).sum ≤ 8) (hR : 1 + 1 ≤ R.frames ∧ 8 + (5 + 11) + 39 ≤ R.locals) (hdg : decode cc pc = .ok (.invokestatic 339, 3))
    (kk : ∀ (v : Nat) (o : hO) (w' : hW) (H1 : Heap) (locs1 : List Loc), w' = (o, w.2.1 - c1, w.2.2 - s1) → Q' v o → hS E A s.heap cb sb w' H1 locs1 → W p l e R s m args below meth c H1 locs1 (cb - w'.2.1) (sb - w'.2.2) Q (F0 m (pc + 3) ls (.ref v :: rest))) : W p l e R s m args below meth c H locs (cb - w.2.1) (sb - w.2.2) Q (F0 m pc ls (.int x3 :: .int x2 :: .ref x1 :: rest)) :=
  h_kp (g_runS F hK (hKm E A) S.1 (hmet_J8_copyOfRangeByte l E A (w.1, c1, s1) x1 x2 x3 Q' h) (va_cwS 3 F.2.2.2.2 (lw_S q700 q701 q129 q702) rfl rfl rfl (by decide +kernel) hR) rfl hls rfl hWt hdg ⟨by rw [hrc]; exact (h_left S h1 h2).1, by rw [hrs]; exact (h_left S h1 h2).2⟩) S h1 h2 kk
def hf_J8_copyOfRange (pl : Nat → Nat) (w : hW) (x1 : Nat) (x2 : Int32) (x3 : Int32) (Q : Nat → hO → Prop) : Prop :=
  hIf (x2 = 0) (
    obd (hLen w x1) fun v7 =>
    hIf (x3 = v7) (
      hClB w x1 fun q10 w11 =>
      obd (hIsB w11 q10) fun u12 =>
      Q q10 w11.1) <|
      hcall w fun n14 n15 => hf_J8_copyOfRangeByte pl (w.1, n14, n15) x1 x2 x3 fun v18 o17 => hret w n14 n15 o17 fun w16 =>
      Q v18 w16.1) <|
    hcall w fun n2 n3 => hf_J8_copyOfRangeByte pl (w.1, n2, n3) x1 x2 x3 fun v6 o5 => hret w n2 n3 o5 fun w4 =>
    Q v6 w4.1
abbrev hrm_J8_copyOfRange (c s : Nat) : Room := { frames := 2, cells := c, slots := s, locals := 63 }
set_option maxHeartbeats 4000000 in
set_option maxRecDepth 100000 in
theorem hmet_J8_copyOfRange (l : Launch) (E : hEnv) (A : Nat → Prop) (w : hW) (x1 : Nat) (x2 : Int32) (x3 : Int32) (Q : Nat → hO → Prop) (h : hf_J8_copyOfRange E.2.2 w x1 x2 x3 Q) : Met l yJ8_copyOfRange (ws_ yJ8_copyOfRange cJ8_copyOfRange 3 (some (.array (.byte)))) (hrm_J8_copyOfRange w.2.1 w.2.2) (va_Pc [.ref x1, .int x2, .int x3] (gPre (hK E A) (hP E A w.1))) (hQp E A Q) w.2.1 w.2.2 A := by
  refine h_met (own := RJ8) (by decide +kernel) rfl (Nat.le_of_ble_eq_true rfl) ?_
  intro p e s m args below meth c ls cb sb F hr hlk hK S hl
  have hx := F.1
  have hb := F.2.1
  have hl : lv_has ls 3 [(0, .ref x1), (1, .int x2), (2, .int x3)] := hl
  unfold hf_J8_copyOfRange at h
  refine lv_iload_n hx hb dJ8_copyOfRange_0 rfl (lv_at hl 1 rfl) ?_
  refine lv_if_ne (tgt := 10) hx hb dJ8_copyOfRange_1 (by decide) (fun c1 => ?_) (fun c1 => ?_)
  · rw [hIf_neg c1] at h
    refine lv_aload_n hx hb dJ8_copyOfRange_10 rfl (lv_at hl 0 rfl) ?_
    refine lv_iload_n hx hb dJ8_copyOfRange_11 rfl (lv_at hl 1 rfl) ?_
    refine lv_iload_n hx hb dJ8_copyOfRange_12 rfl (lv_at hl 2 rfl) ?_
    obtain ⟨n2, n3, h1, h2, h⟩ := hcall_inv h
    refine hcl_J8_copyOfRangeByte_J8_339 F hK S h1 h2 h rfl rfl hl.1 (Nat.le_of_ble_eq_true rfl) ⟨Nat.le_of_ble_eq_true rfl, Nat.le_of_ble_eq_true rfl⟩ dJ8_copyOfRange_13 (fun v6 o5 w4 H locs hw h S => ?_)
    replace h := hret_mp h hw
    clear hw h1 h2
    exact h_aret F hr (Or.inr ⟨_, rfl⟩) hlk S h dJ8_copyOfRange_16
  · rw [hIf_pos c1] at h
    refine lv_iload_n hx hb dJ8_copyOfRange_4 rfl (lv_at hl 2 rfl) ?_
    refine lv_aload_n hx hb dJ8_copyOfRange_5 rfl (lv_at hl 0 rfl) ?_
    obtain ⟨v7, e8, h⟩ := obd_inv h
    refine h_alen F hK S e8 dJ8_copyOfRange_6 ?_
    refine lv_icmp_eq (tgt := 17) hx hb dJ8_copyOfRange_7 (by decide) (fun c9 => ?_) (fun c9 => ?_)
    · rw [hIf_pos c9] at h
      refine lv_aload_n hx hb dJ8_copyOfRange_17 rfl (lv_at hl 0 rfl) ?_
      refine h_clone F hK S rfl rfl h hl.1 q604 q605 q606 q607 q608 hK.2.2.1.2.2.2.2.2.2.2.1 (Nat.le_of_ble_eq_true rfl) (Nat.le_of_ble_eq_true rfl) dJ8_copyOfRange_18 (fun q10 w11 H h S => ?_)
      obtain ⟨u12, e13, h⟩ := obd_inv h
      refine h_castB F hK S e13 q610 dJ8_copyOfRange_21 ?_
      exact h_aret F hr (Or.inr ⟨_, rfl⟩) hlk S h dJ8_copyOfRange_24
    · rw [hIf_neg c9] at h
      refine lv_aload_n hx hb dJ8_copyOfRange_10 rfl (lv_at hl 0 rfl) ?_
      refine lv_iload_n hx hb dJ8_copyOfRange_11 rfl (lv_at hl 1 rfl) ?_
      refine lv_iload_n hx hb dJ8_copyOfRange_12 rfl (lv_at hl 2 rfl) ?_
      obtain ⟨n14, n15, h1, h2, h⟩ := hcall_inv h
      refine hcl_J8_copyOfRangeByte_J8_339 F hK S h1 h2 h rfl rfl hl.1 (Nat.le_of_ble_eq_true rfl) ⟨Nat.le_of_ble_eq_true rfl, Nat.le_of_ble_eq_true rfl⟩ dJ8_copyOfRange_13 (fun v18 o17 w16 H locs hw h S => ?_)
      replace h := hret_mp h hw
      clear hw h1 h2
      exact h_aret F hr (Or.inr ⟨_, rfl⟩) hlk S h dJ8_copyOfRange_16
def hf_J9_canEncode (pl : Nat → Nat) (w : hW) (x1 : Int32) (Q : Int32 → hO → Prop) : Prop :=
  hjoin (fun (v2 : Int32) =>
    Q (zN v2) w.1) fun k4 =>
  hIf (255 < x1) (
    k4 0) <|
    k4 1
abbrev hrm_J9_canEncode (c s : Nat) : Room := { frames := 0, cells := c, slots := s, locals := 0 }
set_option maxHeartbeats 4000000 in
set_option maxRecDepth 100000 in
theorem hmet_J9_canEncode (l : Launch) (E : hEnv) (A : Nat → Prop) (w : hW) (x1 : Int32) (Q : Int32 → hO → Prop) (h : hf_J9_canEncode E.2.2 w x1 Q) : Met l yJ9_canEncode (ws_ yJ9_canEncode cJ9_canEncode 1 (some .boolean)) (hrm_J9_canEncode w.2.1 w.2.2) (va_Pc [.int x1] (gPre (hK E A) (hP E A w.1))) (hQi E A Q) w.2.1 w.2.2 A := by
  refine h_met (own := RJ9) (by decide +kernel) rfl (Nat.le_of_ble_eq_true rfl) ?_
  intro p e s m args below meth c ls cb sb F hr hlk hK S hl
  have hx := F.1
  have hb := F.2.1
  have hl : lv_has ls 1 [(0, .int x1)] := hl
  unfold hf_J9_canEncode at h
  refine lv_iload_n hx hb dJ9_canEncode_0 rfl (lv_at hl 0 rfl) ?_
  refine lv_sipush (v := 255) hx hb dJ9_canEncode_1 (by decide) ?_
  obtain ⟨k4, hk4, h⟩ := hj1_inv h
  have hJ12 : ∀ (v2 : Int32) (H : Heap) (locs : List Loc) (ls : Array Slot), k4 v2 → hS E A s.heap cb sb w H locs → lv_has ls 1 [] → W p l e (hrm_J9_canEncode cb sb) s m args below meth c H locs (cb - w.2.1) (sb - w.2.2) (MQ below (hQi E A Q) args s cb sb A) (F0 m 12 ls [.int v2]) := by
    intro v2 H locs ls h S hl
    replace h := hk4 _ h
    exact h_zret F hr hlk S h dJ9_canEncode_12
  clear hk4
  refine lv_icmp_gt (tgt := 11) hx hb dJ9_canEncode_4 (by decide) (fun c1 => ?_) (fun c1 => ?_)
  · rw [hIf_pos c1] at h
    refine lv_iconst (v := 0) hx hb dJ9_canEncode_11 (by decide) ?_
    exact hJ12 _ _ _ _ h S (lv_sub hl [] rfl)
  · rw [hIf_neg c1] at h
    refine lv_iconst (v := 1) hx hb dJ9_canEncode_7 (by decide) ?_
    refine lv_goto (tgt := 12) hx hb dJ9_canEncode_8 (by decide) ?_
    exact hJ12 _ _ _ _ h S (lv_sub hl [] rfl)
def hL_J9_equals_1 (pl : Nat → Nat) (Q : Int32 → hO → Prop) (K : hW → Prop) (y0 : Nat) (y1 : Nat) : Nat → hW → Int32 → Prop
  | 0, _, _ => False
  | n + 1, w, y2 =>
    obd (hLen w y0) fun v6 =>
    hIf (v6 ≤ y2) (
      K w) <|
      obd (haB w y0 y2) fun v9 =>
      obd (haB w y1 y2) fun v11 =>
      hIf (v9 = v11) (
        hL_J9_equals_1 pl Q K y0 y1 n w (y2 + 1)) <|
        Q 0 w.1
def hf_J9_equals (pl : Nat → Nat) (w : hW) (x1 : Nat) (x2 : Nat) (Q : Int32 → hO → Prop) : Prop :=
  obd (hLen w x1) fun v1 =>
  obd (hLen w x2) fun v3 =>
  hIf (v1 = v3) (
    hL_J9_equals_1 pl Q (fun (w14 : hW) =>
      Q 1 w14.1) x1 x2 FUEL w 0) <|
    Q 0 w.1
abbrev hrm_J9_equals (c s : Nat) : Room := { frames := 0, cells := c, slots := s, locals := 0 }
set_option maxHeartbeats 4000000 in
set_option maxRecDepth 100000 in
theorem hloop_J9_equals_1 {p : Program} {l : Launch} {e : Env} {s : State} {m : MethodId} {args : Array Value} {below : List Frame} {meth : Method} {c : Code} {cb sb : Nat} {E : hEnv} {A : Nat → Prop} {Q : Int32 → hO → Prop} {K : hW → Prop} {y0 : Nat} {y1 : Nat} (F : CallFix p m c cJ9_equals 3 s args lw_all RJ9) (hr : meth.sig.returnType = some .boolean) (hlk : meth.locks = false) (hK : hK E A s) : ∀ (n : Nat) (w : hW) (y2 : Int32), hL_J9_equals_1 E.2.2 Q K y0 y1 n w y2 → ∀ (H : Heap) (locs : List Loc) (ls : Array Slot), hS E A s.heap cb sb w H locs → lv_has ls 3 [(0, .ref y0), (1, .ref y1), (2, .int y2)] → (∀ (wz : hW) (H : Heap) (locs : List Loc) (ls : Array Slot), K wz → hS E A s.heap cb sb wz H locs → lv_has ls 3 [] → W p l e (hrm_J9_equals cb sb) s m args below meth c H locs (cb - wz.2.1) (sb - wz.2.2) (MQ below (hQi E A Q) args s cb sb A) (F0 m 32 ls [])) → W p l e (hrm_J9_equals cb sb) s m args below meth c H locs (cb - w.2.1) (sb - w.2.2) (MQ below (hQi E A Q) args s cb sb A) (F0 m 9 ls []) := by
  have hx := F.1
  have hb := F.2.1
  intro n
  induction n with
  | zero =>
    intro w y2 h
    exact False.elim h
  | succ n ih =>
    intro w y2 h H locs ls S hl kx
    rw [hL_J9_equals_1] at h
    refine lv_iload_n hx hb dJ9_equals_9 rfl (lv_at hl 2 rfl) ?_
    refine lv_aload_n hx hb dJ9_equals_10 rfl (lv_at hl 0 rfl) ?_
    obtain ⟨v6, e7, h⟩ := obd_inv h
    refine h_alen F hK S e7 dJ9_equals_11 ?_
    refine lv_icmp_ge (tgt := 32) hx hb dJ9_equals_12 (by decide) (fun c8 => ?_) (fun c8 => ?_)
    · rw [hIf_pos c8] at h
      exact kx _ _ _ _ h S (lv_sub hl [] rfl)
    · rw [hIf_neg c8] at h
      refine lv_aload_n hx hb dJ9_equals_15 rfl (lv_at hl 0 rfl) ?_
      refine lv_iload_n hx hb dJ9_equals_16 rfl (lv_at hl 2 rfl) ?_
      obtain ⟨v9, e10, h⟩ := obd_inv h
      refine h_bald F hK S e10 dJ9_equals_17 ?_
      refine lv_aload_n hx hb dJ9_equals_18 rfl (lv_at hl 1 rfl) ?_
      refine lv_iload_n hx hb dJ9_equals_19 rfl (lv_at hl 2 rfl) ?_
      obtain ⟨v11, e12, h⟩ := obd_inv h
      refine h_bald F hK S e12 dJ9_equals_20 ?_
      refine lv_icmp_eq (tgt := 26) hx hb dJ9_equals_21 (by decide) (fun c13 => ?_) (fun c13 => ?_)
      · rw [hIf_pos c13] at h
        refine lv_iinc (v := (y2 + 1)) (lv' := [(2, .int (y2 + 1)), (0, .ref y0), (1, .ref y1)]) hx hb dJ9_equals_26 hl (k := 2) rfl rfl (by decide) rfl (fun ls hl => ?_)
        refine lv_goto (tgt := 9) hx hb dJ9_equals_29 (by decide) ?_
        exact ih _ _ h _ _ _ S (lv_sub hl [1, 2, 0] rfl) kx
      · rw [hIf_neg c13] at h
        refine lv_iconst (v := 0) hx hb dJ9_equals_24 (by decide) ?_
        exact h_zret F hr hlk S h dJ9_equals_25
set_option maxHeartbeats 4000000 in
set_option maxRecDepth 100000 in
theorem hmet_J9_equals (l : Launch) (E : hEnv) (A : Nat → Prop) (w : hW) (x1 : Nat) (x2 : Nat) (Q : Int32 → hO → Prop) (h : hf_J9_equals E.2.2 w x1 x2 Q) : Met l yJ9_equals (ws_ yJ9_equals cJ9_equals 3 (some .boolean)) (hrm_J9_equals w.2.1 w.2.2) (va_Pc [.ref x1, .ref x2] (gPre (hK E A) (hP E A w.1))) (hQi E A Q) w.2.1 w.2.2 A := by
  refine h_met (own := RJ9) (by decide +kernel) rfl (Nat.le_of_ble_eq_true rfl) ?_
  intro p e s m args below meth c ls cb sb F hr hlk hK S hl
  have hx := F.1
  have hb := F.2.1
  have hl : lv_has ls 3 [(0, .ref x1), (1, .ref x2)] := hl
  unfold hf_J9_equals at h
  refine lv_aload_n hx hb dJ9_equals_0 rfl (lv_at hl 0 rfl) ?_
  obtain ⟨v1, e2, h⟩ := obd_inv h
  refine h_alen F hK S e2 dJ9_equals_1 ?_
  refine lv_aload_n hx hb dJ9_equals_2 rfl (lv_at hl 1 rfl) ?_
  obtain ⟨v3, e4, h⟩ := obd_inv h
  refine h_alen F hK S e4 dJ9_equals_3 ?_
  refine lv_icmp_ne (tgt := 34) hx hb dJ9_equals_4 (by decide) (fun c5 => ?_) (fun c5 => ?_)
  · rw [hIf_neg c5] at h
    refine lv_iconst (v := 0) hx hb dJ9_equals_34 (by decide) ?_
    exact h_zret F hr hlk S h dJ9_equals_35
  · rw [hIf_pos c5] at h
    refine lv_iconst (v := 0) hx hb dJ9_equals_7 (by decide) ?_
    refine lv_istore_n (lv' := [(2, .int 0), (0, .ref x1), (1, .ref x2)]) hx hb dJ9_equals_8 rfl hl (by decide) rfl (fun ls hl => ?_)
    refine hloop_J9_equals_1 F hr hlk hK _ _ _ h _ _ _ S (lv_sub hl [1, 2, 0] rfl) (fun w14 H locs ls h S hl => ?_)
    refine lv_iconst (v := 1) hx hb dJ9_equals_32 (by decide) ?_
    exact h_zret F hr hlk S h dJ9_equals_33
def hL_J6_signedHashCode_1 (pl : Nat → Nat) (Q : Int32 → hO → Prop) (K : Int32 → hW → Prop) (y1 : Nat) (y4 : Int32) : Nat → hW → Int32 → Int32 → Prop
  | 0, _, _, _ => False
  | n + 1, w, y0, y5 =>
    hIf (y4 ≤ y5) (
      K y0 w) <|
      obd (haB w y1 y5) fun v2 =>
      hL_J6_signedHashCode_1 pl Q K y1 y4 n w ((31 * y0) + (v2 &&& 255)) (y5 + 1)
def hf_J6_signedHashCode (pl : Nat → Nat) (w : hW) (x1 : Int32) (x2 : Nat) (x3 : Int32) (x4 : Int32) (Q : Int32 → hO → Prop) : Prop :=
  hL_J6_signedHashCode_1 pl Q (fun (v4 : Int32) (w5 : hW) =>
    Q v4 w5.1) x2 (x3 + x4) FUEL w x1 x3
abbrev hrm_J6_signedHashCode (c s : Nat) : Room := { frames := 0, cells := c, slots := s, locals := 0 }
set_option maxHeartbeats 4000000 in
set_option maxRecDepth 100000 in
theorem hloop_J6_signedHashCode_1 {p : Program} {l : Launch} {e : Env} {s : State} {m : MethodId} {args : Array Value} {below : List Frame} {meth : Method} {c : Code} {cb sb : Nat} {E : hEnv} {A : Nat → Prop} {Q : Int32 → hO → Prop} {K : Int32 → hW → Prop} {y1 : Nat} {y4 : Int32} (F : CallFix p m c cJ6_signedHashCode 6 s args lw_all RJ6) (hr : meth.sig.returnType = some .int) (hlk : meth.locks = false) (hK : hK E A s) : ∀ (n : Nat) (w : hW) (y0 : Int32) (y5 : Int32), hL_J6_signedHashCode_1 E.2.2 Q K y1 y4 n w y0 y5 → ∀ (H : Heap) (locs : List Loc) (ls : Array Slot), hS E A s.heap cb sb w H locs → lv_has ls 6 [(0, .int y0), (1, .ref y1), (4, .int y4), (5, .int y5)] → (∀ (z0 : Int32) (wz : hW) (H : Heap) (locs : List Loc) (ls : Array Slot), K z0 wz → hS E A s.heap cb sb wz H locs → lv_has ls 6 [(0, .int z0)] → W p l e (hrm_J6_signedHashCode cb sb) s m args below meth c H locs (cb - wz.2.1) (sb - wz.2.2) (MQ below (hQi E A Q) args s cb sb A) (F0 m 35 ls [])) → W p l e (hrm_J6_signedHashCode cb sb) s m args below meth c H locs (cb - w.2.1) (sb - w.2.2) (MQ below (hQi E A Q) args s cb sb A) (F0 m 8 ls []) := by
  have hx := F.1
  have hb := F.2.1
  intro n
  induction n with
  | zero =>
    intro w y0 y5 h
    exact False.elim h
  | succ n ih =>
    intro w y0 y5 h H locs ls S hl kx
    rw [hL_J6_signedHashCode_1] at h
    refine lv_iload hx hb dJ6_signedHashCode_8 (lv_at hl 3 rfl) ?_
    refine lv_iload hx hb dJ6_signedHashCode_10 (lv_at hl 2 rfl) ?_
    refine lv_icmp_ge (tgt := 35) hx hb dJ6_signedHashCode_12 (by decide) (fun c1 => ?_) (fun c1 => ?_)
    · rw [hIf_pos c1] at h
      exact kx _ _ _ _ _ h S (lv_sub hl [0] rfl)
    · rw [hIf_neg c1] at h
      refine lv_bipush (v := 31) hx hb dJ6_signedHashCode_15 (by decide) ?_
      refine lv_iload_n hx hb dJ6_signedHashCode_17 rfl (lv_at hl 0 rfl) ?_
      refine lv_imul hx hb dJ6_signedHashCode_18 ?_
      refine lv_aload_n hx hb dJ6_signedHashCode_19 rfl (lv_at hl 1 rfl) ?_
      refine lv_iload hx hb dJ6_signedHashCode_20 (lv_at hl 3 rfl) ?_
      obtain ⟨v2, e3, h⟩ := obd_inv h
      refine h_bald F hK S e3 dJ6_signedHashCode_22 ?_
      refine lv_sipush (v := 255) hx hb dJ6_signedHashCode_23 (by decide) ?_
      refine lv_iand hx hb dJ6_signedHashCode_26 ?_
      refine lv_iadd hx hb dJ6_signedHashCode_27 ?_
      refine lv_istore_n (lv' := [(0, .int ((31 * y0) + (v2 &&& 255))), (1, .ref y1), (4, .int y4), (5, .int y5)]) hx hb dJ6_signedHashCode_28 rfl hl (by decide) rfl (fun ls hl => ?_)
      refine lv_iinc (v := (y5 + 1)) (lv' := [(5, .int (y5 + 1)), (0, .int ((31 * y0) + (v2 &&& 255))), (1, .ref y1), (4, .int y4)]) hx hb dJ6_signedHashCode_29 hl (k := 3) rfl rfl (by decide) rfl (fun ls hl => ?_)
      refine lv_goto (tgt := 8) hx hb dJ6_signedHashCode_32 (by decide) ?_
      exact ih _ _ _ h _ _ _ S (lv_sub hl [1, 2, 3, 0] rfl) kx
set_option maxHeartbeats 4000000 in
set_option maxRecDepth 100000 in
theorem hmet_J6_signedHashCode (l : Launch) (E : hEnv) (A : Nat → Prop) (w : hW) (x1 : Int32) (x2 : Nat) (x3 : Int32) (x4 : Int32) (Q : Int32 → hO → Prop) (h : hf_J6_signedHashCode E.2.2 w x1 x2 x3 x4 Q) : Met l yJ6_signedHashCode (ws_ yJ6_signedHashCode cJ6_signedHashCode 6 (some .int)) (hrm_J6_signedHashCode w.2.1 w.2.2) (va_Pc [.int x1, .ref x2, .int x3, .int x4] (gPre (hK E A) (hP E A w.1))) (hQi E A Q) w.2.1 w.2.2 A := by
  refine h_met (own := RJ6) (by decide +kernel) rfl (Nat.le_of_ble_eq_true rfl) ?_
  intro p e s m args below meth c ls cb sb F hr hlk hK S hl
  have hx := F.1
  have hb := F.2.1
  have hl : lv_has ls 6 [(0, .int x1), (1, .ref x2), (2, .int x3), (3, .int x4)] := hl
  unfold hf_J6_signedHashCode at h
  refine lv_iload_n hx hb dJ6_signedHashCode_0 rfl (lv_at hl 2 rfl) ?_
  refine lv_iload_n hx hb dJ6_signedHashCode_1 rfl (lv_at hl 3 rfl) ?_
  refine lv_iadd hx hb dJ6_signedHashCode_2 ?_
  refine lv_istore (lv' := [(4, .int (x3 + x4)), (0, .int x1), (1, .ref x2), (2, .int x3), (3, .int x4)]) hx hb dJ6_signedHashCode_3 hl (by decide) rfl (fun ls hl => ?_)
  refine lv_iload_n hx hb dJ6_signedHashCode_5 rfl (lv_at hl 3 rfl) ?_
  refine lv_istore (lv' := [(5, .int x3), (4, .int (x3 + x4)), (0, .int x1), (1, .ref x2), (2, .int x3), (3, .int x4)]) hx hb dJ6_signedHashCode_6 hl (by decide) rfl (fun ls hl => ?_)
  refine hloop_J6_signedHashCode_1 F hr hlk hK _ _ _ _ h _ _ _ S (lv_sub hl [2, 3, 1, 0] rfl) (fun v4 w5 H locs ls h S hl => ?_)
  refine lv_iload_n hx hb dJ6_signedHashCode_35 rfl (lv_at hl 0 rfl) ?_
  exact h_iret F hr hlk S h dJ6_signedHashCode_36
theorem hcl_J6_signedHashCode_J6_62 {p : Program} {l : Launch} {e : Env} {s : State} {m : MethodId} {args : Array Value} {below : List Frame} {meth : Method} {c : Code} {R : Room} {H : Heap} {locs : List Loc} {cb sb pc nL : Nat} {Q : State → Prop} {ls : Array Slot} {rest : List Value} {cc : ByteArray} {E : hEnv} {A : Nat → Prop} {w : hW} {x1 : Int32} {x2 : Nat} {x3 : Int32} {x4 : Int32} {Q' : Int32 → hO → Prop} {c1 s1 : Nat} (F : CallFix p m c cc nL s args lw_all RJ6) (hK : hK E A s) (S : hS E A s.heap cb sb w H locs) (h1 : c1 ≤ w.2.1) (h2 : s1 ≤ w.2.2) (h : hf_J6_signedHashCode E.2.2 (w.1, c1, s1) x1 x2 x3 x4 Q') (hrc : R.cells = cb) (hrs : R.slots = sb) (hls : ls.size = nL) (hWt : (rest.map fun v => v.category).sum ≤ 8) (hR : 0 + 1 ≤ R.frames ∧ 8 + (6 + 11) + 0 ≤ R.locals) (hdg : decode cc pc = .ok (.invokestatic 62, 3))
    (kk : ∀ (v : Int32) (o : hO) (w' : hW) (H1 : Heap) (locs1 : List Loc), w' = (o, w.2.1 - c1, w.2.2 - s1) → Q' v o → hS E A s.heap cb sb w' H1 locs1 → W p l e R s m args below meth c H1 locs1 (cb - w'.2.1) (sb - w'.2.2) Q (F0 m (pc + 3) ls (.int v :: rest))) : W p l e R s m args below meth c H locs (cb - w.2.1) (sb - w.2.2) Q (F0 m pc ls (.int x4 :: .int x3 :: .ref x2 :: .int x1 :: rest)) :=
  h_ki (g_runS F hK (hKm E A) S.1 (hmet_J6_signedHashCode l E A (w.1, c1, s1) x1 x2 x3 x4 Q' h) (va_cwS 4 F.2.2.2.2 (lw_S q955 q956 q127 q957) rfl rfl rfl (by decide +kernel) hR) rfl hls rfl hWt hdg ⟨by rw [hrc]; exact (h_left S h1 h2).1, by rw [hrs]; exact (h_left S h1 h2).2⟩) S h1 h2 kk
def hf_J6_vectorizedHashCode (pl : Nat → Nat) (w : hW) (x1 : Nat) (x2 : Int32) (x3 : Int32) (x4 : Int32) (x5 : Int32) (Q : Int32 → hO → Prop) : Prop :=
  hIf (x5 = 4) (
    obd (hIsB w x1) fun u2 =>
    hcall w fun n4 n5 => hf_J6_signedHashCode pl (w.1, n4, n5) x4 x1 x2 x3 fun v8 o7 => hret w n4 n5 o7 fun w6 =>
    Q v8 w6.1) <|
  hIf (x5 = 5) (
    False) <|
  hIf (x5 = 6) (
    False) <|
  hIf (x5 = 7) (
    False) <|
  hIf (x5 = 8) (
    obd (hIsB w x1) fun u14 =>
    False) <|
  hIf (x5 = 9) (
    False) <|
  hIf (x5 = 10) (
    False) <|
    False
abbrev hrm_J6_vectorizedHashCode (c s : Nat) : Room := { frames := 1, cells := c, slots := s, locals := 25 }
set_option maxHeartbeats 4000000 in
set_option maxRecDepth 100000 in
theorem hmet_J6_vectorizedHashCode (l : Launch) (E : hEnv) (A : Nat → Prop) (w : hW) (x1 : Nat) (x2 : Int32) (x3 : Int32) (x4 : Int32) (x5 : Int32) (Q : Int32 → hO → Prop) (h : hf_J6_vectorizedHashCode E.2.2 w x1 x2 x3 x4 x5 Q) : Met l yJ6_vectorizedHashCode (ws_ yJ6_vectorizedHashCode cJ6_vectorizedHashCode 5 (some .int)) (hrm_J6_vectorizedHashCode w.2.1 w.2.2) (va_Pc [.ref x1, .int x2, .int x3, .int x4, .int x5] (gPre (hK E A) (hP E A w.1))) (hQi E A Q) w.2.1 w.2.2 A := by
  refine h_met (own := RJ6) (by decide +kernel) rfl (Nat.le_of_ble_eq_true rfl) ?_
  intro p e s m args below meth c ls cb sb F hr hlk hK S hl
  have hx := F.1
  have hb := F.2.1
  have hl : lv_has ls 5 [(0, .ref x1), (1, .int x2), (2, .int x3), (3, .int x4), (4, .int x5)] := hl
  unfold hf_J6_vectorizedHashCode at h
  refine lv_iload hx hb dJ6_vectorizedHashCode_0 (lv_at hl 4 rfl) ?_
  by_cases c1 : x5 = 4
  · rw [hIf_pos c1] at h
    refine lv_tableIn (tgt := 44) (off := 42) hx hb dJ6_vectorizedHashCode_2 (by rw [c1]; decide) (by rw [c1]; decide) (by rw [c1]; rfl) (by decide) ?_
    refine lv_iload_n hx hb dJ6_vectorizedHashCode_44 rfl (lv_at hl 3 rfl) ?_
    refine lv_aload_n hx hb dJ6_vectorizedHashCode_45 rfl (lv_at hl 0 rfl) ?_
    obtain ⟨u2, e3, h⟩ := obd_inv h
    refine h_castB F hK S e3 q954 dJ6_vectorizedHashCode_46 ?_
    refine lv_iload_n hx hb dJ6_vectorizedHashCode_49 rfl (lv_at hl 1 rfl) ?_
    refine lv_iload_n hx hb dJ6_vectorizedHashCode_50 rfl (lv_at hl 2 rfl) ?_
    obtain ⟨n4, n5, h1, h2, h⟩ := hcall_inv h
    refine hcl_J6_signedHashCode_J6_62 F hK S h1 h2 h rfl rfl hl.1 (Nat.le_of_ble_eq_true rfl) ⟨Nat.le_of_ble_eq_true rfl, Nat.le_of_ble_eq_true rfl⟩ dJ6_vectorizedHashCode_51 (fun v8 o7 w6 H locs hw h S => ?_)
    replace h := hret_mp h hw
    clear hw h1 h2
    refine lv_goto (tgt := 157) hx hb dJ6_vectorizedHashCode_54 (by decide) ?_
    exact h_iret F hr hlk S h dJ6_vectorizedHashCode_157
  rw [hIf_neg c1] at h
  by_cases c9 : x5 = 5
  · rw [hIf_pos c9] at h
    refine lv_tableIn (tgt := 57) (off := 55) hx hb dJ6_vectorizedHashCode_2 (by rw [c9]; decide) (by rw [c9]; decide) (by rw [c9]; rfl) (by decide) ?_
    refine lv_aload_n hx hb dJ6_vectorizedHashCode_57 rfl (lv_at hl 0 rfl) ?_
    exact False.elim h
  rw [hIf_neg c9] at h
  by_cases c11 : x5 = 6
  · rw [hIf_pos c11] at h
    refine lv_tableIn (tgt := 129) (off := 127) hx hb dJ6_vectorizedHashCode_2 (by rw [c11]; decide) (by rw [c11]; decide) (by rw [c11]; rfl) (by decide) ?_
    exact False.elim h
  rw [hIf_neg c11] at h
  by_cases c12 : x5 = 7
  · rw [hIf_pos c12] at h
    refine lv_tableIn (tgt := 129) (off := 127) hx hb dJ6_vectorizedHashCode_2 (by rw [c12]; decide) (by rw [c12]; decide) (by rw [c12]; rfl) (by decide) ?_
    exact False.elim h
  rw [hIf_neg c12] at h
  by_cases c13 : x5 = 8
  · rw [hIf_pos c13] at h
    refine lv_tableIn (tgt := 90) (off := 88) hx hb dJ6_vectorizedHashCode_2 (by rw [c13]; decide) (by rw [c13]; decide) (by rw [c13]; rfl) (by decide) ?_
    refine lv_iload_n hx hb dJ6_vectorizedHashCode_90 rfl (lv_at hl 3 rfl) ?_
    refine lv_aload_n hx hb dJ6_vectorizedHashCode_91 rfl (lv_at hl 0 rfl) ?_
    obtain ⟨u14, e15, h⟩ := obd_inv h
    refine h_castB F hK S e15 q954 dJ6_vectorizedHashCode_92 ?_
    refine lv_iload_n hx hb dJ6_vectorizedHashCode_95 rfl (lv_at hl 1 rfl) ?_
    refine lv_iload_n hx hb dJ6_vectorizedHashCode_96 rfl (lv_at hl 2 rfl) ?_
    exact False.elim h
  rw [hIf_neg c13] at h
  by_cases c16 : x5 = 9
  · rw [hIf_pos c16] at h
    refine lv_tableIn (tgt := 103) (off := 101) hx hb dJ6_vectorizedHashCode_2 (by rw [c16]; decide) (by rw [c16]; decide) (by rw [c16]; rfl) (by decide) ?_
    refine lv_iload_n hx hb dJ6_vectorizedHashCode_103 rfl (lv_at hl 3 rfl) ?_
    refine lv_aload_n hx hb dJ6_vectorizedHashCode_104 rfl (lv_at hl 0 rfl) ?_
    exact False.elim h
  rw [hIf_neg c16] at h
  by_cases c18 : x5 = 10
  · rw [hIf_pos c18] at h
    refine lv_tableIn (tgt := 116) (off := 114) hx hb dJ6_vectorizedHashCode_2 (by rw [c18]; decide) (by rw [c18]; decide) (by rw [c18]; rfl) (by decide) ?_
    refine lv_iload_n hx hb dJ6_vectorizedHashCode_116 rfl (lv_at hl 3 rfl) ?_
    refine lv_aload_n hx hb dJ6_vectorizedHashCode_117 rfl (lv_at hl 0 rfl) ?_
    exact False.elim h
  rw [hIf_neg c18] at h
  refine lv_tableOut (tgt := 129) hx hb dJ6_vectorizedHashCode_2 (by have t0 := lv_neT (a := 4) c1 (by decide); have t1 := lv_neT (a := 5) c9 (by decide); have t2 := lv_neT (a := 6) c11 (by decide); have t3 := lv_neT (a := 7) c12 (by decide); have t4 := lv_neT (a := 8) c13 (by decide); have t5 := lv_neT (a := 9) c16 (by decide); have t6 := lv_neT (a := 10) c18 (by decide); omega) (by decide) ?_
  exact False.elim h
theorem hcl_J6_vectorizedHashCode_J9_84 {p : Program} {l : Launch} {e : Env} {s : State} {m : MethodId} {args : Array Value} {below : List Frame} {meth : Method} {c : Code} {R : Room} {H : Heap} {locs : List Loc} {cb sb pc nL : Nat} {Q : State → Prop} {ls : Array Slot} {rest : List Value} {cc : ByteArray} {E : hEnv} {A : Nat → Prop} {w : hW} {x1 : Nat} {x2 : Int32} {x3 : Int32} {x4 : Int32} {x5 : Int32} {Q' : Int32 → hO → Prop} {c1 s1 : Nat} (F : CallFix p m c cc nL s args lw_all RJ9) (hK : hK E A s) (S : hS E A s.heap cb sb w H locs) (h1 : c1 ≤ w.2.1) (h2 : s1 ≤ w.2.2) (h : hf_J6_vectorizedHashCode E.2.2 (w.1, c1, s1) x1 x2 x3 x4 x5 Q') (hrc : R.cells = cb) (hrs : R.slots = sb) (hls : ls.size = nL) (hWt : (rest.map fun v => v.category).sum ≤ 8) (hR : 1 + 1 ≤ R.frames ∧ 8 + (5 + 11) + 25 ≤ R.locals) (hdg : decode cc pc = .ok (.invokestatic 84, 3))
    (kk : ∀ (v : Int32) (o : hO) (w' : hW) (H1 : Heap) (locs1 : List Loc), w' = (o, w.2.1 - c1, w.2.2 - s1) → Q' v o → hS E A s.heap cb sb w' H1 locs1 → W p l e R s m args below meth c H1 locs1 (cb - w'.2.1) (sb - w'.2.2) Q (F0 m (pc + 3) ls (.int v :: rest))) : W p l e R s m args below meth c H locs (cb - w.2.1) (sb - w.2.2) Q (F0 m pc ls (.int x5 :: .int x4 :: .int x3 :: .int x2 :: .ref x1 :: rest)) :=
  h_ki (g_runS F hK (hKm E A) S.1 (hmet_J6_vectorizedHashCode l E A (w.1, c1, s1) x1 x2 x3 x4 x5 Q' h) (va_cwS 5 F.2.2.2.2 (lw_S q951 q952 q127 q953) rfl rfl rfl (by decide +kernel) hR) rfl hls rfl hWt hdg ⟨by rw [hrc]; exact (h_left S h1 h2).1, by rw [hrs]; exact (h_left S h1 h2).2⟩) S h1 h2 kk
def hf_J9_hashCode (pl : Nat → Nat) (w : hW) (x1 : Nat) (Q : Int32 → hO → Prop) : Prop :=
  obd (hLen w x1) fun v1 =>
  hjoin (fun (v14 : Int32) (g15 : hW) =>
    Q v14 g15.1) fun k17 =>
  hIf (v1 = 0) (
    k17 0 w) <|
  hIf (v1 = 1) (
    obd (haB w x1 0) fun v5 =>
    k17 (v5 &&& 255) w) <|
    obd (hLen w x1) fun v7 =>
    hcall w fun n9 n10 => hf_J6_vectorizedHashCode pl (w.1, n9, n10) x1 0 v7 0 4 fun v13 o12 => hret w n9 n10 o12 fun w11 =>
    k17 v13 w11
abbrev hrm_J9_hashCode (c s : Nat) : Room := { frames := 2, cells := c, slots := s, locals := 49 }
set_option maxHeartbeats 4000000 in
set_option maxRecDepth 100000 in
theorem hmet_J9_hashCode (l : Launch) (E : hEnv) (A : Nat → Prop) (w : hW) (x1 : Nat) (Q : Int32 → hO → Prop) (h : hf_J9_hashCode E.2.2 w x1 Q) : Met l yJ9_hashCode (ws_ yJ9_hashCode cJ9_hashCode 1 (some .int)) (hrm_J9_hashCode w.2.1 w.2.2) (va_Pc [.ref x1] (gPre (hK E A) (hP E A w.1))) (hQi E A Q) w.2.1 w.2.2 A := by
  refine h_met (own := RJ9) (by decide +kernel) rfl (Nat.le_of_ble_eq_true rfl) ?_
  intro p e s m args below meth c ls cb sb F hr hlk hK S hl
  have hx := F.1
  have hb := F.2.1
  have hl : lv_has ls 1 [(0, .ref x1)] := hl
  unfold hf_J9_hashCode at h
  refine lv_aload_n hx hb dJ9_hashCode_0 rfl (lv_at hl 0 rfl) ?_
  obtain ⟨v1, e2, h⟩ := obd_inv h
  refine h_alen F hK S e2 dJ9_hashCode_1 ?_
  obtain ⟨k17, hk17, h⟩ := hj2_inv h
  have hJ51 : ∀ (v14 : Int32) (g15 : hW) (H : Heap) (locs : List Loc) (ls : Array Slot), k17 v14 g15 → hS E A s.heap cb sb g15 H locs → lv_has ls 1 [] → W p l e (hrm_J9_hashCode cb sb) s m args below meth c H locs (cb - g15.2.1) (sb - g15.2.2) (MQ below (hQi E A Q) args s cb sb A) (F0 m 51 ls [.int v14]) := by
    intro v14 g15 H locs ls h S hl
    replace h := hk17 _ _ h
    exact h_iret F hr hlk S h dJ9_hashCode_51
  clear hk17
  by_cases c3 : v1 = 0
  · rw [hIf_pos c3] at h
    refine lv_lookup (tgt := 28) (off := 26) hx hb dJ9_hashCode_2 (by decide) (by rw [c3]; decide) (by decide) ?_
    refine lv_iconst (v := 0) hx hb dJ9_hashCode_28 (by decide) ?_
    refine lv_goto (tgt := 51) hx hb dJ9_hashCode_29 (by decide) ?_
    exact hJ51 _ _ _ _ _ h S (lv_sub hl [] rfl)
  rw [hIf_neg c3] at h
  by_cases c4 : v1 = 1
  · rw [hIf_pos c4] at h
    refine lv_lookup (tgt := 32) (off := 30) hx hb dJ9_hashCode_2 (by decide) (by rw [c4]; decide) (by decide) ?_
    refine lv_aload_n hx hb dJ9_hashCode_32 rfl (lv_at hl 0 rfl) ?_
    refine lv_iconst (v := 0) hx hb dJ9_hashCode_33 (by decide) ?_
    obtain ⟨v5, e6, h⟩ := obd_inv h
    refine h_bald F hK S e6 dJ9_hashCode_34 ?_
    refine lv_sipush (v := 255) hx hb dJ9_hashCode_35 (by decide) ?_
    refine lv_iand hx hb dJ9_hashCode_38 ?_
    refine lv_goto (tgt := 51) hx hb dJ9_hashCode_39 (by decide) ?_
    exact hJ51 _ _ _ _ _ h S (lv_sub hl [] rfl)
  rw [hIf_neg c4] at h
  refine lv_lookup (tgt := 42) (off := 40) hx hb dJ9_hashCode_2 (by decide) (by simp only [lv_osw (a := (0 : Int)) c3 (by decide), lv_osw (a := (1 : Int)) c4 (by decide)]; rfl) (by decide) ?_
  refine lv_aload_n hx hb dJ9_hashCode_42 rfl (lv_at hl 0 rfl) ?_
  refine lv_iconst (v := 0) hx hb dJ9_hashCode_43 (by decide) ?_
  refine lv_aload_n hx hb dJ9_hashCode_44 rfl (lv_at hl 0 rfl) ?_
  obtain ⟨v7, e8, h⟩ := obd_inv h
  refine h_alen F hK S e8 dJ9_hashCode_45 ?_
  refine lv_iconst (v := 0) hx hb dJ9_hashCode_46 (by decide) ?_
  refine lv_iconst (v := 4) hx hb dJ9_hashCode_47 (by decide) ?_
  obtain ⟨n9, n10, h1, h2, h⟩ := hcall_inv h
  refine hcl_J6_vectorizedHashCode_J9_84 F hK S h1 h2 h rfl rfl hl.1 (Nat.le_of_ble_eq_true rfl) ⟨Nat.le_of_ble_eq_true rfl, Nat.le_of_ble_eq_true rfl⟩ dJ9_hashCode_48 (fun v13 o12 w11 H locs hw h S => ?_)
  replace h := hret_mp h hw
  clear hw h1 h2
  exact hJ51 _ _ _ _ _ h S (lv_sub hl [] rfl)
theorem hg_J4_15 {p : Program} {l : Launch} {e : Env} {s : State} {m : MethodId} {args : Array Value} {below : List Frame} {meth : Method} {c : Code} {R : Room} {H : Heap} {locs : List Loc} {cb sb pc nL : Nat} {Q : State → Prop} {ls : Array Slot} {rest : List Value} {cc : ByteArray} {E : hEnv} {A : Nat → Prop} {w : hW} {a : Nat} {v : Int32} (F : CallFix p m c cc nL s args lw_all RJ4) (hK : hK E A s) (S : hS E A s.heap cb sb w H locs) (h : hgI w a 15 1 = some v) (hdg : decode cc pc = .ok (.getfield 15, 3)) (kk : W p l e R s m args below meth c H locs (cb - w.2.1) (sb - w.2.2) Q (F0 m (pc + 3) ls (.int v :: rest))) : W p l e R s m args below meth c H locs (cb - w.2.1) (sb - w.2.2) Q (F0 m pc ls (.ref a :: rest)) := by
  obtain ⟨b, fs, ho, hv⟩ := hgI_inv h
  exact h_get F hK S ho (ci := 15) (C := RJ4) (T := TJ4) (N := 4) (k := 1) rfl in_J4 (by decide) q864 (fun x h => h) hv hdg kk
def hf_J4_isLatin1 (pl : Nat → Nat) (w : hW) (a0 : Nat) (Q : Int32 → hO → Prop) : Prop :=
  hjoin (fun (v5 : Int32) =>
    Q (zN v5) w.1) fun k7 =>
  hIf ((1 : Int32) = 0) (
    k7 0) <|
    obd (hgI w a0 15 1) fun v2 =>
    hIf (v2 = 0) (
      k7 1) <|
      k7 0
abbrev hrm_J4_isLatin1 (c s : Nat) : Room := { frames := 0, cells := c, slots := s, locals := 0 }
set_option maxHeartbeats 4000000 in
set_option maxRecDepth 100000 in
theorem hmet_J4_isLatin1 (l : Launch) (E : hEnv) (A : Nat → Prop) (w : hW) (a0 : Nat) (Q : Int32 → hO → Prop) (h : hf_J4_isLatin1 E.2.2 w a0 Q) : Met l yJ4_isLatin1 (ws_ yJ4_isLatin1 cJ4_isLatin1 1 (some .boolean)) (hrm_J4_isLatin1 w.2.1 w.2.2) (va_Pc [.ref a0] (gPre (hK E A) (hP E A w.1))) (hQi E A Q) w.2.1 w.2.2 A := by
  refine h_met (own := RJ4) (by decide +kernel) rfl (Nat.le_of_ble_eq_true rfl) ?_
  intro p e s m args below meth c ls cb sb F hr hlk hK S hl
  have hx := F.1
  have hb := F.2.1
  have hl : lv_has ls 1 [(0, .ref a0)] := hl
  unfold hf_J4_isLatin1 at h
  refine va_gets F.1 F.2.1 hK.2.2.1.1.2.2.2 S.1.2 F.2.2.2.1 (F.2.2.2.2 _ q808) (fun x h => h) dJ4_isLatin1_0 ?_
  obtain ⟨k7, hk7, h⟩ := hj1_inv h
  have hJ18 : ∀ (v5 : Int32) (H : Heap) (locs : List Loc) (ls : Array Slot), k7 v5 → hS E A s.heap cb sb w H locs → lv_has ls 1 [] → W p l e (hrm_J4_isLatin1 cb sb) s m args below meth c H locs (cb - w.2.1) (sb - w.2.2) (MQ below (hQi E A Q) args s cb sb A) (F0 m 18 ls [.int v5]) := by
    intro v5 H locs ls h S hl
    replace h := hk7 _ h
    exact h_zret F hr hlk S h dJ4_isLatin1_18
  clear hk7
  refine lv_if_eq (tgt := 17) hx hb dJ4_isLatin1_3 (by decide) (fun c1 => ?_) (fun c1 => ?_)
  · rw [hIf_pos c1] at h
    refine lv_iconst (v := 0) hx hb dJ4_isLatin1_17 (by decide) ?_
    exact hJ18 _ _ _ _ h S (lv_sub hl [] rfl)
  · rw [hIf_neg c1] at h
    refine lv_aload_n hx hb dJ4_isLatin1_6 rfl (lv_at hl 0 rfl) ?_
    obtain ⟨v2, e3, h⟩ := obd_inv h
    refine hg_J4_15 F hK S e3 dJ4_isLatin1_7 ?_
    refine lv_if_ne (tgt := 17) hx hb dJ4_isLatin1_10 (by decide) (fun c4 => ?_) (fun c4 => ?_)
    · rw [hIf_neg c4] at h
      refine lv_iconst (v := 0) hx hb dJ4_isLatin1_17 (by decide) ?_
      exact hJ18 _ _ _ _ h S (lv_sub hl [] rfl)
    · rw [hIf_pos c4] at h
      refine lv_iconst (v := 1) hx hb dJ4_isLatin1_13 (by decide) ?_
      refine lv_goto (tgt := 18) hx hb dJ4_isLatin1_14 (by decide) ?_
      exact hJ18 _ _ _ _ h S (lv_sub hl [] rfl)
def hf_J4_coder (pl : Nat → Nat) (w : hW) (a0 : Nat) (Q : Int32 → hO → Prop) : Prop :=
  hjoin (fun (v4 : Int32) =>
    Q (bN v4) w.1) fun k6 =>
  hIf ((1 : Int32) = 0) (
    k6 1) <|
    obd (hgI w a0 15 1) fun v2 =>
    k6 v2
abbrev hrm_J4_coder (c s : Nat) : Room := { frames := 0, cells := c, slots := s, locals := 0 }
set_option maxHeartbeats 4000000 in
set_option maxRecDepth 100000 in
theorem hmet_J4_coder (l : Launch) (E : hEnv) (A : Nat → Prop) (w : hW) (a0 : Nat) (Q : Int32 → hO → Prop) (h : hf_J4_coder E.2.2 w a0 Q) : Met l yJ4_coder (ws_ yJ4_coder cJ4_coder 1 (some .byte)) (hrm_J4_coder w.2.1 w.2.2) (va_Pc [.ref a0] (gPre (hK E A) (hP E A w.1))) (hQi E A Q) w.2.1 w.2.2 A := by
  refine h_met (own := RJ4) (by decide +kernel) rfl (Nat.le_of_ble_eq_true rfl) ?_
  intro p e s m args below meth c ls cb sb F hr hlk hK S hl
  have hx := F.1
  have hb := F.2.1
  have hl : lv_has ls 1 [(0, .ref a0)] := hl
  unfold hf_J4_coder at h
  refine va_gets F.1 F.2.1 hK.2.2.1.1.2.2.2 S.1.2 F.2.2.2.1 (F.2.2.2.2 _ q808) (fun x h => h) dJ4_coder_0 ?_
  obtain ⟨k6, hk6, h⟩ := hj1_inv h
  have hJ14 : ∀ (v4 : Int32) (H : Heap) (locs : List Loc) (ls : Array Slot), k6 v4 → hS E A s.heap cb sb w H locs → lv_has ls 1 [] → W p l e (hrm_J4_coder cb sb) s m args below meth c H locs (cb - w.2.1) (sb - w.2.2) (MQ below (hQi E A Q) args s cb sb A) (F0 m 14 ls [.int v4]) := by
    intro v4 H locs ls h S hl
    replace h := hk6 _ h
    exact h_bret F hr hlk S h dJ4_coder_14
  clear hk6
  refine lv_if_eq (tgt := 13) hx hb dJ4_coder_3 (by decide) (fun c1 => ?_) (fun c1 => ?_)
  · rw [hIf_pos c1] at h
    refine lv_iconst (v := 1) hx hb dJ4_coder_13 (by decide) ?_
    exact hJ14 _ _ _ _ h S (lv_sub hl [] rfl)
  · rw [hIf_neg c1] at h
    refine lv_aload_n hx hb dJ4_coder_6 rfl (lv_at hl 0 rfl) ?_
    obtain ⟨v2, e3, h⟩ := obd_inv h
    refine hg_J4_15 F hK S e3 dJ4_coder_7 ?_
    refine lv_goto (tgt := 14) hx hb dJ4_coder_10 (by decide) ?_
    exact hJ14 _ _ _ _ h S (lv_sub hl [] rfl)
theorem hg_J4_9 {p : Program} {l : Launch} {e : Env} {s : State} {m : MethodId} {args : Array Value} {below : List Frame} {meth : Method} {c : Code} {R : Room} {H : Heap} {locs : List Loc} {cb sb pc nL : Nat} {Q : State → Prop} {ls : Array Slot} {rest : List Value} {cc : ByteArray} {E : hEnv} {A : Nat → Prop} {w : hW} {a : Nat} {v : Nat} (F : CallFix p m c cc nL s args lw_all RJ4) (hK : hK E A s) (S : hS E A s.heap cb sb w H locs) (h : hgP w a 15 0 = some v) (hdg : decode cc pc = .ok (.getfield 9, 3)) (kk : W p l e R s m args below meth c H locs (cb - w.2.1) (sb - w.2.2) Q (F0 m (pc + 3) ls (.ref v :: rest))) : W p l e R s m args below meth c H locs (cb - w.2.1) (sb - w.2.2) Q (F0 m pc ls (.ref a :: rest)) := by
  obtain ⟨b, fs, ho, hv⟩ := hgP_inv h
  exact h_get F hK S ho (ci := 15) (C := RJ4) (T := TJ4) (N := 4) (k := 0) rfl in_J4 (by decide) q863 (fun x h => h) hv hdg kk
theorem hcl_J4_coder_J4_335 {p : Program} {l : Launch} {e : Env} {s : State} {m : MethodId} {args : Array Value} {below : List Frame} {meth : Method} {c : Code} {R : Room} {H : Heap} {locs : List Loc} {cb sb pc nL : Nat} {Q : State → Prop} {ls : Array Slot} {rest : List Value} {cc : ByteArray} {E : hEnv} {A : Nat → Prop} {w : hW} {a0 : Nat} {Q' : Int32 → hO → Prop} {c1 s1 : Nat} (F : CallFix p m c cc nL s args lw_all RJ4) (hK : hK E A s) (S : hS E A s.heap cb sb w H locs) (hrv : ∃ (b : Bool) (fs : List Value), w.1 a0 = some (b, .inl (15, fs))) (h1 : c1 ≤ w.2.1) (h2 : s1 ≤ w.2.2) (h : hf_J4_coder E.2.2 (w.1, c1, s1) a0 Q') (hrc : R.cells = cb) (hrs : R.slots = sb) (hls : ls.size = nL) (hWt : (rest.map fun v => v.category).sum ≤ 8) (hR : 0 + 1 ≤ R.frames ∧ 8 + (1 + 11) + 0 ≤ R.locals) (hdg : decode cc pc = .ok (.invokevirtual 335, 3))
    (kk : ∀ (v : Int32) (o : hO) (w' : hW) (H1 : Heap) (locs1 : List Loc), w' = (o, w.2.1 - c1, w.2.2 - s1) → Q' v o → hS E A s.heap cb sb w' H1 locs1 → W p l e R s m args below meth c H1 locs1 (cb - w'.2.1) (sb - w'.2.2) Q (F0 m (pc + 3) ls (.int v :: rest))) : W p l e R s m args below meth c H locs (cb - w.2.1) (sb - w.2.2) Q (F0 m pc ls (.ref a0 :: rest)) :=
  h_ki (g_runV F hK (hKm E A) S.1 (hmet_J4_coder l E A (w.1, c1, s1) a0 Q' h) (cwV 0 F.2.2.2.2 (lw_V q804 q805 q806 q125 q807) rfl rfl rfl (by decide +kernel) hR) (h_recv hK S (ci := 15) rfl hrv) rfl hls rfl hWt hdg ⟨by rw [hrc]; exact (h_left S h1 h2).1, by rw [hrs]; exact (h_left S h1 h2).2⟩) S h1 h2 kk
def hf_J4_length (pl : Nat → Nat) (w : hW) (a0 : Nat) (Q : Int32 → hO → Prop) : Prop :=
  obd (hgP w a0 15 0) fun v1 =>
  obd (hLen w v1) fun v3 =>
  obd (hIs w a0 15) fun u5 =>
  hcall w fun n7 n8 => hf_J4_coder pl (w.1, n7, n8) a0 fun v11 o10 => hret w n7 n8 o10 fun w9 =>
  Q (v3 >>> (v11 &&& 31)) w9.1
abbrev hrm_J4_length (c s : Nat) : Room := { frames := 1, cells := c, slots := s, locals := 20 }
set_option maxHeartbeats 4000000 in
set_option maxRecDepth 100000 in
theorem hmet_J4_length (l : Launch) (E : hEnv) (A : Nat → Prop) (w : hW) (a0 : Nat) (Q : Int32 → hO → Prop) (h : hf_J4_length E.2.2 w a0 Q) : Met l yJ4_length (ws_ yJ4_length cJ4_length 1 (some .int)) (hrm_J4_length w.2.1 w.2.2) (va_Pc [.ref a0] (gPre (hK E A) (hP E A w.1))) (hQi E A Q) w.2.1 w.2.2 A := by
  refine h_met (own := RJ4) (by decide +kernel) rfl (Nat.le_of_ble_eq_true rfl) ?_
  intro p e s m args below meth c ls cb sb F hr hlk hK S hl
  have hx := F.1
  have hb := F.2.1
  have hl : lv_has ls 1 [(0, .ref a0)] := hl
  unfold hf_J4_length at h
  refine lv_aload_n hx hb dJ4_length_0 rfl (lv_at hl 0 rfl) ?_
  obtain ⟨v1, e2, h⟩ := obd_inv h
  refine hg_J4_9 F hK S e2 dJ4_length_1 ?_
  obtain ⟨v3, e4, h⟩ := obd_inv h
  refine h_alen F hK S e4 dJ4_length_4 ?_
  refine lv_aload_n hx hb dJ4_length_5 rfl (lv_at hl 0 rfl) ?_
  obtain ⟨u5, e6, h⟩ := obd_inv h
  obtain ⟨n7, n8, h1, h2, h⟩ := hcall_inv h
  refine hcl_J4_coder_J4_335 F hK S (hIs_inv e6) h1 h2 h rfl rfl hl.1 (Nat.le_of_ble_eq_true rfl) ⟨Nat.le_of_ble_eq_true rfl, Nat.le_of_ble_eq_true rfl⟩ dJ4_length_6 (fun v11 o10 w9 H locs hw h S => ?_)
  replace h := hret_mp h hw
  clear hw h1 h2
  refine lv_ishr hx hb dJ4_length_9 ?_
  exact h_iret F hr hlk S h dJ4_length_10
theorem hcl_J10_checkIndexR_J4_1059 {p : Program} {l : Launch} {e : Env} {s : State} {m : MethodId} {args : Array Value} {below : List Frame} {meth : Method} {c : Code} {R : Room} {H : Heap} {locs : List Loc} {cb sb pc nL : Nat} {Q : State → Prop} {ls : Array Slot} {rest : List Value} {cc : ByteArray} {E : hEnv} {A : Nat → Prop} {w : hW} {x1 : Int32} {x2 : Int32} {x3 : Option Nat} {Q' : Int32 → hO → Prop} {c1 s1 : Nat} (F : CallFix p m c cc nL s args lw_all RJ4) (hK : hK E A s) (S : hS E A s.heap cb sb w H locs) (h1 : c1 ≤ w.2.1) (h2 : s1 ≤ w.2.2) (h : hf_J10_checkIndexR E.2.2 (w.1, c1, s1) x1 x2 x3 Q') (hrc : R.cells = cb) (hrs : R.slots = sb) (hls : ls.size = nL) (hWt : (rest.map fun v => v.category).sum ≤ 8) (hR : 0 + 1 ≤ R.frames ∧ 8 + (3 + 11) + 0 ≤ R.locals) (hdg : decode cc pc = .ok (.invokestatic 1059, 3))
    (kk : ∀ (v : Int32) (o : hO) (w' : hW) (H1 : Heap) (locs1 : List Loc), w' = (o, w.2.1 - c1, w.2.2 - s1) → Q' v o → hS E A s.heap cb sb w' H1 locs1 → W p l e R s m args below meth c H1 locs1 (cb - w'.2.1) (sb - w'.2.2) Q (F0 m (pc + 3) ls (.int v :: rest))) : W p l e R s m args below meth c H locs (cb - w.2.1) (sb - w.2.2) Q (F0 m pc ls (va_rf x3 :: .int x2 :: .int x1 :: rest)) :=
  h_ki (g_runS F hK (hKm E A) S.1 (hmet_J10_checkIndexR l E A (w.1, c1, s1) x1 x2 x3 Q' h) (va_cwS 3 F.2.2.2.2 (lw_S q667 q668 q132 q669) rfl rfl rfl (by decide +kernel) hR) rfl hls rfl hWt hdg ⟨by rw [hrc]; exact (h_left S h1 h2).1, by rw [hrs]; exact (h_left S h1 h2).2⟩) S h1 h2 kk
def hf_J4_checkIndex (pl : Nat → Nat) (w : hW) (x1 : Int32) (x2 : Int32) (Q : hO → Prop) : Prop :=
  ∀ r1 : Option Nat,
  hcall w fun n2 n3 => hf_J10_checkIndexR pl (w.1, n2, n3) x1 x2 r1 fun v6 o5 => hret w n2 n3 o5 fun w4 =>
  Q w4.1
abbrev hrm_J4_checkIndex (c s : Nat) : Room := { frames := 1, cells := c, slots := s, locals := 22 }
set_option maxHeartbeats 4000000 in
set_option maxRecDepth 100000 in
theorem hmet_J4_checkIndex (l : Launch) (E : hEnv) (A : Nat → Prop) (w : hW) (x1 : Int32) (x2 : Int32) (Q : hO → Prop) (h : hf_J4_checkIndex E.2.2 w x1 x2 Q) : Met l yJ4_checkIndex (ws_ yJ4_checkIndex cJ4_checkIndex 2 (none)) (hrm_J4_checkIndex w.2.1 w.2.2) (va_Pc [.int x1, .int x2] (gPre (hK E A) (hP E A w.1))) (hQv E A Q) w.2.1 w.2.2 A := by
  refine h_met (own := RJ4) (by decide +kernel) rfl (Nat.le_of_ble_eq_true rfl) ?_
  intro p e s m args below meth c ls cb sb F hr hlk hK S hl
  have hx := F.1
  have hb := F.2.1
  have hl : lv_has ls 2 [(0, .int x1), (1, .int x2)] := hl
  unfold hf_J4_checkIndex at h
  refine lv_iload_n hx hb dJ4_checkIndex_0 rfl (lv_at hl 0 rfl) ?_
  refine lv_iload_n hx hb dJ4_checkIndex_1 rfl (lv_at hl 1 rfl) ?_
  obtain ⟨r1, hZ⟩ := h_Zq hK.2.2.1.2.1.1
  replace h := h r1
  refine va_gets F.1 F.2.1 hZ S.1.2 F.2.2.2.1 (F.2.2.2.2 _ q644) (fun x h => h) dJ4_checkIndex_2 ?_
  obtain ⟨n2, n3, h1, h2, h⟩ := hcall_inv h
  refine hcl_J10_checkIndexR_J4_1059 F hK S h1 h2 h rfl rfl hl.1 (Nat.le_of_ble_eq_true rfl) ⟨Nat.le_of_ble_eq_true rfl, Nat.le_of_ble_eq_true rfl⟩ dJ4_checkIndex_5 (fun v6 o5 w4 H locs hw h S => ?_)
  replace h := hret_mp h hw
  clear hw h1 h2
  refine lv_pop hx hb dJ4_checkIndex_8 rfl ?_
  exact h_vret F hr hlk S h dJ4_checkIndex_9
theorem hcl_J4_checkIndex_J9_9 {p : Program} {l : Launch} {e : Env} {s : State} {m : MethodId} {args : Array Value} {below : List Frame} {meth : Method} {c : Code} {R : Room} {H : Heap} {locs : List Loc} {cb sb pc nL : Nat} {Q : State → Prop} {ls : Array Slot} {rest : List Value} {cc : ByteArray} {E : hEnv} {A : Nat → Prop} {w : hW} {x1 : Int32} {x2 : Int32} {Q' : hO → Prop} {c1 s1 : Nat} (F : CallFix p m c cc nL s args lw_all RJ9) (hK : hK E A s) (S : hS E A s.heap cb sb w H locs) (h1 : c1 ≤ w.2.1) (h2 : s1 ≤ w.2.2) (h : hf_J4_checkIndex E.2.2 (w.1, c1, s1) x1 x2 Q') (hrc : R.cells = cb) (hrs : R.slots = sb) (hls : ls.size = nL) (hWt : (rest.map fun v => v.category).sum ≤ 8) (hR : 1 + 1 ≤ R.frames ∧ 8 + (2 + 11) + 22 ≤ R.locals) (hdg : decode cc pc = .ok (.invokestatic 9, 3))
    (kk : ∀ (o : hO) (w' : hW) (H1 : Heap) (locs1 : List Loc), w' = (o, w.2.1 - c1, w.2.2 - s1) → Q' o → hS E A s.heap cb sb w' H1 locs1 → W p l e R s m args below meth c H1 locs1 (cb - w'.2.1) (sb - w'.2.2) Q (F0 m (pc + 3) ls (rest))) : W p l e R s m args below meth c H locs (cb - w.2.1) (sb - w.2.2) Q (F0 m pc ls (.int x2 :: .int x1 :: rest)) :=
  h_kv (g_runS F hK (hKm E A) S.1 (hmet_J4_checkIndex l E A (w.1, c1, s1) x1 x2 Q' h) (va_cwS 2 F.2.2.2.2 (lw_S q1415 q665 q125 q666) rfl rfl rfl (by decide +kernel) hR) rfl hls rfl hWt hdg ⟨by rw [hrc]; exact (h_left S h1 h2).1, by rw [hrs]; exact (h_left S h1 h2).2⟩) S h1 h2 kk
def hf_J9_charAt (pl : Nat → Nat) (w : hW) (x1 : Nat) (x2 : Int32) (Q : Int32 → hO → Prop) : Prop :=
  obd (hLen w x1) fun v1 =>
  hcall w fun n3 n4 => hf_J4_checkIndex pl (w.1, n3, n4) x2 v1 fun o6 => hret w n3 n4 o6 fun w5 =>
  obd (haB w5 x1 x2) fun v7 =>
  Q (chN (i2cN (v7 &&& 255))) w5.1
abbrev hrm_J9_charAt (c s : Nat) : Room := { frames := 2, cells := c, slots := s, locals := 43 }
set_option maxHeartbeats 4000000 in
set_option maxRecDepth 100000 in
theorem hmet_J9_charAt (l : Launch) (E : hEnv) (A : Nat → Prop) (w : hW) (x1 : Nat) (x2 : Int32) (Q : Int32 → hO → Prop) (h : hf_J9_charAt E.2.2 w x1 x2 Q) : Met l yJ9_charAt (ws_ yJ9_charAt cJ9_charAt 2 (some .char)) (hrm_J9_charAt w.2.1 w.2.2) (va_Pc [.ref x1, .int x2] (gPre (hK E A) (hP E A w.1))) (hQi E A Q) w.2.1 w.2.2 A := by
  refine h_met (own := RJ9) (by decide +kernel) rfl (Nat.le_of_ble_eq_true rfl) ?_
  intro p e s m args below meth c ls cb sb F hr hlk hK S hl
  have hx := F.1
  have hb := F.2.1
  have hl : lv_has ls 2 [(0, .ref x1), (1, .int x2)] := hl
  unfold hf_J9_charAt at h
  refine lv_iload_n hx hb dJ9_charAt_0 rfl (lv_at hl 1 rfl) ?_
  refine lv_aload_n hx hb dJ9_charAt_1 rfl (lv_at hl 0 rfl) ?_
  obtain ⟨v1, e2, h⟩ := obd_inv h
  refine h_alen F hK S e2 dJ9_charAt_2 ?_
  obtain ⟨n3, n4, h1, h2, h⟩ := hcall_inv h
  refine hcl_J4_checkIndex_J9_9 F hK S h1 h2 h rfl rfl hl.1 (Nat.le_of_ble_eq_true rfl) ⟨Nat.le_of_ble_eq_true rfl, Nat.le_of_ble_eq_true rfl⟩ dJ9_charAt_3 (fun o6 w5 H locs hw h S => ?_)
  replace h := hret_mp h hw
  clear hw h1 h2
  refine lv_aload_n hx hb dJ9_charAt_6 rfl (lv_at hl 0 rfl) ?_
  refine lv_iload_n hx hb dJ9_charAt_7 rfl (lv_at hl 1 rfl) ?_
  obtain ⟨v7, e8, h⟩ := obd_inv h
  refine h_bald F hK S e8 dJ9_charAt_8 ?_
  refine lv_sipush (v := 255) hx hb dJ9_charAt_9 (by decide) ?_
  refine lv_iand hx hb dJ9_charAt_12 ?_
  refine lv_i2c hx hb dJ9_charAt_13 rfl ?_
  exact h_cret F hr hlk S h dJ9_charAt_14
theorem hcl_J4_isLatin1_J4_492 {p : Program} {l : Launch} {e : Env} {s : State} {m : MethodId} {args : Array Value} {below : List Frame} {meth : Method} {c : Code} {R : Room} {H : Heap} {locs : List Loc} {cb sb pc nL : Nat} {Q : State → Prop} {ls : Array Slot} {rest : List Value} {cc : ByteArray} {E : hEnv} {A : Nat → Prop} {w : hW} {a0 : Nat} {Q' : Int32 → hO → Prop} {c1 s1 : Nat} (F : CallFix p m c cc nL s args lw_all RJ4) (hK : hK E A s) (S : hS E A s.heap cb sb w H locs) (hrv : ∃ (b : Bool) (fs : List Value), w.1 a0 = some (b, .inl (15, fs))) (h1 : c1 ≤ w.2.1) (h2 : s1 ≤ w.2.2) (h : hf_J4_isLatin1 E.2.2 (w.1, c1, s1) a0 Q') (hrc : R.cells = cb) (hrs : R.slots = sb) (hls : ls.size = nL) (hWt : (rest.map fun v => v.category).sum ≤ 8) (hR : 0 + 1 ≤ R.frames ∧ 8 + (1 + 11) + 0 ≤ R.locals) (hdg : decode cc pc = .ok (.invokevirtual 492, 3))
    (kk : ∀ (v : Int32) (o : hO) (w' : hW) (H1 : Heap) (locs1 : List Loc), w' = (o, w.2.1 - c1, w.2.2 - s1) → Q' v o → hS E A s.heap cb sb w' H1 locs1 → W p l e R s m args below meth c H1 locs1 (cb - w'.2.1) (sb - w'.2.2) Q (F0 m (pc + 3) ls (.int v :: rest))) : W p l e R s m args below meth c H locs (cb - w.2.1) (sb - w.2.2) Q (F0 m pc ls (.ref a0 :: rest)) :=
  h_ki (g_runV F hK (hKm E A) S.1 (hmet_J4_isLatin1 l E A (w.1, c1, s1) a0 Q' h) (cwV 0 F.2.2.2.2 (lw_V q944 q945 q946 q125 q947) rfl rfl rfl (by decide +kernel) hR) (h_recv hK S (ci := 15) rfl hrv) rfl hls rfl hWt hdg ⟨by rw [hrc]; exact (h_left S h1 h2).1, by rw [hrs]; exact (h_left S h1 h2).2⟩) S h1 h2 kk
theorem hcl_J9_charAt_J4_495 {p : Program} {l : Launch} {e : Env} {s : State} {m : MethodId} {args : Array Value} {below : List Frame} {meth : Method} {c : Code} {R : Room} {H : Heap} {locs : List Loc} {cb sb pc nL : Nat} {Q : State → Prop} {ls : Array Slot} {rest : List Value} {cc : ByteArray} {E : hEnv} {A : Nat → Prop} {w : hW} {x1 : Nat} {x2 : Int32} {Q' : Int32 → hO → Prop} {c1 s1 : Nat} (F : CallFix p m c cc nL s args lw_all RJ4) (hK : hK E A s) (S : hS E A s.heap cb sb w H locs) (h1 : c1 ≤ w.2.1) (h2 : s1 ≤ w.2.2) (h : hf_J9_charAt E.2.2 (w.1, c1, s1) x1 x2 Q') (hrc : R.cells = cb) (hrs : R.slots = sb) (hls : ls.size = nL) (hWt : (rest.map fun v => v.category).sum ≤ 8) (hR : 2 + 1 ≤ R.frames ∧ 8 + (2 + 11) + 43 ≤ R.locals) (hdg : decode cc pc = .ok (.invokestatic 495, 3))
    (kk : ∀ (v : Int32) (o : hO) (w' : hW) (H1 : Heap) (locs1 : List Loc), w' = (o, w.2.1 - c1, w.2.2 - s1) → Q' v o → hS E A s.heap cb sb w' H1 locs1 → W p l e R s m args below meth c H1 locs1 (cb - w'.2.1) (sb - w'.2.2) Q (F0 m (pc + 3) ls (.int v :: rest))) : W p l e R s m args below meth c H locs (cb - w.2.1) (sb - w.2.2) Q (F0 m pc ls (.int x2 :: .ref x1 :: rest)) :=
  h_ki (g_runS F hK (hKm E A) S.1 (hmet_J9_charAt l E A (w.1, c1, s1) x1 x2 Q' h) (va_cwS 2 F.2.2.2.2 (lw_S q1412 q1413 q131 q1414) rfl rfl rfl (by decide +kernel) hR) rfl hls rfl hWt hdg ⟨by rw [hrc]; exact (h_left S h1 h2).1, by rw [hrs]; exact (h_left S h1 h2).2⟩) S h1 h2 kk
def hf_J4_charAt (pl : Nat → Nat) (w : hW) (a0 : Nat) (x1 : Int32) (Q : Int32 → hO → Prop) : Prop :=
  obd (hIs w a0 15) fun u1 =>
  hcall w fun n3 n4 => hf_J4_isLatin1 pl (w.1, n3, n4) a0 fun v7 o6 => hret w n3 n4 o6 fun w5 =>
  hIf (v7 = 0) (
    obd (hgP w5 a0 15 0) fun v9 =>
    False) <|
    obd (hgP w5 a0 15 0) fun v11 =>
    hcall w5 fun n13 n14 => hf_J9_charAt pl (w5.1, n13, n14) v11 x1 fun v17 o16 => hret w5 n13 n14 o16 fun w15 =>
    Q (chN v17) w15.1
abbrev hrm_J4_charAt (c s : Nat) : Room := { frames := 3, cells := c, slots := s, locals := 64 }
set_option maxHeartbeats 4000000 in
set_option maxRecDepth 100000 in
theorem hmet_J4_charAt (l : Launch) (E : hEnv) (A : Nat → Prop) (w : hW) (a0 : Nat) (x1 : Int32) (Q : Int32 → hO → Prop) (h : hf_J4_charAt E.2.2 w a0 x1 Q) : Met l yJ4_charAt (ws_ yJ4_charAt cJ4_charAt 2 (some .char)) (hrm_J4_charAt w.2.1 w.2.2) (va_Pc [.ref a0, .int x1] (gPre (hK E A) (hP E A w.1))) (hQi E A Q) w.2.1 w.2.2 A := by
  refine h_met (own := RJ4) (by decide +kernel) rfl (Nat.le_of_ble_eq_true rfl) ?_
  intro p e s m args below meth c ls cb sb F hr hlk hK S hl
  have hx := F.1
  have hb := F.2.1
  have hl : lv_has ls 2 [(0, .ref a0), (1, .int x1)] := hl
  unfold hf_J4_charAt at h
  refine lv_aload_n hx hb dJ4_charAt_0 rfl (lv_at hl 0 rfl) ?_
  obtain ⟨u1, e2, h⟩ := obd_inv h
  obtain ⟨n3, n4, h1, h2, h⟩ := hcall_inv h
  refine hcl_J4_isLatin1_J4_492 F hK S (hIs_inv e2) h1 h2 h rfl rfl hl.1 (Nat.le_of_ble_eq_true rfl) ⟨Nat.le_of_ble_eq_true rfl, Nat.le_of_ble_eq_true rfl⟩ dJ4_charAt_1 (fun v7 o6 w5 H locs hw h S => ?_)
  replace h := hret_mp h hw
  clear hw h1 h2
  refine lv_if_eq (tgt := 16) hx hb dJ4_charAt_4 (by decide) (fun c8 => ?_) (fun c8 => ?_)
  · rw [hIf_pos c8] at h
    refine lv_aload_n hx hb dJ4_charAt_16 rfl (lv_at hl 0 rfl) ?_
    obtain ⟨v9, e10, h⟩ := obd_inv h
    refine hg_J4_9 F hK S e10 dJ4_charAt_17 ?_
    refine lv_iload_n hx hb dJ4_charAt_20 rfl (lv_at hl 1 rfl) ?_
    exact False.elim h
  · rw [hIf_neg c8] at h
    refine lv_aload_n hx hb dJ4_charAt_7 rfl (lv_at hl 0 rfl) ?_
    obtain ⟨v11, e12, h⟩ := obd_inv h
    refine hg_J4_9 F hK S e12 dJ4_charAt_8 ?_
    refine lv_iload_n hx hb dJ4_charAt_11 rfl (lv_at hl 1 rfl) ?_
    obtain ⟨n13, n14, h1, h2, h⟩ := hcall_inv h
    refine hcl_J9_charAt_J4_495 F hK S h1 h2 h rfl rfl hl.1 (Nat.le_of_ble_eq_true rfl) ⟨Nat.le_of_ble_eq_true rfl, Nat.le_of_ble_eq_true rfl⟩ dJ4_charAt_12 (fun v17 o16 w15 H locs hw h S => ?_)
    replace h := hret_mp h hw
    clear hw h1 h2
    exact h_cret F hr hlk S h dJ4_charAt_15
theorem hcl_J9_equals_J4_541 {p : Program} {l : Launch} {e : Env} {s : State} {m : MethodId} {args : Array Value} {below : List Frame} {meth : Method} {c : Code} {R : Room} {H : Heap} {locs : List Loc} {cb sb pc nL : Nat} {Q : State → Prop} {ls : Array Slot} {rest : List Value} {cc : ByteArray} {E : hEnv} {A : Nat → Prop} {w : hW} {x1 : Nat} {x2 : Nat} {Q' : Int32 → hO → Prop} {c1 s1 : Nat} (F : CallFix p m c cc nL s args lw_all RJ4) (hK : hK E A s) (S : hS E A s.heap cb sb w H locs) (h1 : c1 ≤ w.2.1) (h2 : s1 ≤ w.2.2) (h : hf_J9_equals E.2.2 (w.1, c1, s1) x1 x2 Q') (hrc : R.cells = cb) (hrs : R.slots = sb) (hls : ls.size = nL) (hWt : (rest.map fun v => v.category).sum ≤ 8) (hR : 0 + 1 ≤ R.frames ∧ 8 + (3 + 11) + 0 ≤ R.locals) (hdg : decode cc pc = .ok (.invokestatic 541, 3))
    (kk : ∀ (v : Int32) (o : hO) (w' : hW) (H1 : Heap) (locs1 : List Loc), w' = (o, w.2.1 - c1, w.2.2 - s1) → Q' v o → hS E A s.heap cb sb w' H1 locs1 → W p l e R s m args below meth c H1 locs1 (cb - w'.2.1) (sb - w'.2.2) Q (F0 m (pc + 3) ls (.int v :: rest))) : W p l e R s m args below meth c H locs (cb - w.2.1) (sb - w.2.2) Q (F0 m pc ls (.ref x2 :: .ref x1 :: rest)) :=
  h_ki (g_runS F hK (hKm E A) S.1 (hmet_J9_equals l E A (w.1, c1, s1) x1 x2 Q' h) (va_cwS 2 F.2.2.2.2 (lw_S q881 q882 q131 q883) rfl rfl rfl (by decide +kernel) hR) rfl hls rfl hWt hdg ⟨by rw [hrc]; exact (h_left S h1 h2).1, by rw [hrs]; exact (h_left S h1 h2).2⟩) S h1 h2 kk
def hf_J4_equals (pl : Nat → Nat) (w : hW) (a0 : Nat) (x1 : Nat) (Q : Int32 → hO → Prop) : Prop :=
  hIf (a0 = x1) (
    Q 1 w.1) <|
    obd (hIs w x1 15) fun u3 =>
    hjoin (fun (v34 : Int32) (g35 : hW) =>
      Q (zN v34) g35.1) fun k37 =>
    hIf ((1 : Int32) = 0) (
      k37 0 w) <|
      obd (hIs w x1 15) fun u6 =>
      hIf ((1 : Int32) = 0) (
        obd (hgP w a0 15 0) fun v9 =>
        obd (hgP w x1 15 0) fun v11 =>
        hcall w fun n13 n14 => hf_J9_equals pl (w.1, n13, n14) v9 v11 fun v17 o16 => hret w n13 n14 o16 fun w15 =>
        hIf (v17 = 0) (
          k37 0 w15) <|
          k37 1 w15) <|
        obd (hgI w a0 15 1) fun v19 =>
        obd (hgI w x1 15 1) fun v21 =>
        hIf (v19 = v21) (
          obd (hgP w a0 15 0) fun v24 =>
          obd (hgP w x1 15 0) fun v26 =>
          hcall w fun n28 n29 => hf_J9_equals pl (w.1, n28, n29) v24 v26 fun v32 o31 => hret w n28 n29 o31 fun w30 =>
          hIf (v32 = 0) (
            k37 0 w30) <|
            k37 1 w30) <|
          k37 0 w
abbrev hrm_J4_equals (c s : Nat) : Room := { frames := 1, cells := c, slots := s, locals := 22 }
set_option maxHeartbeats 4000000 in
set_option maxRecDepth 100000 in
theorem hmet_J4_equals (l : Launch) (E : hEnv) (A : Nat → Prop) (w : hW) (a0 : Nat) (x1 : Nat) (Q : Int32 → hO → Prop) (h : hf_J4_equals E.2.2 w a0 x1 Q) : Met l yJ4_equals (ws_ yJ4_equals cJ4_equals 3 (some .boolean)) (hrm_J4_equals w.2.1 w.2.2) (va_Pc [.ref a0, .ref x1] (gPre (hK E A) (hP E A w.1))) (hQi E A Q) w.2.1 w.2.2 A := by
  refine h_met (own := RJ4) (by decide +kernel) rfl (Nat.le_of_ble_eq_true rfl) ?_
  intro p e s m args below meth c ls cb sb F hr hlk hK S hl
  have hx := F.1
  have hb := F.2.1
  have hl : lv_has ls 3 [(0, .ref a0), (1, .ref x1)] := hl
  unfold hf_J4_equals at h
  refine lv_aload_n hx hb dJ4_equals_0 rfl (lv_at hl 0 rfl) ?_
  refine lv_aload_n hx hb dJ4_equals_1 rfl (lv_at hl 1 rfl) ?_
  refine lv_acmp_ne (tgt := 7) (rx := some a0) (ry := some x1) hx hb dJ4_equals_2 (by decide) (fun c1 => ?_) (fun c1 => ?_)
  · rw [hIf_neg (fun z => c1 (congrArg some z))] at h
    refine lv_aload_n hx hb dJ4_equals_7 rfl (lv_at hl 1 rfl) ?_
    obtain ⟨u3, e4, h⟩ := obd_inv h
    refine va_instS F.1 F.2.1 F.2.2.2.1 (F.2.2.2.2 _ q880) (hK.1.1 15 _ rfl).2 (h_recv hK S (ci := 15) rfl (hIs_inv e4)) dJ4_equals_8 ?_
    obtain ⟨k37, hk37, h⟩ := hj2_inv h
    have hJ55 : ∀ (v34 : Int32) (g35 : hW) (H : Heap) (locs : List Loc) (ls : Array Slot), k37 v34 g35 → hS E A s.heap cb sb g35 H locs → lv_has ls 3 [] → W p l e (hrm_J4_equals cb sb) s m args below meth c H locs (cb - g35.2.1) (sb - g35.2.2) (MQ below (hQi E A Q) args s cb sb A) (F0 m 55 ls [.int v34]) := by
      intro v34 g35 H locs ls h S hl
      replace h := hk37 _ _ h
      exact h_zret F hr hlk S h dJ4_equals_55
    clear hk37
    refine lv_if_eq (tgt := 54) hx hb dJ4_equals_11 (by decide) (fun c5 => ?_) (fun c5 => ?_)
    · rw [hIf_pos c5] at h
      refine lv_iconst (v := 0) hx hb dJ4_equals_54 (by decide) ?_
      exact hJ55 _ _ _ _ _ h S (lv_sub hl [] rfl)
    · rw [hIf_neg c5] at h
      refine lv_aload_n hx hb dJ4_equals_14 rfl (lv_at hl 1 rfl) ?_
      obtain ⟨u6, e7, h⟩ := obd_inv h
      refine h_cast F hK S e7 rfl q880 dJ4_equals_15 ?_
      refine lv_astore_n (lv' := [(2, .ref x1), (0, .ref a0), (1, .ref x1)]) hx hb dJ4_equals_18 rfl hl (by decide) rfl (fun ls hl => ?_)
      refine va_gets F.1 F.2.1 hK.2.2.1.1.2.2.2 S.1.2 F.2.2.2.1 (F.2.2.2.2 _ q808) (fun x h => h) dJ4_equals_19 ?_
      refine lv_if_eq (tgt := 36) hx hb dJ4_equals_22 (by decide) (fun c8 => ?_) (fun c8 => ?_)
      · rw [hIf_pos c8] at h
        refine lv_aload_n hx hb dJ4_equals_36 rfl (lv_at hl 1 rfl) ?_
        obtain ⟨v9, e10, h⟩ := obd_inv h
        refine hg_J4_9 F hK S e10 dJ4_equals_37 ?_
        refine lv_aload_n hx hb dJ4_equals_40 rfl (lv_at hl 0 rfl) ?_
        obtain ⟨v11, e12, h⟩ := obd_inv h
        refine hg_J4_9 F hK S e12 dJ4_equals_41 ?_
        obtain ⟨n13, n14, h1, h2, h⟩ := hcall_inv h
        refine hcl_J9_equals_J4_541 F hK S h1 h2 h rfl rfl hl.1 (Nat.le_of_ble_eq_true rfl) ⟨Nat.le_of_ble_eq_true rfl, Nat.le_of_ble_eq_true rfl⟩ dJ4_equals_44 (fun v17 o16 w15 H locs hw h S => ?_)
        replace h := hret_mp h hw
        clear hw h1 h2
        refine lv_if_eq (tgt := 54) hx hb dJ4_equals_47 (by decide) (fun c18 => ?_) (fun c18 => ?_)
        · rw [hIf_pos c18] at h
          refine lv_iconst (v := 0) hx hb dJ4_equals_54 (by decide) ?_
          exact hJ55 _ _ _ _ _ h S (lv_sub hl [] rfl)
        · rw [hIf_neg c18] at h
          refine lv_iconst (v := 1) hx hb dJ4_equals_50 (by decide) ?_
          refine lv_goto (tgt := 55) hx hb dJ4_equals_51 (by decide) ?_
          exact hJ55 _ _ _ _ _ h S (lv_sub hl [] rfl)
      · rw [hIf_neg c8] at h
        refine lv_aload_n hx hb dJ4_equals_25 rfl (lv_at hl 1 rfl) ?_
        obtain ⟨v19, e20, h⟩ := obd_inv h
        refine hg_J4_15 F hK S e20 dJ4_equals_26 ?_
        refine lv_aload_n hx hb dJ4_equals_29 rfl (lv_at hl 0 rfl) ?_
        obtain ⟨v21, e22, h⟩ := obd_inv h
        refine hg_J4_15 F hK S e22 dJ4_equals_30 ?_
        refine lv_icmp_ne (tgt := 54) hx hb dJ4_equals_33 (by decide) (fun c23 => ?_) (fun c23 => ?_)
        · rw [hIf_neg c23] at h
          refine lv_iconst (v := 0) hx hb dJ4_equals_54 (by decide) ?_
          exact hJ55 _ _ _ _ _ h S (lv_sub hl [] rfl)
        · rw [hIf_pos c23] at h
          refine lv_aload_n hx hb dJ4_equals_36 rfl (lv_at hl 1 rfl) ?_
          obtain ⟨v24, e25, h⟩ := obd_inv h
          refine hg_J4_9 F hK S e25 dJ4_equals_37 ?_
          refine lv_aload_n hx hb dJ4_equals_40 rfl (lv_at hl 0 rfl) ?_
          obtain ⟨v26, e27, h⟩ := obd_inv h
          refine hg_J4_9 F hK S e27 dJ4_equals_41 ?_
          obtain ⟨n28, n29, h1, h2, h⟩ := hcall_inv h
          refine hcl_J9_equals_J4_541 F hK S h1 h2 h rfl rfl hl.1 (Nat.le_of_ble_eq_true rfl) ⟨Nat.le_of_ble_eq_true rfl, Nat.le_of_ble_eq_true rfl⟩ dJ4_equals_44 (fun v32 o31 w30 H locs hw h S => ?_)
          replace h := hret_mp h hw
          clear hw h1 h2
          refine lv_if_eq (tgt := 54) hx hb dJ4_equals_47 (by decide) (fun c33 => ?_) (fun c33 => ?_)
          · rw [hIf_pos c33] at h
            refine lv_iconst (v := 0) hx hb dJ4_equals_54 (by decide) ?_
            exact hJ55 _ _ _ _ _ h S (lv_sub hl [] rfl)
          · rw [hIf_neg c33] at h
            refine lv_iconst (v := 1) hx hb dJ4_equals_50 (by decide) ?_
            refine lv_goto (tgt := 55) hx hb dJ4_equals_51 (by decide) ?_
            exact hJ55 _ _ _ _ _ h S (lv_sub hl [] rfl)
  · rw [hIf_pos (Option.some.inj c1)] at h
    refine lv_iconst (v := 1) hx hb dJ4_equals_5 (by decide) ?_
    exact h_zret F hr hlk S h dJ4_equals_6
theorem hg_J4_19 {p : Program} {l : Launch} {e : Env} {s : State} {m : MethodId} {args : Array Value} {below : List Frame} {meth : Method} {c : Code} {R : Room} {H : Heap} {locs : List Loc} {cb sb pc nL : Nat} {Q : State → Prop} {ls : Array Slot} {rest : List Value} {cc : ByteArray} {E : hEnv} {A : Nat → Prop} {w : hW} {a : Nat} {v : Int32} (F : CallFix p m c cc nL s args lw_all RJ4) (hK : hK E A s) (S : hS E A s.heap cb sb w H locs) (h : hgI w a 15 2 = some v) (hdg : decode cc pc = .ok (.getfield 19, 3)) (kk : W p l e R s m args below meth c H locs (cb - w.2.1) (sb - w.2.2) Q (F0 m (pc + 3) ls (.int v :: rest))) : W p l e R s m args below meth c H locs (cb - w.2.1) (sb - w.2.2) Q (F0 m pc ls (.ref a :: rest)) := by
  obtain ⟨b, fs, ho, hv⟩ := hgI_inv h
  exact h_get F hK S ho (ci := 15) (C := RJ4) (T := TJ4) (N := 4) (k := 2) rfl in_J4 (by decide) q865 (fun x h => h) hv hdg kk
theorem hg_J4_23 {p : Program} {l : Launch} {e : Env} {s : State} {m : MethodId} {args : Array Value} {below : List Frame} {meth : Method} {c : Code} {R : Room} {H : Heap} {locs : List Loc} {cb sb pc nL : Nat} {Q : State → Prop} {ls : Array Slot} {rest : List Value} {cc : ByteArray} {E : hEnv} {A : Nat → Prop} {w : hW} {a : Nat} {v : Int32} (F : CallFix p m c cc nL s args lw_all RJ4) (hK : hK E A s) (S : hS E A s.heap cb sb w H locs) (h : hgI w a 15 3 = some v) (hdg : decode cc pc = .ok (.getfield 23, 3)) (kk : W p l e R s m args below meth c H locs (cb - w.2.1) (sb - w.2.2) Q (F0 m (pc + 3) ls (.int v :: rest))) : W p l e R s m args below meth c H locs (cb - w.2.1) (sb - w.2.2) Q (F0 m pc ls (.ref a :: rest)) := by
  obtain ⟨b, fs, ho, hv⟩ := hgI_inv h
  exact h_get F hK S ho (ci := 15) (C := RJ4) (T := TJ4) (N := 4) (k := 3) rfl in_J4 (by decide) q866 (fun x h => h) hv hdg kk
theorem hcl_J9_hashCode_J4_628 {p : Program} {l : Launch} {e : Env} {s : State} {m : MethodId} {args : Array Value} {below : List Frame} {meth : Method} {c : Code} {R : Room} {H : Heap} {locs : List Loc} {cb sb pc nL : Nat} {Q : State → Prop} {ls : Array Slot} {rest : List Value} {cc : ByteArray} {E : hEnv} {A : Nat → Prop} {w : hW} {x1 : Nat} {Q' : Int32 → hO → Prop} {c1 s1 : Nat} (F : CallFix p m c cc nL s args lw_all RJ4) (hK : hK E A s) (S : hS E A s.heap cb sb w H locs) (h1 : c1 ≤ w.2.1) (h2 : s1 ≤ w.2.2) (h : hf_J9_hashCode E.2.2 (w.1, c1, s1) x1 Q') (hrc : R.cells = cb) (hrs : R.slots = sb) (hls : ls.size = nL) (hWt : (rest.map fun v => v.category).sum ≤ 8) (hR : 2 + 1 ≤ R.frames ∧ 8 + (1 + 11) + 49 ≤ R.locals) (hdg : decode cc pc = .ok (.invokestatic 628, 3))
    (kk : ∀ (v : Int32) (o : hO) (w' : hW) (H1 : Heap) (locs1 : List Loc), w' = (o, w.2.1 - c1, w.2.2 - s1) → Q' v o → hS E A s.heap cb sb w' H1 locs1 → W p l e R s m args below meth c H1 locs1 (cb - w'.2.1) (sb - w'.2.2) Q (F0 m (pc + 3) ls (.int v :: rest))) : W p l e R s m args below meth c H locs (cb - w.2.1) (sb - w.2.2) Q (F0 m pc ls (.ref x1 :: rest)) :=
  h_ki (g_runS F hK (hKm E A) S.1 (hmet_J9_hashCode l E A (w.1, c1, s1) x1 Q' h) (va_cwS 1 F.2.2.2.2 (lw_S q948 q949 q131 q950) rfl rfl rfl (by decide +kernel) hR) rfl hls rfl hWt hdg ⟨by rw [hrc]; exact (h_left S h1 h2).1, by rw [hrs]; exact (h_left S h1 h2).2⟩) S h1 h2 kk
theorem hp_J4_19 {p : Program} {l : Launch} {e : Env} {s : State} {m : MethodId} {args : Array Value} {below : List Frame} {meth : Method} {c : Code} {R : Room} {H : Heap} {locs : List Loc} {cb sb pc nL : Nat} {Q : State → Prop} {ls : Array Slot} {rest : List Value} {cc : ByteArray} {E : hEnv} {A : Nat → Prop} {w : hW} {a : Nat} {w' : hW} {v : Int32} (F : CallFix p m c cc nL s args lw_all RJ4) (hK : hK E A s) (S : hS E A s.heap cb sb w H locs) (h : hpV w a 15 2 (.int v) = some w') (hdg : decode cc pc = .ok (.putfield 19, 3)) (kk : ∀ (H1 : Heap) (locs1 : List Loc), hS E A s.heap cb sb w' H1 locs1 → W p l e R s m args below meth c H1 locs1 (cb - w'.2.1) (sb - w'.2.2) Q (F0 m (pc + 3) ls rest)) : W p l e R s m args below meth c H locs (cb - w.2.1) (sb - w.2.2) Q (F0 m pc ls (.int v :: .ref a :: rest)) :=
  h_put F hK S h (ci := 15) (C := RJ4) (T := TJ4) (N := 4) (k := 2) rfl in_J4 tyJ4 tyJ4_ok nmJ4 (by decide) q865 (fun x h => h) rfl (ty := .int) (by decide +kernel) rfl rfl hdg kk
theorem hp_J4_23 {p : Program} {l : Launch} {e : Env} {s : State} {m : MethodId} {args : Array Value} {below : List Frame} {meth : Method} {c : Code} {R : Room} {H : Heap} {locs : List Loc} {cb sb pc nL : Nat} {Q : State → Prop} {ls : Array Slot} {rest : List Value} {cc : ByteArray} {E : hEnv} {A : Nat → Prop} {w : hW} {a : Nat} {w' : hW} {v : Int32} (F : CallFix p m c cc nL s args lw_all RJ4) (hK : hK E A s) (S : hS E A s.heap cb sb w H locs) (h : hpZ w a 15 3 v = some w') (hdg : decode cc pc = .ok (.putfield 23, 3)) (kk : ∀ (H1 : Heap) (locs1 : List Loc), hS E A s.heap cb sb w' H1 locs1 → W p l e R s m args below meth c H1 locs1 (cb - w'.2.1) (sb - w'.2.2) Q (F0 m (pc + 3) ls rest)) : W p l e R s m args below meth c H locs (cb - w.2.1) (sb - w.2.2) Q (F0 m pc ls (.int v :: .ref a :: rest)) :=
  h_put F hK S (hpZ_inv h).2 (ci := 15) (C := RJ4) (T := TJ4) (N := 4) (k := 3) rfl in_J4 tyJ4 tyJ4_ok nmJ4 (by decide) q866 (fun x h => h) rfl (ty := .boolean) (by decide +kernel) (congrArg Value.int (hpZ_inv h).1.1) (hpZ_inv h).1.2 hdg kk
def hf_J4_hashCode (pl : Nat → Nat) (w : hW) (a0 : Nat) (Q : Int32 → hO → Prop) : Prop :=
  obd (hgI w a0 15 2) fun v1 =>
  hjoin (fun (v33 : Int32) (g34 : hW) =>
    Q v33 g34.1) fun k36 =>
  hIf (v1 = 0) (
    obd (hgI w a0 15 3) fun v4 =>
    hIf (v4 = 0) (
      obd (hIs w a0 15) fun u7 =>
      hcall w fun n9 n10 => hf_J4_isLatin1 pl (w.1, n9, n10) a0 fun v13 o12 => hret w n9 n10 o12 fun w11 =>
      hjoin (fun (v24 : Int32) (g25 : hW) =>
        hIf (v24 = 0) (
          obd (hpZ g25 a0 15 3 1) fun w29 =>
          k36 v24 w29) <|
          obd (hpV g25 a0 15 2 (.int v24)) fun w27 =>
          k36 v24 w27) fun k32 =>
      hIf (v13 = 0) (
        obd (hgP w11 a0 15 0) fun v15 =>
        False) <|
        obd (hgP w11 a0 15 0) fun v17 =>
        hcall w11 fun n19 n20 => hf_J9_hashCode pl (w11.1, n19, n20) v17 fun v23 o22 => hret w11 n19 n20 o22 fun w21 =>
        k32 v23 w21) <|
      k36 v1 w) <|
    k36 v1 w
abbrev hrm_J4_hashCode (c s : Nat) : Room := { frames := 3, cells := c, slots := s, locals := 69 }
set_option maxHeartbeats 4000000 in
set_option maxRecDepth 100000 in
theorem hmet_J4_hashCode (l : Launch) (E : hEnv) (A : Nat → Prop) (w : hW) (a0 : Nat) (Q : Int32 → hO → Prop) (h : hf_J4_hashCode E.2.2 w a0 Q) : Met l yJ4_hashCode (ws_ yJ4_hashCode cJ4_hashCode 2 (some .int)) (hrm_J4_hashCode w.2.1 w.2.2) (va_Pc [.ref a0] (gPre (hK E A) (hP E A w.1))) (hQi E A Q) w.2.1 w.2.2 A := by
  refine h_met (own := RJ4) (by decide +kernel) rfl (Nat.le_of_ble_eq_true rfl) ?_
  intro p e s m args below meth c ls cb sb F hr hlk hK S hl
  have hx := F.1
  have hb := F.2.1
  have hl : lv_has ls 2 [(0, .ref a0)] := hl
  unfold hf_J4_hashCode at h
  refine lv_aload_n hx hb dJ4_hashCode_0 rfl (lv_at hl 0 rfl) ?_
  obtain ⟨v1, e2, h⟩ := obd_inv h
  refine hg_J4_19 F hK S e2 dJ4_hashCode_1 ?_
  refine lv_istore_n (lv' := [(1, .int v1), (0, .ref a0)]) hx hb dJ4_hashCode_4 rfl hl (by decide) rfl (fun ls hl => ?_)
  refine lv_iload_n hx hb dJ4_hashCode_5 rfl (lv_at hl 0 rfl) ?_
  obtain ⟨k36, hk36, h⟩ := hj2_inv h
  have hJ58 : ∀ (v33 : Int32) (g34 : hW) (H : Heap) (locs : List Loc) (ls : Array Slot), k36 v33 g34 → hS E A s.heap cb sb g34 H locs → lv_has ls 2 [(1, .int v33)] → W p l e (hrm_J4_hashCode cb sb) s m args below meth c H locs (cb - g34.2.1) (sb - g34.2.2) (MQ below (hQi E A Q) args s cb sb A) (F0 m 58 ls []) := by
    intro v33 g34 H locs ls h S hl
    replace h := hk36 _ _ h
    refine lv_iload_n hx hb dJ4_hashCode_58 rfl (lv_at hl 0 rfl) ?_
    exact h_iret F hr hlk S h dJ4_hashCode_59
  clear hk36
  refine lv_if_ne (tgt := 58) hx hb dJ4_hashCode_6 (by decide) (fun c3 => ?_) (fun c3 => ?_)
  · rw [hIf_neg c3] at h
    exact hJ58 _ _ _ _ _ h S (lv_sub hl [0] rfl)
  · rw [hIf_pos c3] at h
    refine lv_aload_n hx hb dJ4_hashCode_9 rfl (lv_at hl 1 rfl) ?_
    obtain ⟨v4, e5, h⟩ := obd_inv h
    refine hg_J4_23 F hK S e5 dJ4_hashCode_10 ?_
    refine lv_if_ne (tgt := 58) hx hb dJ4_hashCode_13 (by decide) (fun c6 => ?_) (fun c6 => ?_)
    · rw [hIf_neg c6] at h
      exact hJ58 _ _ _ _ _ h S (lv_sub hl [0] rfl)
    · rw [hIf_pos c6] at h
      refine lv_aload_n hx hb dJ4_hashCode_16 rfl (lv_at hl 1 rfl) ?_
      obtain ⟨u7, e8, h⟩ := obd_inv h
      obtain ⟨n9, n10, h1, h2, h⟩ := hcall_inv h
      refine hcl_J4_isLatin1_J4_492 F hK S (hIs_inv e8) h1 h2 h rfl rfl hl.1 (Nat.le_of_ble_eq_true rfl) ⟨Nat.le_of_ble_eq_true rfl, Nat.le_of_ble_eq_true rfl⟩ dJ4_hashCode_17 (fun v13 o12 w11 H locs hw h S => ?_)
      replace h := hret_mp h hw
      clear hw h1 h2
      obtain ⟨k32, hk32, h⟩ := hj2_inv h
      have hJ40 : ∀ (v24 : Int32) (g25 : hW) (H : Heap) (locs : List Loc) (ls : Array Slot), k32 v24 g25 → hS E A s.heap cb sb g25 H locs → lv_has ls 2 [(0, .ref a0)] → W p l e (hrm_J4_hashCode cb sb) s m args below meth c H locs (cb - g25.2.1) (sb - g25.2.2) (MQ below (hQi E A Q) args s cb sb A) (F0 m 40 ls [.int v24]) := by
        intro v24 g25 H locs ls h S hl
        replace h := hk32 _ _ h
        refine lv_istore_n (lv' := [(1, .int v24), (0, .ref a0)]) hx hb dJ4_hashCode_40 rfl hl (by decide) rfl (fun ls hl => ?_)
        refine lv_iload_n hx hb dJ4_hashCode_41 rfl (lv_at hl 0 rfl) ?_
        refine lv_if_ne (tgt := 53) hx hb dJ4_hashCode_42 (by decide) (fun c26 => ?_) (fun c26 => ?_)
        · rw [hIf_neg c26] at h
          refine lv_aload_n hx hb dJ4_hashCode_53 rfl (lv_at hl 1 rfl) ?_
          refine lv_iload_n hx hb dJ4_hashCode_54 rfl (lv_at hl 0 rfl) ?_
          obtain ⟨w27, e28, h⟩ := obd_inv h
          refine hp_J4_19 F hK S e28 dJ4_hashCode_55 (fun H locs S => ?_)
          exact hJ58 _ _ _ _ _ h S (lv_sub hl [0] rfl)
        · rw [hIf_pos c26] at h
          refine lv_aload_n hx hb dJ4_hashCode_45 rfl (lv_at hl 1 rfl) ?_
          refine lv_iconst (v := 1) hx hb dJ4_hashCode_46 (by decide) ?_
          obtain ⟨w29, e30, h⟩ := obd_inv h
          refine hp_J4_23 F hK S e30 dJ4_hashCode_47 (fun H locs S => ?_)
          refine lv_goto (tgt := 58) hx hb dJ4_hashCode_50 (by decide) ?_
          exact hJ58 _ _ _ _ _ h S (lv_sub hl [0] rfl)
      clear hk32
      refine lv_if_eq (tgt := 33) hx hb dJ4_hashCode_20 (by decide) (fun c14 => ?_) (fun c14 => ?_)
      · rw [hIf_pos c14] at h
        refine lv_aload_n hx hb dJ4_hashCode_33 rfl (lv_at hl 1 rfl) ?_
        obtain ⟨v15, e16, h⟩ := obd_inv h
        refine hg_J4_9 F hK S e16 dJ4_hashCode_34 ?_
        exact False.elim h
      · rw [hIf_neg c14] at h
        refine lv_aload_n hx hb dJ4_hashCode_23 rfl (lv_at hl 1 rfl) ?_
        obtain ⟨v17, e18, h⟩ := obd_inv h
        refine hg_J4_9 F hK S e18 dJ4_hashCode_24 ?_
        obtain ⟨n19, n20, h1, h2, h⟩ := hcall_inv h
        refine hcl_J9_hashCode_J4_628 F hK S h1 h2 h rfl rfl hl.1 (Nat.le_of_ble_eq_true rfl) ⟨Nat.le_of_ble_eq_true rfl, Nat.le_of_ble_eq_true rfl⟩ dJ4_hashCode_27 (fun v23 o22 w21 H locs hw h S => ?_)
        replace h := hret_mp h hw
        clear hw h1 h2
        refine lv_goto (tgt := 40) hx hb dJ4_hashCode_30 (by decide) ?_
        exact hJ40 _ _ _ _ _ h S (lv_sub hl [1] rfl)
def hf_J4_getBytes (pl : Nat → Nat) (w : hW) (a0 : Nat) (x1 : Nat) (x2 : Int32) (x3 : Int32) (Q : hO → Prop) : Prop :=
  obd (hIs w a0 15) fun u1 =>
  hcall w fun n3 n4 => hf_J4_coder pl (w.1, n3, n4) a0 fun v7 o6 => hret w n3 n4 o6 fun w5 =>
  hIf (v7 = x3) (
    obd (hgP w5 a0 15 0) fun v15 =>
    obd (hgP w5 a0 15 0) fun v17 =>
    obd (hLen w5 v17) fun v19 =>
    obd (hCpB w5 v15 0 x1 (x2 <<< (x3 &&& 31)) v19) fun w21 =>
    Q w21.1) <|
    obd (hgP w5 a0 15 0) fun v9 =>
    obd (hgP w5 a0 15 0) fun v11 =>
    obd (hLen w5 v11) fun v13 =>
    False
abbrev hrm_J4_getBytes (c s : Nat) : Room := { frames := 1, cells := c, slots := s, locals := 39 }
set_option maxHeartbeats 4000000 in
set_option maxRecDepth 100000 in
theorem hmet_J4_getBytes (l : Launch) (E : hEnv) (A : Nat → Prop) (w : hW) (a0 : Nat) (x1 : Nat) (x2 : Int32) (x3 : Int32) (Q : hO → Prop) (h : hf_J4_getBytes E.2.2 w a0 x1 x2 x3 Q) : Met l yJ4_getBytes (ws_ yJ4_getBytes cJ4_getBytes 4 (none)) (hrm_J4_getBytes w.2.1 w.2.2) (va_Pc [.ref a0, .ref x1, .int x2, .int x3] (gPre (hK E A) (hP E A w.1))) (hQv E A Q) w.2.1 w.2.2 A := by
  refine h_met (own := RJ4) (by decide +kernel) rfl (Nat.le_of_ble_eq_true rfl) ?_
  intro p e s m args below meth c ls cb sb F hr hlk hK S hl
  have hx := F.1
  have hb := F.2.1
  have hl : lv_has ls 4 [(0, .ref a0), (1, .ref x1), (2, .int x2), (3, .int x3)] := hl
  unfold hf_J4_getBytes at h
  refine lv_aload_n hx hb dJ4_getBytes_0 rfl (lv_at hl 0 rfl) ?_
  obtain ⟨u1, e2, h⟩ := obd_inv h
  obtain ⟨n3, n4, h1, h2, h⟩ := hcall_inv h
  refine hcl_J4_coder_J4_335 F hK S (hIs_inv e2) h1 h2 h rfl rfl hl.1 (Nat.le_of_ble_eq_true rfl) ⟨Nat.le_of_ble_eq_true rfl, Nat.le_of_ble_eq_true rfl⟩ dJ4_getBytes_1 (fun v7 o6 w5 H locs hw h S => ?_)
  replace h := hret_mp h hw
  clear hw h1 h2
  refine lv_iload_n hx hb dJ4_getBytes_4 rfl (lv_at hl 3 rfl) ?_
  refine lv_icmp_ne (tgt := 28) hx hb dJ4_getBytes_5 (by decide) (fun c8 => ?_) (fun c8 => ?_)
  · rw [hIf_neg c8] at h
    refine lv_aload_n hx hb dJ4_getBytes_28 rfl (lv_at hl 0 rfl) ?_
    obtain ⟨v9, e10, h⟩ := obd_inv h
    refine hg_J4_9 F hK S e10 dJ4_getBytes_29 ?_
    refine lv_iconst (v := 0) hx hb dJ4_getBytes_32 (by decide) ?_
    refine lv_aload_n hx hb dJ4_getBytes_33 rfl (lv_at hl 1 rfl) ?_
    refine lv_iload_n hx hb dJ4_getBytes_34 rfl (lv_at hl 2 rfl) ?_
    refine lv_aload_n hx hb dJ4_getBytes_35 rfl (lv_at hl 0 rfl) ?_
    obtain ⟨v11, e12, h⟩ := obd_inv h
    refine hg_J4_9 F hK S e12 dJ4_getBytes_36 ?_
    obtain ⟨v13, e14, h⟩ := obd_inv h
    refine h_alen F hK S e14 dJ4_getBytes_39 ?_
    exact False.elim h
  · rw [hIf_pos c8] at h
    refine lv_aload_n hx hb dJ4_getBytes_8 rfl (lv_at hl 0 rfl) ?_
    obtain ⟨v15, e16, h⟩ := obd_inv h
    refine hg_J4_9 F hK S e16 dJ4_getBytes_9 ?_
    refine lv_iconst (v := 0) hx hb dJ4_getBytes_12 (by decide) ?_
    refine lv_aload_n hx hb dJ4_getBytes_13 rfl (lv_at hl 1 rfl) ?_
    refine lv_iload_n hx hb dJ4_getBytes_14 rfl (lv_at hl 2 rfl) ?_
    refine lv_iload_n hx hb dJ4_getBytes_15 rfl (lv_at hl 3 rfl) ?_
    refine lv_ishl hx hb dJ4_getBytes_16 ?_
    refine lv_aload_n hx hb dJ4_getBytes_17 rfl (lv_at hl 0 rfl) ?_
    obtain ⟨v17, e18, h⟩ := obd_inv h
    refine hg_J4_9 F hK S e18 dJ4_getBytes_18 ?_
    obtain ⟨v19, e20, h⟩ := obd_inv h
    refine h_alen F hK S e20 dJ4_getBytes_21 ?_
    obtain ⟨w21, e22, h⟩ := obd_inv h
    refine h_copyB F hK S e22 hl.1 q822 q616 q615 q130 (Nat.le_of_ble_eq_true rfl) (Nat.le_of_ble_eq_true rfl) dJ4_getBytes_22 (fun H locs S => ?_)
    refine lv_goto (tgt := 43) hx hb dJ4_getBytes_25 (by decide) ?_
    exact h_vret F hr hlk S h dJ4_getBytes_43
theorem hp_J2_15 {p : Program} {l : Launch} {e : Env} {s : State} {m : MethodId} {args : Array Value} {below : List Frame} {meth : Method} {c : Code} {R : Room} {H : Heap} {locs : List Loc} {cb sb pc nL : Nat} {Q : State → Prop} {ls : Array Slot} {rest : List Value} {cc : ByteArray} {E : hEnv} {A : Nat → Prop} {w : hW} {a : Nat} {w' : hW} {v : Nat} (F : CallFix p m c cc nL s args lw_all RJ2) (hK : hK E A s) (S : hS E A s.heap cb sb w H locs) (h : hpV w a 14 0 (.ref v) = some w') (hdg : decode cc pc = .ok (.putfield 15, 3)) (kk : ∀ (H1 : Heap) (locs1 : List Loc), hS E A s.heap cb sb w' H1 locs1 → W p l e R s m args below meth c H1 locs1 (cb - w'.2.1) (sb - w'.2.2) Q (F0 m (pc + 3) ls rest)) : W p l e R s m args below meth c H locs (cb - w.2.1) (sb - w.2.2) Q (F0 m pc ls (.ref v :: .ref a :: rest)) :=
  h_put F hK S h (ci := 14) (C := RJ3) (T := TJ3) (N := 4) (k := 0) rfl in_J3 tyJ3 tyJ3_ok nmJ3 (by decide) q561 (fun x h => h) rfl (ty := (.array (.byte))) (by decide +kernel) rfl rfl hdg kk
theorem hp_J2_22 {p : Program} {l : Launch} {e : Env} {s : State} {m : MethodId} {args : Array Value} {below : List Frame} {meth : Method} {c : Code} {R : Room} {H : Heap} {locs : List Loc} {cb sb pc nL : Nat} {Q : State → Prop} {ls : Array Slot} {rest : List Value} {cc : ByteArray} {E : hEnv} {A : Nat → Prop} {w : hW} {a : Nat} {w' : hW} {v : Int32} (F : CallFix p m c cc nL s args lw_all RJ2) (hK : hK E A s) (S : hS E A s.heap cb sb w H locs) (h : hpB w a 14 1 v = some w') (hdg : decode cc pc = .ok (.putfield 22, 3)) (kk : ∀ (H1 : Heap) (locs1 : List Loc), hS E A s.heap cb sb w' H1 locs1 → W p l e R s m args below meth c H1 locs1 (cb - w'.2.1) (sb - w'.2.2) Q (F0 m (pc + 3) ls rest)) : W p l e R s m args below meth c H locs (cb - w.2.1) (sb - w.2.2) Q (F0 m pc ls (.int v :: .ref a :: rest)) :=
  h_put F hK S (hpB_inv h).2 (ci := 14) (C := RJ3) (T := TJ3) (N := 4) (k := 1) rfl in_J3 tyJ3 tyJ3_ok nmJ3 (by decide) q562 (fun x h => h) rfl (ty := .byte) (by decide +kernel) (congrArg Value.int (hpB_inv h).1.1) (hpB_inv h).1.2 hdg kk
def hf_J2_init (pl : Nat → Nat) (w : hW) (a0 : Nat) (x1 : Int32) (Q : hO → Prop) : Prop :=
  hIf ((1 : Int32) = 0) (
    False) <|
    hNewI 2 w x1 fun q2 w3 =>
    obd (hpV w3 a0 14 0 (.ref q2)) fun w4 =>
    obd (hpB w4 a0 14 1 0) fun w6 =>
    Q w6.1
abbrev hrm_J2_init (c s : Nat) : Room := { frames := 1, cells := c, slots := s, locals := 20 }
set_option maxHeartbeats 4000000 in
set_option maxRecDepth 100000 in
theorem hmet_J2_init (l : Launch) (E : hEnv) (A : Nat → Prop) (w : hW) (a0 : Nat) (x1 : Int32) (Q : hO → Prop) (h : hf_J2_init E.2.2 w a0 x1 Q) : Met l yJ2_init (ws_ yJ2_init cJ2_init 2 (none)) (hrm_J2_init w.2.1 w.2.2) (va_Pc [.ref a0, .int x1] (gPre (hK E A) (hP E A w.1))) (hQv E A Q) w.2.1 w.2.2 A := by
  refine h_metI (own := RJ2) (by decide +kernel) rfl (by rfl) (Nat.le_of_ble_eq_true rfl) ?_
  intro p e s m args below meth c ls cb sb F hr hlk hin hK S hl
  have hx := F.1
  have hb := F.2.1
  have hl : lv_has ls 2 [(0, .ref a0), (1, .int x1)] := hl
  unfold hf_J2_init at h
  refine lv_aload_n hx hb dJ2_init_0 rfl (lv_at hl 0 rfl) ?_
  refine h_obj F q551 hl.1 dJ2_init_1 (Nat.le_of_ble_eq_true rfl) (Nat.le_of_ble_eq_true rfl) ?_
  refine va_gets F.1 F.2.1 hK.2.2.1.1.2.2.2 S.1.2 F.2.2.2.1 (F.2.2.2.2 _ q552) (fun x h => h) dJ2_init_4 ?_
  refine lv_if_eq (tgt := 25) hx hb dJ2_init_7 (by decide) (fun c1 => ?_) (fun c1 => ?_)
  · rw [hIf_pos c1] at h
    refine lv_aload_n hx hb dJ2_init_25 rfl (lv_at hl 0 rfl) ?_
    refine lv_iload_n hx hb dJ2_init_26 rfl (lv_at hl 1 rfl) ?_
    exact False.elim h
  · rw [hIf_neg c1] at h
    refine lv_aload_n hx hb dJ2_init_10 rfl (lv_at hl 0 rfl) ?_
    refine lv_iload_n hx hb dJ2_init_11 rfl (lv_at hl 1 rfl) ?_
    refine h_newaB F hK S rfl rfl h dJ2_init_12 (fun q2 w3 H h S => ?_)
    obtain ⟨w4, e5, h⟩ := obd_inv h
    refine hp_J2_15 F hK S e5 dJ2_init_14 (fun H locs S => ?_)
    refine lv_aload_n hx hb dJ2_init_17 rfl (lv_at hl 0 rfl) ?_
    refine lv_iconst (v := 0) hx hb dJ2_init_18 (by decide) ?_
    obtain ⟨w6, e7, h⟩ := obd_inv h
    refine hp_J2_22 F hK S e7 dJ2_init_19 (fun H locs S => ?_)
    refine lv_goto (tgt := 38) hx hb dJ2_init_22 (by decide) ?_
    exact h_vret F hr hlk S h dJ2_init_38
theorem hg_J2_79 {p : Program} {l : Launch} {e : Env} {s : State} {m : MethodId} {args : Array Value} {below : List Frame} {meth : Method} {c : Code} {R : Room} {H : Heap} {locs : List Loc} {cb sb pc nL : Nat} {Q : State → Prop} {ls : Array Slot} {rest : List Value} {cc : ByteArray} {E : hEnv} {A : Nat → Prop} {w : hW} {a : Nat} {v : Int32} (F : CallFix p m c cc nL s args lw_all RJ2) (hK : hK E A s) (S : hS E A s.heap cb sb w H locs) (h : hgI w a 14 3 = some v) (hdg : decode cc pc = .ok (.getfield 79, 3)) (kk : W p l e R s m args below meth c H locs (cb - w.2.1) (sb - w.2.2) Q (F0 m (pc + 3) ls (.int v :: rest))) : W p l e R s m args below meth c H locs (cb - w.2.1) (sb - w.2.2) Q (F0 m pc ls (.ref a :: rest)) := by
  obtain ⟨b, fs, ho, hv⟩ := hgI_inv h
  exact h_get F hK S ho (ci := 14) (C := RJ3) (T := TJ3) (N := 4) (k := 3) rfl in_J3 (by decide) q564 (fun x h => h) hv hdg kk
def hf_J2_length (pl : Nat → Nat) (w : hW) (a0 : Nat) (Q : Int32 → hO → Prop) : Prop :=
  obd (hgI w a0 14 3) fun v1 =>
  Q v1 w.1
abbrev hrm_J2_length (c s : Nat) : Room := { frames := 0, cells := c, slots := s, locals := 0 }
set_option maxHeartbeats 4000000 in
set_option maxRecDepth 100000 in
theorem hmet_J2_length (l : Launch) (E : hEnv) (A : Nat → Prop) (w : hW) (a0 : Nat) (Q : Int32 → hO → Prop) (h : hf_J2_length E.2.2 w a0 Q) : Met l yJ2_length (ws_ yJ2_length cJ2_length 1 (some .int)) (hrm_J2_length w.2.1 w.2.2) (va_Pc [.ref a0] (gPre (hK E A) (hP E A w.1))) (hQi E A Q) w.2.1 w.2.2 A := by
  refine h_met (own := RJ2) (by decide +kernel) rfl (Nat.le_of_ble_eq_true rfl) ?_
  intro p e s m args below meth c ls cb sb F hr hlk hK S hl
  have hx := F.1
  have hb := F.2.1
  have hl : lv_has ls 1 [(0, .ref a0)] := hl
  unfold hf_J2_length at h
  refine lv_aload_n hx hb dJ2_length_0 rfl (lv_at hl 0 rfl) ?_
  obtain ⟨v1, e2, h⟩ := obd_inv h
  refine hg_J2_79 F hK S e2 dJ2_length_1 ?_
  exact h_iret F hr hlk S h dJ2_length_4
theorem hg_J2_15 {p : Program} {l : Launch} {e : Env} {s : State} {m : MethodId} {args : Array Value} {below : List Frame} {meth : Method} {c : Code} {R : Room} {H : Heap} {locs : List Loc} {cb sb pc nL : Nat} {Q : State → Prop} {ls : Array Slot} {rest : List Value} {cc : ByteArray} {E : hEnv} {A : Nat → Prop} {w : hW} {a : Nat} {v : Nat} (F : CallFix p m c cc nL s args lw_all RJ2) (hK : hK E A s) (S : hS E A s.heap cb sb w H locs) (h : hgP w a 14 0 = some v) (hdg : decode cc pc = .ok (.getfield 15, 3)) (kk : W p l e R s m args below meth c H locs (cb - w.2.1) (sb - w.2.2) Q (F0 m (pc + 3) ls (.ref v :: rest))) : W p l e R s m args below meth c H locs (cb - w.2.1) (sb - w.2.2) Q (F0 m pc ls (.ref a :: rest)) := by
  obtain ⟨b, fs, ho, hv⟩ := hgP_inv h
  exact h_get F hK S ho (ci := 14) (C := RJ3) (T := TJ3) (N := 4) (k := 0) rfl in_J3 (by decide) q561 (fun x h => h) hv hdg kk
def hf_J2_getValue (pl : Nat → Nat) (w : hW) (a0 : Nat) (Q : Nat → hO → Prop) : Prop :=
  obd (hgP w a0 14 0) fun v1 =>
  Q v1 w.1
abbrev hrm_J2_getValue (c s : Nat) : Room := { frames := 0, cells := c, slots := s, locals := 0 }
set_option maxHeartbeats 4000000 in
set_option maxRecDepth 100000 in
theorem hmet_J2_getValue (l : Launch) (E : hEnv) (A : Nat → Prop) (w : hW) (a0 : Nat) (Q : Nat → hO → Prop) (h : hf_J2_getValue E.2.2 w a0 Q) : Met l yJ2_getValue (ws_ yJ2_getValue cJ2_getValue 1 (some (.array (.byte)))) (hrm_J2_getValue w.2.1 w.2.2) (va_Pc [.ref a0] (gPre (hK E A) (hP E A w.1))) (hQp E A Q) w.2.1 w.2.2 A := by
  refine h_met (own := RJ2) (by decide +kernel) rfl (Nat.le_of_ble_eq_true rfl) ?_
  intro p e s m args below meth c ls cb sb F hr hlk hK S hl
  have hx := F.1
  have hb := F.2.1
  have hl : lv_has ls 1 [(0, .ref a0)] := hl
  unfold hf_J2_getValue at h
  refine lv_aload_n hx hb dJ2_getValue_0 rfl (lv_at hl 0 rfl) ?_
  obtain ⟨v1, e2, h⟩ := obd_inv h
  refine hg_J2_15 F hK S e2 dJ2_getValue_1 ?_
  exact h_aret F hr (Or.inr ⟨_, rfl⟩) hlk S h dJ2_getValue_4
theorem hg_J2_22 {p : Program} {l : Launch} {e : Env} {s : State} {m : MethodId} {args : Array Value} {below : List Frame} {meth : Method} {c : Code} {R : Room} {H : Heap} {locs : List Loc} {cb sb pc nL : Nat} {Q : State → Prop} {ls : Array Slot} {rest : List Value} {cc : ByteArray} {E : hEnv} {A : Nat → Prop} {w : hW} {a : Nat} {v : Int32} (F : CallFix p m c cc nL s args lw_all RJ2) (hK : hK E A s) (S : hS E A s.heap cb sb w H locs) (h : hgI w a 14 1 = some v) (hdg : decode cc pc = .ok (.getfield 22, 3)) (kk : W p l e R s m args below meth c H locs (cb - w.2.1) (sb - w.2.2) Q (F0 m (pc + 3) ls (.int v :: rest))) : W p l e R s m args below meth c H locs (cb - w.2.1) (sb - w.2.2) Q (F0 m pc ls (.ref a :: rest)) := by
  obtain ⟨b, fs, ho, hv⟩ := hgI_inv h
  exact h_get F hK S ho (ci := 14) (C := RJ3) (T := TJ3) (N := 4) (k := 1) rfl in_J3 (by decide) q562 (fun x h => h) hv hdg kk
def hf_J2_isLatin1 (pl : Nat → Nat) (w : hW) (a0 : Nat) (Q : Int32 → hO → Prop) : Prop :=
  hjoin (fun (v5 : Int32) =>
    Q (zN v5) w.1) fun k7 =>
  hIf ((1 : Int32) = 0) (
    k7 0) <|
    obd (hgI w a0 14 1) fun v2 =>
    hIf (v2 = 0) (
      k7 1) <|
      k7 0
abbrev hrm_J2_isLatin1 (c s : Nat) : Room := { frames := 0, cells := c, slots := s, locals := 0 }
set_option maxHeartbeats 4000000 in
set_option maxRecDepth 100000 in
theorem hmet_J2_isLatin1 (l : Launch) (E : hEnv) (A : Nat → Prop) (w : hW) (a0 : Nat) (Q : Int32 → hO → Prop) (h : hf_J2_isLatin1 E.2.2 w a0 Q) : Met l yJ2_isLatin1 (ws_ yJ2_isLatin1 cJ2_isLatin1 1 (some .boolean)) (hrm_J2_isLatin1 w.2.1 w.2.2) (va_Pc [.ref a0] (gPre (hK E A) (hP E A w.1))) (hQi E A Q) w.2.1 w.2.2 A := by
  refine h_met (own := RJ2) (by decide +kernel) rfl (Nat.le_of_ble_eq_true rfl) ?_
  intro p e s m args below meth c ls cb sb F hr hlk hK S hl
  have hx := F.1
  have hb := F.2.1
  have hl : lv_has ls 1 [(0, .ref a0)] := hl
  unfold hf_J2_isLatin1 at h
  refine va_gets F.1 F.2.1 hK.2.2.1.1.2.2.2 S.1.2 F.2.2.2.1 (F.2.2.2.2 _ q552) (fun x h => h) dJ2_isLatin1_0 ?_
  obtain ⟨k7, hk7, h⟩ := hj1_inv h
  have hJ18 : ∀ (v5 : Int32) (H : Heap) (locs : List Loc) (ls : Array Slot), k7 v5 → hS E A s.heap cb sb w H locs → lv_has ls 1 [] → W p l e (hrm_J2_isLatin1 cb sb) s m args below meth c H locs (cb - w.2.1) (sb - w.2.2) (MQ below (hQi E A Q) args s cb sb A) (F0 m 18 ls [.int v5]) := by
    intro v5 H locs ls h S hl
    replace h := hk7 _ h
    exact h_zret F hr hlk S h dJ2_isLatin1_18
  clear hk7
  refine lv_if_eq (tgt := 17) hx hb dJ2_isLatin1_3 (by decide) (fun c1 => ?_) (fun c1 => ?_)
  · rw [hIf_pos c1] at h
    refine lv_iconst (v := 0) hx hb dJ2_isLatin1_17 (by decide) ?_
    exact hJ18 _ _ _ _ h S (lv_sub hl [] rfl)
  · rw [hIf_neg c1] at h
    refine lv_aload_n hx hb dJ2_isLatin1_6 rfl (lv_at hl 0 rfl) ?_
    obtain ⟨v2, e3, h⟩ := obd_inv h
    refine hg_J2_22 F hK S e3 dJ2_isLatin1_7 ?_
    refine lv_if_ne (tgt := 17) hx hb dJ2_isLatin1_10 (by decide) (fun c4 => ?_) (fun c4 => ?_)
    · rw [hIf_neg c4] at h
      refine lv_iconst (v := 0) hx hb dJ2_isLatin1_17 (by decide) ?_
      exact hJ18 _ _ _ _ h S (lv_sub hl [] rfl)
    · rw [hIf_pos c4] at h
      refine lv_iconst (v := 1) hx hb dJ2_isLatin1_13 (by decide) ?_
      refine lv_goto (tgt := 18) hx hb dJ2_isLatin1_14 (by decide) ?_
      exact hJ18 _ _ _ _ h S (lv_sub hl [] rfl)
theorem hcl_J6_newLength_J2_114 {p : Program} {l : Launch} {e : Env} {s : State} {m : MethodId} {args : Array Value} {below : List Frame} {meth : Method} {c : Code} {R : Room} {H : Heap} {locs : List Loc} {cb sb pc nL : Nat} {Q : State → Prop} {ls : Array Slot} {rest : List Value} {cc : ByteArray} {E : hEnv} {A : Nat → Prop} {w : hW} {x1 : Int32} {x2 : Int32} {x3 : Int32} {Q' : Int32 → hO → Prop} {c1 s1 : Nat} (F : CallFix p m c cc nL s args lw_all RJ2) (hK : hK E A s) (S : hS E A s.heap cb sb w H locs) (h1 : c1 ≤ w.2.1) (h2 : s1 ≤ w.2.2) (h : hf_J6_newLength E.2.2 (w.1, c1, s1) x1 x2 x3 Q') (hrc : R.cells = cb) (hrs : R.slots = sb) (hls : ls.size = nL) (hWt : (rest.map fun v => v.category).sum ≤ 8) (hR : 1 + 1 ≤ R.frames ∧ 8 + (4 + 11) + 21 ≤ R.locals) (hdg : decode cc pc = .ok (.invokestatic 114, 3))
    (kk : ∀ (v : Int32) (o : hO) (w' : hW) (H1 : Heap) (locs1 : List Loc), w' = (o, w.2.1 - c1, w.2.2 - s1) → Q' v o → hS E A s.heap cb sb w' H1 locs1 → W p l e R s m args below meth c H1 locs1 (cb - w'.2.1) (sb - w'.2.2) Q (F0 m (pc + 3) ls (.int v :: rest))) : W p l e R s m args below meth c H locs (cb - w.2.1) (sb - w.2.2) Q (F0 m pc ls (.int x3 :: .int x2 :: .int x1 :: rest)) :=
  h_ki (g_runS F hK (hKm E A) S.1 (hmet_J6_newLength l E A (w.1, c1, s1) x1 x2 x3 Q' h) (va_cwS 3 F.2.2.2.2 (lw_S q590 q591 q127 q592) rfl rfl rfl (by decide +kernel) hR) rfl hls rfl hWt hdg ⟨by rw [hrc]; exact (h_left S h1 h2).1, by rw [hrs]; exact (h_left S h1 h2).2⟩) S h1 h2 kk
def hf_J2_newCapacity (pl : Nat → Nat) (w : hW) (a0 : Nat) (x1 : Int32) (Q : Int32 → hO → Prop) : Prop :=
  obd (hgP w a0 14 0) fun v1 =>
  obd (hLen w v1) fun v3 =>
  obd (hgI w a0 14 1) fun v5 =>
  obd (hgI w a0 14 1) fun v7 =>
  hcall w fun n9 n10 => hf_J6_newLength pl (w.1, n9, n10) v3 ((x1 <<< (v5 &&& 31)) - v3) (v3 + (2 <<< (v7 &&& 31))) fun v13 o12 => hret w n9 n10 o12 fun w11 =>
  hIf (v13 = 2147483647) (
    False) <|
    obd (hgI w11 a0 14 1) fun v15 =>
    Q (v13 >>> (v15 &&& 31)) w11.1
abbrev hrm_J2_newCapacity (c s : Nat) : Room := { frames := 2, cells := c, slots := s, locals := 44 }
set_option maxHeartbeats 4000000 in
set_option maxRecDepth 100000 in
theorem hmet_J2_newCapacity (l : Launch) (E : hEnv) (A : Nat → Prop) (w : hW) (a0 : Nat) (x1 : Int32) (Q : Int32 → hO → Prop) (h : hf_J2_newCapacity E.2.2 w a0 x1 Q) : Met l yJ2_newCapacity (ws_ yJ2_newCapacity cJ2_newCapacity 6 (some .int)) (hrm_J2_newCapacity w.2.1 w.2.2) (va_Pc [.ref a0, .int x1] (gPre (hK E A) (hP E A w.1))) (hQi E A Q) w.2.1 w.2.2 A := by
  refine h_met (own := RJ2) (by decide +kernel) rfl (Nat.le_of_ble_eq_true rfl) ?_
  intro p e s m args below meth c ls cb sb F hr hlk hK S hl
  have hx := F.1
  have hb := F.2.1
  have hl : lv_has ls 6 [(0, .ref a0), (1, .int x1)] := hl
  unfold hf_J2_newCapacity at h
  refine lv_aload_n hx hb dJ2_newCapacity_0 rfl (lv_at hl 0 rfl) ?_
  obtain ⟨v1, e2, h⟩ := obd_inv h
  refine hg_J2_15 F hK S e2 dJ2_newCapacity_1 ?_
  obtain ⟨v3, e4, h⟩ := obd_inv h
  refine h_alen F hK S e4 dJ2_newCapacity_4 ?_
  refine lv_istore_n (lv' := [(2, .int v3), (0, .ref a0), (1, .int x1)]) hx hb dJ2_newCapacity_5 rfl hl (by decide) rfl (fun ls hl => ?_)
  refine lv_iload_n hx hb dJ2_newCapacity_6 rfl (lv_at hl 2 rfl) ?_
  refine lv_aload_n hx hb dJ2_newCapacity_7 rfl (lv_at hl 1 rfl) ?_
  obtain ⟨v5, e6, h⟩ := obd_inv h
  refine hg_J2_22 F hK S e6 dJ2_newCapacity_8 ?_
  refine lv_ishl hx hb dJ2_newCapacity_11 ?_
  refine lv_istore_n (lv' := [(3, .int (x1 <<< (v5 &&& 31))), (2, .int v3), (0, .ref a0), (1, .int x1)]) hx hb dJ2_newCapacity_12 rfl hl (by decide) rfl (fun ls hl => ?_)
  refine lv_iload_n hx hb dJ2_newCapacity_13 rfl (lv_at hl 0 rfl) ?_
  refine lv_iload_n hx hb dJ2_newCapacity_14 rfl (lv_at hl 1 rfl) ?_
  refine lv_isub hx hb dJ2_newCapacity_15 ?_
  refine lv_istore (lv' := [(4, .int ((x1 <<< (v5 &&& 31)) - v3)), (3, .int (x1 <<< (v5 &&& 31))), (2, .int v3), (0, .ref a0), (1, .int x1)]) hx hb dJ2_newCapacity_16 hl (by decide) rfl (fun ls hl => ?_)
  refine lv_iload_n hx hb dJ2_newCapacity_18 rfl (lv_at hl 2 rfl) ?_
  refine lv_iload hx hb dJ2_newCapacity_19 (lv_at hl 0 rfl) ?_
  refine lv_iload_n hx hb dJ2_newCapacity_21 rfl (lv_at hl 2 rfl) ?_
  refine lv_iconst (v := 2) hx hb dJ2_newCapacity_22 (by decide) ?_
  refine lv_aload_n hx hb dJ2_newCapacity_23 rfl (lv_at hl 3 rfl) ?_
  obtain ⟨v7, e8, h⟩ := obd_inv h
  refine hg_J2_22 F hK S e8 dJ2_newCapacity_24 ?_
  refine lv_ishl hx hb dJ2_newCapacity_27 ?_
  refine lv_iadd hx hb dJ2_newCapacity_28 ?_
  obtain ⟨n9, n10, h1, h2, h⟩ := hcall_inv h
  refine hcl_J6_newLength_J2_114 F hK S h1 h2 h rfl rfl hl.1 (Nat.le_of_ble_eq_true rfl) ⟨Nat.le_of_ble_eq_true rfl, Nat.le_of_ble_eq_true rfl⟩ dJ2_newCapacity_29 (fun v13 o12 w11 H locs hw h S => ?_)
  replace h := hret_mp h hw
  clear hw h1 h2
  refine lv_istore (lv' := [(5, .int v13), (4, .int ((x1 <<< (v5 &&& 31)) - v3)), (3, .int (x1 <<< (v5 &&& 31))), (2, .int v3), (0, .ref a0), (1, .int x1)]) hx hb dJ2_newCapacity_32 hl (by decide) rfl (fun ls hl => ?_)
  refine lv_iload hx hb dJ2_newCapacity_34 (lv_at hl 0 rfl) ?_
  refine lv_ldc (v := 2147483647) hx hb F.2.2.2.1 (F.2.2.2.2 _ q600) dJ2_newCapacity_36 ?_
  refine lv_icmp_ne (tgt := 51) hx hb dJ2_newCapacity_38 (by decide) (fun c14 => ?_) (fun c14 => ?_)
  · rw [hIf_neg c14] at h
    refine lv_iload hx hb dJ2_newCapacity_51 (lv_at hl 0 rfl) ?_
    refine lv_aload_n hx hb dJ2_newCapacity_53 rfl (lv_at hl 4 rfl) ?_
    obtain ⟨v15, e16, h⟩ := obd_inv h
    refine hg_J2_22 F hK S e16 dJ2_newCapacity_54 ?_
    refine lv_ishr hx hb dJ2_newCapacity_57 ?_
    exact h_iret F hr hlk S h dJ2_newCapacity_58
  · rw [hIf_pos c14] at h
    exact False.elim h
theorem hcl_J2_newCapacity_J2_104 {p : Program} {l : Launch} {e : Env} {s : State} {m : MethodId} {args : Array Value} {below : List Frame} {meth : Method} {c : Code} {R : Room} {H : Heap} {locs : List Loc} {cb sb pc nL : Nat} {Q : State → Prop} {ls : Array Slot} {rest : List Value} {cc : ByteArray} {E : hEnv} {A : Nat → Prop} {w : hW} {a0 : Nat} {x1 : Int32} {Q' : Int32 → hO → Prop} {c1 s1 : Nat} (F : CallFix p m c cc nL s args lw_all RJ2) (hK : hK E A s) (S : hS E A s.heap cb sb w H locs) (hrv : ∃ (b : Bool) (fs : List Value), w.1 a0 = some (b, .inl (14, fs))) (h1 : c1 ≤ w.2.1) (h2 : s1 ≤ w.2.2) (h : hf_J2_newCapacity E.2.2 (w.1, c1, s1) a0 x1 Q') (hrc : R.cells = cb) (hrs : R.slots = sb) (hls : ls.size = nL) (hWt : (rest.map fun v => v.category).sum ≤ 8) (hR : 2 + 1 ≤ R.frames ∧ 8 + (6 + 11) + 44 ≤ R.locals) (hdg : decode cc pc = .ok (.invokevirtual 104, 3))
    (kk : ∀ (v : Int32) (o : hO) (w' : hW) (H1 : Heap) (locs1 : List Loc), w' = (o, w.2.1 - c1, w.2.2 - s1) → Q' v o → hS E A s.heap cb sb w' H1 locs1 → W p l e R s m args below meth c H1 locs1 (cb - w'.2.1) (sb - w'.2.2) Q (F0 m (pc + 3) ls (.int v :: rest))) : W p l e R s m args below meth c H locs (cb - w.2.1) (sb - w.2.2) Q (F0 m pc ls (.int x1 :: .ref a0 :: rest)) :=
  h_ki (g_runV F hK (hKm E A) S.1 (hmet_J2_newCapacity l E A (w.1, c1, s1) a0 x1 Q' h) ⟨callB_of 1 F.2.2.2.2 (lw_meth q589) rfl rfl rfl (F.2.2.2.2 _ q123) (F.2.2.2.2 _ q586) (by decide +kernel) hR, F.2.2.2.2 _ q588, va_any rfl (hK.2.2.1.2.2.2.2.2.2.2.2.1 _ (List.mem_of_getElem? (i := 1) rfl))⟩ (h_recv hK S (ci := 14) rfl hrv) rfl hls rfl hWt hdg ⟨by rw [hrc]; exact (h_left S h1 h2).1, by rw [hrs]; exact (h_left S h1 h2).2⟩) S h1 h2 kk
theorem hcl_J8_copyOf_J2_108 {p : Program} {l : Launch} {e : Env} {s : State} {m : MethodId} {args : Array Value} {below : List Frame} {meth : Method} {c : Code} {R : Room} {H : Heap} {locs : List Loc} {cb sb pc nL : Nat} {Q : State → Prop} {ls : Array Slot} {rest : List Value} {cc : ByteArray} {E : hEnv} {A : Nat → Prop} {w : hW} {x1 : Nat} {x2 : Int32} {Q' : Nat → hO → Prop} {c1 s1 : Nat} (F : CallFix p m c cc nL s args lw_all RJ2) (hK : hK E A s) (S : hS E A s.heap cb sb w H locs) (h1 : c1 ≤ w.2.1) (h2 : s1 ≤ w.2.2) (h : hf_J8_copyOf E.2.2 (w.1, c1, s1) x1 x2 Q') (hrc : R.cells = cb) (hrs : R.slots = sb) (hls : ls.size = nL) (hWt : (rest.map fun v => v.category).sum ≤ 8) (hR : 1 + 1 ≤ R.frames ∧ 8 + (3 + 11) + 39 ≤ R.locals) (hdg : decode cc pc = .ok (.invokestatic 108, 3))
    (kk : ∀ (v : Nat) (o : hO) (w' : hW) (H1 : Heap) (locs1 : List Loc), w' = (o, w.2.1 - c1, w.2.2 - s1) → Q' v o → hS E A s.heap cb sb w' H1 locs1 → W p l e R s m args below meth c H1 locs1 (cb - w'.2.1) (sb - w'.2.2) Q (F0 m (pc + 3) ls (.ref v :: rest))) : W p l e R s m args below meth c H locs (cb - w.2.1) (sb - w.2.2) Q (F0 m pc ls (.int x2 :: .ref x1 :: rest)) :=
  h_kp (g_runS F hK (hKm E A) S.1 (hmet_J8_copyOf l E A (w.1, c1, s1) x1 x2 Q' h) (va_cwS 2 F.2.2.2.2 (lw_S q601 q602 q129 q603) rfl rfl rfl (by decide +kernel) hR) rfl hls rfl hWt hdg ⟨by rw [hrc]; exact (h_left S h1 h2).1, by rw [hrs]; exact (h_left S h1 h2).2⟩) S h1 h2 kk
def hf_J2_ensureCapacityInternal (pl : Nat → Nat) (w : hW) (a0 : Nat) (x1 : Int32) (Q : hO → Prop) : Prop :=
  obd (hgP w a0 14 0) fun v1 =>
  obd (hLen w v1) fun v3 =>
  obd (hgI w a0 14 1) fun v5 =>
  hIf ((x1 - (v3 >>> (v5 &&& 31))) ≤ 0) (
    Q w.1) <|
    obd (hgP w a0 14 0) fun v8 =>
    obd (hIs w a0 14) fun u10 =>
    hcall w fun n12 n13 => hf_J2_newCapacity pl (w.1, n12, n13) a0 x1 fun v16 o15 => hret w n12 n13 o15 fun w14 =>
    obd (hgI w14 a0 14 1) fun v17 =>
    hcall w14 fun n19 n20 => hf_J8_copyOf pl (w14.1, n19, n20) v8 (v16 <<< (v17 &&& 31)) fun v23 o22 => hret w14 n19 n20 o22 fun w21 =>
    obd (hpV w21 a0 14 0 (.ref v23)) fun w24 =>
    Q w24.1
abbrev hrm_J2_ensureCapacityInternal (c s : Nat) : Room := { frames := 3, cells := c, slots := s, locals := 69 }
set_option maxHeartbeats 4000000 in
set_option maxRecDepth 100000 in
theorem hmet_J2_ensureCapacityInternal (l : Launch) (E : hEnv) (A : Nat → Prop) (w : hW) (a0 : Nat) (x1 : Int32) (Q : hO → Prop) (h : hf_J2_ensureCapacityInternal E.2.2 w a0 x1 Q) : Met l yJ2_ensureCapacityInternal (ws_ yJ2_ensureCapacityInternal cJ2_ensureCapacityInternal 3 (none)) (hrm_J2_ensureCapacityInternal w.2.1 w.2.2) (va_Pc [.ref a0, .int x1] (gPre (hK E A) (hP E A w.1))) (hQv E A Q) w.2.1 w.2.2 A := by
  refine h_met (own := RJ2) (by decide +kernel) rfl (Nat.le_of_ble_eq_true rfl) ?_
  intro p e s m args below meth c ls cb sb F hr hlk hK S hl
  have hx := F.1
  have hb := F.2.1
  have hl : lv_has ls 3 [(0, .ref a0), (1, .int x1)] := hl
  unfold hf_J2_ensureCapacityInternal at h
  refine lv_aload_n hx hb dJ2_ensureCapacityInternal_0 rfl (lv_at hl 0 rfl) ?_
  obtain ⟨v1, e2, h⟩ := obd_inv h
  refine hg_J2_15 F hK S e2 dJ2_ensureCapacityInternal_1 ?_
  obtain ⟨v3, e4, h⟩ := obd_inv h
  refine h_alen F hK S e4 dJ2_ensureCapacityInternal_4 ?_
  refine lv_aload_n hx hb dJ2_ensureCapacityInternal_5 rfl (lv_at hl 0 rfl) ?_
  obtain ⟨v5, e6, h⟩ := obd_inv h
  refine hg_J2_22 F hK S e6 dJ2_ensureCapacityInternal_6 ?_
  refine lv_ishr hx hb dJ2_ensureCapacityInternal_9 ?_
  refine lv_istore_n (lv' := [(2, .int (v3 >>> (v5 &&& 31))), (0, .ref a0), (1, .int x1)]) hx hb dJ2_ensureCapacityInternal_10 rfl hl (by decide) rfl (fun ls hl => ?_)
  refine lv_iload_n hx hb dJ2_ensureCapacityInternal_11 rfl (lv_at hl 2 rfl) ?_
  refine lv_iload_n hx hb dJ2_ensureCapacityInternal_12 rfl (lv_at hl 0 rfl) ?_
  refine lv_isub hx hb dJ2_ensureCapacityInternal_13 ?_
  refine lv_if_le (tgt := 38) hx hb dJ2_ensureCapacityInternal_14 (by decide) (fun c7 => ?_) (fun c7 => ?_)
  · rw [hIf_pos c7] at h
    exact h_vret F hr hlk S h dJ2_ensureCapacityInternal_38
  · rw [hIf_neg c7] at h
    refine lv_aload_n hx hb dJ2_ensureCapacityInternal_17 rfl (lv_at hl 1 rfl) ?_
    refine lv_aload_n hx hb dJ2_ensureCapacityInternal_18 rfl (lv_at hl 1 rfl) ?_
    obtain ⟨v8, e9, h⟩ := obd_inv h
    refine hg_J2_15 F hK S e9 dJ2_ensureCapacityInternal_19 ?_
    refine lv_aload_n hx hb dJ2_ensureCapacityInternal_22 rfl (lv_at hl 1 rfl) ?_
    refine lv_iload_n hx hb dJ2_ensureCapacityInternal_23 rfl (lv_at hl 2 rfl) ?_
    obtain ⟨u10, e11, h⟩ := obd_inv h
    obtain ⟨n12, n13, h1, h2, h⟩ := hcall_inv h
    refine hcl_J2_newCapacity_J2_104 F hK S (hIs_inv e11) h1 h2 h rfl rfl hl.1 (Nat.le_of_ble_eq_true rfl) ⟨Nat.le_of_ble_eq_true rfl, Nat.le_of_ble_eq_true rfl⟩ dJ2_ensureCapacityInternal_24 (fun v16 o15 w14 H locs hw h S => ?_)
    replace h := hret_mp h hw
    clear hw h1 h2
    refine lv_aload_n hx hb dJ2_ensureCapacityInternal_27 rfl (lv_at hl 1 rfl) ?_
    obtain ⟨v17, e18, h⟩ := obd_inv h
    refine hg_J2_22 F hK S e18 dJ2_ensureCapacityInternal_28 ?_
    refine lv_ishl hx hb dJ2_ensureCapacityInternal_31 ?_
    obtain ⟨n19, n20, h1, h2, h⟩ := hcall_inv h
    refine hcl_J8_copyOf_J2_108 F hK S h1 h2 h rfl rfl hl.1 (Nat.le_of_ble_eq_true rfl) ⟨Nat.le_of_ble_eq_true rfl, Nat.le_of_ble_eq_true rfl⟩ dJ2_ensureCapacityInternal_32 (fun v23 o22 w21 H locs hw h S => ?_)
    replace h := hret_mp h hw
    clear hw h1 h2
    obtain ⟨w24, e25, h⟩ := obd_inv h
    refine hp_J2_15 F hK S e25 dJ2_ensureCapacityInternal_35 (fun H locs S => ?_)
    exact h_vret F hr hlk S h dJ2_ensureCapacityInternal_38
theorem hcl_J2_ensureCapacityInternal_J2_100 {p : Program} {l : Launch} {e : Env} {s : State} {m : MethodId} {args : Array Value} {below : List Frame} {meth : Method} {c : Code} {R : Room} {H : Heap} {locs : List Loc} {cb sb pc nL : Nat} {Q : State → Prop} {ls : Array Slot} {rest : List Value} {cc : ByteArray} {E : hEnv} {A : Nat → Prop} {w : hW} {a0 : Nat} {x1 : Int32} {Q' : hO → Prop} {c1 s1 : Nat} (F : CallFix p m c cc nL s args lw_all RJ2) (hK : hK E A s) (S : hS E A s.heap cb sb w H locs) (hrv : ∃ (b : Bool) (fs : List Value), w.1 a0 = some (b, .inl (14, fs))) (h1 : c1 ≤ w.2.1) (h2 : s1 ≤ w.2.2) (h : hf_J2_ensureCapacityInternal E.2.2 (w.1, c1, s1) a0 x1 Q') (hrc : R.cells = cb) (hrs : R.slots = sb) (hls : ls.size = nL) (hWt : (rest.map fun v => v.category).sum ≤ 8) (hR : 3 + 1 ≤ R.frames ∧ 8 + (3 + 11) + 69 ≤ R.locals) (hdg : decode cc pc = .ok (.invokevirtual 100, 3))
    (kk : ∀ (o : hO) (w' : hW) (H1 : Heap) (locs1 : List Loc), w' = (o, w.2.1 - c1, w.2.2 - s1) → Q' o → hS E A s.heap cb sb w' H1 locs1 → W p l e R s m args below meth c H1 locs1 (cb - w'.2.1) (sb - w'.2.2) Q (F0 m (pc + 3) ls (rest))) : W p l e R s m args below meth c H locs (cb - w.2.1) (sb - w.2.2) Q (F0 m pc ls (.int x1 :: .ref a0 :: rest)) :=
  h_kv (g_runV F hK (hKm E A) S.1 (hmet_J2_ensureCapacityInternal l E A (w.1, c1, s1) a0 x1 Q' h) ⟨callB_of 1 F.2.2.2.2 (lw_meth q585) rfl rfl rfl (F.2.2.2.2 _ q123) (F.2.2.2.2 _ q582) (by decide +kernel) hR, F.2.2.2.2 _ q584, va_any rfl (hK.2.2.1.2.2.2.2.2.2.2.2.1 _ (List.mem_of_getElem? (i := 0) rfl))⟩ (h_recv hK S (ci := 14) rfl hrv) rfl hls rfl hWt hdg ⟨by rw [hrc]; exact (h_left S h1 h2).1, by rw [hrs]; exact (h_left S h1 h2).2⟩) S h1 h2 kk
theorem hcl_J2_isLatin1_J2_83 {p : Program} {l : Launch} {e : Env} {s : State} {m : MethodId} {args : Array Value} {below : List Frame} {meth : Method} {c : Code} {R : Room} {H : Heap} {locs : List Loc} {cb sb pc nL : Nat} {Q : State → Prop} {ls : Array Slot} {rest : List Value} {cc : ByteArray} {E : hEnv} {A : Nat → Prop} {w : hW} {a0 : Nat} {Q' : Int32 → hO → Prop} {c1 s1 : Nat} (F : CallFix p m c cc nL s args lw_all RJ2) (hK : hK E A s) (S : hS E A s.heap cb sb w H locs) (hrv : ∃ (b : Bool) (fs : List Value), w.1 a0 = some (b, .inl (14, fs))) (h1 : c1 ≤ w.2.1) (h2 : s1 ≤ w.2.2) (h : hf_J2_isLatin1 E.2.2 (w.1, c1, s1) a0 Q') (hrc : R.cells = cb) (hrs : R.slots = sb) (hls : ls.size = nL) (hWt : (rest.map fun v => v.category).sum ≤ 8) (hR : 0 + 1 ≤ R.frames ∧ 8 + (1 + 11) + 0 ≤ R.locals) (hdg : decode cc pc = .ok (.invokevirtual 83, 3))
    (kk : ∀ (v : Int32) (o : hO) (w' : hW) (H1 : Heap) (locs1 : List Loc), w' = (o, w.2.1 - c1, w.2.2 - s1) → Q' v o → hS E A s.heap cb sb w' H1 locs1 → W p l e R s m args below meth c H1 locs1 (cb - w'.2.1) (sb - w'.2.2) Q (F0 m (pc + 3) ls (.int v :: rest))) : W p l e R s m args below meth c H locs (cb - w.2.1) (sb - w.2.2) Q (F0 m pc ls (.ref a0 :: rest)) :=
  h_ki (g_runU F hK (hKm E A) S.1 (hmet_J2_isLatin1 l E A (w.1, c1, s1) a0 Q' h) (va_cwU 0 F.2.2.2.2 (gw_U q617 q619 q620 q618 q123 q621) rfl rfl rfl rfl (by decide +kernel) hR) (h_recv hK S (ci := 14) rfl hrv) rfl hls rfl hWt hdg ⟨by rw [hrc]; exact (h_left S h1 h2).1, by rw [hrs]; exact (h_left S h1 h2).2⟩) S h1 h2 kk
theorem hp_J2_79 {p : Program} {l : Launch} {e : Env} {s : State} {m : MethodId} {args : Array Value} {below : List Frame} {meth : Method} {c : Code} {R : Room} {H : Heap} {locs : List Loc} {cb sb pc nL : Nat} {Q : State → Prop} {ls : Array Slot} {rest : List Value} {cc : ByteArray} {E : hEnv} {A : Nat → Prop} {w : hW} {a : Nat} {w' : hW} {v : Int32} (F : CallFix p m c cc nL s args lw_all RJ2) (hK : hK E A s) (S : hS E A s.heap cb sb w H locs) (h : hpV w a 14 3 (.int v) = some w') (hdg : decode cc pc = .ok (.putfield 79, 3)) (kk : ∀ (H1 : Heap) (locs1 : List Loc), hS E A s.heap cb sb w' H1 locs1 → W p l e R s m args below meth c H1 locs1 (cb - w'.2.1) (sb - w'.2.2) Q (F0 m (pc + 3) ls rest)) : W p l e R s m args below meth c H locs (cb - w.2.1) (sb - w.2.2) Q (F0 m pc ls (.int v :: .ref a :: rest)) :=
  h_put F hK S h (ci := 14) (C := RJ3) (T := TJ3) (N := 4) (k := 3) rfl in_J3 tyJ3 tyJ3_ok nmJ3 (by decide) q564 (fun x h => h) rfl (ty := .int) (by decide +kernel) rfl rfl hdg kk
theorem hcl_J9_canEncode_J2_191 {p : Program} {l : Launch} {e : Env} {s : State} {m : MethodId} {args : Array Value} {below : List Frame} {meth : Method} {c : Code} {R : Room} {H : Heap} {locs : List Loc} {cb sb pc nL : Nat} {Q : State → Prop} {ls : Array Slot} {rest : List Value} {cc : ByteArray} {E : hEnv} {A : Nat → Prop} {w : hW} {x1 : Int32} {Q' : Int32 → hO → Prop} {c1 s1 : Nat} (F : CallFix p m c cc nL s args lw_all RJ2) (hK : hK E A s) (S : hS E A s.heap cb sb w H locs) (h1 : c1 ≤ w.2.1) (h2 : s1 ≤ w.2.2) (h : hf_J9_canEncode E.2.2 (w.1, c1, s1) x1 Q') (hrc : R.cells = cb) (hrs : R.slots = sb) (hls : ls.size = nL) (hWt : (rest.map fun v => v.category).sum ≤ 8) (hR : 0 + 1 ≤ R.frames ∧ 8 + (1 + 11) + 0 ≤ R.locals) (hdg : decode cc pc = .ok (.invokestatic 191, 3))
    (kk : ∀ (v : Int32) (o : hO) (w' : hW) (H1 : Heap) (locs1 : List Loc), w' = (o, w.2.1 - c1, w.2.2 - s1) → Q' v o → hS E A s.heap cb sb w' H1 locs1 → W p l e R s m args below meth c H1 locs1 (cb - w'.2.1) (sb - w'.2.2) Q (F0 m (pc + 3) ls (.int v :: rest))) : W p l e R s m args below meth c H locs (cb - w.2.1) (sb - w.2.2) Q (F0 m pc ls (.int x1 :: rest)) :=
  h_ki (g_runS F hK (hKm E A) S.1 (hmet_J9_canEncode l E A (w.1, c1, s1) x1 Q' h) (va_cwS 1 F.2.2.2.2 (lw_S q622 q623 q131 q624) rfl rfl rfl (by decide +kernel) hR) rfl hls rfl hWt hdg ⟨by rw [hrc]; exact (h_left S h1 h2).1, by rw [hrs]; exact (h_left S h1 h2).2⟩) S h1 h2 kk
def hf_J2_append (pl : Nat → Nat) (w : hW) (a0 : Nat) (x1 : Int32) (Q : Nat → hO → Prop) : Prop :=
  obd (hgI w a0 14 3) fun v1 =>
  obd (hIs w a0 14) fun u3 =>
  hcall w fun n5 n6 => hf_J2_ensureCapacityInternal pl (w.1, n5, n6) a0 (v1 + 1) fun o8 => hret w n5 n6 o8 fun w7 =>
  obd (hIs w7 a0 14) fun u9 =>
  hcall w7 fun n11 n12 => hf_J2_isLatin1 pl (w7.1, n11, n12) a0 fun v15 o14 => hret w7 n11 n12 o14 fun w13 =>
  hjoin (fun (g63 : hW) =>
    Q a0 g63.1) fun k65 =>
  hIf (v15 = 0) (
    obd (hIs w13 a0 14) fun u17 =>
    hcall w13 fun n19 n20 => hf_J2_isLatin1 pl (w13.1, n19, n20) a0 fun v23 o22 => hret w13 n19 n20 o22 fun w21 =>
    hjoin (
      obd (hgP w21 a0 14 0) fun v25 =>
      obd (hgI w21 a0 14 3) fun v27 =>
      obd (hpV w21 a0 14 3 (.int (v27 + 1))) fun w29 =>
      False) fun k32 =>
    hIf (v23 = 0) (
      k32) <|
      False) <|
    hcall w13 fun n33 n34 => hf_J9_canEncode pl (w13.1, n33, n34) x1 fun v37 o36 => hret w13 n33 n34 o36 fun w35 =>
    hIf (v37 = 0) (
      obd (hIs w35 a0 14) fun u39 =>
      hcall w35 fun n41 n42 => hf_J2_isLatin1 pl (w35.1, n41, n42) a0 fun v45 o44 => hret w35 n41 n42 o44 fun w43 =>
      hjoin (
        obd (hgP w43 a0 14 0) fun v47 =>
        obd (hgI w43 a0 14 3) fun v49 =>
        obd (hpV w43 a0 14 3 (.int (v49 + 1))) fun w51 =>
        False) fun k54 =>
      hIf (v45 = 0) (
        k54) <|
        False) <|
      obd (hgP w35 a0 14 0) fun v55 =>
      obd (hgI w35 a0 14 3) fun v57 =>
      obd (hpV w35 a0 14 3 (.int (v57 + 1))) fun w59 =>
      obd (hsB w59 v55 v57 x1.toInt8.toInt32) fun w61 =>
      k65 w61
abbrev hrm_J2_append (c s : Nat) : Room := { frames := 4, cells := c, slots := s, locals := 91 }
set_option maxHeartbeats 4000000 in
set_option maxRecDepth 100000 in
theorem hmet_J2_append (l : Launch) (E : hEnv) (A : Nat → Prop) (w : hW) (a0 : Nat) (x1 : Int32) (Q : Nat → hO → Prop) (h : hf_J2_append E.2.2 w a0 x1 Q) : Met l yJ2_append (ws_ yJ2_append cJ2_append 2 (some (.object "java/lang/AbstractStringBuilder"))) (hrm_J2_append w.2.1 w.2.2) (va_Pc [.ref a0, .int x1] (gPre (hK E A) (hP E A w.1))) (hQp E A Q) w.2.1 w.2.2 A := by
  refine h_met (own := RJ2) (by decide +kernel) rfl (Nat.le_of_ble_eq_true rfl) ?_
  intro p e s m args below meth c ls cb sb F hr hlk hK S hl
  have hx := F.1
  have hb := F.2.1
  have hl : lv_has ls 2 [(0, .ref a0), (1, .int x1)] := hl
  unfold hf_J2_append at h
  refine lv_aload_n hx hb dJ2_append_0 rfl (lv_at hl 0 rfl) ?_
  refine lv_aload_n hx hb dJ2_append_1 rfl (lv_at hl 0 rfl) ?_
  obtain ⟨v1, e2, h⟩ := obd_inv h
  refine hg_J2_79 F hK S e2 dJ2_append_2 ?_
  refine lv_iconst (v := 1) hx hb dJ2_append_5 (by decide) ?_
  refine lv_iadd hx hb dJ2_append_6 ?_
  obtain ⟨u3, e4, h⟩ := obd_inv h
  obtain ⟨n5, n6, h1, h2, h⟩ := hcall_inv h
  refine hcl_J2_ensureCapacityInternal_J2_100 F hK S (hIs_inv e4) h1 h2 h rfl rfl hl.1 (Nat.le_of_ble_eq_true rfl) ⟨Nat.le_of_ble_eq_true rfl, Nat.le_of_ble_eq_true rfl⟩ dJ2_append_7 (fun o8 w7 H locs hw h S => ?_)
  replace h := hret_mp h hw
  clear hw h1 h2
  refine lv_aload_n hx hb dJ2_append_10 rfl (lv_at hl 0 rfl) ?_
  obtain ⟨u9, e10, h⟩ := obd_inv h
  obtain ⟨n11, n12, h1, h2, h⟩ := hcall_inv h
  refine hcl_J2_isLatin1_J2_83 F hK S (hIs_inv e10) h1 h2 h rfl rfl hl.1 (Nat.le_of_ble_eq_true rfl) ⟨Nat.le_of_ble_eq_true rfl, Nat.le_of_ble_eq_true rfl⟩ dJ2_append_11 (fun v15 o14 w13 H locs hw h S => ?_)
  replace h := hret_mp h hw
  clear hw h1 h2
  obtain ⟨k65, hk65, h⟩ := hj1_inv h
  have hJ75 : ∀ (g63 : hW) (H : Heap) (locs : List Loc) (ls : Array Slot), k65 g63 → hS E A s.heap cb sb g63 H locs → lv_has ls 2 [(0, .ref a0)] → W p l e (hrm_J2_append cb sb) s m args below meth c H locs (cb - g63.2.1) (sb - g63.2.2) (MQ below (hQp E A Q) args s cb sb A) (F0 m 75 ls []) := by
    intro g63 H locs ls h S hl
    replace h := hk65 _ h
    refine lv_aload_n hx hb dJ2_append_75 rfl (lv_at hl 0 rfl) ?_
    exact h_aret F hr (Or.inl ⟨_, rfl⟩) hlk S h dJ2_append_76
  clear hk65
  refine lv_if_eq (tgt := 45) hx hb dJ2_append_14 (by decide) (fun c16 => ?_) (fun c16 => ?_)
  · rw [hIf_pos c16] at h
    refine lv_aload_n hx hb dJ2_append_45 rfl (lv_at hl 0 rfl) ?_
    obtain ⟨u17, e18, h⟩ := obd_inv h
    obtain ⟨n19, n20, h1, h2, h⟩ := hcall_inv h
    refine hcl_J2_isLatin1_J2_83 F hK S (hIs_inv e18) h1 h2 h rfl rfl hl.1 (Nat.le_of_ble_eq_true rfl) ⟨Nat.le_of_ble_eq_true rfl, Nat.le_of_ble_eq_true rfl⟩ dJ2_append_46 (fun v23 o22 w21 H locs hw h S => ?_)
    replace h := hret_mp h hw
    clear hw h1 h2
    obtain ⟨k32, hk32, h⟩ := hj0_inv h
    have hJ56 : ∀ (H : Heap) (locs : List Loc) (ls : Array Slot), k32 → hS E A s.heap cb sb w21 H locs → lv_has ls 2 [(0, .ref a0), (1, .int x1)] → W p l e (hrm_J2_append cb sb) s m args below meth c H locs (cb - w21.2.1) (sb - w21.2.2) (MQ below (hQp E A Q) args s cb sb A) (F0 m 56 ls []) := by
      intro H locs ls h S hl
      replace h := hk32 h
      refine lv_aload_n hx hb dJ2_append_56 rfl (lv_at hl 0 rfl) ?_
      obtain ⟨v25, e26, h⟩ := obd_inv h
      refine hg_J2_15 F hK S e26 dJ2_append_57 ?_
      refine lv_aload_n hx hb dJ2_append_60 rfl (lv_at hl 0 rfl) ?_
      refine lv_dup hx hb dJ2_append_61 rfl ?_
      obtain ⟨v27, e28, h⟩ := obd_inv h
      refine hg_J2_79 F hK S e28 dJ2_append_62 ?_
      refine lv_dup_x1 hx hb dJ2_append_65 rfl rfl ?_
      refine lv_iconst (v := 1) hx hb dJ2_append_66 (by decide) ?_
      refine lv_iadd hx hb dJ2_append_67 ?_
      obtain ⟨w29, e30, h⟩ := obd_inv h
      refine hp_J2_79 F hK S e30 dJ2_append_68 (fun H locs S => ?_)
      refine lv_iload_n hx hb dJ2_append_71 rfl (lv_at hl 1 rfl) ?_
      exact False.elim h
    clear hk32
    refine lv_if_eq (tgt := 56) hx hb dJ2_append_49 (by decide) (fun c24 => ?_) (fun c24 => ?_)
    · rw [hIf_pos c24] at h
      exact hJ56 _ _ _ h S (lv_sub hl [0, 1] rfl)
    · rw [hIf_neg c24] at h
      refine lv_aload_n hx hb dJ2_append_52 rfl (lv_at hl 0 rfl) ?_
      exact False.elim h
  · rw [hIf_neg c16] at h
    refine lv_iload_n hx hb dJ2_append_17 rfl (lv_at hl 1 rfl) ?_
    obtain ⟨n33, n34, h1, h2, h⟩ := hcall_inv h
    refine hcl_J9_canEncode_J2_191 F hK S h1 h2 h rfl rfl hl.1 (Nat.le_of_ble_eq_true rfl) ⟨Nat.le_of_ble_eq_true rfl, Nat.le_of_ble_eq_true rfl⟩ dJ2_append_18 (fun v37 o36 w35 H locs hw h S => ?_)
    replace h := hret_mp h hw
    clear hw h1 h2
    refine lv_if_eq (tgt := 45) hx hb dJ2_append_21 (by decide) (fun c38 => ?_) (fun c38 => ?_)
    · rw [hIf_pos c38] at h
      refine lv_aload_n hx hb dJ2_append_45 rfl (lv_at hl 0 rfl) ?_
      obtain ⟨u39, e40, h⟩ := obd_inv h
      obtain ⟨n41, n42, h1, h2, h⟩ := hcall_inv h
      refine hcl_J2_isLatin1_J2_83 F hK S (hIs_inv e40) h1 h2 h rfl rfl hl.1 (Nat.le_of_ble_eq_true rfl) ⟨Nat.le_of_ble_eq_true rfl, Nat.le_of_ble_eq_true rfl⟩ dJ2_append_46 (fun v45 o44 w43 H locs hw h S => ?_)
      replace h := hret_mp h hw
      clear hw h1 h2
      obtain ⟨k54, hk54, h⟩ := hj0_inv h
      have hJ56 : ∀ (H : Heap) (locs : List Loc) (ls : Array Slot), k54 → hS E A s.heap cb sb w43 H locs → lv_has ls 2 [(0, .ref a0), (1, .int x1)] → W p l e (hrm_J2_append cb sb) s m args below meth c H locs (cb - w43.2.1) (sb - w43.2.2) (MQ below (hQp E A Q) args s cb sb A) (F0 m 56 ls []) := by
        intro H locs ls h S hl
        replace h := hk54 h
        refine lv_aload_n hx hb dJ2_append_56 rfl (lv_at hl 0 rfl) ?_
        obtain ⟨v47, e48, h⟩ := obd_inv h
        refine hg_J2_15 F hK S e48 dJ2_append_57 ?_
        refine lv_aload_n hx hb dJ2_append_60 rfl (lv_at hl 0 rfl) ?_
        refine lv_dup hx hb dJ2_append_61 rfl ?_
        obtain ⟨v49, e50, h⟩ := obd_inv h
        refine hg_J2_79 F hK S e50 dJ2_append_62 ?_
        refine lv_dup_x1 hx hb dJ2_append_65 rfl rfl ?_
        refine lv_iconst (v := 1) hx hb dJ2_append_66 (by decide) ?_
        refine lv_iadd hx hb dJ2_append_67 ?_
        obtain ⟨w51, e52, h⟩ := obd_inv h
        refine hp_J2_79 F hK S e52 dJ2_append_68 (fun H locs S => ?_)
        refine lv_iload_n hx hb dJ2_append_71 rfl (lv_at hl 1 rfl) ?_
        exact False.elim h
      clear hk54
      refine lv_if_eq (tgt := 56) hx hb dJ2_append_49 (by decide) (fun c46 => ?_) (fun c46 => ?_)
      · rw [hIf_pos c46] at h
        exact hJ56 _ _ _ h S (lv_sub hl [0, 1] rfl)
      · rw [hIf_neg c46] at h
        refine lv_aload_n hx hb dJ2_append_52 rfl (lv_at hl 0 rfl) ?_
        exact False.elim h
    · rw [hIf_neg c38] at h
      refine lv_aload_n hx hb dJ2_append_24 rfl (lv_at hl 0 rfl) ?_
      obtain ⟨v55, e56, h⟩ := obd_inv h
      refine hg_J2_15 F hK S e56 dJ2_append_25 ?_
      refine lv_aload_n hx hb dJ2_append_28 rfl (lv_at hl 0 rfl) ?_
      refine lv_dup hx hb dJ2_append_29 rfl ?_
      obtain ⟨v57, e58, h⟩ := obd_inv h
      refine hg_J2_79 F hK S e58 dJ2_append_30 ?_
      refine lv_dup_x1 hx hb dJ2_append_33 rfl rfl ?_
      refine lv_iconst (v := 1) hx hb dJ2_append_34 (by decide) ?_
      refine lv_iadd hx hb dJ2_append_35 ?_
      obtain ⟨w59, e60, h⟩ := obd_inv h
      refine hp_J2_79 F hK S e60 dJ2_append_36 (fun H locs S => ?_)
      refine lv_iload_n hx hb dJ2_append_39 rfl (lv_at hl 1 rfl) ?_
      refine lv_i2b hx hb dJ2_append_40 rfl ?_
      obtain ⟨w61, e62, h⟩ := obd_inv h
      refine h_bast F hK S e62 dJ2_append_41 (fun H locs S => ?_)
      refine lv_goto (tgt := 75) hx hb dJ2_append_42 (by decide) ?_
      exact hJ75 _ _ _ _ h S (lv_sub hl [0] rfl)
theorem hcl_J4_coder_J2_40 {p : Program} {l : Launch} {e : Env} {s : State} {m : MethodId} {args : Array Value} {below : List Frame} {meth : Method} {c : Code} {R : Room} {H : Heap} {locs : List Loc} {cb sb pc nL : Nat} {Q : State → Prop} {ls : Array Slot} {rest : List Value} {cc : ByteArray} {E : hEnv} {A : Nat → Prop} {w : hW} {a0 : Nat} {Q' : Int32 → hO → Prop} {c1 s1 : Nat} (F : CallFix p m c cc nL s args lw_all RJ2) (hK : hK E A s) (S : hS E A s.heap cb sb w H locs) (hrv : ∃ (b : Bool) (fs : List Value), w.1 a0 = some (b, .inl (15, fs))) (h1 : c1 ≤ w.2.1) (h2 : s1 ≤ w.2.2) (h : hf_J4_coder E.2.2 (w.1, c1, s1) a0 Q') (hrc : R.cells = cb) (hrs : R.slots = sb) (hls : ls.size = nL) (hWt : (rest.map fun v => v.category).sum ≤ 8) (hR : 0 + 1 ≤ R.frames ∧ 8 + (1 + 11) + 0 ≤ R.locals) (hdg : decode cc pc = .ok (.invokevirtual 40, 3))
    (kk : ∀ (v : Int32) (o : hO) (w' : hW) (H1 : Heap) (locs1 : List Loc), w' = (o, w.2.1 - c1, w.2.2 - s1) → Q' v o → hS E A s.heap cb sb w' H1 locs1 → W p l e R s m args below meth c H1 locs1 (cb - w'.2.1) (sb - w'.2.2) Q (F0 m (pc + 3) ls (.int v :: rest))) : W p l e R s m args below meth c H locs (cb - w.2.1) (sb - w.2.2) Q (F0 m pc ls (.ref a0 :: rest)) :=
  h_ki (g_runV F hK (hKm E A) S.1 (hmet_J4_coder l E A (w.1, c1, s1) a0 Q' h) (cwV 0 F.2.2.2.2 (lw_V q817 q805 q806 q125 q807) rfl rfl rfl (by decide +kernel) hR) (h_recv hK S (ci := 15) rfl hrv) rfl hls rfl hWt hdg ⟨by rw [hrc]; exact (h_left S h1 h2).1, by rw [hrs]; exact (h_left S h1 h2).2⟩) S h1 h2 kk
def hf_J2_inflateIfNeededFor (pl : Nat → Nat) (w : hW) (a0 : Nat) (x1 : Nat) (Q : hO → Prop) : Prop :=
  hIf ((1 : Int32) = 0) (
    Q w.1) <|
    obd (hgI w a0 14 1) fun v2 =>
    obd (hIs w x1 15) fun u4 =>
    hcall w fun n6 n7 => hf_J4_coder pl (w.1, n6, n7) x1 fun v10 o9 => hret w n6 n7 o9 fun w8 =>
    hIf (v2 = v10) (
      Q w8.1) <|
      False
abbrev hrm_J2_inflateIfNeededFor (c s : Nat) : Room := { frames := 1, cells := c, slots := s, locals := 20 }
set_option maxHeartbeats 4000000 in
set_option maxRecDepth 100000 in
theorem hmet_J2_inflateIfNeededFor (l : Launch) (E : hEnv) (A : Nat → Prop) (w : hW) (a0 : Nat) (x1 : Nat) (Q : hO → Prop) (h : hf_J2_inflateIfNeededFor E.2.2 w a0 x1 Q) : Met l yJ2_inflateIfNeededFor (ws_ yJ2_inflateIfNeededFor cJ2_inflateIfNeededFor 2 (none)) (hrm_J2_inflateIfNeededFor w.2.1 w.2.2) (va_Pc [.ref a0, .ref x1] (gPre (hK E A) (hP E A w.1))) (hQv E A Q) w.2.1 w.2.2 A := by
  refine h_met (own := RJ2) (by decide +kernel) rfl (Nat.le_of_ble_eq_true rfl) ?_
  intro p e s m args below meth c ls cb sb F hr hlk hK S hl
  have hx := F.1
  have hb := F.2.1
  have hl : lv_has ls 2 [(0, .ref a0), (1, .ref x1)] := hl
  unfold hf_J2_inflateIfNeededFor at h
  refine va_gets F.1 F.2.1 hK.2.2.1.1.2.2.2 S.1.2 F.2.2.2.1 (F.2.2.2.2 _ q552) (fun x h => h) dJ2_inflateIfNeededFor_0 ?_
  refine lv_if_eq (tgt := 21) hx hb dJ2_inflateIfNeededFor_3 (by decide) (fun c1 => ?_) (fun c1 => ?_)
  · rw [hIf_pos c1] at h
    exact h_vret F hr hlk S h dJ2_inflateIfNeededFor_21
  · rw [hIf_neg c1] at h
    refine lv_aload_n hx hb dJ2_inflateIfNeededFor_6 rfl (lv_at hl 0 rfl) ?_
    obtain ⟨v2, e3, h⟩ := obd_inv h
    refine hg_J2_22 F hK S e3 dJ2_inflateIfNeededFor_7 ?_
    refine lv_aload_n hx hb dJ2_inflateIfNeededFor_10 rfl (lv_at hl 1 rfl) ?_
    obtain ⟨u4, e5, h⟩ := obd_inv h
    obtain ⟨n6, n7, h1, h2, h⟩ := hcall_inv h
    refine hcl_J4_coder_J2_40 F hK S (hIs_inv e5) h1 h2 h rfl rfl hl.1 (Nat.le_of_ble_eq_true rfl) ⟨Nat.le_of_ble_eq_true rfl, Nat.le_of_ble_eq_true rfl⟩ dJ2_inflateIfNeededFor_11 (fun v10 o9 w8 H locs hw h S => ?_)
    replace h := hret_mp h hw
    clear hw h1 h2
    refine lv_icmp_eq (tgt := 21) hx hb dJ2_inflateIfNeededFor_14 (by decide) (fun c11 => ?_) (fun c11 => ?_)
    · rw [hIf_pos c11] at h
      exact h_vret F hr hlk S h dJ2_inflateIfNeededFor_21
    · rw [hIf_neg c11] at h
      refine lv_aload_n hx hb dJ2_inflateIfNeededFor_17 rfl (lv_at hl 0 rfl) ?_
      exact False.elim h
theorem hcl_J2_inflateIfNeededFor_J2_397 {p : Program} {l : Launch} {e : Env} {s : State} {m : MethodId} {args : Array Value} {below : List Frame} {meth : Method} {c : Code} {R : Room} {H : Heap} {locs : List Loc} {cb sb pc nL : Nat} {Q : State → Prop} {ls : Array Slot} {rest : List Value} {cc : ByteArray} {E : hEnv} {A : Nat → Prop} {w : hW} {a0 : Nat} {x1 : Nat} {Q' : hO → Prop} {c1 s1 : Nat} (F : CallFix p m c cc nL s args lw_all RJ2) (hK : hK E A s) (S : hS E A s.heap cb sb w H locs) (hrv : ∃ (b : Bool) (fs : List Value), w.1 a0 = some (b, .inl (14, fs))) (h1 : c1 ≤ w.2.1) (h2 : s1 ≤ w.2.2) (h : hf_J2_inflateIfNeededFor E.2.2 (w.1, c1, s1) a0 x1 Q') (hrc : R.cells = cb) (hrs : R.slots = sb) (hls : ls.size = nL) (hWt : (rest.map fun v => v.category).sum ≤ 8) (hR : 1 + 1 ≤ R.frames ∧ 8 + (2 + 11) + 20 ≤ R.locals) (hdg : decode cc pc = .ok (.invokevirtual 397, 3))
    (kk : ∀ (o : hO) (w' : hW) (H1 : Heap) (locs1 : List Loc), w' = (o, w.2.1 - c1, w.2.2 - s1) → Q' o → hS E A s.heap cb sb w' H1 locs1 → W p l e R s m args below meth c H1 locs1 (cb - w'.2.1) (sb - w'.2.2) Q (F0 m (pc + 3) ls (rest))) : W p l e R s m args below meth c H locs (cb - w.2.1) (sb - w.2.2) Q (F0 m pc ls (.ref x1 :: .ref a0 :: rest)) :=
  h_kv (g_runV F hK (hKm E A) S.1 (hmet_J2_inflateIfNeededFor l E A (w.1, c1, s1) a0 x1 Q' h) ⟨callB_of 1 F.2.2.2.2 (lw_meth q816) rfl rfl rfl (F.2.2.2.2 _ q123) (F.2.2.2.2 _ q813) (by decide +kernel) hR, F.2.2.2.2 _ q815, va_any rfl (hK.2.2.1.2.2.2.2.2.2.2.2.1 _ (List.mem_of_getElem? (i := 3) rfl))⟩ (h_recv hK S (ci := 14) rfl hrv) rfl hls rfl hWt hdg ⟨by rw [hrc]; exact (h_left S h1 h2).1, by rw [hrs]; exact (h_left S h1 h2).2⟩) S h1 h2 kk
theorem hcl_J4_getBytes_J2_399 {p : Program} {l : Launch} {e : Env} {s : State} {m : MethodId} {args : Array Value} {below : List Frame} {meth : Method} {c : Code} {R : Room} {H : Heap} {locs : List Loc} {cb sb pc nL : Nat} {Q : State → Prop} {ls : Array Slot} {rest : List Value} {cc : ByteArray} {E : hEnv} {A : Nat → Prop} {w : hW} {a0 : Nat} {x1 : Nat} {x2 : Int32} {x3 : Int32} {Q' : hO → Prop} {c1 s1 : Nat} (F : CallFix p m c cc nL s args lw_all RJ2) (hK : hK E A s) (S : hS E A s.heap cb sb w H locs) (hrv : ∃ (b : Bool) (fs : List Value), w.1 a0 = some (b, .inl (15, fs))) (h1 : c1 ≤ w.2.1) (h2 : s1 ≤ w.2.2) (h : hf_J4_getBytes E.2.2 (w.1, c1, s1) a0 x1 x2 x3 Q') (hrc : R.cells = cb) (hrs : R.slots = sb) (hls : ls.size = nL) (hWt : (rest.map fun v => v.category).sum ≤ 8) (hR : 1 + 1 ≤ R.frames ∧ 8 + (4 + 11) + 39 ≤ R.locals) (hdg : decode cc pc = .ok (.invokevirtual 399, 3))
    (kk : ∀ (o : hO) (w' : hW) (H1 : Heap) (locs1 : List Loc), w' = (o, w.2.1 - c1, w.2.2 - s1) → Q' o → hS E A s.heap cb sb w' H1 locs1 → W p l e R s m args below meth c H1 locs1 (cb - w'.2.1) (sb - w'.2.2) Q (F0 m (pc + 3) ls (rest))) : W p l e R s m args below meth c H locs (cb - w.2.1) (sb - w.2.2) Q (F0 m pc ls (.int x3 :: .int x2 :: .ref x1 :: .ref a0 :: rest)) :=
  h_kv (g_runV F hK (hKm E A) S.1 (hmet_J4_getBytes l E A (w.1, c1, s1) a0 x1 x2 x3 Q' h) (cwV 3 F.2.2.2.2 (lw_V q818 q819 q820 q125 q821) rfl rfl rfl (by decide +kernel) hR) (h_recv hK S (ci := 15) rfl hrv) rfl hls rfl hWt hdg ⟨by rw [hrc]; exact (h_left S h1 h2).1, by rw [hrs]; exact (h_left S h1 h2).2⟩) S h1 h2 kk
def hf_J2_putStringAt (pl : Nat → Nat) (w : hW) (a0 : Nat) (x1 : Int32) (x2 : Nat) (Q : hO → Prop) : Prop :=
  obd (hIs w a0 14) fun u1 =>
  hcall w fun n3 n4 => hf_J2_inflateIfNeededFor pl (w.1, n3, n4) a0 x2 fun o6 => hret w n3 n4 o6 fun w5 =>
  obd (hgP w5 a0 14 0) fun v7 =>
  obd (hgI w5 a0 14 1) fun v9 =>
  obd (hIs w5 x2 15) fun u11 =>
  hcall w5 fun n13 n14 => hf_J4_getBytes pl (w5.1, n13, n14) x2 v7 x1 v9 fun o16 => hret w5 n13 n14 o16 fun w15 =>
  Q w15.1
abbrev hrm_J2_putStringAt (c s : Nat) : Room := { frames := 2, cells := c, slots := s, locals := 62 }
set_option maxHeartbeats 4000000 in
set_option maxRecDepth 100000 in
theorem hmet_J2_putStringAt (l : Launch) (E : hEnv) (A : Nat → Prop) (w : hW) (a0 : Nat) (x1 : Int32) (x2 : Nat) (Q : hO → Prop) (h : hf_J2_putStringAt E.2.2 w a0 x1 x2 Q) : Met l yJ2_putStringAt (ws_ yJ2_putStringAt cJ2_putStringAt 3 (none)) (hrm_J2_putStringAt w.2.1 w.2.2) (va_Pc [.ref a0, .int x1, .ref x2] (gPre (hK E A) (hP E A w.1))) (hQv E A Q) w.2.1 w.2.2 A := by
  refine h_met (own := RJ2) (by decide +kernel) rfl (Nat.le_of_ble_eq_true rfl) ?_
  intro p e s m args below meth c ls cb sb F hr hlk hK S hl
  have hx := F.1
  have hb := F.2.1
  have hl : lv_has ls 3 [(0, .ref a0), (1, .int x1), (2, .ref x2)] := hl
  unfold hf_J2_putStringAt at h
  refine lv_aload_n hx hb dJ2_putStringAt_0 rfl (lv_at hl 0 rfl) ?_
  refine lv_aload_n hx hb dJ2_putStringAt_1 rfl (lv_at hl 2 rfl) ?_
  obtain ⟨u1, e2, h⟩ := obd_inv h
  obtain ⟨n3, n4, h1, h2, h⟩ := hcall_inv h
  refine hcl_J2_inflateIfNeededFor_J2_397 F hK S (hIs_inv e2) h1 h2 h rfl rfl hl.1 (Nat.le_of_ble_eq_true rfl) ⟨Nat.le_of_ble_eq_true rfl, Nat.le_of_ble_eq_true rfl⟩ dJ2_putStringAt_2 (fun o6 w5 H locs hw h S => ?_)
  replace h := hret_mp h hw
  clear hw h1 h2
  refine lv_aload_n hx hb dJ2_putStringAt_5 rfl (lv_at hl 2 rfl) ?_
  refine lv_aload_n hx hb dJ2_putStringAt_6 rfl (lv_at hl 0 rfl) ?_
  obtain ⟨v7, e8, h⟩ := obd_inv h
  refine hg_J2_15 F hK S e8 dJ2_putStringAt_7 ?_
  refine lv_iload_n hx hb dJ2_putStringAt_10 rfl (lv_at hl 1 rfl) ?_
  refine lv_aload_n hx hb dJ2_putStringAt_11 rfl (lv_at hl 0 rfl) ?_
  obtain ⟨v9, e10, h⟩ := obd_inv h
  refine hg_J2_22 F hK S e10 dJ2_putStringAt_12 ?_
  obtain ⟨u11, e12, h⟩ := obd_inv h
  obtain ⟨n13, n14, h1, h2, h⟩ := hcall_inv h
  refine hcl_J4_getBytes_J2_399 F hK S (hIs_inv e12) h1 h2 h rfl rfl hl.1 (Nat.le_of_ble_eq_true rfl) ⟨Nat.le_of_ble_eq_true rfl, Nat.le_of_ble_eq_true rfl⟩ dJ2_putStringAt_15 (fun o16 w15 H locs hw h S => ?_)
  replace h := hret_mp h hw
  clear hw h1 h2
  exact h_vret F hr hlk S h dJ2_putStringAt_18
theorem hcl_J4_length_J2_32 {p : Program} {l : Launch} {e : Env} {s : State} {m : MethodId} {args : Array Value} {below : List Frame} {meth : Method} {c : Code} {R : Room} {H : Heap} {locs : List Loc} {cb sb pc nL : Nat} {Q : State → Prop} {ls : Array Slot} {rest : List Value} {cc : ByteArray} {E : hEnv} {A : Nat → Prop} {w : hW} {a0 : Nat} {Q' : Int32 → hO → Prop} {c1 s1 : Nat} (F : CallFix p m c cc nL s args lw_all RJ2) (hK : hK E A s) (S : hS E A s.heap cb sb w H locs) (hrv : ∃ (b : Bool) (fs : List Value), w.1 a0 = some (b, .inl (15, fs))) (h1 : c1 ≤ w.2.1) (h2 : s1 ≤ w.2.2) (h : hf_J4_length E.2.2 (w.1, c1, s1) a0 Q') (hrc : R.cells = cb) (hrs : R.slots = sb) (hls : ls.size = nL) (hWt : (rest.map fun v => v.category).sum ≤ 8) (hR : 1 + 1 ≤ R.frames ∧ 8 + (1 + 11) + 20 ≤ R.locals) (hdg : decode cc pc = .ok (.invokevirtual 32, 3))
    (kk : ∀ (v : Int32) (o : hO) (w' : hW) (H1 : Heap) (locs1 : List Loc), w' = (o, w.2.1 - c1, w.2.2 - s1) → Q' v o → hS E A s.heap cb sb w' H1 locs1 → W p l e R s m args below meth c H1 locs1 (cb - w'.2.1) (sb - w'.2.2) Q (F0 m (pc + 3) ls (.int v :: rest))) : W p l e R s m args below meth c H locs (cb - w.2.1) (sb - w.2.2) Q (F0 m pc ls (.ref a0 :: rest)) :=
  h_ki (g_runV F hK (hKm E A) S.1 (hmet_J4_length l E A (w.1, c1, s1) a0 Q' h) (cwV 0 F.2.2.2.2 (lw_V q800 q801 q802 q125 q803) rfl rfl rfl (by decide +kernel) hR) (h_recv hK S (ci := 15) rfl hrv) rfl hls rfl hWt hdg ⟨by rw [hrc]; exact (h_left S h1 h2).1, by rw [hrs]; exact (h_left S h1 h2).2⟩) S h1 h2 kk
theorem hcl_J2_putStringAt_J2_208 {p : Program} {l : Launch} {e : Env} {s : State} {m : MethodId} {args : Array Value} {below : List Frame} {meth : Method} {c : Code} {R : Room} {H : Heap} {locs : List Loc} {cb sb pc nL : Nat} {Q : State → Prop} {ls : Array Slot} {rest : List Value} {cc : ByteArray} {E : hEnv} {A : Nat → Prop} {w : hW} {a0 : Nat} {x1 : Int32} {x2 : Nat} {Q' : hO → Prop} {c1 s1 : Nat} (F : CallFix p m c cc nL s args lw_all RJ2) (hK : hK E A s) (S : hS E A s.heap cb sb w H locs) (hrv : ∃ (b : Bool) (fs : List Value), w.1 a0 = some (b, .inl (14, fs))) (h1 : c1 ≤ w.2.1) (h2 : s1 ≤ w.2.2) (h : hf_J2_putStringAt E.2.2 (w.1, c1, s1) a0 x1 x2 Q') (hrc : R.cells = cb) (hrs : R.slots = sb) (hls : ls.size = nL) (hWt : (rest.map fun v => v.category).sum ≤ 8) (hR : 2 + 1 ≤ R.frames ∧ 8 + (3 + 11) + 62 ≤ R.locals) (hdg : decode cc pc = .ok (.invokevirtual 208, 3))
    (kk : ∀ (o : hO) (w' : hW) (H1 : Heap) (locs1 : List Loc), w' = (o, w.2.1 - c1, w.2.2 - s1) → Q' o → hS E A s.heap cb sb w' H1 locs1 → W p l e R s m args below meth c H1 locs1 (cb - w'.2.1) (sb - w'.2.2) Q (F0 m (pc + 3) ls (rest))) : W p l e R s m args below meth c H locs (cb - w.2.1) (sb - w.2.2) Q (F0 m pc ls (.ref x2 :: .int x1 :: .ref a0 :: rest)) :=
  h_kv (g_runV F hK (hKm E A) S.1 (hmet_J2_putStringAt l E A (w.1, c1, s1) a0 x1 x2 Q' h) ⟨callB_of 2 F.2.2.2.2 (lw_meth q812) rfl rfl rfl (F.2.2.2.2 _ q123) (F.2.2.2.2 _ q809) (by decide +kernel) hR, F.2.2.2.2 _ q811, va_any rfl (hK.2.2.1.2.2.2.2.2.2.2.2.1 _ (List.mem_of_getElem? (i := 2) rfl))⟩ (h_recv hK S (ci := 14) rfl hrv) rfl hls rfl hWt hdg ⟨by rw [hrc]; exact (h_left S h1 h2).1, by rw [hrs]; exact (h_left S h1 h2).2⟩) S h1 h2 kk
def hf_J2_append_3 (pl : Nat → Nat) (w : hW) (a0 : Nat) (x1 : Nat) (Q : Nat → hO → Prop) : Prop :=
  obd (hIs w x1 15) fun u1 =>
  hcall w fun n3 n4 => hf_J4_length pl (w.1, n3, n4) x1 fun v7 o6 => hret w n3 n4 o6 fun w5 =>
  obd (hgI w5 a0 14 3) fun v8 =>
  obd (hIs w5 a0 14) fun u10 =>
  hcall w5 fun n12 n13 => hf_J2_ensureCapacityInternal pl (w5.1, n12, n13) a0 (v8 + v7) fun o15 => hret w5 n12 n13 o15 fun w14 =>
  obd (hgI w14 a0 14 3) fun v16 =>
  obd (hIs w14 a0 14) fun u18 =>
  hcall w14 fun n20 n21 => hf_J2_putStringAt pl (w14.1, n20, n21) a0 v16 x1 fun o23 => hret w14 n20 n21 o23 fun w22 =>
  obd (hgI w22 a0 14 3) fun v24 =>
  obd (hpV w22 a0 14 3 (.int (v24 + v7))) fun w26 =>
  Q a0 w26.1
abbrev hrm_J2_append_3 (c s : Nat) : Room := { frames := 4, cells := c, slots := s, locals := 91 }
set_option maxHeartbeats 4000000 in
set_option maxRecDepth 100000 in
theorem hmet_J2_append_3 (l : Launch) (E : hEnv) (A : Nat → Prop) (w : hW) (a0 : Nat) (x1 : Nat) (Q : Nat → hO → Prop) (h : hf_J2_append_3 E.2.2 w a0 x1 Q) : Met l yJ2_append_3 (ws_ yJ2_append_3 cJ2_append_3 3 (some (.object "java/lang/AbstractStringBuilder"))) (hrm_J2_append_3 w.2.1 w.2.2) (va_Pc [.ref a0, .ref x1] (gPre (hK E A) (hP E A w.1))) (hQp E A Q) w.2.1 w.2.2 A := by
  refine h_met (own := RJ2) (by decide +kernel) rfl (Nat.le_of_ble_eq_true rfl) ?_
  intro p e s m args below meth c ls cb sb F hr hlk hK S hl
  have hx := F.1
  have hb := F.2.1
  have hl : lv_has ls 3 [(0, .ref a0), (1, .ref x1)] := hl
  unfold hf_J2_append_3 at h
  refine lv_aload_n hx hb dJ2_append_3_0 rfl (lv_at hl 1 rfl) ?_
  refine lv_ifnonnull (tgt := 9) hx hb dJ2_append_3_1 (by decide) ?_
  refine lv_aload_n hx hb dJ2_append_3_9 rfl (lv_at hl 1 rfl) ?_
  obtain ⟨u1, e2, h⟩ := obd_inv h
  obtain ⟨n3, n4, h1, h2, h⟩ := hcall_inv h
  refine hcl_J4_length_J2_32 F hK S (hIs_inv e2) h1 h2 h rfl rfl hl.1 (Nat.le_of_ble_eq_true rfl) ⟨Nat.le_of_ble_eq_true rfl, Nat.le_of_ble_eq_true rfl⟩ dJ2_append_3_10 (fun v7 o6 w5 H locs hw h S => ?_)
  replace h := hret_mp h hw
  clear hw h1 h2
  refine lv_istore_n (lv' := [(2, .int v7), (0, .ref a0), (1, .ref x1)]) hx hb dJ2_append_3_13 rfl hl (by decide) rfl (fun ls hl => ?_)
  refine lv_aload_n hx hb dJ2_append_3_14 rfl (lv_at hl 1 rfl) ?_
  refine lv_aload_n hx hb dJ2_append_3_15 rfl (lv_at hl 1 rfl) ?_
  obtain ⟨v8, e9, h⟩ := obd_inv h
  refine hg_J2_79 F hK S e9 dJ2_append_3_16 ?_
  refine lv_iload_n hx hb dJ2_append_3_19 rfl (lv_at hl 0 rfl) ?_
  refine lv_iadd hx hb dJ2_append_3_20 ?_
  obtain ⟨u10, e11, h⟩ := obd_inv h
  obtain ⟨n12, n13, h1, h2, h⟩ := hcall_inv h
  refine hcl_J2_ensureCapacityInternal_J2_100 F hK S (hIs_inv e11) h1 h2 h rfl rfl hl.1 (Nat.le_of_ble_eq_true rfl) ⟨Nat.le_of_ble_eq_true rfl, Nat.le_of_ble_eq_true rfl⟩ dJ2_append_3_21 (fun o15 w14 H locs hw h S => ?_)
  replace h := hret_mp h hw
  clear hw h1 h2
  refine lv_aload_n hx hb dJ2_append_3_24 rfl (lv_at hl 1 rfl) ?_
  refine lv_aload_n hx hb dJ2_append_3_25 rfl (lv_at hl 1 rfl) ?_
  obtain ⟨v16, e17, h⟩ := obd_inv h
  refine hg_J2_79 F hK S e17 dJ2_append_3_26 ?_
  refine lv_aload_n hx hb dJ2_append_3_29 rfl (lv_at hl 2 rfl) ?_
  obtain ⟨u18, e19, h⟩ := obd_inv h
  obtain ⟨n20, n21, h1, h2, h⟩ := hcall_inv h
  refine hcl_J2_putStringAt_J2_208 F hK S (hIs_inv e19) h1 h2 h rfl rfl hl.1 (Nat.le_of_ble_eq_true rfl) ⟨Nat.le_of_ble_eq_true rfl, Nat.le_of_ble_eq_true rfl⟩ dJ2_append_3_30 (fun o23 w22 H locs hw h S => ?_)
  replace h := hret_mp h hw
  clear hw h1 h2
  refine lv_aload_n hx hb dJ2_append_3_33 rfl (lv_at hl 1 rfl) ?_
  refine lv_dup hx hb dJ2_append_3_34 rfl ?_
  obtain ⟨v24, e25, h⟩ := obd_inv h
  refine hg_J2_79 F hK S e25 dJ2_append_3_35 ?_
  refine lv_iload_n hx hb dJ2_append_3_38 rfl (lv_at hl 0 rfl) ?_
  refine lv_iadd hx hb dJ2_append_3_39 ?_
  obtain ⟨w26, e27, h⟩ := obd_inv h
  refine hp_J2_79 F hK S e27 dJ2_append_3_40 (fun H locs S => ?_)
  refine lv_aload_n hx hb dJ2_append_3_43 rfl (lv_at hl 1 rfl) ?_
  exact h_aret F hr (Or.inl ⟨_, rfl⟩) hlk S h dJ2_append_3_44
theorem hcl_J2_length_J3_343 {p : Program} {l : Launch} {e : Env} {s : State} {m : MethodId} {args : Array Value} {below : List Frame} {meth : Method} {c : Code} {R : Room} {H : Heap} {locs : List Loc} {cb sb pc nL : Nat} {Q : State → Prop} {ls : Array Slot} {rest : List Value} {cc : ByteArray} {E : hEnv} {A : Nat → Prop} {w : hW} {a0 : Nat} {Q' : Int32 → hO → Prop} {c1 s1 : Nat} (F : CallFix p m c cc nL s args lw_all RJ3) (hK : hK E A s) (S : hS E A s.heap cb sb w H locs) (hrv : ∃ (b : Bool) (fs : List Value), w.1 a0 = some (b, .inl (14, fs))) (h1 : c1 ≤ w.2.1) (h2 : s1 ≤ w.2.2) (h : hf_J2_length E.2.2 (w.1, c1, s1) a0 Q') (hrc : R.cells = cb) (hrs : R.slots = sb) (hls : ls.size = nL) (hWt : (rest.map fun v => v.category).sum ≤ 8) (hR : 0 + 1 ≤ R.frames ∧ 8 + (1 + 11) + 0 ≤ R.locals) (hdg : decode cc pc = .ok (.invokespecial 343, 3))
    (kk : ∀ (v : Int32) (o : hO) (w' : hW) (H1 : Heap) (locs1 : List Loc), w' = (o, w.2.1 - c1, w.2.2 - s1) → Q' v o → hS E A s.heap cb sb w' H1 locs1 → W p l e R s m args below meth c H1 locs1 (cb - w'.2.1) (sb - w'.2.2) Q (F0 m (pc + 3) ls (.int v :: rest))) : W p l e R s m args below meth c H locs (cb - w.2.1) (sb - w.2.2) Q (F0 m pc ls (.ref a0 :: rest)) :=
  h_ki (g_runSU (hK.1.1 14 _ rfl).2 F hK (hKm E A) S.1 (hmet_J2_length l E A (w.1, c1, s1) a0 Q' h) (va_cwSU 0 F.2.2.2.2 (gw_SU q694 q690 q573 q689 q123 q695) rfl rfl rfl (by decide +kernel) hR) (h_recv hK S (ci := 14) rfl hrv) rfl hls rfl hWt hdg ⟨by rw [hrc]; exact (h_left S h1 h2).1, by rw [hrs]; exact (h_left S h1 h2).2⟩) S h1 h2 kk
def hf_J3_length (pl : Nat → Nat) (w : hW) (a0 : Nat) (Q : Int32 → hO → Prop) : Prop :=
  obd (hIs w a0 14) fun u1 =>
  hcall w fun n3 n4 => hf_J2_length pl (w.1, n3, n4) a0 fun v7 o6 => hret w n3 n4 o6 fun w5 =>
  Q v7 w5.1
abbrev hrm_J3_length (c s : Nat) : Room := { frames := 1, cells := c, slots := s, locals := 20 }
set_option maxHeartbeats 4000000 in
set_option maxRecDepth 100000 in
theorem hmet_J3_length (l : Launch) (E : hEnv) (A : Nat → Prop) (w : hW) (a0 : Nat) (Q : Int32 → hO → Prop) (h : hf_J3_length E.2.2 w a0 Q) : Met l yJ3_length (ws_ yJ3_length cJ3_length 1 (some .int)) (hrm_J3_length w.2.1 w.2.2) (va_Pc [.ref a0] (gPre (hK E A) (hP E A w.1))) (hQi E A Q) w.2.1 w.2.2 A := by
  refine h_met (own := RJ3) (by decide +kernel) rfl (Nat.le_of_ble_eq_true rfl) ?_
  intro p e s m args below meth c ls cb sb F hr hlk hK S hl
  have hx := F.1
  have hb := F.2.1
  have hl : lv_has ls 1 [(0, .ref a0)] := hl
  unfold hf_J3_length at h
  refine lv_aload_n hx hb dJ3_length_0 rfl (lv_at hl 0 rfl) ?_
  obtain ⟨u1, e2, h⟩ := obd_inv h
  obtain ⟨n3, n4, h1, h2, h⟩ := hcall_inv h
  refine hcl_J2_length_J3_343 F hK S (hIs_inv e2) h1 h2 h rfl rfl hl.1 (Nat.le_of_ble_eq_true rfl) ⟨Nat.le_of_ble_eq_true rfl, Nat.le_of_ble_eq_true rfl⟩ dJ3_length_1 (fun v7 o6 w5 H locs hw h S => ?_)
  replace h := hret_mp h hw
  clear hw h1 h2
  exact h_iret F hr hlk S h dJ3_length_4
theorem hcl_J2_getValue_J4_552 {p : Program} {l : Launch} {e : Env} {s : State} {m : MethodId} {args : Array Value} {below : List Frame} {meth : Method} {c : Code} {R : Room} {H : Heap} {locs : List Loc} {cb sb pc nL : Nat} {Q : State → Prop} {ls : Array Slot} {rest : List Value} {cc : ByteArray} {E : hEnv} {A : Nat → Prop} {w : hW} {a0 : Nat} {Q' : Nat → hO → Prop} {c1 s1 : Nat} (F : CallFix p m c cc nL s args lw_all RJ4) (hK : hK E A s) (S : hS E A s.heap cb sb w H locs) (hrv : ∃ (b : Bool) (fs : List Value), w.1 a0 = some (b, .inl (14, fs))) (h1 : c1 ≤ w.2.1) (h2 : s1 ≤ w.2.2) (h : hf_J2_getValue E.2.2 (w.1, c1, s1) a0 Q') (hrc : R.cells = cb) (hrs : R.slots = sb) (hls : ls.size = nL) (hWt : (rest.map fun v => v.category).sum ≤ 8) (hR : 0 + 1 ≤ R.frames ∧ 8 + (1 + 11) + 0 ≤ R.locals) (hdg : decode cc pc = .ok (.invokevirtual 552, 3))
    (kk : ∀ (v : Nat) (o : hO) (w' : hW) (H1 : Heap) (locs1 : List Loc), w' = (o, w.2.1 - c1, w.2.2 - s1) → Q' v o → hS E A s.heap cb sb w' H1 locs1 → W p l e R s m args below meth c H1 locs1 (cb - w'.2.1) (sb - w'.2.2) Q (F0 m (pc + 3) ls (.ref v :: rest))) : W p l e R s m args below meth c H locs (cb - w.2.1) (sb - w.2.2) Q (F0 m pc ls (.ref a0 :: rest)) :=
  h_kp (g_runU F hK (hKm E A) S.1 (hmet_J2_getValue l E A (w.1, c1, s1) a0 Q' h) (va_cwU 0 F.2.2.2.2 (gw_U q683 q685 q686 q684 q123 q687) rfl rfl rfl rfl (by decide +kernel) hR) (h_recv hK S (ci := 14) rfl hrv) rfl hls rfl hWt hdg ⟨by rw [hrc]; exact (h_left S h1 h2).1, by rw [hrs]; exact (h_left S h1 h2).2⟩) S h1 h2 kk
theorem hcl_J3_length_J4_549 {p : Program} {l : Launch} {e : Env} {s : State} {m : MethodId} {args : Array Value} {below : List Frame} {meth : Method} {c : Code} {R : Room} {H : Heap} {locs : List Loc} {cb sb pc nL : Nat} {Q : State → Prop} {ls : Array Slot} {rest : List Value} {cc : ByteArray} {E : hEnv} {A : Nat → Prop} {w : hW} {a0 : Nat} {Q' : Int32 → hO → Prop} {c1 s1 : Nat} (F : CallFix p m c cc nL s args lw_all RJ4) (hK : hK E A s) (S : hS E A s.heap cb sb w H locs) (hrv : ∃ (b : Bool) (fs : List Value), w.1 a0 = some (b, .inl (14, fs))) (h1 : c1 ≤ w.2.1) (h2 : s1 ≤ w.2.2) (h : hf_J3_length E.2.2 (w.1, c1, s1) a0 Q') (hrc : R.cells = cb) (hrs : R.slots = sb) (hls : ls.size = nL) (hWt : (rest.map fun v => v.category).sum ≤ 8) (hR : 1 + 1 ≤ R.frames ∧ 8 + (1 + 11) + 20 ≤ R.locals) (hdg : decode cc pc = .ok (.invokevirtual 549, 3))
    (kk : ∀ (v : Int32) (o : hO) (w' : hW) (H1 : Heap) (locs1 : List Loc), w' = (o, w.2.1 - c1, w.2.2 - s1) → Q' v o → hS E A s.heap cb sb w' H1 locs1 → W p l e R s m args below meth c H1 locs1 (cb - w'.2.1) (sb - w'.2.2) Q (F0 m (pc + 3) ls (.int v :: rest))) : W p l e R s m args below meth c H locs (cb - w.2.1) (sb - w.2.2) Q (F0 m pc ls (.ref a0 :: rest)) :=
  h_ki (g_runU F hK (hKm E A) S.1 (hmet_J3_length l E A (w.1, c1, s1) a0 Q' h) (va_cwO 0 F.2.2.2.2 (gw_O q688 q690 q689 q691 q692 q124 q693) rfl rfl rfl q695 (by decide +kernel) hR) (h_recv hK S (ci := 14) rfl hrv) rfl hls rfl hWt hdg ⟨by rw [hrc]; exact (h_left S h1 h2).1, by rw [hrs]; exact (h_left S h1 h2).2⟩) S h1 h2 kk
theorem hcl_J2_isLatin1_J4_1047 {p : Program} {l : Launch} {e : Env} {s : State} {m : MethodId} {args : Array Value} {below : List Frame} {meth : Method} {c : Code} {R : Room} {H : Heap} {locs : List Loc} {cb sb pc nL : Nat} {Q : State → Prop} {ls : Array Slot} {rest : List Value} {cc : ByteArray} {E : hEnv} {A : Nat → Prop} {w : hW} {a0 : Nat} {Q' : Int32 → hO → Prop} {c1 s1 : Nat} (F : CallFix p m c cc nL s args lw_all RJ4) (hK : hK E A s) (S : hS E A s.heap cb sb w H locs) (hrv : ∃ (b : Bool) (fs : List Value), w.1 a0 = some (b, .inl (14, fs))) (h1 : c1 ≤ w.2.1) (h2 : s1 ≤ w.2.2) (h : hf_J2_isLatin1 E.2.2 (w.1, c1, s1) a0 Q') (hrc : R.cells = cb) (hrs : R.slots = sb) (hls : ls.size = nL) (hWt : (rest.map fun v => v.category).sum ≤ 8) (hR : 0 + 1 ≤ R.frames ∧ 8 + (1 + 11) + 0 ≤ R.locals) (hdg : decode cc pc = .ok (.invokevirtual 1047, 3))
    (kk : ∀ (v : Int32) (o : hO) (w' : hW) (H1 : Heap) (locs1 : List Loc), w' = (o, w.2.1 - c1, w.2.2 - s1) → Q' v o → hS E A s.heap cb sb w' H1 locs1 → W p l e R s m args below meth c H1 locs1 (cb - w'.2.1) (sb - w'.2.2) Q (F0 m (pc + 3) ls (.int v :: rest))) : W p l e R s m args below meth c H locs (cb - w.2.1) (sb - w.2.2) Q (F0 m pc ls (.ref a0 :: rest)) :=
  h_ki (g_runU F hK (hKm E A) S.1 (hmet_J2_isLatin1 l E A (w.1, c1, s1) a0 Q' h) (va_cwU 0 F.2.2.2.2 (gw_U q696 q619 q620 q618 q123 q621) rfl rfl rfl rfl (by decide +kernel) hR) (h_recv hK S (ci := 14) rfl hrv) rfl hls rfl hWt hdg ⟨by rw [hrc]; exact (h_left S h1 h2).1, by rw [hrs]; exact (h_left S h1 h2).2⟩) S h1 h2 kk
theorem hp_J4_15 {p : Program} {l : Launch} {e : Env} {s : State} {m : MethodId} {args : Array Value} {below : List Frame} {meth : Method} {c : Code} {R : Room} {H : Heap} {locs : List Loc} {cb sb pc nL : Nat} {Q : State → Prop} {ls : Array Slot} {rest : List Value} {cc : ByteArray} {E : hEnv} {A : Nat → Prop} {w : hW} {a : Nat} {w' : hW} {v : Int32} (F : CallFix p m c cc nL s args lw_all RJ4) (hK : hK E A s) (S : hS E A s.heap cb sb w H locs) (hin : meth.name = "<init>") (h : hpB w a 15 1 v = some w') (hdg : decode cc pc = .ok (.putfield 15, 3)) (kk : ∀ (H1 : Heap) (locs1 : List Loc), hS E A s.heap cb sb w' H1 locs1 → W p l e R s m args below meth c H1 locs1 (cb - w'.2.1) (sb - w'.2.2) Q (F0 m (pc + 3) ls rest)) : W p l e R s m args below meth c H locs (cb - w.2.1) (sb - w.2.2) Q (F0 m pc ls (.int v :: .ref a :: rest)) :=
  h_putF F hK S (hpB_inv h).2 (ci := 15) (C := RJ4) (T := TJ4) (N := 4) (k := 1) rfl in_J4 tyJ4 tyJ4_ok nmJ4 (by decide) q864 (fun x h => h) rfl hin rfl (ty := .byte) (by decide +kernel) (congrArg Value.int (hpB_inv h).1.1) (hpB_inv h).1.2 hdg kk
theorem hcl_J8_copyOfRange_J4_54 {p : Program} {l : Launch} {e : Env} {s : State} {m : MethodId} {args : Array Value} {below : List Frame} {meth : Method} {c : Code} {R : Room} {H : Heap} {locs : List Loc} {cb sb pc nL : Nat} {Q : State → Prop} {ls : Array Slot} {rest : List Value} {cc : ByteArray} {E : hEnv} {A : Nat → Prop} {w : hW} {x1 : Nat} {x2 : Int32} {x3 : Int32} {Q' : Nat → hO → Prop} {c1 s1 : Nat} (F : CallFix p m c cc nL s args lw_all RJ4) (hK : hK E A s) (S : hS E A s.heap cb sb w H locs) (h1 : c1 ≤ w.2.1) (h2 : s1 ≤ w.2.2) (h : hf_J8_copyOfRange E.2.2 (w.1, c1, s1) x1 x2 x3 Q') (hrc : R.cells = cb) (hrs : R.slots = sb) (hls : ls.size = nL) (hWt : (rest.map fun v => v.category).sum ≤ 8) (hR : 2 + 1 ≤ R.frames ∧ 8 + (3 + 11) + 63 ≤ R.locals) (hdg : decode cc pc = .ok (.invokestatic 54, 3))
    (kk : ∀ (v : Nat) (o : hO) (w' : hW) (H1 : Heap) (locs1 : List Loc), w' = (o, w.2.1 - c1, w.2.2 - s1) → Q' v o → hS E A s.heap cb sb w' H1 locs1 → W p l e R s m args below meth c H1 locs1 (cb - w'.2.1) (sb - w'.2.2) Q (F0 m (pc + 3) ls (.ref v :: rest))) : W p l e R s m args below meth c H locs (cb - w.2.1) (sb - w.2.2) Q (F0 m pc ls (.int x3 :: .int x2 :: .ref x1 :: rest)) :=
  h_kp (g_runS F hK (hKm E A) S.1 (hmet_J8_copyOfRange l E A (w.1, c1, s1) x1 x2 x3 Q' h) (va_cwS 3 F.2.2.2.2 (lw_S q697 q698 q129 q699) rfl rfl rfl (by decide +kernel) hR) rfl hls rfl hWt hdg ⟨by rw [hrc]; exact (h_left S h1 h2).1, by rw [hrs]; exact (h_left S h1 h2).2⟩) S h1 h2 kk
theorem hp_J4_9 {p : Program} {l : Launch} {e : Env} {s : State} {m : MethodId} {args : Array Value} {below : List Frame} {meth : Method} {c : Code} {R : Room} {H : Heap} {locs : List Loc} {cb sb pc nL : Nat} {Q : State → Prop} {ls : Array Slot} {rest : List Value} {cc : ByteArray} {E : hEnv} {A : Nat → Prop} {w : hW} {a : Nat} {w' : hW} {v : Nat} (F : CallFix p m c cc nL s args lw_all RJ4) (hK : hK E A s) (S : hS E A s.heap cb sb w H locs) (hin : meth.name = "<init>") (h : hpV w a 15 0 (.ref v) = some w') (hdg : decode cc pc = .ok (.putfield 9, 3)) (kk : ∀ (H1 : Heap) (locs1 : List Loc), hS E A s.heap cb sb w' H1 locs1 → W p l e R s m args below meth c H1 locs1 (cb - w'.2.1) (sb - w'.2.2) Q (F0 m (pc + 3) ls rest)) : W p l e R s m args below meth c H locs (cb - w.2.1) (sb - w.2.2) Q (F0 m pc ls (.ref v :: .ref a :: rest)) :=
  h_putF F hK S h (ci := 15) (C := RJ4) (T := TJ4) (N := 4) (k := 0) rfl in_J4 tyJ4 tyJ4_ok nmJ4 (by decide) q863 (fun x h => h) rfl hin rfl (ty := (.array (.byte))) (by decide +kernel) rfl rfl hdg kk
theorem hg_J4_1048 {p : Program} {l : Launch} {e : Env} {s : State} {m : MethodId} {args : Array Value} {below : List Frame} {meth : Method} {c : Code} {R : Room} {H : Heap} {locs : List Loc} {cb sb pc nL : Nat} {Q : State → Prop} {ls : Array Slot} {rest : List Value} {cc : ByteArray} {E : hEnv} {A : Nat → Prop} {w : hW} {a : Nat} {v : Int32} (F : CallFix p m c cc nL s args lw_all RJ4) (hK : hK E A s) (S : hS E A s.heap cb sb w H locs) (h : hgI w a 14 2 = some v) (hdg : decode cc pc = .ok (.getfield 1048, 3)) (kk : W p l e R s m args below meth c H locs (cb - w.2.1) (sb - w.2.2) Q (F0 m (pc + 3) ls (.int v :: rest))) : W p l e R s m args below meth c H locs (cb - w.2.1) (sb - w.2.2) Q (F0 m pc ls (.ref a :: rest)) := by
  obtain ⟨b, fs, ho, hv⟩ := hgI_inv h
  exact h_get F hK S ho (ci := 14) (C := RJ3) (T := TJ3) (N := 4) (k := 2) rfl in_J3 (by decide) q563 (fun x h => h) hv hdg kk
def hf_J4_init_2N (pl : Nat → Nat) (w : hW) (a0 : Nat) (x1 : Nat) (Q : hO → Prop) : Prop :=
  obd (hIs w x1 14) fun u1 =>
  hcall w fun n3 n4 => hf_J2_getValue pl (w.1, n3, n4) x1 fun v7 o6 => hret w n3 n4 o6 fun w5 =>
  obd (hIs w5 x1 14) fun u8 =>
  hcall w5 fun n10 n11 => hf_J3_length pl (w5.1, n10, n11) x1 fun v14 o13 => hret w5 n10 n11 o13 fun w12 =>
  obd (hIs w12 x1 14) fun u15 =>
  hcall w12 fun n17 n18 => hf_J2_isLatin1 pl (w12.1, n17, n18) x1 fun v21 o20 => hret w12 n17 n18 o20 fun w19 =>
  hIf (v21 = 0) (
    hIf ((1 : Int32) = 0) (
      obd (hpB w19 a0 15 1 1) fun w24 =>
      hcall w24 fun n26 n27 => hf_J8_copyOfRange pl (w24.1, n26, n27) v7 0 (v14 <<< (1 &&& 31)) fun v30 o29 => hret w24 n26 n27 o29 fun w28 =>
      obd (hpV w28 a0 15 0 (.ref v30)) fun w31 =>
      Q w31.1) <|
      obd (hgI w19 x1 14 2) fun v33 =>
      hIf (v33 = 0) (
        obd (hpB w19 a0 15 1 1) fun w36 =>
        hcall w36 fun n38 n39 => hf_J8_copyOfRange pl (w36.1, n38, n39) v7 0 (v14 <<< (1 &&& 31)) fun v42 o41 => hret w36 n38 n39 o41 fun w40 =>
        obd (hpV w40 a0 15 0 (.ref v42)) fun w43 =>
        Q w43.1) <|
        False) <|
    obd (hpB w19 a0 15 1 0) fun w45 =>
    hcall w45 fun n47 n48 => hf_J8_copyOfRange pl (w45.1, n47, n48) v7 0 v14 fun v51 o50 => hret w45 n47 n48 o50 fun w49 =>
    obd (hpV w49 a0 15 0 (.ref v51)) fun w52 =>
    Q w52.1
abbrev hrm_J4_init_2N (c s : Nat) : Room := { frames := 3, cells := c, slots := s, locals := 85 }
set_option maxHeartbeats 4000000 in
set_option maxRecDepth 100000 in
theorem hmet_J4_init_2N (l : Launch) (E : hEnv) (A : Nat → Prop) (w : hW) (a0 : Nat) (x1 : Nat) (Q : hO → Prop) (h : hf_J4_init_2N E.2.2 w a0 x1 Q) : Met l yJ4_init_2 (ws_ yJ4_init_2 cJ4_init_2 5 (none)) (hrm_J4_init_2N w.2.1 w.2.2) (va_Pc [.ref a0, .ref x1, .null] (gPre (hK E A) (hP E A w.1))) (hQv E A Q) w.2.1 w.2.2 A := by
  refine h_metI (own := RJ4) (by decide +kernel) rfl (by rfl) (Nat.le_of_ble_eq_true rfl) ?_
  intro p e s m args below meth c ls cb sb F hr hlk hin hK S hl
  have hx := F.1
  have hb := F.2.1
  have hl : lv_has ls 5 [(0, .ref a0), (1, .ref x1), (2, .null)] := hl
  unfold hf_J4_init_2N at h
  refine lv_aload_n hx hb dJ4_init_2_0 rfl (lv_at hl 0 rfl) ?_
  refine h_obj F q682 hl.1 dJ4_init_2_1 (Nat.le_of_ble_eq_true rfl) (Nat.le_of_ble_eq_true rfl) ?_
  refine lv_aload_n hx hb dJ4_init_2_4 rfl (lv_at hl 1 rfl) ?_
  obtain ⟨u1, e2, h⟩ := obd_inv h
  obtain ⟨n3, n4, h1, h2, h⟩ := hcall_inv h
  refine hcl_J2_getValue_J4_552 F hK S (hIs_inv e2) h1 h2 h rfl rfl hl.1 (Nat.le_of_ble_eq_true rfl) ⟨Nat.le_of_ble_eq_true rfl, Nat.le_of_ble_eq_true rfl⟩ dJ4_init_2_5 (fun v7 o6 w5 H locs hw h S => ?_)
  replace h := hret_mp h hw
  clear hw h1 h2
  refine lv_astore_n (lv' := [(3, .ref v7), (0, .ref a0), (1, .ref x1), (2, .null)]) hx hb dJ4_init_2_8 rfl hl (by decide) rfl (fun ls hl => ?_)
  refine lv_aload_n hx hb dJ4_init_2_9 rfl (lv_at hl 2 rfl) ?_
  obtain ⟨u8, e9, h⟩ := obd_inv h
  obtain ⟨n10, n11, h1, h2, h⟩ := hcall_inv h
  refine hcl_J3_length_J4_549 F hK S (hIs_inv e9) h1 h2 h rfl rfl hl.1 (Nat.le_of_ble_eq_true rfl) ⟨Nat.le_of_ble_eq_true rfl, Nat.le_of_ble_eq_true rfl⟩ dJ4_init_2_10 (fun v14 o13 w12 H locs hw h S => ?_)
  replace h := hret_mp h hw
  clear hw h1 h2
  refine lv_istore (lv' := [(4, .int v14), (3, .ref v7), (0, .ref a0), (1, .ref x1), (2, .null)]) hx hb dJ4_init_2_13 hl (by decide) rfl (fun ls hl => ?_)
  refine lv_aload_n hx hb dJ4_init_2_15 rfl (lv_at hl 3 rfl) ?_
  obtain ⟨u15, e16, h⟩ := obd_inv h
  obtain ⟨n17, n18, h1, h2, h⟩ := hcall_inv h
  refine hcl_J2_isLatin1_J4_1047 F hK S (hIs_inv e16) h1 h2 h rfl rfl hl.1 (Nat.le_of_ble_eq_true rfl) ⟨Nat.le_of_ble_eq_true rfl, Nat.le_of_ble_eq_true rfl⟩ dJ4_init_2_16 (fun v21 o20 w19 H locs hw h S => ?_)
  replace h := hret_mp h hw
  clear hw h1 h2
  refine lv_if_eq (tgt := 41) hx hb dJ4_init_2_19 (by decide) (fun c22 => ?_) (fun c22 => ?_)
  · rw [hIf_pos c22] at h
    refine va_gets F.1 F.2.1 hK.2.2.1.1.2.2.2 S.1.2 F.2.2.2.1 (F.2.2.2.2 _ q808) (fun x h => h) dJ4_init_2_41 ?_
    refine lv_if_eq (tgt := 79) hx hb dJ4_init_2_44 (by decide) (fun c23 => ?_) (fun c23 => ?_)
    · rw [hIf_pos c23] at h
      refine lv_aload_n hx hb dJ4_init_2_79 rfl (lv_at hl 2 rfl) ?_
      refine lv_iconst (v := 1) hx hb dJ4_init_2_80 (by decide) ?_
      obtain ⟨w24, e25, h⟩ := obd_inv h
      refine hp_J4_15 F hK S (by assumption) e25 dJ4_init_2_81 (fun H locs S => ?_)
      refine lv_aload_n hx hb dJ4_init_2_84 rfl (lv_at hl 2 rfl) ?_
      refine lv_aload_n hx hb dJ4_init_2_85 rfl (lv_at hl 1 rfl) ?_
      refine lv_iconst (v := 0) hx hb dJ4_init_2_86 (by decide) ?_
      refine lv_iload hx hb dJ4_init_2_87 (lv_at hl 0 rfl) ?_
      refine lv_iconst (v := 1) hx hb dJ4_init_2_89 (by decide) ?_
      refine lv_ishl hx hb dJ4_init_2_90 ?_
      obtain ⟨n26, n27, h1, h2, h⟩ := hcall_inv h
      refine hcl_J8_copyOfRange_J4_54 F hK S h1 h2 h rfl rfl hl.1 (Nat.le_of_ble_eq_true rfl) ⟨Nat.le_of_ble_eq_true rfl, Nat.le_of_ble_eq_true rfl⟩ dJ4_init_2_91 (fun v30 o29 w28 H locs hw h S => ?_)
      replace h := hret_mp h hw
      clear hw h1 h2
      obtain ⟨w31, e32, h⟩ := obd_inv h
      refine hp_J4_9 F hK S (by assumption) e32 dJ4_init_2_94 (fun H locs S => ?_)
      exact h_vret F hr hlk S h dJ4_init_2_97
    · rw [hIf_neg c23] at h
      refine lv_aload_n hx hb dJ4_init_2_47 rfl (lv_at hl 3 rfl) ?_
      obtain ⟨v33, e34, h⟩ := obd_inv h
      refine hg_J4_1048 F hK S e34 dJ4_init_2_48 ?_
      refine lv_if_eq (tgt := 79) hx hb dJ4_init_2_51 (by decide) (fun c35 => ?_) (fun c35 => ?_)
      · rw [hIf_pos c35] at h
        refine lv_aload_n hx hb dJ4_init_2_79 rfl (lv_at hl 2 rfl) ?_
        refine lv_iconst (v := 1) hx hb dJ4_init_2_80 (by decide) ?_
        obtain ⟨w36, e37, h⟩ := obd_inv h
        refine hp_J4_15 F hK S (by assumption) e37 dJ4_init_2_81 (fun H locs S => ?_)
        refine lv_aload_n hx hb dJ4_init_2_84 rfl (lv_at hl 2 rfl) ?_
        refine lv_aload_n hx hb dJ4_init_2_85 rfl (lv_at hl 1 rfl) ?_
        refine lv_iconst (v := 0) hx hb dJ4_init_2_86 (by decide) ?_
        refine lv_iload hx hb dJ4_init_2_87 (lv_at hl 0 rfl) ?_
        refine lv_iconst (v := 1) hx hb dJ4_init_2_89 (by decide) ?_
        refine lv_ishl hx hb dJ4_init_2_90 ?_
        obtain ⟨n38, n39, h1, h2, h⟩ := hcall_inv h
        refine hcl_J8_copyOfRange_J4_54 F hK S h1 h2 h rfl rfl hl.1 (Nat.le_of_ble_eq_true rfl) ⟨Nat.le_of_ble_eq_true rfl, Nat.le_of_ble_eq_true rfl⟩ dJ4_init_2_91 (fun v42 o41 w40 H locs hw h S => ?_)
        replace h := hret_mp h hw
        clear hw h1 h2
        obtain ⟨w43, e44, h⟩ := obd_inv h
        refine hp_J4_9 F hK S (by assumption) e44 dJ4_init_2_94 (fun H locs S => ?_)
        exact h_vret F hr hlk S h dJ4_init_2_97
      · rw [hIf_neg c35] at h
        refine lv_aload_n hx hb dJ4_init_2_54 rfl (lv_at hl 2 rfl) ?_
        refine lv_aload_n hx hb dJ4_init_2_55 rfl (lv_at hl 1 rfl) ?_
        refine lv_iconst (v := 0) hx hb dJ4_init_2_56 (by decide) ?_
        refine lv_iload hx hb dJ4_init_2_57 (lv_at hl 0 rfl) ?_
        exact False.elim h
  · rw [hIf_neg c22] at h
    refine lv_aload_n hx hb dJ4_init_2_22 rfl (lv_at hl 2 rfl) ?_
    refine lv_iconst (v := 0) hx hb dJ4_init_2_23 (by decide) ?_
    obtain ⟨w45, e46, h⟩ := obd_inv h
    refine hp_J4_15 F hK S (by assumption) e46 dJ4_init_2_24 (fun H locs S => ?_)
    refine lv_aload_n hx hb dJ4_init_2_27 rfl (lv_at hl 2 rfl) ?_
    refine lv_aload_n hx hb dJ4_init_2_28 rfl (lv_at hl 1 rfl) ?_
    refine lv_iconst (v := 0) hx hb dJ4_init_2_29 (by decide) ?_
    refine lv_iload hx hb dJ4_init_2_30 (lv_at hl 0 rfl) ?_
    obtain ⟨n47, n48, h1, h2, h⟩ := hcall_inv h
    refine hcl_J8_copyOfRange_J4_54 F hK S h1 h2 h rfl rfl hl.1 (Nat.le_of_ble_eq_true rfl) ⟨Nat.le_of_ble_eq_true rfl, Nat.le_of_ble_eq_true rfl⟩ dJ4_init_2_32 (fun v51 o50 w49 H locs hw h S => ?_)
    replace h := hret_mp h hw
    clear hw h1 h2
    obtain ⟨w52, e53, h⟩ := obd_inv h
    refine hp_J4_9 F hK S (by assumption) e53 dJ4_init_2_35 (fun H locs S => ?_)
    refine lv_goto (tgt := 97) hx hb dJ4_init_2_38 (by decide) ?_
    exact h_vret F hr hlk S h dJ4_init_2_97
theorem hcl_J4_init_2N_J4_489 {p : Program} {l : Launch} {e : Env} {s : State} {m : MethodId} {args : Array Value} {below : List Frame} {meth : Method} {c : Code} {R : Room} {H : Heap} {locs : List Loc} {cb sb pc nL : Nat} {Q : State → Prop} {ls : Array Slot} {rest : List Value} {cc : ByteArray} {E : hEnv} {A : Nat → Prop} {w : hW} {a0 : Nat} {x1 : Nat} {Q' : hO → Prop} {c1 s1 : Nat} (F : CallFix p m c cc nL s args lw_all RJ4) (hK : hK E A s) (S : hS E A s.heap cb sb w H locs) (h1 : c1 ≤ w.2.1) (h2 : s1 ≤ w.2.2) (h : hf_J4_init_2N E.2.2 (w.1, c1, s1) a0 x1 Q') (hrc : R.cells = cb) (hrs : R.slots = sb) (hls : ls.size = nL) (hWt : (rest.map fun v => v.category).sum ≤ 8) (hR : 3 + 1 ≤ R.frames ∧ 8 + (5 + 11) + 85 ≤ R.locals) (hdg : decode cc pc = .ok (.invokespecial 489, 3))
    (kk : ∀ (o : hO) (w' : hW) (H1 : Heap) (locs1 : List Loc), w' = (o, w.2.1 - c1, w.2.2 - s1) → Q' o → hS E A s.heap cb sb w' H1 locs1 → W p l e R s m args below meth c H1 locs1 (cb - w'.2.1) (sb - w'.2.2) Q (F0 m (pc + 3) ls (rest))) : W p l e R s m args below meth c H locs (cb - w.2.1) (sb - w.2.2) Q (F0 m pc ls (.null :: .ref x1 :: .ref a0 :: rest)) :=
  h_kv (g_runI F hK (hKm E A) S.1 (hmet_J4_init_2N l E A (w.1, c1, s1) a0 x1 Q' h) (cwI 2 F.2.2.2.2 (lw_meth q681) rfl rfl rfl (F.2.2.2.2 _ q125) (F.2.2.2.2 _ q679) (F.2.2.2.2 _ q680) rfl (by decide +kernel) hR) rfl hls rfl hWt hdg ⟨by rw [hrc]; exact (h_left S h1 h2).1, by rw [hrs]; exact (h_left S h1 h2).2⟩) S h1 h2 kk
def hf_J4_init (pl : Nat → Nat) (w : hW) (a0 : Nat) (x1 : Nat) (Q : hO → Prop) : Prop :=
  hcall w fun n1 n2 => hf_J4_init_2N pl (w.1, n1, n2) a0 x1 fun o4 => hret w n1 n2 o4 fun w3 =>
  Q w3.1
abbrev hrm_J4_init (c s : Nat) : Room := { frames := 4, cells := c, slots := s, locals := 109 }
set_option maxHeartbeats 4000000 in
set_option maxRecDepth 100000 in
theorem hmet_J4_init (l : Launch) (E : hEnv) (A : Nat → Prop) (w : hW) (a0 : Nat) (x1 : Nat) (Q : hO → Prop) (h : hf_J4_init E.2.2 w a0 x1 Q) : Met l yJ4_init (ws_ yJ4_init cJ4_init 2 (none)) (hrm_J4_init w.2.1 w.2.2) (va_Pc [.ref a0, .ref x1] (gPre (hK E A) (hP E A w.1))) (hQv E A Q) w.2.1 w.2.2 A := by
  refine h_metI (own := RJ4) (by decide +kernel) rfl (by rfl) (Nat.le_of_ble_eq_true rfl) ?_
  intro p e s m args below meth c ls cb sb F hr hlk hin hK S hl
  have hx := F.1
  have hb := F.2.1
  have hl : lv_has ls 2 [(0, .ref a0), (1, .ref x1)] := hl
  unfold hf_J4_init at h
  refine lv_aload_n hx hb dJ4_init_0 rfl (lv_at hl 0 rfl) ?_
  refine lv_aload_n hx hb dJ4_init_1 rfl (lv_at hl 1 rfl) ?_
  refine lv_null hx hb dJ4_init_2 ?_
  obtain ⟨n1, n2, h1, h2, h⟩ := hcall_inv h
  refine hcl_J4_init_2N_J4_489 F hK S h1 h2 h rfl rfl hl.1 (Nat.le_of_ble_eq_true rfl) ⟨Nat.le_of_ble_eq_true rfl, Nat.le_of_ble_eq_true rfl⟩ dJ4_init_3 (fun o4 w3 H locs hw h S => ?_)
  replace h := hret_mp h hw
  clear hw h1 h2
  exact h_vret F hr hlk S h dJ4_init_6
theorem hcl_J2_init_J3_1 {p : Program} {l : Launch} {e : Env} {s : State} {m : MethodId} {args : Array Value} {below : List Frame} {meth : Method} {c : Code} {R : Room} {H : Heap} {locs : List Loc} {cb sb pc nL : Nat} {Q : State → Prop} {ls : Array Slot} {rest : List Value} {cc : ByteArray} {E : hEnv} {A : Nat → Prop} {w : hW} {a0 : Nat} {x1 : Int32} {Q' : hO → Prop} {c1 s1 : Nat} (F : CallFix p m c cc nL s args lw_all RJ3) (hK : hK E A s) (S : hS E A s.heap cb sb w H locs) (h1 : c1 ≤ w.2.1) (h2 : s1 ≤ w.2.2) (h : hf_J2_init E.2.2 (w.1, c1, s1) a0 x1 Q') (hrc : R.cells = cb) (hrs : R.slots = sb) (hls : ls.size = nL) (hWt : (rest.map fun v => v.category).sum ≤ 8) (hR : 1 + 1 ≤ R.frames ∧ 8 + (2 + 11) + 20 ≤ R.locals) (hdg : decode cc pc = .ok (.invokespecial 1, 3))
    (kk : ∀ (o : hO) (w' : hW) (H1 : Heap) (locs1 : List Loc), w' = (o, w.2.1 - c1, w.2.2 - s1) → Q' o → hS E A s.heap cb sb w' H1 locs1 → W p l e R s m args below meth c H1 locs1 (cb - w'.2.1) (sb - w'.2.2) Q (F0 m (pc + 3) ls (rest))) : W p l e R s m args below meth c H locs (cb - w.2.1) (sb - w.2.2) Q (F0 m pc ls (.int x1 :: .ref a0 :: rest)) :=
  h_kv (g_runI F hK (hKm E A) S.1 (hmet_J2_init l E A (w.1, c1, s1) a0 x1 Q' h) (cwI 1 F.2.2.2.2 (lw_meth q550) rfl rfl rfl (F.2.2.2.2 _ q123) (F.2.2.2.2 _ q548) (F.2.2.2.2 _ q549) rfl (by decide +kernel) hR) rfl hls rfl hWt hdg ⟨by rw [hrc]; exact (h_left S h1 h2).1, by rw [hrs]; exact (h_left S h1 h2).2⟩) S h1 h2 kk
def hf_J3_init (pl : Nat → Nat) (w : hW) (a0 : Nat) (Q : hO → Prop) : Prop :=
  hcall w fun n1 n2 => hf_J2_init pl (w.1, n1, n2) a0 16 fun o4 => hret w n1 n2 o4 fun w3 =>
  Q w3.1
abbrev hrm_J3_init (c s : Nat) : Room := { frames := 2, cells := c, slots := s, locals := 41 }
set_option maxHeartbeats 4000000 in
set_option maxRecDepth 100000 in
theorem hmet_J3_init (l : Launch) (E : hEnv) (A : Nat → Prop) (w : hW) (a0 : Nat) (Q : hO → Prop) (h : hf_J3_init E.2.2 w a0 Q) : Met l yJ3_init (ws_ yJ3_init cJ3_init 1 (none)) (hrm_J3_init w.2.1 w.2.2) (va_Pc [.ref a0] (gPre (hK E A) (hP E A w.1))) (hQv E A Q) w.2.1 w.2.2 A := by
  refine h_metI (own := RJ3) (by decide +kernel) rfl (by rfl) (Nat.le_of_ble_eq_true rfl) ?_
  intro p e s m args below meth c ls cb sb F hr hlk hin hK S hl
  have hx := F.1
  have hb := F.2.1
  have hl : lv_has ls 1 [(0, .ref a0)] := hl
  unfold hf_J3_init at h
  refine lv_aload_n hx hb dJ3_init_0 rfl (lv_at hl 0 rfl) ?_
  refine lv_bipush (v := 16) hx hb dJ3_init_1 (by decide) ?_
  obtain ⟨n1, n2, h1, h2, h⟩ := hcall_inv h
  refine hcl_J2_init_J3_1 F hK S h1 h2 h rfl rfl hl.1 (Nat.le_of_ble_eq_true rfl) ⟨Nat.le_of_ble_eq_true rfl, Nat.le_of_ble_eq_true rfl⟩ dJ3_init_3 (fun o4 w3 H locs hw h S => ?_)
  replace h := hret_mp h hw
  clear hw h1 h2
  exact h_vret F hr hlk S h dJ3_init_6
theorem hcl_J2_append_J3_50 {p : Program} {l : Launch} {e : Env} {s : State} {m : MethodId} {args : Array Value} {below : List Frame} {meth : Method} {c : Code} {R : Room} {H : Heap} {locs : List Loc} {cb sb pc nL : Nat} {Q : State → Prop} {ls : Array Slot} {rest : List Value} {cc : ByteArray} {E : hEnv} {A : Nat → Prop} {w : hW} {a0 : Nat} {x1 : Int32} {Q' : Nat → hO → Prop} {c1 s1 : Nat} (F : CallFix p m c cc nL s args lw_all RJ3) (hK : hK E A s) (S : hS E A s.heap cb sb w H locs) (hrv : ∃ (b : Bool) (fs : List Value), w.1 a0 = some (b, .inl (14, fs))) (h1 : c1 ≤ w.2.1) (h2 : s1 ≤ w.2.2) (h : hf_J2_append E.2.2 (w.1, c1, s1) a0 x1 Q') (hrc : R.cells = cb) (hrs : R.slots = sb) (hls : ls.size = nL) (hWt : (rest.map fun v => v.category).sum ≤ 8) (hR : 4 + 1 ≤ R.frames ∧ 8 + (2 + 11) + 91 ≤ R.locals) (hdg : decode cc pc = .ok (.invokespecial 50, 3))
    (kk : ∀ (v : Nat) (o : hO) (w' : hW) (H1 : Heap) (locs1 : List Loc), w' = (o, w.2.1 - c1, w.2.2 - s1) → Q' v o → hS E A s.heap cb sb w' H1 locs1 → W p l e R s m args below meth c H1 locs1 (cb - w'.2.1) (sb - w'.2.2) Q (F0 m (pc + 3) ls (.ref v :: rest))) : W p l e R s m args below meth c H locs (cb - w.2.1) (sb - w.2.2) Q (F0 m pc ls (.int x1 :: .ref a0 :: rest)) :=
  h_kp (g_runSU (hK.1.1 14 _ rfl).2 F hK (hKm E A) S.1 (hmet_J2_append l E A (w.1, c1, s1) a0 x1 Q' h) (va_cwSU 1 F.2.2.2.2 (gw_SU q579 q2361 q573 q580 q123 q581) rfl rfl rfl (by decide +kernel) hR) (h_recv hK S (ci := 14) rfl hrv) rfl hls rfl hWt hdg ⟨by rw [hrc]; exact (h_left S h1 h2).1, by rw [hrs]; exact (h_left S h1 h2).2⟩) S h1 h2 kk
def hf_J3_append (pl : Nat → Nat) (w : hW) (a0 : Nat) (x1 : Int32) (Q : Nat → hO → Prop) : Prop :=
  obd (hIs w a0 14) fun u1 =>
  hcall w fun n3 n4 => hf_J2_append pl (w.1, n3, n4) a0 x1 fun v7 o6 => hret w n3 n4 o6 fun w5 =>
  Q a0 w5.1
abbrev hrm_J3_append (c s : Nat) : Room := { frames := 5, cells := c, slots := s, locals := 112 }
set_option maxHeartbeats 4000000 in
set_option maxRecDepth 100000 in
theorem hmet_J3_append (l : Launch) (E : hEnv) (A : Nat → Prop) (w : hW) (a0 : Nat) (x1 : Int32) (Q : Nat → hO → Prop) (h : hf_J3_append E.2.2 w a0 x1 Q) : Met l yJ3_append (ws_ yJ3_append cJ3_append 2 (some (.object "java/lang/StringBuilder"))) (hrm_J3_append w.2.1 w.2.2) (va_Pc [.ref a0, .int x1] (gPre (hK E A) (hP E A w.1))) (hQp E A Q) w.2.1 w.2.2 A := by
  refine h_met (own := RJ3) (by decide +kernel) rfl (Nat.le_of_ble_eq_true rfl) ?_
  intro p e s m args below meth c ls cb sb F hr hlk hK S hl
  have hx := F.1
  have hb := F.2.1
  have hl : lv_has ls 2 [(0, .ref a0), (1, .int x1)] := hl
  unfold hf_J3_append at h
  refine lv_aload_n hx hb dJ3_append_0 rfl (lv_at hl 0 rfl) ?_
  refine lv_iload_n hx hb dJ3_append_1 rfl (lv_at hl 1 rfl) ?_
  obtain ⟨u1, e2, h⟩ := obd_inv h
  obtain ⟨n3, n4, h1, h2, h⟩ := hcall_inv h
  refine hcl_J2_append_J3_50 F hK S (hIs_inv e2) h1 h2 h rfl rfl hl.1 (Nat.le_of_ble_eq_true rfl) ⟨Nat.le_of_ble_eq_true rfl, Nat.le_of_ble_eq_true rfl⟩ dJ3_append_2 (fun v7 o6 w5 H locs hw h S => ?_)
  replace h := hret_mp h hw
  clear hw h1 h2
  refine lv_pop hx hb dJ3_append_5 rfl ?_
  refine lv_aload_n hx hb dJ3_append_6 rfl (lv_at hl 0 rfl) ?_
  exact h_aret F hr (Or.inl ⟨_, rfl⟩) hlk S h dJ3_append_7
theorem hcl_J2_append_3_J3_29 {p : Program} {l : Launch} {e : Env} {s : State} {m : MethodId} {args : Array Value} {below : List Frame} {meth : Method} {c : Code} {R : Room} {H : Heap} {locs : List Loc} {cb sb pc nL : Nat} {Q : State → Prop} {ls : Array Slot} {rest : List Value} {cc : ByteArray} {E : hEnv} {A : Nat → Prop} {w : hW} {a0 : Nat} {x1 : Nat} {Q' : Nat → hO → Prop} {c1 s1 : Nat} (F : CallFix p m c cc nL s args lw_all RJ3) (hK : hK E A s) (S : hS E A s.heap cb sb w H locs) (hrv : ∃ (b : Bool) (fs : List Value), w.1 a0 = some (b, .inl (14, fs))) (h1 : c1 ≤ w.2.1) (h2 : s1 ≤ w.2.2) (h : hf_J2_append_3 E.2.2 (w.1, c1, s1) a0 x1 Q') (hrc : R.cells = cb) (hrs : R.slots = sb) (hls : ls.size = nL) (hWt : (rest.map fun v => v.category).sum ≤ 8) (hR : 4 + 1 ≤ R.frames ∧ 8 + (3 + 11) + 91 ≤ R.locals) (hdg : decode cc pc = .ok (.invokespecial 29, 3))
    (kk : ∀ (v : Nat) (o : hO) (w' : hW) (H1 : Heap) (locs1 : List Loc), w' = (o, w.2.1 - c1, w.2.2 - s1) → Q' v o → hS E A s.heap cb sb w' H1 locs1 → W p l e R s m args below meth c H1 locs1 (cb - w'.2.1) (sb - w'.2.2) Q (F0 m (pc + 3) ls (.ref v :: rest))) : W p l e R s m args below meth c H locs (cb - w.2.1) (sb - w.2.2) Q (F0 m pc ls (.ref x1 :: .ref a0 :: rest)) :=
  h_kp (g_runSU (hK.1.1 14 _ rfl).2 F hK (hKm E A) S.1 (hmet_J2_append_3 l E A (w.1, c1, s1) a0 x1 Q' h) (va_cwSU 1 F.2.2.2.2 (gw_SU q790 q2367 q573 q791 q123 q792) rfl rfl rfl (by decide +kernel) hR) (h_recv hK S (ci := 14) rfl hrv) rfl hls rfl hWt hdg ⟨by rw [hrc]; exact (h_left S h1 h2).1, by rw [hrs]; exact (h_left S h1 h2).2⟩) S h1 h2 kk
def hf_J3_append_3 (pl : Nat → Nat) (w : hW) (a0 : Nat) (x1 : Nat) (Q : Nat → hO → Prop) : Prop :=
  obd (hIs w a0 14) fun u1 =>
  hcall w fun n3 n4 => hf_J2_append_3 pl (w.1, n3, n4) a0 x1 fun v7 o6 => hret w n3 n4 o6 fun w5 =>
  Q a0 w5.1
abbrev hrm_J3_append_3 (c s : Nat) : Room := { frames := 5, cells := c, slots := s, locals := 113 }
set_option maxHeartbeats 4000000 in
set_option maxRecDepth 100000 in
theorem hmet_J3_append_3 (l : Launch) (E : hEnv) (A : Nat → Prop) (w : hW) (a0 : Nat) (x1 : Nat) (Q : Nat → hO → Prop) (h : hf_J3_append_3 E.2.2 w a0 x1 Q) : Met l yJ3_append_3 (ws_ yJ3_append_3 cJ3_append_3 2 (some (.object "java/lang/StringBuilder"))) (hrm_J3_append_3 w.2.1 w.2.2) (va_Pc [.ref a0, .ref x1] (gPre (hK E A) (hP E A w.1))) (hQp E A Q) w.2.1 w.2.2 A := by
  refine h_met (own := RJ3) (by decide +kernel) rfl (Nat.le_of_ble_eq_true rfl) ?_
  intro p e s m args below meth c ls cb sb F hr hlk hK S hl
  have hx := F.1
  have hb := F.2.1
  have hl : lv_has ls 2 [(0, .ref a0), (1, .ref x1)] := hl
  unfold hf_J3_append_3 at h
  refine lv_aload_n hx hb dJ3_append_3_0 rfl (lv_at hl 0 rfl) ?_
  refine lv_aload_n hx hb dJ3_append_3_1 rfl (lv_at hl 1 rfl) ?_
  obtain ⟨u1, e2, h⟩ := obd_inv h
  obtain ⟨n3, n4, h1, h2, h⟩ := hcall_inv h
  refine hcl_J2_append_3_J3_29 F hK S (hIs_inv e2) h1 h2 h rfl rfl hl.1 (Nat.le_of_ble_eq_true rfl) ⟨Nat.le_of_ble_eq_true rfl, Nat.le_of_ble_eq_true rfl⟩ dJ3_append_3_2 (fun v7 o6 w5 H locs hw h S => ?_)
  replace h := hret_mp h hw
  clear hw h1 h2
  refine lv_pop hx hb dJ3_append_3_5 rfl ?_
  refine lv_aload_n hx hb dJ3_append_3_6 rfl (lv_at hl 0 rfl) ?_
  exact h_aret F hr (Or.inl ⟨_, rfl⟩) hlk S h dJ3_append_3_7
theorem hn_J3_18 {p : Program} {l : Launch} {e : Env} {s : State} {m : MethodId} {args : Array Value} {below : List Frame} {meth : Method} {c : Code} {R : Room} {H : Heap} {locs : List Loc} {cb sb pc nL : Nat} {Q : State → Prop} {ls : Array Slot} {rest : List Value} {cc : ByteArray} {E : hEnv} {A : Nat → Prop} {w : hW} (F : CallFix p m c cc nL s args lw_all RJ3) (hK : hK E A s) (S : hS E A s.heap cb sb w H locs) (hrc : R.cells = cb) (hrs : R.slots = sb) {f : Nat → hW → Prop} (h : hNew w (.inl (15, [.null, .int 0, .int 0, .int 0])) 4 f) (hdg : decode cc pc = .ok (.new 18, 3)) (kk : ∀ (q : Nat) (w' : hW) (H1 : Heap), f q w' → hS E A s.heap cb sb w' H1 locs → W p l e R s m args below meth c H1 locs (cb - w'.2.1) (sb - w'.2.2) Q (F0 m (pc + 3) ls (.ref q :: rest))) : W p l e R s m args below meth c H locs (cb - w.2.1) (sb - w.2.2) Q (F0 m pc ls rest) :=
  h_new F hK S hrc hrs (C := RJ4) (T := TJ4) (N := 4) tyJ4 tyJ4_ok q674 q675 q125 in_J4 rfl (fun j hj => by match j, hj with | 0, _ => rfl | 1, _ => rfl | 2, _ => rfl | 3, _ => rfl) h hdg kk
theorem hcl_J4_init_J3_137 {p : Program} {l : Launch} {e : Env} {s : State} {m : MethodId} {args : Array Value} {below : List Frame} {meth : Method} {c : Code} {R : Room} {H : Heap} {locs : List Loc} {cb sb pc nL : Nat} {Q : State → Prop} {ls : Array Slot} {rest : List Value} {cc : ByteArray} {E : hEnv} {A : Nat → Prop} {w : hW} {a0 : Nat} {x1 : Nat} {Q' : hO → Prop} {c1 s1 : Nat} (F : CallFix p m c cc nL s args lw_all RJ3) (hK : hK E A s) (S : hS E A s.heap cb sb w H locs) (h1 : c1 ≤ w.2.1) (h2 : s1 ≤ w.2.2) (h : hf_J4_init E.2.2 (w.1, c1, s1) a0 x1 Q') (hrc : R.cells = cb) (hrs : R.slots = sb) (hls : ls.size = nL) (hWt : (rest.map fun v => v.category).sum ≤ 8) (hR : 4 + 1 ≤ R.frames ∧ 8 + (2 + 11) + 109 ≤ R.locals) (hdg : decode cc pc = .ok (.invokespecial 137, 3))
    (kk : ∀ (o : hO) (w' : hW) (H1 : Heap) (locs1 : List Loc), w' = (o, w.2.1 - c1, w.2.2 - s1) → Q' o → hS E A s.heap cb sb w' H1 locs1 → W p l e R s m args below meth c H1 locs1 (cb - w'.2.1) (sb - w'.2.2) Q (F0 m (pc + 3) ls (rest))) : W p l e R s m args below meth c H locs (cb - w.2.1) (sb - w.2.2) Q (F0 m pc ls (.ref x1 :: .ref a0 :: rest)) :=
  h_kv (g_runI F hK (hKm E A) S.1 (hmet_J4_init l E A (w.1, c1, s1) a0 x1 Q' h) (cwI 1 F.2.2.2.2 (lw_meth q678) rfl rfl rfl (F.2.2.2.2 _ q125) (F.2.2.2.2 _ q676) (F.2.2.2.2 _ q677) rfl (by decide +kernel) hR) rfl hls rfl hWt hdg ⟨by rw [hrc]; exact (h_left S h1 h2).1, by rw [hrs]; exact (h_left S h1 h2).2⟩) S h1 h2 kk
def hf_J3_toString (pl : Nat → Nat) (w : hW) (a0 : Nat) (Q : Nat → hO → Prop) : Prop :=
  hNew w (.inl (15, [.null, .int 0, .int 0, .int 0])) 4 fun q1 w2 =>
  hcall w2 fun n3 n4 => hf_J4_init pl (w2.1, n3, n4) q1 a0 fun o6 => hret w2 n3 n4 o6 fun w5 =>
  Q q1 w5.1
abbrev hrm_J3_toString (c s : Nat) : Room := { frames := 5, cells := c, slots := s, locals := 130 }
set_option maxHeartbeats 4000000 in
set_option maxRecDepth 100000 in
theorem hmet_J3_toString (l : Launch) (E : hEnv) (A : Nat → Prop) (w : hW) (a0 : Nat) (Q : Nat → hO → Prop) (h : hf_J3_toString E.2.2 w a0 Q) : Met l yJ3_toString (ws_ yJ3_toString cJ3_toString 1 (some (.object "java/lang/String"))) (hrm_J3_toString w.2.1 w.2.2) (va_Pc [.ref a0] (gPre (hK E A) (hP E A w.1))) (hQp E A Q) w.2.1 w.2.2 A := by
  refine h_met (own := RJ3) (by decide +kernel) rfl (Nat.le_of_ble_eq_true rfl) ?_
  intro p e s m args below meth c ls cb sb F hr hlk hK S hl
  have hx := F.1
  have hb := F.2.1
  have hl : lv_has ls 1 [(0, .ref a0)] := hl
  unfold hf_J3_toString at h
  refine hn_J3_18 F hK S rfl rfl h dJ3_toString_0 (fun q1 w2 H h S => ?_)
  refine lv_dup hx hb dJ3_toString_3 rfl ?_
  refine lv_aload_n hx hb dJ3_toString_4 rfl (lv_at hl 0 rfl) ?_
  obtain ⟨n3, n4, h1, h2, h⟩ := hcall_inv h
  refine hcl_J4_init_J3_137 F hK S h1 h2 h rfl rfl hl.1 (Nat.le_of_ble_eq_true rfl) ⟨Nat.le_of_ble_eq_true rfl, Nat.le_of_ble_eq_true rfl⟩ dJ3_toString_5 (fun o6 w5 H locs hw h S => ?_)
  replace h := hret_mp h hw
  clear hw h1 h2
  exact h_aret F hr (Or.inl ⟨_, rfl⟩) hlk S h dJ3_toString_8
