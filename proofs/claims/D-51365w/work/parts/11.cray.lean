/-! THE COMPONENT, extracted (printed by gen/emit_comp.py) -/
set_option maxRecDepth 100000
abbrev rm_c_X2_follow : Room := { frames := 4, cells := 0, slots := 0, locals := 90 }
def fc_X2_follow (g : mS) (x1 : Int32) : Option (Int32 × mS) :=
  bd1 (wrF g 7 0) fun g1 =>
  bd1 (wrF g1 8 0) fun g3 =>
  bd1 (rdW g3) fun v5 =>
  bd1 (ix100 (x1 / 4)) fun v7 =>
  bd1 (vPasses g3 v5 v7 (irm x1 4)) fun g9 =>
  some ((g9 0 7), g9)
set_option maxHeartbeats 4000000 in
set_option maxRecDepth 100000 in
theorem met_c_X2_follow (l : Launch) (E : cEnv) (g : mS) (x1 : Int32) (r : Int32) (gZ : mS) (h : fc_X2_follow g x1 = some (r, gZ)) : Met l yX2_follow (ws_ yX2_follow cX2_follow 2 (some .int)) rm_c_X2_follow (va_Pc [.ref (cad E 0), .int x1] (gPre (cK E) (cP E g))) (gQi r (cP E gZ) (wA E)) 0 0 (wA E) := by
  refine g_met (own := RX2) (by decide) rfl (Nat.le_of_ble_eq_true rfl) ?_
  intro p e s m args below meth c ls F hr hlk hK S hl
  have hx := F.1
  have hb := F.2.1
  have hl : lv_has ls 2 [(0, .ref (cad E 0)), (1, .int x1)] := hl
  unfold fc_X2_follow at h
  refine lv_aload_n hx hb dX2_follow_0 rfl (lv_at hl 0 rfl) ?_
  refine lv_iconst (v := 0) hx hb dX2_follow_1 (by decide) ?_
  obtain ⟨g1, e2, h⟩ := bd1_inv h
  refine cw_X2_50 F hK S  e2 dX2_follow_2 (fun H locs S => ?_)
  refine lv_aload_n hx hb dX2_follow_5 rfl (lv_at hl 0 rfl) ?_
  refine lv_iconst (v := 0) hx hb dX2_follow_6 (by decide) ?_
  obtain ⟨g3, e4, h⟩ := bd1_inv h
  refine cw_X2_46 F hK S  e4 dX2_follow_7 (fun H locs S => ?_)
  refine lv_aload_n hx hb dX2_follow_10 rfl (lv_at hl 0 rfl) ?_
  obtain ⟨v5, e6, h⟩ := bd1_inv h
  refine cg_X2_36 F hK S e6 dX2_follow_11 (fun hv5 => ?_)
  refine cg_X2_53 F hK S (by assumption) dX2_follow_14 ?_
  refine lv_iload_n hx hb dX2_follow_17 rfl (lv_at hl 1 rfl) ?_
  refine lv_iconst (v := 4) hx hb dX2_follow_18 (by decide) ?_
  refine lv_idiv hx hb dX2_follow_19 (by decide) ?_
  obtain ⟨v7, e8, h⟩ := bd1_inv h
  have hv7 := ix100_lt e8
  refine c_aald F hK S (by assumption) e8 dX2_follow_20 ?_
  refine lv_iload_n hx hb dX2_follow_21 rfl (lv_at hl 1 rfl) ?_
  refine lv_iconst (v := 4) hx hb dX2_follow_22 (by decide) ?_
  refine lv_irem hx hb dX2_follow_23 (by decide) ?_
  refine lv_aload_n hx hb dX2_follow_24 rfl (lv_at hl 0 rfl) ?_
  obtain ⟨g9, e10, h⟩ := bd1_inv h
  refine cv_passes_X2_57 F hK S (by assumption) (by assumption) e10 hl.1 (Nat.le_of_ble_eq_true rfl) ⟨Nat.le_of_ble_eq_true rfl, Nat.le_of_ble_eq_true rfl⟩ ⟨Nat.zero_le _, Nat.zero_le _⟩ dX2_follow_25 (fun H locs S => ?_)
  refine lv_aload_n hx hb dX2_follow_28 rfl (lv_at hl 0 rfl) ?_
  refine cg_X2_50 F hK S  dX2_follow_29 ?_
  cases h
  exact g_iret F hr hlk S rfl dX2_follow_32
theorem call_c_X2_follow_X1_315 {p : Program} {l : Launch} {e : Env} {s : State} {m : MethodId} {args : Array Value} {below : List Frame} {meth : Method} {c : Code} {R : Room} {H : Heap} {locs : List Loc} {cells slots pc nL : Nat} {Q : State → Prop} {ls : Array Slot} {rest : List Value} {cc : ByteArray} {E : cEnv} {g : mS} {x1 : Int32} {r : Int32} {gZ : mS} (F : CallFix p m c cc nL s args lw_all RX1) (hK : cK E s) (S : gS (wA E) s.heap (cP E g) H locs) (h : fc_X2_follow g x1 = some (r, gZ)) (hls : ls.size = nL) (hW : (rest.map fun v => v.category).sum ≤ 8) (hR : rm_c_X2_follow.frames + 1 ≤ R.frames ∧ 8 + (2 + 11) + rm_c_X2_follow.locals ≤ R.locals) (hf : cells ≤ R.cells ∧ slots ≤ R.slots) (hdg : decode cc pc = .ok (.invokevirtual 315, 3))
    (kk : ∀ (H1 : Heap) (locs1 : List Loc), gS (wA E) s.heap (cP E gZ) H1 locs1 → W p l e R s m args below meth c H1 locs1 cells slots Q (F0 m (pc + 3) ls (.int r :: rest))) : W p l e R s m args below meth c H locs cells slots Q (F0 m pc ls (.int x1 :: .ref (cad E 0) :: rest)) :=
  g_ki (g_runV F hK (cKm E) S (met_c_X2_follow l E g x1 r gZ h) (cwV 1 F.2.2.2.2 (lw_V q1728 q425 q426 q112 q427) rfl rfl rfl (by decide +kernel) hR) (va_recv hK.1 (va_P1 (cAt_ray S.1)) (ci := 2) (q0 := 0) rfl rfl) rfl hls rfl hW hdg hf) S kk
theorem call_c_X2_follow_X2_83 {p : Program} {l : Launch} {e : Env} {s : State} {m : MethodId} {args : Array Value} {below : List Frame} {meth : Method} {c : Code} {R : Room} {H : Heap} {locs : List Loc} {cells slots pc nL : Nat} {Q : State → Prop} {ls : Array Slot} {rest : List Value} {cc : ByteArray} {E : cEnv} {g : mS} {x1 : Int32} {r : Int32} {gZ : mS} (F : CallFix p m c cc nL s args lw_all RX2) (hK : cK E s) (S : gS (wA E) s.heap (cP E g) H locs) (h : fc_X2_follow g x1 = some (r, gZ)) (hls : ls.size = nL) (hW : (rest.map fun v => v.category).sum ≤ 8) (hR : rm_c_X2_follow.frames + 1 ≤ R.frames ∧ 8 + (2 + 11) + rm_c_X2_follow.locals ≤ R.locals) (hf : cells ≤ R.cells ∧ slots ≤ R.slots) (hdg : decode cc pc = .ok (.invokevirtual 83, 3))
    (kk : ∀ (H1 : Heap) (locs1 : List Loc), gS (wA E) s.heap (cP E gZ) H1 locs1 → W p l e R s m args below meth c H1 locs1 cells slots Q (F0 m (pc + 3) ls (.int r :: rest))) : W p l e R s m args below meth c H locs cells slots Q (F0 m pc ls (.int x1 :: .ref (cad E 0) :: rest)) :=
  g_ki (g_runV F hK (cKm E) S (met_c_X2_follow l E g x1 r gZ h) (cwV 1 F.2.2.2.2 (lw_V q424 q425 q426 q112 q427) rfl rfl rfl (by decide +kernel) hR) (va_recv hK.1 (va_P1 (cAt_ray S.1)) (ci := 2) (q0 := 0) rfl rfl) rfl hls rfl hW hdg hf) S kk
abbrev rm_c_X2_adds : Room := { frames := 0, cells := 0, slots := 0, locals := 0 }
def fc_X2_adds (g : mS) (x1 : Int32) (x2 : Int32) : Option (mS) :=
  bd1 (crdI g 3 x1) fun v1 =>
  if v1 = 0 then
    bd1 (cwrI g 1 (g 0 4) x1) fun g4 =>
    bd1 (cwrI g4 2 (g4 0 4) x2) fun g6 =>
    bd1 (wrF g6 4 ((g6 0 4) + 1)) fun g8 =>
    bd1 (cwrI g8 3 x1 (g8 0 4)) fun g10 =>
    some g10
  else
    some g
set_option maxHeartbeats 4000000 in
set_option maxRecDepth 100000 in
theorem met_c_X2_adds (l : Launch) (E : cEnv) (g : mS) (x1 : Int32) (x2 : Int32) (gZ : mS) (h : fc_X2_adds g x1 x2 = some gZ) : Met l yX2_adds (ws_ yX2_adds cX2_adds 3 (none)) rm_c_X2_adds (va_Pc [.ref (cad E 0), .int x1, .int x2] (gPre (cK E) (cP E g))) (gQv (cP E gZ) (wA E)) 0 0 (wA E) := by
  refine g_met (own := RX2) (by decide) rfl (Nat.le_of_ble_eq_true rfl) ?_
  intro p e s m args below meth c ls F hr hlk hK S hl
  have hx := F.1
  have hb := F.2.1
  have hl : lv_has ls 3 [(0, .ref (cad E 0)), (1, .int x1), (2, .int x2)] := hl
  unfold fc_X2_adds at h
  refine lv_aload_n hx hb dX2_adds_0 rfl (lv_at hl 0 rfl) ?_
  refine cg_X2_18 F hK S  dX2_adds_1 ?_
  refine lv_iload_n hx hb dX2_adds_4 rfl (lv_at hl 1 rfl) ?_
  obtain ⟨v1, e2, h⟩ := bd1_inv h
  refine c_iald F hK S e2 dX2_adds_5 ?_
  refine lv_if_ne (tgt := 49) hx hb dX2_adds_6 (by decide) (fun c3 => ?_) (fun c3 => ?_)
  · rw [if_neg c3] at h
    cases h
    exact g_vret F hr hlk S dX2_adds_49
  · rw [if_pos c3] at h
    refine lv_aload_n hx hb dX2_adds_9 rfl (lv_at hl 0 rfl) ?_
    refine cg_X2_9 F hK S  dX2_adds_10 ?_
    refine lv_aload_n hx hb dX2_adds_13 rfl (lv_at hl 0 rfl) ?_
    refine cg_X2_63 F hK S  dX2_adds_14 ?_
    refine lv_iload_n hx hb dX2_adds_17 rfl (lv_at hl 1 rfl) ?_
    obtain ⟨g4, e5, h⟩ := bd1_inv h
    refine c_iast F hK S e5 dX2_adds_18 (fun H locs S => ?_)
    refine lv_aload_n hx hb dX2_adds_19 rfl (lv_at hl 0 rfl) ?_
    refine cg_X2_15 F hK S  dX2_adds_20 ?_
    refine lv_aload_n hx hb dX2_adds_23 rfl (lv_at hl 0 rfl) ?_
    refine cg_X2_63 F hK S  dX2_adds_24 ?_
    refine lv_iload_n hx hb dX2_adds_27 rfl (lv_at hl 2 rfl) ?_
    obtain ⟨g6, e7, h⟩ := bd1_inv h
    refine c_iast F hK S e7 dX2_adds_28 (fun H locs S => ?_)
    refine lv_aload_n hx hb dX2_adds_29 rfl (lv_at hl 0 rfl) ?_
    refine lv_dup hx hb dX2_adds_30 rfl ?_
    refine cg_X2_63 F hK S  dX2_adds_31 ?_
    refine lv_iconst (v := 1) hx hb dX2_adds_34 (by decide) ?_
    refine lv_iadd hx hb dX2_adds_35 ?_
    obtain ⟨g8, e9, h⟩ := bd1_inv h
    refine cw_X2_63 F hK S  e9 dX2_adds_36 (fun H locs S => ?_)
    refine lv_aload_n hx hb dX2_adds_39 rfl (lv_at hl 0 rfl) ?_
    refine cg_X2_18 F hK S  dX2_adds_40 ?_
    refine lv_iload_n hx hb dX2_adds_43 rfl (lv_at hl 1 rfl) ?_
    refine lv_aload_n hx hb dX2_adds_44 rfl (lv_at hl 0 rfl) ?_
    refine cg_X2_63 F hK S  dX2_adds_45 ?_
    obtain ⟨g10, e11, h⟩ := bd1_inv h
    refine c_iast F hK S e11 dX2_adds_48 (fun H locs S => ?_)
    cases h
    exact g_vret F hr hlk S dX2_adds_49
theorem call_c_X2_adds_X2_80 {p : Program} {l : Launch} {e : Env} {s : State} {m : MethodId} {args : Array Value} {below : List Frame} {meth : Method} {c : Code} {R : Room} {H : Heap} {locs : List Loc} {cells slots pc nL : Nat} {Q : State → Prop} {ls : Array Slot} {rest : List Value} {cc : ByteArray} {E : cEnv} {g : mS} {x1 : Int32} {x2 : Int32} {gZ : mS} (F : CallFix p m c cc nL s args lw_all RX2) (hK : cK E s) (S : gS (wA E) s.heap (cP E g) H locs) (h : fc_X2_adds g x1 x2 = some gZ) (hls : ls.size = nL) (hW : (rest.map fun v => v.category).sum ≤ 8) (hR : rm_c_X2_adds.frames + 1 ≤ R.frames ∧ 8 + (3 + 11) + rm_c_X2_adds.locals ≤ R.locals) (hf : cells ≤ R.cells ∧ slots ≤ R.slots) (hdg : decode cc pc = .ok (.invokevirtual 80, 3))
    (kk : ∀ (H1 : Heap) (locs1 : List Loc), gS (wA E) s.heap (cP E gZ) H1 locs1 → W p l e R s m args below meth c H1 locs1 cells slots Q (F0 m (pc + 3) ls (rest))) : W p l e R s m args below meth c H locs cells slots Q (F0 m pc ls (.int x2 :: .int x1 :: .ref (cad E 0) :: rest)) :=
  g_kv (g_runV F hK (cKm E) S (met_c_X2_adds l E g x1 x2 gZ h) (cwV 2 F.2.2.2.2 (lw_V q420 q422 qs1 q112 q423) rfl rfl rfl (by decide +kernel) hR) (va_recv hK.1 (va_P1 (cAt_ray S.1)) (ci := 2) (q0 := 0) rfl rfl) rfl hls rfl hW hdg hf) S kk
abbrev rm_c_X2_numberOf : Room := { frames := 0, cells := 0, slots := 0, locals := 0 }
def fc_X2_numberOf (g : mS) (x1 : Int32) : Option (Int32) :=
  bd1 (crdI g 3 x1) fun v1 =>
  some (v1 - 1)
set_option maxHeartbeats 4000000 in
set_option maxRecDepth 100000 in
theorem met_c_X2_numberOf (l : Launch) (E : cEnv) (g : mS) (x1 : Int32) (r : Int32) (h : fc_X2_numberOf g x1 = some r) : Met l yX2_numberOf (ws_ yX2_numberOf cX2_numberOf 2 (some .int)) rm_c_X2_numberOf (va_Pc [.ref (cad E 0), .int x1] (gPre (cK E) (cP E g))) (gQi r (cP E g) (wA E)) 0 0 (wA E) := by
  refine g_met (own := RX2) (by decide) rfl (Nat.le_of_ble_eq_true rfl) ?_
  intro p e s m args below meth c ls F hr hlk hK S hl
  have hx := F.1
  have hb := F.2.1
  have hl : lv_has ls 2 [(0, .ref (cad E 0)), (1, .int x1)] := hl
  unfold fc_X2_numberOf at h
  refine lv_aload_n hx hb dX2_numberOf_0 rfl (lv_at hl 0 rfl) ?_
  refine cg_X2_18 F hK S  dX2_numberOf_1 ?_
  refine lv_iload_n hx hb dX2_numberOf_4 rfl (lv_at hl 1 rfl) ?_
  obtain ⟨v1, e2, h⟩ := bd1_inv h
  refine c_iald F hK S e2 dX2_numberOf_5 ?_
  refine lv_iconst (v := 1) hx hb dX2_numberOf_6 (by decide) ?_
  refine lv_isub hx hb dX2_numberOf_7 ?_
  cases h
  exact g_iret F hr hlk S rfl dX2_numberOf_8
theorem call_c_X2_numberOf_X2_87 {p : Program} {l : Launch} {e : Env} {s : State} {m : MethodId} {args : Array Value} {below : List Frame} {meth : Method} {c : Code} {R : Room} {H : Heap} {locs : List Loc} {cells slots pc nL : Nat} {Q : State → Prop} {ls : Array Slot} {rest : List Value} {cc : ByteArray} {E : cEnv} {g : mS} {x1 : Int32} {r : Int32} (F : CallFix p m c cc nL s args lw_all RX2) (hK : cK E s) (S : gS (wA E) s.heap (cP E g) H locs) (h : fc_X2_numberOf g x1 = some r) (hls : ls.size = nL) (hW : (rest.map fun v => v.category).sum ≤ 8) (hR : rm_c_X2_numberOf.frames + 1 ≤ R.frames ∧ 8 + (2 + 11) + rm_c_X2_numberOf.locals ≤ R.locals) (hf : cells ≤ R.cells ∧ slots ≤ R.slots) (hdg : decode cc pc = .ok (.invokevirtual 87, 3))
    (kk : ∀ (H1 : Heap) (locs1 : List Loc), gS (wA E) s.heap (cP E g) H1 locs1 → W p l e R s m args below meth c H1 locs1 cells slots Q (F0 m (pc + 3) ls (.int r :: rest))) : W p l e R s m args below meth c H locs cells slots Q (F0 m pc ls (.int x1 :: .ref (cad E 0) :: rest)) :=
  g_ki (g_runV F hK (cKm E) S (met_c_X2_numberOf l E g x1 r h) (cwV 1 F.2.2.2.2 (lw_V q1365 q1366 q1367 q112 q1368) rfl rfl rfl (by decide +kernel) hR) (va_recv hK.1 (va_P1 (cAt_ray S.1)) (ci := 2) (q0 := 0) rfl rfl) rfl hls rfl hW hdg hf) S kk
abbrev rm_c_X3_lampDirection : Room := { frames := 1, cells := 0, slots := 0, locals := 20 }
def fc_X3_lampDirection (g : mS) (J : Nat)  : Option (Int32) :=
  bd1 (ix100 (g J 606)) fun v1 =>
  some (vForm g J v1)
set_option maxHeartbeats 4000000 in
set_option maxRecDepth 100000 in
theorem met_c_X3_lampDirection (l : Launch) (E : cEnv) (g : mS) (J : Nat) (hJ : okW E J) (r : Int32) (h : fc_X3_lampDirection g J = some r) : Met l yX3_lampDirection (ws_ yX3_lampDirection cX3_lampDirection 1 (some .int)) rm_c_X3_lampDirection (va_Pc [.ref (cad E J)] (gPre (cK E) (cP E g))) (gQi r (cP E g) (wA E)) 0 0 (wA E) := by
  refine g_met (own := RX3) (by decide) rfl (Nat.le_of_ble_eq_true rfl) ?_
  intro p e s m args below meth c ls F hr hlk hK S hl
  have hx := F.1
  have hb := F.2.1
  have hl : lv_has ls 1 [(0, .ref (cad E J))] := hl
  unfold fc_X3_lampDirection at h
  refine lv_aload_n hx hb dX3_lampDirection_0 rfl (lv_at hl 0 rfl) ?_
  refine cg_X3_9 F hK S (by assumption) dX3_lampDirection_1 ?_
  refine lv_aload_n hx hb dX3_lampDirection_4 rfl (lv_at hl 0 rfl) ?_
  refine cg_X3_44 F hK S (by assumption) dX3_lampDirection_5 ?_
  obtain ⟨v1, e2, h⟩ := bd1_inv h
  have hv1 := ix100_lt e2
  refine c_aald F hK S (by assumption) e2 dX3_lampDirection_8 ?_
  refine cv_form_X3_64 F hK S (by assumption) (by assumption) hl.1 (Nat.le_of_ble_eq_true rfl) ⟨Nat.le_of_ble_eq_true rfl, Nat.le_of_ble_eq_true rfl⟩ ⟨Nat.zero_le _, Nat.zero_le _⟩ dX3_lampDirection_9 (fun H locs S => ?_)
  cases h
  exact g_iret F hr hlk S rfl dX3_lampDirection_12
theorem call_c_X3_lampDirection_X1_192 {p : Program} {l : Launch} {e : Env} {s : State} {m : MethodId} {args : Array Value} {below : List Frame} {meth : Method} {c : Code} {R : Room} {H : Heap} {locs : List Loc} {cells slots pc nL : Nat} {Q : State → Prop} {ls : Array Slot} {rest : List Value} {cc : ByteArray} {E : cEnv} {g : mS} {J : Nat} {r : Int32} (hJ : okW E J) (F : CallFix p m c cc nL s args lw_all RX1) (hK : cK E s) (S : gS (wA E) s.heap (cP E g) H locs) (h : fc_X3_lampDirection g J = some r) (hls : ls.size = nL) (hW : (rest.map fun v => v.category).sum ≤ 8) (hR : rm_c_X3_lampDirection.frames + 1 ≤ R.frames ∧ 8 + (1 + 11) + rm_c_X3_lampDirection.locals ≤ R.locals) (hf : cells ≤ R.cells ∧ slots ≤ R.slots) (hdg : decode cc pc = .ok (.invokevirtual 192, 3))
    (kk : ∀ (H1 : Heap) (locs1 : List Loc), gS (wA E) s.heap (cP E g) H1 locs1 → W p l e R s m args below meth c H1 locs1 cells slots Q (F0 m (pc + 3) ls (.int r :: rest))) : W p l e R s m args below meth c H locs cells slots Q (F0 m pc ls (.ref (cad E J) :: rest)) :=
  g_ki (g_runV F hK (cKm E) S (met_c_X3_lampDirection l E g J hJ r h) (cwV 0 F.2.2.2.2 (lw_V q1583 q384 q385 q115 q386) rfl rfl rfl (by decide +kernel) hR) (va_recv hK.1 (va_P1 (cAt_w S.1 hJ)) (ci := 3) (q0 := 0) rfl rfl) rfl hls rfl hW hdg hf) S kk
theorem call_c_X3_lampDirection_X2_69 {p : Program} {l : Launch} {e : Env} {s : State} {m : MethodId} {args : Array Value} {below : List Frame} {meth : Method} {c : Code} {R : Room} {H : Heap} {locs : List Loc} {cells slots pc nL : Nat} {Q : State → Prop} {ls : Array Slot} {rest : List Value} {cc : ByteArray} {E : cEnv} {g : mS} {J : Nat} {r : Int32} (hJ : okW E J) (F : CallFix p m c cc nL s args lw_all RX2) (hK : cK E s) (S : gS (wA E) s.heap (cP E g) H locs) (h : fc_X3_lampDirection g J = some r) (hls : ls.size = nL) (hW : (rest.map fun v => v.category).sum ≤ 8) (hR : rm_c_X3_lampDirection.frames + 1 ≤ R.frames ∧ 8 + (1 + 11) + rm_c_X3_lampDirection.locals ≤ R.locals) (hf : cells ≤ R.cells ∧ slots ≤ R.slots) (hdg : decode cc pc = .ok (.invokevirtual 69, 3))
    (kk : ∀ (H1 : Heap) (locs1 : List Loc), gS (wA E) s.heap (cP E g) H1 locs1 → W p l e R s m args below meth c H1 locs1 cells slots Q (F0 m (pc + 3) ls (.int r :: rest))) : W p l e R s m args below meth c H locs cells slots Q (F0 m pc ls (.ref (cad E J) :: rest)) :=
  g_ki (g_runV F hK (cKm E) S (met_c_X3_lampDirection l E g J hJ r h) (cwV 0 F.2.2.2.2 (lw_V q383 q384 q385 q115 q386) rfl rfl rfl (by decide +kernel) hR) (va_recv hK.1 (va_P1 (cAt_w S.1 hJ)) (ci := 3) (q0 := 0) rfl rfl) rfl hls rfl hW hdg hf) S kk
abbrev rm_c_X2_trace : Room := { frames := 5, cells := 0, slots := 0, locals := 111 }
def Lc_X2_trace_1 : Nat → mS → Int32 → Option (mS)
  | 0, _, _ => none
  | n + 1, g, y2 =>
    if 400 ≤ y2 then
      some g
    else
      bd1 (cwrI g 3 y2 0) fun g4 =>
      Lc_X2_trace_1 n g4 (y2 + 1)
def Lc_X2_trace_3 : Nat → mS → Int32 → Int32 → Int32 → Option (mS)
  | 0, _, _, _, _ => none
  | n + 1, g, y2, y3, y4 =>
    if y3 ≤ y4 then
      some g
    else
      bd1 (crdI g 4 y4) fun v39 =>
      bd1 (crdI g 2 y2) fun v41 =>
      bd1 (fc_X2_adds g v39 (v41 + 1)) fun g44 =>
      Lc_X2_trace_3 n g44 y2 y3 (y4 + 1)
def Lc_X2_trace_2 : Nat → mS → Int32 → Option (mS)
  | 0, _, _ => none
  | n + 1, g, y2 =>
    if (g 0 4) ≤ y2 then
      some g
    else
      bd1 (crdI g 1 y2) fun v31 =>
      bd2 (fc_X2_follow g v31) fun v34 g35 =>
      bd1 (wrF g35 5 ((g35 0 5) + (g35 0 8))) fun g36 =>
      bd1 (Lc_X2_trace_3 FUEL g36 y2 v34 0) fun g46 =>
      Lc_X2_trace_2 n g46 (y2 + 1)
def fc_X2_trace (g : mS) (x1 : Nat) : Option (mS) :=
  bd1 (wrY g x1) fun g1 =>
  bd1 (Lc_X2_trace_1 FUEL g1 0) fun g7 =>
  bd1 (wrF g7 4 0) fun g8 =>
  bd1 (wrF g8 7 0) fun g10 =>
  bd1 (wrF g10 8 0) fun g12 =>
  bd1 (rdW g12) fun v14 =>
  bd1 (rdW g12) fun v16 =>
  bd1 (fc_X3_lampDirection g12 v16) fun v19 =>
  bd1 (fc_X2_goes g12 (g12 v14 606) v19) fun g21 =>
  bd1 (wrF g21 5 (g21 0 8)) fun g22 =>
  bd1 ((
    if (g22 0 7) ≤ 0 then
      some g22
    else
      bd1 (crdI g22 4 0) fun v25 =>
      bd1 (fc_X2_adds g22 v25 0) fun g28 =>
      some g28) : Option (mS)) fun g29 =>
  bd1 (Lc_X2_trace_2 FUEL g29 0) fun g49 =>
  some g49
set_option maxHeartbeats 4000000 in
set_option maxRecDepth 100000 in
theorem loop_c_X2_trace_1 {p : Program} {l : Launch} {e : Env} {s : State} {m : MethodId} {args : Array Value} {below : List Frame} {meth : Method} {c : Code} (E : cEnv) {x1 : Nat} (F : CallFix p m c cX2_trace 5 s args lw_all RX2) (hr : meth.sig.returnType = none) (hlk : meth.locks = false) (hK : cK E s) (hx1 : okW E x1) {Q : State → Prop} : ∀ (n : Nat) (g : mS) (y2 : Int32) (o : mS), Lc_X2_trace_1 n g y2 = some o → ∀ (H : Heap) (locs : List Loc) (ls : Array Slot), gS (wA E) s.heap (cP E g) H locs → lv_has ls 5 [(0, .ref (cad E 0)), (2, .int y2)] → (∀  (gx : mS) (H : Heap) (locs : List Loc) (ls : Array Slot), o = gx → gS (wA E) s.heap (cP E gx) H locs → lv_has ls 5 [(0, .ref (cad E 0))] → W p l e rm_c_X2_trace s m args below meth c H locs 0 0 Q (F0 m 27 ls [])) → W p l e rm_c_X2_trace s m args below meth c H locs 0 0 Q (F0 m 7 ls []) := by
  have hx := F.1
  have hb := F.2.1
  intro n
  induction n with
  | zero =>
    intro g y2 o h
    rw [Lc_X2_trace_1] at h
    cases h
  | succ n ih =>
    intro g y2 o h H locs ls S hl kx
    rw [Lc_X2_trace_1] at h
    refine lv_iload_n hx hb dX2_trace_7 rfl (lv_at hl 1 rfl) ?_
    refine lv_sipush (v := 400) hx hb dX2_trace_8 (by decide) ?_
    refine lv_icmp_ge (tgt := 27) hx hb dX2_trace_11 (by decide) (fun c3 => ?_) (fun c3 => ?_)
    · rw [if_pos c3] at h
      cases h
      exact kx _ _ _ _ rfl S (lv_sub hl [0] rfl)
    · rw [if_neg c3] at h
      refine lv_aload_n hx hb dX2_trace_14 rfl (lv_at hl 0 rfl) ?_
      refine cg_X2_18 F hK S  dX2_trace_15 ?_
      refine lv_iload_n hx hb dX2_trace_18 rfl (lv_at hl 1 rfl) ?_
      refine lv_iconst (v := 0) hx hb dX2_trace_19 (by decide) ?_
      obtain ⟨g4, e5, h⟩ := bd1_inv h
      refine c_iast F hK S e5 dX2_trace_20 (fun H locs S => ?_)
      refine lv_iinc (v := (y2 + 1)) (lv' := [(2, .int (y2 + 1)), (0, .ref (cad E 0))]) hx hb dX2_trace_21 hl (k := 1) rfl rfl (by decide) rfl (fun ls hl => ?_)
      refine lv_goto (tgt := 7) hx hb dX2_trace_24 (by decide) ?_
      exact ih _ _ _ h _ _ _ S (lv_sub hl [1, 0] rfl) kx
set_option maxHeartbeats 4000000 in
set_option maxRecDepth 100000 in
theorem loop_c_X2_trace_3 {p : Program} {l : Launch} {e : Env} {s : State} {m : MethodId} {args : Array Value} {below : List Frame} {meth : Method} {c : Code} (E : cEnv) {x1 : Nat} (F : CallFix p m c cX2_trace 5 s args lw_all RX2) (hr : meth.sig.returnType = none) (hlk : meth.locks = false) (hK : cK E s) (hx1 : okW E x1) {Q : State → Prop} : ∀ (n : Nat) (g : mS) (y2 : Int32) (y3 : Int32) (y4 : Int32) (o : mS), Lc_X2_trace_3 n g y2 y3 y4 = some o → ∀ (H : Heap) (locs : List Loc) (ls : Array Slot), gS (wA E) s.heap (cP E g) H locs → lv_has ls 5 [(0, .ref (cad E 0)), (2, .int y2), (3, .int y3), (4, .int y4)] → (∀  (gx : mS) (H : Heap) (locs : List Loc) (ls : Array Slot), o = gx → gS (wA E) s.heap (cP E gx) H locs → lv_has ls 5 [(0, .ref (cad E 0)), (2, .int y2)] → W p l e rm_c_X2_trace s m args below meth c H locs 0 0 Q (F0 m 154 ls [])) → W p l e rm_c_X2_trace s m args below meth c H locs 0 0 Q (F0 m 123 ls []) := by
  have hx := F.1
  have hb := F.2.1
  intro n
  induction n with
  | zero =>
    intro g y2 y3 y4 o h
    rw [Lc_X2_trace_3] at h
    cases h
  | succ n ih =>
    intro g y2 y3 y4 o h H locs ls S hl kx
    rw [Lc_X2_trace_3] at h
    refine lv_iload hx hb dX2_trace_123 (lv_at hl 3 rfl) ?_
    refine lv_iload_n hx hb dX2_trace_125 rfl (lv_at hl 2 rfl) ?_
    refine lv_icmp_ge (tgt := 154) hx hb dX2_trace_126 (by decide) (fun c38 => ?_) (fun c38 => ?_)
    · rw [if_pos c38] at h
      cases h
      exact kx _ _ _ _ rfl S (lv_sub hl [0, 1] rfl)
    · rw [if_neg c38] at h
      refine lv_aload_n hx hb dX2_trace_129 rfl (lv_at hl 0 rfl) ?_
      refine lv_aload_n hx hb dX2_trace_130 rfl (lv_at hl 0 rfl) ?_
      refine cg_X2_21 F hK S  dX2_trace_131 ?_
      refine lv_iload hx hb dX2_trace_134 (lv_at hl 3 rfl) ?_
      obtain ⟨v39, e40, h⟩ := bd1_inv h
      refine c_iald F hK S e40 dX2_trace_136 ?_
      refine lv_aload_n hx hb dX2_trace_137 rfl (lv_at hl 0 rfl) ?_
      refine cg_X2_15 F hK S  dX2_trace_138 ?_
      refine lv_iload_n hx hb dX2_trace_141 rfl (lv_at hl 1 rfl) ?_
      obtain ⟨v41, e42, h⟩ := bd1_inv h
      refine c_iald F hK S e42 dX2_trace_142 ?_
      refine lv_iconst (v := 1) hx hb dX2_trace_143 (by decide) ?_
      refine lv_iadd hx hb dX2_trace_144 ?_
      obtain ⟨g44, e43, h⟩ := bd1_inv h
      refine call_c_X2_adds_X2_80 F hK S e43 hl.1 (Nat.le_of_ble_eq_true rfl) ⟨Nat.le_of_ble_eq_true rfl, Nat.le_of_ble_eq_true rfl⟩ ⟨Nat.zero_le _, Nat.zero_le _⟩ dX2_trace_145 (fun H locs S => ?_)
      refine lv_iinc (v := (y4 + 1)) (lv' := [(4, .int (y4 + 1)), (0, .ref (cad E 0)), (2, .int y2), (3, .int y3)]) hx hb dX2_trace_148 hl (k := 3) rfl rfl (by decide) rfl (fun ls hl => ?_)
      refine lv_goto (tgt := 123) hx hb dX2_trace_151 (by decide) ?_
      exact ih _ _ _ _ _ h _ _ _ S (lv_sub hl [1, 2, 3, 0] rfl) kx
set_option maxHeartbeats 4000000 in
set_option maxRecDepth 100000 in
theorem loop_c_X2_trace_2 {p : Program} {l : Launch} {e : Env} {s : State} {m : MethodId} {args : Array Value} {below : List Frame} {meth : Method} {c : Code} (E : cEnv) {x1 : Nat} (F : CallFix p m c cX2_trace 5 s args lw_all RX2) (hr : meth.sig.returnType = none) (hlk : meth.locks = false) (hK : cK E s) (hx1 : okW E x1) {Q : State → Prop} : ∀ (n : Nat) (g : mS) (y2 : Int32) (o : mS), Lc_X2_trace_2 n g y2 = some o → ∀ (H : Heap) (locs : List Loc) (ls : Array Slot), gS (wA E) s.heap (cP E g) H locs → lv_has ls 5 [(0, .ref (cad E 0)), (2, .int y2)] → (∀  (gx : mS) (H : Heap) (locs : List Loc) (ls : Array Slot), o = gx → gS (wA E) s.heap (cP E gx) H locs → lv_has ls 5 [] → W p l e rm_c_X2_trace s m args below meth c H locs 0 0 Q (F0 m 160 ls [])) → W p l e rm_c_X2_trace s m args below meth c H locs 0 0 Q (F0 m 88 ls []) := by
  have hx := F.1
  have hb := F.2.1
  intro n
  induction n with
  | zero =>
    intro g y2 o h
    rw [Lc_X2_trace_2] at h
    cases h
  | succ n ih =>
    intro g y2 o h H locs ls S hl kx
    rw [Lc_X2_trace_2] at h
    refine lv_iload_n hx hb dX2_trace_88 rfl (lv_at hl 1 rfl) ?_
    refine lv_aload_n hx hb dX2_trace_89 rfl (lv_at hl 0 rfl) ?_
    refine cg_X2_63 F hK S  dX2_trace_90 ?_
    refine lv_icmp_ge (tgt := 160) hx hb dX2_trace_93 (by decide) (fun c30 => ?_) (fun c30 => ?_)
    · rw [if_pos c30] at h
      cases h
      exact kx _ _ _ _ rfl S (lv_sub hl [] rfl)
    · rw [if_neg c30] at h
      refine lv_aload_n hx hb dX2_trace_96 rfl (lv_at hl 0 rfl) ?_
      refine lv_aload_n hx hb dX2_trace_97 rfl (lv_at hl 0 rfl) ?_
      refine cg_X2_9 F hK S  dX2_trace_98 ?_
      refine lv_iload_n hx hb dX2_trace_101 rfl (lv_at hl 1 rfl) ?_
      obtain ⟨v31, e32, h⟩ := bd1_inv h
      refine c_iald F hK S e32 dX2_trace_102 ?_
      obtain ⟨v34, g35, e33, h⟩ := bd2_inv h
      refine call_c_X2_follow_X2_83 F hK S e33 hl.1 (Nat.le_of_ble_eq_true rfl) ⟨Nat.le_of_ble_eq_true rfl, Nat.le_of_ble_eq_true rfl⟩ ⟨Nat.zero_le _, Nat.zero_le _⟩ dX2_trace_103 (fun H locs S => ?_)
      refine lv_istore_n (lv' := [(3, .int v34), (0, .ref (cad E 0)), (2, .int y2)]) hx hb dX2_trace_106 rfl hl (by decide) rfl (fun ls hl => ?_)
      refine lv_aload_n hx hb dX2_trace_107 rfl (lv_at hl 1 rfl) ?_
      refine lv_dup hx hb dX2_trace_108 rfl ?_
      refine cg_X2_77 F hK S  dX2_trace_109 ?_
      refine lv_aload_n hx hb dX2_trace_112 rfl (lv_at hl 1 rfl) ?_
      refine cg_X2_46 F hK S  dX2_trace_113 ?_
      refine lv_iadd hx hb dX2_trace_116 ?_
      obtain ⟨g36, e37, h⟩ := bd1_inv h
      refine cw_X2_77 F hK S  e37 dX2_trace_117 (fun H locs S => ?_)
      refine lv_iconst (v := 0) hx hb dX2_trace_120 (by decide) ?_
      refine lv_istore (lv' := [(4, .int 0), (3, .int v34), (0, .ref (cad E 0)), (2, .int y2)]) hx hb dX2_trace_121 hl (by decide) rfl (fun ls hl => ?_)
      obtain ⟨g46, e45, h⟩ := bd1_inv h
      refine loop_c_X2_trace_3 E F hr hlk hK hx1 _ _ _ _ _ _ e45 _ _ _ S (lv_sub hl [2, 3, 1, 0] rfl) (fun g46z H locs ls o S hl => ?_)
      cases o
      refine lv_iinc (v := (y2 + 1)) (lv' := [(2, .int (y2 + 1)), (0, .ref (cad E 0))]) hx hb dX2_trace_154 hl (k := 1) rfl rfl (by decide) rfl (fun ls hl => ?_)
      refine lv_goto (tgt := 88) hx hb dX2_trace_157 (by decide) ?_
      exact ih _ _ _ h _ _ _ S (lv_sub hl [1, 0] rfl) kx
set_option maxHeartbeats 4000000 in
set_option maxRecDepth 100000 in
theorem met_c_X2_trace (l : Launch) (E : cEnv) (g : mS) (x1 : Nat) (hx1 : okW E x1) (gZ : mS) (h : fc_X2_trace g x1 = some gZ) : Met l yX2_trace (ws_ yX2_trace cX2_trace 5 (none)) rm_c_X2_trace (va_Pc [.ref (cad E 0), .ref (cad E x1)] (gPre (cK E) (cP E g))) (gQv (cP E gZ) (wA E)) 0 0 (wA E) := by
  refine g_met (own := RX2) (by decide) rfl (Nat.le_of_ble_eq_true rfl) ?_
  intro p e s m args below meth c ls F hr hlk hK S hl
  have hx := F.1
  have hb := F.2.1
  have hl : lv_has ls 5 [(0, .ref (cad E 0)), (1, .ref (cad E x1))] := hl
  unfold fc_X2_trace at h
  refine lv_aload_n hx hb dX2_trace_0 rfl (lv_at hl 0 rfl) ?_
  refine lv_aload_n hx hb dX2_trace_1 rfl (lv_at hl 1 rfl) ?_
  obtain ⟨g1, e2, h⟩ := bd1_inv h
  refine cw_X2_36 F hK S (by assumption) (hK.2.2.2.2.2.2.2) e2 dX2_trace_2 (fun H locs S => ?_)
  refine lv_iconst (v := 0) hx hb dX2_trace_5 (by decide) ?_
  refine lv_istore_n (lv' := [(2, .int 0), (0, .ref (cad E 0)), (1, .ref (cad E x1))]) hx hb dX2_trace_6 rfl hl (by decide) rfl (fun ls hl => ?_)
  obtain ⟨g7, e6, h⟩ := bd1_inv h
  refine loop_c_X2_trace_1 E F hr hlk hK hx1 _ _ _ _ e6 _ _ _ S (lv_sub hl [1, 0] rfl) (fun g7z H locs ls o S hl => ?_)
  cases o
  refine lv_aload_n hx hb dX2_trace_27 rfl (lv_at hl 0 rfl) ?_
  refine lv_iconst (v := 0) hx hb dX2_trace_28 (by decide) ?_
  obtain ⟨g8, e9, h⟩ := bd1_inv h
  refine cw_X2_63 F hK S  e9 dX2_trace_29 (fun H locs S => ?_)
  refine lv_aload_n hx hb dX2_trace_32 rfl (lv_at hl 0 rfl) ?_
  refine lv_iconst (v := 0) hx hb dX2_trace_33 (by decide) ?_
  obtain ⟨g10, e11, h⟩ := bd1_inv h
  refine cw_X2_50 F hK S  e11 dX2_trace_34 (fun H locs S => ?_)
  refine lv_aload_n hx hb dX2_trace_37 rfl (lv_at hl 0 rfl) ?_
  refine lv_iconst (v := 0) hx hb dX2_trace_38 (by decide) ?_
  obtain ⟨g12, e13, h⟩ := bd1_inv h
  refine cw_X2_46 F hK S  e13 dX2_trace_39 (fun H locs S => ?_)
  refine lv_aload_n hx hb dX2_trace_42 rfl (lv_at hl 0 rfl) ?_
  refine lv_aload_n hx hb dX2_trace_43 rfl (lv_at hl 0 rfl) ?_
  obtain ⟨v14, e15, h⟩ := bd1_inv h
  refine cg_X2_36 F hK S e15 dX2_trace_44 (fun hv14 => ?_)
  refine cg_X2_66 F hK S (by assumption) dX2_trace_47 ?_
  refine lv_aload_n hx hb dX2_trace_50 rfl (lv_at hl 0 rfl) ?_
  obtain ⟨v16, e17, h⟩ := bd1_inv h
  refine cg_X2_36 F hK S e17 dX2_trace_51 (fun hv16 => ?_)
  obtain ⟨v19, e18, h⟩ := bd1_inv h
  refine call_c_X3_lampDirection_X2_69 (by assumption) F hK S e18 hl.1 (Nat.le_of_ble_eq_true rfl) ⟨Nat.le_of_ble_eq_true rfl, Nat.le_of_ble_eq_true rfl⟩ ⟨Nat.zero_le _, Nat.zero_le _⟩ dX2_trace_54 (fun H locs S => ?_)
  obtain ⟨g21, e20, h⟩ := bd1_inv h
  refine call_c_X2_goes_X2_73 F hK S e20 hl.1 (Nat.le_of_ble_eq_true rfl) ⟨Nat.le_of_ble_eq_true rfl, Nat.le_of_ble_eq_true rfl⟩ ⟨Nat.zero_le _, Nat.zero_le _⟩ dX2_trace_57 (fun H locs S => ?_)
  refine lv_aload_n hx hb dX2_trace_60 rfl (lv_at hl 0 rfl) ?_
  refine lv_aload_n hx hb dX2_trace_61 rfl (lv_at hl 0 rfl) ?_
  refine cg_X2_46 F hK S  dX2_trace_62 ?_
  obtain ⟨g22, e23, h⟩ := bd1_inv h
  refine cw_X2_77 F hK S  e23 dX2_trace_65 (fun H locs S => ?_)
  refine lv_aload_n hx hb dX2_trace_68 rfl (lv_at hl 0 rfl) ?_
  refine cg_X2_50 F hK S  dX2_trace_69 ?_
  obtain ⟨g29, hB, h⟩ := bd1_inv h
  have hJ86 : ∀ (H : Heap) (locs : List Loc) (ls : Array Slot), gS (wA E) s.heap (cP E g29) H locs → lv_has ls 5 [(0, .ref (cad E 0))] → W p l e rm_c_X2_trace s m args below meth c H locs 0 0 (MQ below (gQv (cP E gZ) (wA E)) args s 0 0 (wA E)) (F0 m 86 ls []) := by
    intro H locs ls S hl
    refine lv_iconst (v := 0) hx hb dX2_trace_86 (by decide) ?_
    refine lv_istore_n (lv' := [(2, .int 0), (0, .ref (cad E 0))]) hx hb dX2_trace_87 rfl hl (by decide) rfl (fun ls hl => ?_)
    obtain ⟨g49, e48, h⟩ := bd1_inv h
    refine loop_c_X2_trace_2 E F hr hlk hK hx1 _ _ _ _ e48 _ _ _ S (lv_sub hl [1, 0] rfl) (fun g49z H locs ls o S hl => ?_)
    cases o
    cases h
    exact g_vret F hr hlk S dX2_trace_160
  clear h
  have h := hB
  clear hB
  refine lv_if_le (tgt := 86) hx hb dX2_trace_72 (by decide) (fun c24 => ?_) (fun c24 => ?_)
  · rw [if_pos c24] at h
    cases h
    exact hJ86 _ _ _ S (lv_sub hl [0] rfl)
  · rw [if_neg c24] at h
    refine lv_aload_n hx hb dX2_trace_75 rfl (lv_at hl 0 rfl) ?_
    refine lv_aload_n hx hb dX2_trace_76 rfl (lv_at hl 0 rfl) ?_
    refine cg_X2_21 F hK S  dX2_trace_77 ?_
    refine lv_iconst (v := 0) hx hb dX2_trace_80 (by decide) ?_
    obtain ⟨v25, e26, h⟩ := bd1_inv h
    refine c_iald F hK S e26 dX2_trace_81 ?_
    refine lv_iconst (v := 0) hx hb dX2_trace_82 (by decide) ?_
    obtain ⟨g28, e27, h⟩ := bd1_inv h
    refine call_c_X2_adds_X2_80 F hK S e27 hl.1 (Nat.le_of_ble_eq_true rfl) ⟨Nat.le_of_ble_eq_true rfl, Nat.le_of_ble_eq_true rfl⟩ ⟨Nat.zero_le _, Nat.zero_le _⟩ dX2_trace_83 (fun H locs S => ?_)
    cases h
    exact hJ86 _ _ _ S (lv_sub hl [0] rfl)
theorem call_c_X2_trace_X3_111 {p : Program} {l : Launch} {e : Env} {s : State} {m : MethodId} {args : Array Value} {below : List Frame} {meth : Method} {c : Code} {R : Room} {H : Heap} {locs : List Loc} {cells slots pc nL : Nat} {Q : State → Prop} {ls : Array Slot} {rest : List Value} {cc : ByteArray} {E : cEnv} {g : mS} {x1 : Nat} {gZ : mS} (hx1 : okW E x1) (F : CallFix p m c cc nL s args lw_all RX3) (hK : cK E s) (S : gS (wA E) s.heap (cP E g) H locs) (h : fc_X2_trace g x1 = some gZ) (hls : ls.size = nL) (hW : (rest.map fun v => v.category).sum ≤ 8) (hR : rm_c_X2_trace.frames + 1 ≤ R.frames ∧ 8 + (5 + 11) + rm_c_X2_trace.locals ≤ R.locals) (hf : cells ≤ R.cells ∧ slots ≤ R.slots) (hdg : decode cc pc = .ok (.invokevirtual 111, 3))
    (kk : ∀ (H1 : Heap) (locs1 : List Loc), gS (wA E) s.heap (cP E gZ) H1 locs1 → W p l e R s m args below meth c H1 locs1 cells slots Q (F0 m (pc + 3) ls (rest))) : W p l e R s m args below meth c H locs cells slots Q (F0 m pc ls (.ref (cad E x1) :: .ref (cad E 0) :: rest)) :=
  g_kv (g_runV F hK (cKm E) S (met_c_X2_trace l E g x1 hx1 gZ h) (cwV 1 F.2.2.2.2 (lw_V q379 q380 q381 q112 q382) rfl rfl rfl (by decide +kernel) hR) (va_recv hK.1 (va_P1 (cAt_ray S.1)) (ci := 2) (q0 := 0) rfl rfl) rfl hls rfl hW hdg hf) S kk
abbrev rm_c_X2_lights : Room := { frames := 0, cells := 0, slots := 0, locals := 0 }
def Lc_X2_lights_1 : Nat → mS → Int32 → Int32 → Int32 → Option (Int32)
  | 0, _, _, _, _ => none
  | n + 1, g, y1, y2, y3 =>
    if 4 ≤ y3 then
      some y2
    else
      bd1 (crdI g 3 ((4 * y1) + y3)) fun v2 =>
      bd1 ((
        if v2 ≤ 0 then
          some 0
        else
          some (1 <<< (y3 &&& 31))) : Option (Int32)) fun v5 =>
      Lc_X2_lights_1 n g y1 (y2 ||| v5) (y3 + 1)
def fc_X2_lights (g : mS) (x1 : Int32) : Option (Int32) :=
  bd1 (Lc_X2_lights_1 FUEL g x1 0 0) fun v8 =>
  some v8
set_option maxHeartbeats 4000000 in
set_option maxRecDepth 100000 in
theorem loop_c_X2_lights_1 {p : Program} {l : Launch} {e : Env} {s : State} {m : MethodId} {args : Array Value} {below : List Frame} {meth : Method} {c : Code} (E : cEnv) (F : CallFix p m c cX2_lights 4 s args lw_all RX2) (hr : meth.sig.returnType = some .int) (hlk : meth.locks = false) (hK : cK E s) {Q : State → Prop} {g : mS} : ∀ (n : Nat) (y1 : Int32) (y2 : Int32) (y3 : Int32) (o : Int32), Lc_X2_lights_1 n g y1 y2 y3 = some o → ∀ (H : Heap) (locs : List Loc) (ls : Array Slot), gS (wA E) s.heap (cP E g) H locs → lv_has ls 4 [(0, .ref (cad E 0)), (1, .int y1), (2, .int y2), (3, .int y3)] → (∀ (w2 : Int32) (H : Heap) (locs : List Loc) (ls : Array Slot), o = w2 → gS (wA E) s.heap (cP E g) H locs → lv_has ls 4 [(2, .int w2)] → W p l e rm_c_X2_lights s m args below meth c H locs 0 0 Q (F0 m 38 ls [])) → W p l e rm_c_X2_lights s m args below meth c H locs 0 0 Q (F0 m 4 ls []) := by
  have hx := F.1
  have hb := F.2.1
  intro n
  induction n with
  | zero =>
    intro y1 y2 y3 o h
    rw [Lc_X2_lights_1] at h
    cases h
  | succ n ih =>
    intro y1 y2 y3 o h H locs ls S hl kx
    rw [Lc_X2_lights_1] at h
    refine lv_iload_n hx hb dX2_lights_4 rfl (lv_at hl 3 rfl) ?_
    refine lv_iconst (v := 4) hx hb dX2_lights_5 (by decide) ?_
    refine lv_icmp_ge (tgt := 38) hx hb dX2_lights_6 (by decide) (fun c1 => ?_) (fun c1 => ?_)
    · rw [if_pos c1] at h
      cases h
      exact kx _ _ _ _ rfl S (lv_sub hl [2] rfl)
    · rw [if_neg c1] at h
      refine lv_iload_n hx hb dX2_lights_9 rfl (lv_at hl 2 rfl) ?_
      refine lv_aload_n hx hb dX2_lights_10 rfl (lv_at hl 0 rfl) ?_
      refine cg_X2_18 F hK S  dX2_lights_11 ?_
      refine lv_iconst (v := 4) hx hb dX2_lights_14 (by decide) ?_
      refine lv_iload_n hx hb dX2_lights_15 rfl (lv_at hl 1 rfl) ?_
      refine lv_imul hx hb dX2_lights_16 ?_
      refine lv_iload_n hx hb dX2_lights_17 rfl (lv_at hl 3 rfl) ?_
      refine lv_iadd hx hb dX2_lights_18 ?_
      obtain ⟨v2, e3, h⟩ := bd1_inv h
      refine c_iald F hK S e3 dX2_lights_19 ?_
      obtain ⟨v5, hB, h⟩ := bd1_inv h
      have hJ30 : ∀ (H : Heap) (locs : List Loc) (ls : Array Slot), gS (wA E) s.heap (cP E g) H locs → lv_has ls 4 [(0, .ref (cad E 0)), (1, .int y1), (3, .int y3)] → W p l e rm_c_X2_lights s m args below meth c H locs 0 0 Q (F0 m 30 ls [.int v5, .int y2]) := by
        intro H locs ls S hl
        refine lv_ior hx hb dX2_lights_30 ?_
        refine lv_istore_n (lv' := [(2, .int (y2 ||| v5)), (0, .ref (cad E 0)), (1, .int y1), (3, .int y3)]) hx hb dX2_lights_31 rfl hl (by decide) rfl (fun ls hl => ?_)
        refine lv_iinc (v := (y3 + 1)) (lv' := [(3, .int (y3 + 1)), (2, .int (y2 ||| v5)), (0, .ref (cad E 0)), (1, .int y1)]) hx hb dX2_lights_32 hl (k := 3) rfl rfl (by decide) rfl (fun ls hl => ?_)
        refine lv_goto (tgt := 4) hx hb dX2_lights_35 (by decide) ?_
        exact ih _ _ _ _ h _ _ _ S (lv_sub hl [2, 3, 1, 0] rfl) kx
      clear h
      have h := hB
      clear hB
      refine lv_if_le (tgt := 29) hx hb dX2_lights_20 (by decide) (fun c4 => ?_) (fun c4 => ?_)
      · rw [if_pos c4] at h
        refine lv_iconst (v := 0) hx hb dX2_lights_29 (by decide) ?_
        cases h
        exact hJ30 _ _ _ S (lv_sub hl [0, 1, 3] rfl)
      · rw [if_neg c4] at h
        refine lv_iconst (v := 1) hx hb dX2_lights_23 (by decide) ?_
        refine lv_iload_n hx hb dX2_lights_24 rfl (lv_at hl 3 rfl) ?_
        refine lv_ishl hx hb dX2_lights_25 ?_
        refine lv_goto (tgt := 30) hx hb dX2_lights_26 (by decide) ?_
        cases h
        exact hJ30 _ _ _ S (lv_sub hl [0, 1, 3] rfl)
set_option maxHeartbeats 4000000 in
set_option maxRecDepth 100000 in
theorem met_c_X2_lights (l : Launch) (E : cEnv) (g : mS) (x1 : Int32) (r : Int32) (h : fc_X2_lights g x1 = some r) : Met l yX2_lights (ws_ yX2_lights cX2_lights 4 (some .int)) rm_c_X2_lights (va_Pc [.ref (cad E 0), .int x1] (gPre (cK E) (cP E g))) (gQi r (cP E g) (wA E)) 0 0 (wA E) := by
  refine g_met (own := RX2) (by decide) rfl (Nat.le_of_ble_eq_true rfl) ?_
  intro p e s m args below meth c ls F hr hlk hK S hl
  have hx := F.1
  have hb := F.2.1
  have hl : lv_has ls 4 [(0, .ref (cad E 0)), (1, .int x1)] := hl
  unfold fc_X2_lights at h
  refine lv_iconst (v := 0) hx hb dX2_lights_0 (by decide) ?_
  refine lv_istore_n (lv' := [(2, .int 0), (0, .ref (cad E 0)), (1, .int x1)]) hx hb dX2_lights_1 rfl hl (by decide) rfl (fun ls hl => ?_)
  refine lv_iconst (v := 0) hx hb dX2_lights_2 (by decide) ?_
  refine lv_istore_n (lv' := [(3, .int 0), (2, .int 0), (0, .ref (cad E 0)), (1, .int x1)]) hx hb dX2_lights_3 rfl hl (by decide) rfl (fun ls hl => ?_)
  obtain ⟨v8, e7, h⟩ := bd1_inv h
  refine loop_c_X2_lights_1 E F hr hlk hK _ _ _ _ _ e7 _ _ _ S (lv_sub hl [2, 3, 1, 0] rfl) (fun v8z H locs ls o S hl => ?_)
  cases o
  refine lv_iload_n hx hb dX2_lights_38 rfl (lv_at hl 0 rfl) ?_
  cases h
  exact g_iret F hr hlk S rfl dX2_lights_39
theorem call_c_X2_lights_X1_243 {p : Program} {l : Launch} {e : Env} {s : State} {m : MethodId} {args : Array Value} {below : List Frame} {meth : Method} {c : Code} {R : Room} {H : Heap} {locs : List Loc} {cells slots pc nL : Nat} {Q : State → Prop} {ls : Array Slot} {rest : List Value} {cc : ByteArray} {E : cEnv} {g : mS} {x1 : Int32} {r : Int32} (F : CallFix p m c cc nL s args lw_all RX1) (hK : cK E s) (S : gS (wA E) s.heap (cP E g) H locs) (h : fc_X2_lights g x1 = some r) (hls : ls.size = nL) (hW : (rest.map fun v => v.category).sum ≤ 8) (hR : rm_c_X2_lights.frames + 1 ≤ R.frames ∧ 8 + (4 + 11) + rm_c_X2_lights.locals ≤ R.locals) (hf : cells ≤ R.cells ∧ slots ≤ R.slots) (hdg : decode cc pc = .ok (.invokevirtual 243, 3))
    (kk : ∀ (H1 : Heap) (locs1 : List Loc), gS (wA E) s.heap (cP E g) H1 locs1 → W p l e R s m args below meth c H1 locs1 cells slots Q (F0 m (pc + 3) ls (.int r :: rest))) : W p l e R s m args below meth c H locs cells slots Q (F0 m pc ls (.int x1 :: .ref (cad E 0) :: rest)) :=
  g_ki (g_runV F hK (cKm E) S (met_c_X2_lights l E g x1 r h) (cwV 1 F.2.2.2.2 (lw_V q1383 q465 q466 q112 q467) rfl rfl rfl (by decide +kernel) hR) (va_recv hK.1 (va_P1 (cAt_ray S.1)) (ci := 2) (q0 := 0) rfl rfl) rfl hls rfl hW hdg hf) S kk
theorem call_c_X2_lights_X3_123 {p : Program} {l : Launch} {e : Env} {s : State} {m : MethodId} {args : Array Value} {below : List Frame} {meth : Method} {c : Code} {R : Room} {H : Heap} {locs : List Loc} {cells slots pc nL : Nat} {Q : State → Prop} {ls : Array Slot} {rest : List Value} {cc : ByteArray} {E : cEnv} {g : mS} {x1 : Int32} {r : Int32} (F : CallFix p m c cc nL s args lw_all RX3) (hK : cK E s) (S : gS (wA E) s.heap (cP E g) H locs) (h : fc_X2_lights g x1 = some r) (hls : ls.size = nL) (hW : (rest.map fun v => v.category).sum ≤ 8) (hR : rm_c_X2_lights.frames + 1 ≤ R.frames ∧ 8 + (4 + 11) + rm_c_X2_lights.locals ≤ R.locals) (hf : cells ≤ R.cells ∧ slots ≤ R.slots) (hdg : decode cc pc = .ok (.invokevirtual 123, 3))
    (kk : ∀ (H1 : Heap) (locs1 : List Loc), gS (wA E) s.heap (cP E g) H1 locs1 → W p l e R s m args below meth c H1 locs1 cells slots Q (F0 m (pc + 3) ls (.int r :: rest))) : W p l e R s m args below meth c H locs cells slots Q (F0 m pc ls (.int x1 :: .ref (cad E 0) :: rest)) :=
  g_ki (g_runV F hK (cKm E) S (met_c_X2_lights l E g x1 r h) (cwV 1 F.2.2.2.2 (lw_V q464 q465 q466 q112 q467) rfl rfl rfl (by decide +kernel) hR) (va_recv hK.1 (va_P1 (cAt_ray S.1)) (ci := 2) (q0 := 0) rfl rfl) rfl hls rfl hW hdg hf) S kk
abbrev rm_c_X2_stepsTo : Room := { frames := 1, cells := 0, slots := 0, locals := 21 }
def Lc_X2_stepsTo_1 : Nat → mS → Int32 → Int32 → Int32 → Option (Int32)
  | 0, _, _, _, _ => none
  | n + 1, g, y1, y2, y3 =>
    if 4 ≤ y3 then
      some y2
    else
      bd1 (fc_X2_numberOf g ((4 * y1) + y3)) fun v3 =>
      bd1 ((
        if v3 = (-1) then
          some y2
        else
          bd1 (crdI g 2 v3) fun v5 =>
          some (if v5 < y2 then v5 else y2)) : Option (Int32)) fun v7 =>
      Lc_X2_stepsTo_1 n g y1 v7 (y3 + 1)
def fc_X2_stepsTo (g : mS) (x1 : Int32) : Option (Int32) :=
  bd1 (Lc_X2_stepsTo_1 FUEL g x1 1000 0) fun v10 =>
  bd1 ((
    if v10 = 1000 then
      some (-1)
    else
      some v10) : Option (Int32)) fun v12 =>
  some v12
set_option maxHeartbeats 4000000 in
set_option maxRecDepth 100000 in
theorem loop_c_X2_stepsTo_1 {p : Program} {l : Launch} {e : Env} {s : State} {m : MethodId} {args : Array Value} {below : List Frame} {meth : Method} {c : Code} (E : cEnv) (F : CallFix p m c cX2_stepsTo 5 s args lw_all RX2) (hr : meth.sig.returnType = some .int) (hlk : meth.locks = false) (hK : cK E s) {Q : State → Prop} {g : mS} : ∀ (n : Nat) (y1 : Int32) (y2 : Int32) (y3 : Int32) (o : Int32), Lc_X2_stepsTo_1 n g y1 y2 y3 = some o → ∀ (H : Heap) (locs : List Loc) (ls : Array Slot), gS (wA E) s.heap (cP E g) H locs → lv_has ls 5 [(0, .ref (cad E 0)), (1, .int y1), (2, .int y2), (3, .int y3)] → (∀ (w2 : Int32) (H : Heap) (locs : List Loc) (ls : Array Slot), o = w2 → gS (wA E) s.heap (cP E g) H locs → lv_has ls 5 [(2, .int w2)] → W p l e rm_c_X2_stepsTo s m args below meth c H locs 0 0 Q (F0 m 50 ls [])) → W p l e rm_c_X2_stepsTo s m args below meth c H locs 0 0 Q (F0 m 6 ls []) := by
  have hx := F.1
  have hb := F.2.1
  intro n
  induction n with
  | zero =>
    intro y1 y2 y3 o h
    rw [Lc_X2_stepsTo_1] at h
    cases h
  | succ n ih =>
    intro y1 y2 y3 o h H locs ls S hl kx
    rw [Lc_X2_stepsTo_1] at h
    refine lv_iload_n hx hb dX2_stepsTo_6 rfl (lv_at hl 3 rfl) ?_
    refine lv_iconst (v := 4) hx hb dX2_stepsTo_7 (by decide) ?_
    refine lv_icmp_ge (tgt := 50) hx hb dX2_stepsTo_8 (by decide) (fun c1 => ?_) (fun c1 => ?_)
    · rw [if_pos c1] at h
      cases h
      exact kx _ _ _ _ rfl S (lv_sub hl [2] rfl)
    · rw [if_neg c1] at h
      refine lv_aload_n hx hb dX2_stepsTo_11 rfl (lv_at hl 0 rfl) ?_
      refine lv_iconst (v := 4) hx hb dX2_stepsTo_12 (by decide) ?_
      refine lv_iload_n hx hb dX2_stepsTo_13 rfl (lv_at hl 1 rfl) ?_
      refine lv_imul hx hb dX2_stepsTo_14 ?_
      refine lv_iload_n hx hb dX2_stepsTo_15 rfl (lv_at hl 3 rfl) ?_
      refine lv_iadd hx hb dX2_stepsTo_16 ?_
      obtain ⟨v3, e2, h⟩ := bd1_inv h
      refine call_c_X2_numberOf_X2_87 F hK S e2 hl.1 (Nat.le_of_ble_eq_true rfl) ⟨Nat.le_of_ble_eq_true rfl, Nat.le_of_ble_eq_true rfl⟩ ⟨Nat.zero_le _, Nat.zero_le _⟩ dX2_stepsTo_17 (fun H locs S => ?_)
      refine lv_istore (lv' := [(4, .int v3), (0, .ref (cad E 0)), (1, .int y1), (2, .int y2), (3, .int y3)]) hx hb dX2_stepsTo_20 hl (by decide) rfl (fun ls hl => ?_)
      refine lv_iload hx hb dX2_stepsTo_22 (lv_at hl 0 rfl) ?_
      refine lv_iconst (v := (-1)) hx hb dX2_stepsTo_24 (by decide) ?_
      obtain ⟨v7, hB, h⟩ := bd1_inv h
      have hJ43 : ∀ (H : Heap) (locs : List Loc) (ls : Array Slot), gS (wA E) s.heap (cP E g) H locs → lv_has ls 5 [(0, .ref (cad E 0)), (1, .int y1), (3, .int y3)] → W p l e rm_c_X2_stepsTo s m args below meth c H locs 0 0 Q (F0 m 43 ls [.int v7]) := by
        intro H locs ls S hl
        refine lv_istore_n (lv' := [(2, .int v7), (0, .ref (cad E 0)), (1, .int y1), (3, .int y3)]) hx hb dX2_stepsTo_43 rfl hl (by decide) rfl (fun ls hl => ?_)
        refine lv_iinc (v := (y3 + 1)) (lv' := [(3, .int (y3 + 1)), (2, .int v7), (0, .ref (cad E 0)), (1, .int y1)]) hx hb dX2_stepsTo_44 hl (k := 3) rfl rfl (by decide) rfl (fun ls hl => ?_)
        refine lv_goto (tgt := 6) hx hb dX2_stepsTo_47 (by decide) ?_
        exact ih _ _ _ _ h _ _ _ S (lv_sub hl [2, 3, 1, 0] rfl) kx
      clear h
      have h := hB
      clear hB
      refine lv_icmp_ne (tgt := 32) hx hb dX2_stepsTo_25 (by decide) (fun c4 => ?_) (fun c4 => ?_)
      · rw [if_neg c4] at h
        refine lv_iload_n hx hb dX2_stepsTo_32 rfl (lv_at hl 3 rfl) ?_
        refine lv_aload_n hx hb dX2_stepsTo_33 rfl (lv_at hl 1 rfl) ?_
        refine cg_X2_15 F hK S  dX2_stepsTo_34 ?_
        refine lv_iload hx hb dX2_stepsTo_37 (lv_at hl 0 rfl) ?_
        obtain ⟨v5, e6, h⟩ := bd1_inv h
        refine c_iald F hK S e6 dX2_stepsTo_39 ?_
        refine va_mmin hx hb (F.2.2.1.trans hl.1.symm) F.2.2.2.1 (F.2.2.2.2 _ q1392) (F.2.2.2.2 _ q612) (F.2.2.2.2 _ q128) (F.2.2.2.2 _ q613) (Nat.le_of_ble_eq_true rfl) (Nat.le_of_ble_eq_true rfl) (Nat.zero_le _) (Nat.zero_le _) dX2_stepsTo_40 ?_
        cases h
        exact hJ43 _ _ _ S (lv_sub hl [1, 2, 4] rfl)
      · rw [if_pos c4] at h
        refine lv_iload_n hx hb dX2_stepsTo_28 rfl (lv_at hl 3 rfl) ?_
        refine lv_goto (tgt := 43) hx hb dX2_stepsTo_29 (by decide) ?_
        cases h
        exact hJ43 _ _ _ S (lv_sub hl [1, 2, 4] rfl)
set_option maxHeartbeats 4000000 in
set_option maxRecDepth 100000 in
theorem met_c_X2_stepsTo (l : Launch) (E : cEnv) (g : mS) (x1 : Int32) (r : Int32) (h : fc_X2_stepsTo g x1 = some r) : Met l yX2_stepsTo (ws_ yX2_stepsTo cX2_stepsTo 5 (some .int)) rm_c_X2_stepsTo (va_Pc [.ref (cad E 0), .int x1] (gPre (cK E) (cP E g))) (gQi r (cP E g) (wA E)) 0 0 (wA E) := by
  refine g_met (own := RX2) (by decide) rfl (Nat.le_of_ble_eq_true rfl) ?_
  intro p e s m args below meth c ls F hr hlk hK S hl
  have hx := F.1
  have hb := F.2.1
  have hl : lv_has ls 5 [(0, .ref (cad E 0)), (1, .int x1)] := hl
  unfold fc_X2_stepsTo at h
  refine lv_sipush (v := 1000) hx hb dX2_stepsTo_0 (by decide) ?_
  refine lv_istore_n (lv' := [(2, .int 1000), (0, .ref (cad E 0)), (1, .int x1)]) hx hb dX2_stepsTo_3 rfl hl (by decide) rfl (fun ls hl => ?_)
  refine lv_iconst (v := 0) hx hb dX2_stepsTo_4 (by decide) ?_
  refine lv_istore_n (lv' := [(3, .int 0), (2, .int 1000), (0, .ref (cad E 0)), (1, .int x1)]) hx hb dX2_stepsTo_5 rfl hl (by decide) rfl (fun ls hl => ?_)
  obtain ⟨v10, e9, h⟩ := bd1_inv h
  refine loop_c_X2_stepsTo_1 E F hr hlk hK _ _ _ _ _ e9 _ _ _ S (lv_sub hl [2, 3, 1, 0] rfl) (fun v10z H locs ls o S hl => ?_)
  cases o
  refine lv_iload_n hx hb dX2_stepsTo_50 rfl (lv_at hl 0 rfl) ?_
  refine lv_sipush (v := 1000) hx hb dX2_stepsTo_51 (by decide) ?_
  obtain ⟨v12, hB, h⟩ := bd1_inv h
  have hJ62 : ∀ (H : Heap) (locs : List Loc) (ls : Array Slot), gS (wA E) s.heap (cP E g) H locs → lv_has ls 5 [] → W p l e rm_c_X2_stepsTo s m args below meth c H locs 0 0 (MQ below (gQi r (cP E g) (wA E)) args s 0 0 (wA E)) (F0 m 62 ls [.int v12]) := by
    intro H locs ls S hl
    cases h
    exact g_iret F hr hlk S rfl dX2_stepsTo_62
  clear h
  have h := hB
  clear hB
  refine lv_icmp_ne (tgt := 61) hx hb dX2_stepsTo_54 (by decide) (fun c11 => ?_) (fun c11 => ?_)
  · rw [if_neg c11] at h
    refine lv_iload_n hx hb dX2_stepsTo_61 rfl (lv_at hl 0 rfl) ?_
    cases h
    exact hJ62 _ _ _ S (lv_sub hl [] rfl)
  · rw [if_pos c11] at h
    refine lv_iconst (v := (-1)) hx hb dX2_stepsTo_57 (by decide) ?_
    refine lv_goto (tgt := 62) hx hb dX2_stepsTo_58 (by decide) ?_
    cases h
    exact hJ62 _ _ _ S (lv_sub hl [] rfl)
theorem call_c_X2_stepsTo_X1_318 {p : Program} {l : Launch} {e : Env} {s : State} {m : MethodId} {args : Array Value} {below : List Frame} {meth : Method} {c : Code} {R : Room} {H : Heap} {locs : List Loc} {cells slots pc nL : Nat} {Q : State → Prop} {ls : Array Slot} {rest : List Value} {cc : ByteArray} {E : cEnv} {g : mS} {x1 : Int32} {r : Int32} (F : CallFix p m c cc nL s args lw_all RX1) (hK : cK E s) (S : gS (wA E) s.heap (cP E g) H locs) (h : fc_X2_stepsTo g x1 = some r) (hls : ls.size = nL) (hW : (rest.map fun v => v.category).sum ≤ 8) (hR : rm_c_X2_stepsTo.frames + 1 ≤ R.frames ∧ 8 + (5 + 11) + rm_c_X2_stepsTo.locals ≤ R.locals) (hf : cells ≤ R.cells ∧ slots ≤ R.slots) (hdg : decode cc pc = .ok (.invokevirtual 318, 3))
    (kk : ∀ (H1 : Heap) (locs1 : List Loc), gS (wA E) s.heap (cP E g) H1 locs1 → W p l e R s m args below meth c H1 locs1 cells slots Q (F0 m (pc + 3) ls (.int r :: rest))) : W p l e R s m args below meth c H locs cells slots Q (F0 m pc ls (.int x1 :: .ref (cad E 0) :: rest)) :=
  g_ki (g_runV F hK (cKm E) S (met_c_X2_stepsTo l E g x1 r h) (cwV 1 F.2.2.2.2 (lw_V q1388 q1389 q1390 q112 q1391) rfl rfl rfl (by decide +kernel) hR) (va_recv hK.1 (va_P1 (cAt_ray S.1)) (ci := 2) (q0 := 0) rfl rfl) rfl hls rfl hW hdg hf) S kk
abbrev rm_c_X2_isInRing : Room := { frames := 5, cells := 0, slots := 0, locals := 111 }
def Lc_X2_isInRing_2 : Nat → mS → Int32 → Int32 → Int32 → Int32 → Int32 → Option ((Int32 × mS) ⊕ (Int32 × mS))
  | 0, _, _, _, _, _, _ => none
  | n + 1, g, y1, y2, y3, y4, y5 =>
    if y4 ≤ y5 then
      some (.inr (y2, g))
    else
      bd1 (crdI g 4 y5) fun v14 =>
      bd1 (fc_X2_numberOf g v14) fun v17 =>
      if v17 = y1 then
        some (.inl (1, g))
      else
        bd1 (crdI g 5 v17) fun v19 =>
        bd2 ((
          if v19 = (g 0 11) then
            some (y2, g)
          else
            bd1 (cwrI g 5 v17 (g 0 11)) fun g22 =>
            bd1 (cwrI g22 6 y2 v17) fun g24 =>
            some ((y2 + 1), g24)) : Option (Int32 × mS)) fun v26 g27 =>
        Lc_X2_isInRing_2 n g27 y1 v26 y3 y4 (y5 + 1)
def Lc_X2_isInRing_1 : Nat → mS → Int32 → Int32 → Int32 → Option ((Int32 × mS) ⊕ mS)
  | 0, _, _, _, _ => none
  | n + 1, g, y1, y2, y3 =>
    if y2 ≤ y3 then
      some (.inr g)
    else
      bd1 (crdI g 6 y3) fun v6 =>
      bd1 (crdI g 1 v6) fun v8 =>
      bd2 (fc_X2_follow g v8) fun v11 g12 =>
      bs2 (Lc_X2_isInRing_2 FUEL g12 y1 y2 y3 v11 0) (fun r => some (.inl r)) fun v30 g31 =>
      Lc_X2_isInRing_1 n g31 y1 v30 (y3 + 1)
def fc_X2_isInRing (g : mS) (x1 : Int32) : Option (Int32 × mS) :=
  bd1 (wrF g 11 ((g 0 11) + 1)) fun g1 =>
  bd1 (cwrI g1 6 0 x1) fun g3 =>
  bs1 (Lc_X2_isInRing_1 FUEL g3 x1 (0 + 1) 0) some fun g34 =>
  some (0, g34)
set_option maxHeartbeats 4000000 in
set_option maxRecDepth 100000 in
theorem loop_c_X2_isInRing_2 {p : Program} {l : Launch} {e : Env} {s : State} {m : MethodId} {args : Array Value} {below : List Frame} {meth : Method} {c : Code} (E : cEnv) (F : CallFix p m c cX2_isInRing 7 s args lw_all RX2) (hr : meth.sig.returnType = some .boolean) (hlk : meth.locks = false) (hK : cK E s) {r0 : Int32} {g0 : mS} : ∀ (n : Nat) (g : mS) (y1 : Int32) (y2 : Int32) (y3 : Int32) (y4 : Int32) (y5 : Int32) (o : (Int32 × mS) ⊕ (Int32 × mS)), Lc_X2_isInRing_2 n g y1 y2 y3 y4 y5 = some o → ∀ (H : Heap) (locs : List Loc) (ls : Array Slot), gS (wA E) s.heap (cP E g) H locs → lv_has ls 7 [(0, .ref (cad E 0)), (1, .int y1), (2, .int y2), (3, .int y3), (4, .int y4), (5, .int y5)] → (∀ rz, o = .inl rz → rz = (r0, g0)) → (∀ (w2 : Int32) (gx : mS) (H : Heap) (locs : List Loc) (ls : Array Slot), o = .inr (w2, gx) → gS (wA E) s.heap (cP E gx) H locs → lv_has ls 7 [(0, .ref (cad E 0)), (1, .int y1), (2, .int w2), (3, .int y3)] → W p l e rm_c_X2_isInRing s m args below meth c H locs 0 0 (MQ below (gQi r0 (cP E g0) (wA E)) args s 0 0 (wA E)) (F0 m 119 ls [])) → W p l e rm_c_X2_isInRing s m args below meth c H locs 0 0 (MQ below (gQi r0 (cP E g0) (wA E)) args s 0 0 (wA E)) (F0 m 49 ls []) := by
  have hx := F.1
  have hb := F.2.1
  intro n
  induction n with
  | zero =>
    intro g y1 y2 y3 y4 y5 o h
    rw [Lc_X2_isInRing_2] at h
    cases h
  | succ n ih =>
    intro g y1 y2 y3 y4 y5 o h H locs ls S hl kr kx
    rw [Lc_X2_isInRing_2] at h
    refine lv_iload hx hb dX2_isInRing_49 (lv_at hl 5 rfl) ?_
    refine lv_iload hx hb dX2_isInRing_51 (lv_at hl 4 rfl) ?_
    refine lv_icmp_ge (tgt := 119) hx hb dX2_isInRing_53 (by decide) (fun c13 => ?_) (fun c13 => ?_)
    · rw [if_pos c13] at h
      cases h
      exact kx _ _ _ _ _ rfl S (lv_sub hl [0, 1, 2, 3] rfl)
    · rw [if_neg c13] at h
      refine lv_aload_n hx hb dX2_isInRing_56 rfl (lv_at hl 0 rfl) ?_
      refine lv_aload_n hx hb dX2_isInRing_57 rfl (lv_at hl 0 rfl) ?_
      refine cg_X2_21 F hK S  dX2_isInRing_58 ?_
      refine lv_iload hx hb dX2_isInRing_61 (lv_at hl 5 rfl) ?_
      obtain ⟨v14, e15, h⟩ := bd1_inv h
      refine c_iald F hK S e15 dX2_isInRing_63 ?_
      obtain ⟨v17, e16, h⟩ := bd1_inv h
      refine call_c_X2_numberOf_X2_87 F hK S e16 hl.1 (Nat.le_of_ble_eq_true rfl) ⟨Nat.le_of_ble_eq_true rfl, Nat.le_of_ble_eq_true rfl⟩ ⟨Nat.zero_le _, Nat.zero_le _⟩ dX2_isInRing_64 (fun H locs S => ?_)
      refine lv_istore (lv' := [(6, .int v17), (0, .ref (cad E 0)), (1, .int y1), (2, .int y2), (3, .int y3), (4, .int y4), (5, .int y5)]) hx hb dX2_isInRing_67 hl (by decide) rfl (fun ls hl => ?_)
      refine lv_iload hx hb dX2_isInRing_69 (lv_at hl 0 rfl) ?_
      refine lv_iload_n hx hb dX2_isInRing_71 rfl (lv_at hl 2 rfl) ?_
      refine lv_icmp_ne (tgt := 77) hx hb dX2_isInRing_72 (by decide) (fun c18 => ?_) (fun c18 => ?_)
      · rw [if_neg c18] at h
        refine lv_aload_n hx hb dX2_isInRing_77 rfl (lv_at hl 1 rfl) ?_
        refine cg_X2_24 F hK S  dX2_isInRing_78 ?_
        refine lv_iload hx hb dX2_isInRing_81 (lv_at hl 0 rfl) ?_
        obtain ⟨v19, e20, h⟩ := bd1_inv h
        refine c_iald F hK S e20 dX2_isInRing_83 ?_
        refine lv_aload_n hx hb dX2_isInRing_84 rfl (lv_at hl 1 rfl) ?_
        refine cg_X2_96 F hK S  dX2_isInRing_85 ?_
        obtain ⟨v26, g27, hB, h⟩ := bd2_inv h
        have hJ113 : ∀ (H : Heap) (locs : List Loc) (ls : Array Slot), gS (wA E) s.heap (cP E g27) H locs → lv_has ls 7 [(0, .ref (cad E 0)), (1, .int y1), (2, .int v26), (3, .int y3), (4, .int y4), (5, .int y5)] → W p l e rm_c_X2_isInRing s m args below meth c H locs 0 0 (MQ below (gQi r0 (cP E g0) (wA E)) args s 0 0 (wA E)) (F0 m 113 ls []) := by
          intro H locs ls S hl
          refine lv_iinc (v := (y5 + 1)) (lv' := [(5, .int (y5 + 1)), (0, .ref (cad E 0)), (1, .int y1), (2, .int v26), (3, .int y3), (4, .int y4)]) hx hb dX2_isInRing_113 hl (k := 5) rfl rfl (by decide) rfl (fun ls hl => ?_)
          refine lv_goto (tgt := 49) hx hb dX2_isInRing_116 (by decide) ?_
          exact ih _ _ _ _ _ _ _ h _ _ _ S (lv_sub hl [1, 2, 3, 4, 5, 0] rfl) kr kx
        clear h
        have h := hB
        clear hB
        refine lv_icmp_eq (tgt := 113) hx hb dX2_isInRing_88 (by decide) (fun c21 => ?_) (fun c21 => ?_)
        · rw [if_pos c21] at h
          cases h
          exact hJ113 _ _ _ S (lv_sub hl [1, 2, 3, 4, 5, 6] rfl)
        · rw [if_neg c21] at h
          refine lv_aload_n hx hb dX2_isInRing_91 rfl (lv_at hl 1 rfl) ?_
          refine cg_X2_24 F hK S  dX2_isInRing_92 ?_
          refine lv_iload hx hb dX2_isInRing_95 (lv_at hl 0 rfl) ?_
          refine lv_aload_n hx hb dX2_isInRing_97 rfl (lv_at hl 1 rfl) ?_
          refine cg_X2_96 F hK S  dX2_isInRing_98 ?_
          obtain ⟨g22, e23, h⟩ := bd1_inv h
          refine c_iast F hK S e23 dX2_isInRing_101 (fun H locs S => ?_)
          refine lv_aload_n hx hb dX2_isInRing_102 rfl (lv_at hl 1 rfl) ?_
          refine cg_X2_27 F hK S  dX2_isInRing_103 ?_
          refine lv_iload_n hx hb dX2_isInRing_106 rfl (lv_at hl 3 rfl) ?_
          refine lv_iload hx hb dX2_isInRing_107 (lv_at hl 0 rfl) ?_
          obtain ⟨g24, e25, h⟩ := bd1_inv h
          refine c_iast F hK S e25 dX2_isInRing_109 (fun H locs S => ?_)
          refine lv_iinc (v := (y2 + 1)) (lv' := [(2, .int (y2 + 1)), (6, .int v17), (0, .ref (cad E 0)), (1, .int y1), (3, .int y3), (4, .int y4), (5, .int y5)]) hx hb dX2_isInRing_110 hl (k := 3) rfl rfl (by decide) rfl (fun ls hl => ?_)
          cases h
          exact hJ113 _ _ _ S (lv_sub hl [2, 3, 0, 4, 5, 6] rfl)
      · rw [if_pos c18] at h
        refine lv_iconst (v := 1) hx hb dX2_isInRing_75 (by decide) ?_
        have hq := kr _ (Option.some.inj h).symm
        obtain ⟨hq1, hq2⟩ := Prod.mk.inj hq
        subst hq2
        subst hq1
        exact g_zret F hr hlk S zN_1 dX2_isInRing_76
set_option maxHeartbeats 4000000 in
set_option maxRecDepth 100000 in
theorem loop_c_X2_isInRing_1 {p : Program} {l : Launch} {e : Env} {s : State} {m : MethodId} {args : Array Value} {below : List Frame} {meth : Method} {c : Code} (E : cEnv) (F : CallFix p m c cX2_isInRing 7 s args lw_all RX2) (hr : meth.sig.returnType = some .boolean) (hlk : meth.locks = false) (hK : cK E s) {r0 : Int32} {g0 : mS} : ∀ (n : Nat) (g : mS) (y1 : Int32) (y2 : Int32) (y3 : Int32) (o : (Int32 × mS) ⊕ mS), Lc_X2_isInRing_1 n g y1 y2 y3 = some o → ∀ (H : Heap) (locs : List Loc) (ls : Array Slot), gS (wA E) s.heap (cP E g) H locs → lv_has ls 7 [(0, .ref (cad E 0)), (1, .int y1), (2, .int y2), (3, .int y3)] → (∀ rz, o = .inl rz → rz = (r0, g0)) → (∀  (gx : mS) (H : Heap) (locs : List Loc) (ls : Array Slot), o = .inr gx → gS (wA E) s.heap (cP E gx) H locs → lv_has ls 7 [] → W p l e rm_c_X2_isInRing s m args below meth c H locs 0 0 (MQ below (gQi r0 (cP E g0) (wA E)) args s 0 0 (wA E)) (F0 m 125 ls [])) → W p l e rm_c_X2_isInRing s m args below meth c H locs 0 0 (MQ below (gQi r0 (cP E g0) (wA E)) args s 0 0 (wA E)) (F0 m 24 ls []) := by
  have hx := F.1
  have hb := F.2.1
  intro n
  induction n with
  | zero =>
    intro g y1 y2 y3 o h
    rw [Lc_X2_isInRing_1] at h
    cases h
  | succ n ih =>
    intro g y1 y2 y3 o h H locs ls S hl kr kx
    rw [Lc_X2_isInRing_1] at h
    refine lv_iload_n hx hb dX2_isInRing_24 rfl (lv_at hl 3 rfl) ?_
    refine lv_iload_n hx hb dX2_isInRing_25 rfl (lv_at hl 2 rfl) ?_
    refine lv_icmp_ge (tgt := 125) hx hb dX2_isInRing_26 (by decide) (fun c5 => ?_) (fun c5 => ?_)
    · rw [if_pos c5] at h
      cases h
      exact kx _ _ _ _ rfl S (lv_sub hl [] rfl)
    · rw [if_neg c5] at h
      refine lv_aload_n hx hb dX2_isInRing_29 rfl (lv_at hl 0 rfl) ?_
      refine lv_aload_n hx hb dX2_isInRing_30 rfl (lv_at hl 0 rfl) ?_
      refine cg_X2_9 F hK S  dX2_isInRing_31 ?_
      refine lv_aload_n hx hb dX2_isInRing_34 rfl (lv_at hl 0 rfl) ?_
      refine cg_X2_27 F hK S  dX2_isInRing_35 ?_
      refine lv_iload_n hx hb dX2_isInRing_38 rfl (lv_at hl 3 rfl) ?_
      obtain ⟨v6, e7, h⟩ := bd1_inv h
      refine c_iald F hK S e7 dX2_isInRing_39 ?_
      obtain ⟨v8, e9, h⟩ := bd1_inv h
      refine c_iald F hK S e9 dX2_isInRing_40 ?_
      obtain ⟨v11, g12, e10, h⟩ := bd2_inv h
      refine call_c_X2_follow_X2_83 F hK S e10 hl.1 (Nat.le_of_ble_eq_true rfl) ⟨Nat.le_of_ble_eq_true rfl, Nat.le_of_ble_eq_true rfl⟩ ⟨Nat.zero_le _, Nat.zero_le _⟩ dX2_isInRing_41 (fun H locs S => ?_)
      refine lv_istore (lv' := [(4, .int v11), (0, .ref (cad E 0)), (1, .int y1), (2, .int y2), (3, .int y3)]) hx hb dX2_isInRing_44 hl (by decide) rfl (fun ls hl => ?_)
      refine lv_iconst (v := 0) hx hb dX2_isInRing_46 (by decide) ?_
      refine lv_istore (lv' := [(5, .int 0), (4, .int v11), (0, .ref (cad E 0)), (1, .int y1), (2, .int y2), (3, .int y3)]) hx hb dX2_isInRing_47 hl (by decide) rfl (fun ls hl => ?_)
      rcases bs2_inv h with ⟨r32, e29, h⟩ | ⟨v30, g31, e29, h⟩
      · exact loop_c_X2_isInRing_2 E F hr hlk hK _ _ _ _ _ _ _ _ e29 _ _ _ S (lv_sub hl [2, 3, 4, 5, 1, 0] rfl) (fun rz o => by cases o; exact kr _ (Option.some.inj h).symm) (fun v30z g31z H locs ls o S hl => by cases o)
      · refine loop_c_X2_isInRing_2 E F hr hlk hK _ _ _ _ _ _ _ _ e29 _ _ _ S (lv_sub hl [2, 3, 4, 5, 1, 0] rfl) (fun rz o => by cases o) (fun v30z g31z H locs ls o S hl => ?_)
        cases o
        refine lv_iinc (v := (y3 + 1)) (lv' := [(3, .int (y3 + 1)), (0, .ref (cad E 0)), (1, .int y1), (2, .int v30)]) hx hb dX2_isInRing_119 hl (k := 3) rfl rfl (by decide) rfl (fun ls hl => ?_)
        refine lv_goto (tgt := 24) hx hb dX2_isInRing_122 (by decide) ?_
        exact ih _ _ _ _ _ h _ _ _ S (lv_sub hl [1, 2, 3, 0] rfl) kr kx
set_option maxHeartbeats 4000000 in
set_option maxRecDepth 100000 in
theorem met_c_X2_isInRing (l : Launch) (E : cEnv) (g : mS) (x1 : Int32) (r : Int32) (gZ : mS) (h : fc_X2_isInRing g x1 = some (r, gZ)) : Met l yX2_isInRing (ws_ yX2_isInRing cX2_isInRing 7 (some .boolean)) rm_c_X2_isInRing (va_Pc [.ref (cad E 0), .int x1] (gPre (cK E) (cP E g))) (gQi r (cP E gZ) (wA E)) 0 0 (wA E) := by
  refine g_met (own := RX2) (by decide) rfl (Nat.le_of_ble_eq_true rfl) ?_
  intro p e s m args below meth c ls F hr hlk hK S hl
  have hx := F.1
  have hb := F.2.1
  have hl : lv_has ls 7 [(0, .ref (cad E 0)), (1, .int x1)] := hl
  unfold fc_X2_isInRing at h
  refine lv_aload_n hx hb dX2_isInRing_0 rfl (lv_at hl 0 rfl) ?_
  refine lv_dup hx hb dX2_isInRing_1 rfl ?_
  refine cg_X2_96 F hK S  dX2_isInRing_2 ?_
  refine lv_iconst (v := 1) hx hb dX2_isInRing_5 (by decide) ?_
  refine lv_iadd hx hb dX2_isInRing_6 ?_
  obtain ⟨g1, e2, h⟩ := bd1_inv h
  refine cw_X2_96 F hK S  e2 dX2_isInRing_7 (fun H locs S => ?_)
  refine lv_iconst (v := 0) hx hb dX2_isInRing_10 (by decide) ?_
  refine lv_istore_n (lv' := [(2, .int 0), (0, .ref (cad E 0)), (1, .int x1)]) hx hb dX2_isInRing_11 rfl hl (by decide) rfl (fun ls hl => ?_)
  refine lv_aload_n hx hb dX2_isInRing_12 rfl (lv_at hl 1 rfl) ?_
  refine cg_X2_27 F hK S  dX2_isInRing_13 ?_
  refine lv_iload_n hx hb dX2_isInRing_16 rfl (lv_at hl 0 rfl) ?_
  refine lv_iload_n hx hb dX2_isInRing_17 rfl (lv_at hl 2 rfl) ?_
  obtain ⟨g3, e4, h⟩ := bd1_inv h
  refine c_iast F hK S e4 dX2_isInRing_18 (fun H locs S => ?_)
  refine lv_iinc (v := (0 + 1)) (lv' := [(2, .int (0 + 1)), (0, .ref (cad E 0)), (1, .int x1)]) hx hb dX2_isInRing_19 hl (k := 0) rfl rfl (by decide) rfl (fun ls hl => ?_)
  refine lv_iconst (v := 0) hx hb dX2_isInRing_22 (by decide) ?_
  refine lv_istore_n (lv' := [(3, .int 0), (2, .int (0 + 1)), (0, .ref (cad E 0)), (1, .int x1)]) hx hb dX2_isInRing_23 rfl hl (by decide) rfl (fun ls hl => ?_)
  rcases bs1_inv h with ⟨r35, e33, h⟩ | ⟨g34, e33, h⟩
  · exact loop_c_X2_isInRing_1 E F hr hlk hK _ _ _ _ _ _ e33 _ _ _ S (lv_sub hl [2, 3, 1, 0] rfl) (fun rz o => by cases o; exact Option.some.inj h) (fun g34z H locs ls o S hl => by cases o)
  · refine loop_c_X2_isInRing_1 E F hr hlk hK _ _ _ _ _ _ e33 _ _ _ S (lv_sub hl [2, 3, 1, 0] rfl) (fun rz o => by cases o) (fun g34z H locs ls o S hl => ?_)
    cases o
    refine lv_iconst (v := 0) hx hb dX2_isInRing_125 (by decide) ?_
    cases h
    exact g_zret F hr hlk S zN_0 dX2_isInRing_126
theorem call_c_X2_isInRing_X1_312 {p : Program} {l : Launch} {e : Env} {s : State} {m : MethodId} {args : Array Value} {below : List Frame} {meth : Method} {c : Code} {R : Room} {H : Heap} {locs : List Loc} {cells slots pc nL : Nat} {Q : State → Prop} {ls : Array Slot} {rest : List Value} {cc : ByteArray} {E : cEnv} {g : mS} {x1 : Int32} {r : Int32} {gZ : mS} (F : CallFix p m c cc nL s args lw_all RX1) (hK : cK E s) (S : gS (wA E) s.heap (cP E g) H locs) (h : fc_X2_isInRing g x1 = some (r, gZ)) (hls : ls.size = nL) (hW : (rest.map fun v => v.category).sum ≤ 8) (hR : rm_c_X2_isInRing.frames + 1 ≤ R.frames ∧ 8 + (7 + 11) + rm_c_X2_isInRing.locals ≤ R.locals) (hf : cells ≤ R.cells ∧ slots ≤ R.slots) (hdg : decode cc pc = .ok (.invokevirtual 312, 3))
    (kk : ∀ (H1 : Heap) (locs1 : List Loc), gS (wA E) s.heap (cP E gZ) H1 locs1 → W p l e R s m args below meth c H1 locs1 cells slots Q (F0 m (pc + 3) ls (.int r :: rest))) : W p l e R s m args below meth c H locs cells slots Q (F0 m pc ls (.int x1 :: .ref (cad E 0) :: rest)) :=
  g_ki (g_runV F hK (cKm E) S (met_c_X2_isInRing l E g x1 r gZ h) (cwV 1 F.2.2.2.2 (lw_V q1727 q1703 q1704 q112 q1705) rfl rfl rfl (by decide +kernel) hR) (va_recv hK.1 (va_P1 (cAt_ray S.1)) (ci := 2) (q0 := 0) rfl rfl) rfl hls rfl hW hdg hf) S kk
theorem call_c_X2_isInRing_X2_99 {p : Program} {l : Launch} {e : Env} {s : State} {m : MethodId} {args : Array Value} {below : List Frame} {meth : Method} {c : Code} {R : Room} {H : Heap} {locs : List Loc} {cells slots pc nL : Nat} {Q : State → Prop} {ls : Array Slot} {rest : List Value} {cc : ByteArray} {E : cEnv} {g : mS} {x1 : Int32} {r : Int32} {gZ : mS} (F : CallFix p m c cc nL s args lw_all RX2) (hK : cK E s) (S : gS (wA E) s.heap (cP E g) H locs) (h : fc_X2_isInRing g x1 = some (r, gZ)) (hls : ls.size = nL) (hW : (rest.map fun v => v.category).sum ≤ 8) (hR : rm_c_X2_isInRing.frames + 1 ≤ R.frames ∧ 8 + (7 + 11) + rm_c_X2_isInRing.locals ≤ R.locals) (hf : cells ≤ R.cells ∧ slots ≤ R.slots) (hdg : decode cc pc = .ok (.invokevirtual 99, 3))
    (kk : ∀ (H1 : Heap) (locs1 : List Loc), gS (wA E) s.heap (cP E gZ) H1 locs1 → W p l e R s m args below meth c H1 locs1 cells slots Q (F0 m (pc + 3) ls (.int r :: rest))) : W p l e R s m args below meth c H locs cells slots Q (F0 m pc ls (.int x1 :: .ref (cad E 0) :: rest)) :=
  g_ki (g_runV F hK (cKm E) S (met_c_X2_isInRing l E g x1 r gZ h) (cwV 1 F.2.2.2.2 (lw_V q1702 q1703 q1704 q112 q1705) rfl rfl rfl (by decide +kernel) hR) (va_recv hK.1 (va_P1 (cAt_ray S.1)) (ci := 2) (q0 := 0) rfl rfl) rfl hls rfl hW hdg hf) S kk
abbrev rm_c_X2_inRings : Room := { frames := 6, cells := 0, slots := 0, locals := 137 }
def Lc_X2_inRings_1 : Nat → mS → Int32 → Int32 → Option (Int32 × mS)
  | 0, _, _, _ => none
  | n + 1, g, y1, y2 =>
    if (g 0 4) ≤ y2 then
      some (y1, g)
    else
      bd2 (fc_X2_isInRing g y2) fun v3 g4 =>
      bd1 ((
        if v3 = 0 then
          some 0
        else
          some 1) : Option (Int32)) fun v6 =>
      Lc_X2_inRings_1 n g4 (y1 + v6) (y2 + 1)
def fc_X2_inRings (g : mS)  : Option (Int32 × mS) :=
  bd2 (Lc_X2_inRings_1 FUEL g 0 0) fun v9 g10 =>
  some (v9, g10)
set_option maxHeartbeats 4000000 in
set_option maxRecDepth 100000 in
theorem loop_c_X2_inRings_1 {p : Program} {l : Launch} {e : Env} {s : State} {m : MethodId} {args : Array Value} {below : List Frame} {meth : Method} {c : Code} (E : cEnv) (F : CallFix p m c cX2_inRings 3 s args lw_all RX2) (hr : meth.sig.returnType = some .int) (hlk : meth.locks = false) (hK : cK E s) {Q : State → Prop} : ∀ (n : Nat) (g : mS) (y1 : Int32) (y2 : Int32) (o : Int32 × mS), Lc_X2_inRings_1 n g y1 y2 = some o → ∀ (H : Heap) (locs : List Loc) (ls : Array Slot), gS (wA E) s.heap (cP E g) H locs → lv_has ls 3 [(0, .ref (cad E 0)), (1, .int y1), (2, .int y2)] → (∀ (w1 : Int32) (gx : mS) (H : Heap) (locs : List Loc) (ls : Array Slot), o = (w1, gx) → gS (wA E) s.heap (cP E gx) H locs → lv_has ls 3 [(1, .int w1)] → W p l e rm_c_X2_inRings s m args below meth c H locs 0 0 Q (F0 m 34 ls [])) → W p l e rm_c_X2_inRings s m args below meth c H locs 0 0 Q (F0 m 4 ls []) := by
  have hx := F.1
  have hb := F.2.1
  intro n
  induction n with
  | zero =>
    intro g y1 y2 o h
    rw [Lc_X2_inRings_1] at h
    cases h
  | succ n ih =>
    intro g y1 y2 o h H locs ls S hl kx
    rw [Lc_X2_inRings_1] at h
    refine lv_iload_n hx hb dX2_inRings_4 rfl (lv_at hl 2 rfl) ?_
    refine lv_aload_n hx hb dX2_inRings_5 rfl (lv_at hl 0 rfl) ?_
    refine cg_X2_63 F hK S  dX2_inRings_6 ?_
    refine lv_icmp_ge (tgt := 34) hx hb dX2_inRings_9 (by decide) (fun c1 => ?_) (fun c1 => ?_)
    · rw [if_pos c1] at h
      cases h
      exact kx _ _ _ _ _ rfl S (lv_sub hl [1] rfl)
    · rw [if_neg c1] at h
      refine lv_iload_n hx hb dX2_inRings_12 rfl (lv_at hl 1 rfl) ?_
      refine lv_aload_n hx hb dX2_inRings_13 rfl (lv_at hl 0 rfl) ?_
      refine lv_iload_n hx hb dX2_inRings_14 rfl (lv_at hl 2 rfl) ?_
      obtain ⟨v3, g4, e2, h⟩ := bd2_inv h
      refine call_c_X2_isInRing_X2_99 F hK S e2 hl.1 (Nat.le_of_ble_eq_true rfl) ⟨Nat.le_of_ble_eq_true rfl, Nat.le_of_ble_eq_true rfl⟩ ⟨Nat.zero_le _, Nat.zero_le _⟩ dX2_inRings_15 (fun H locs S => ?_)
      obtain ⟨v6, hB, h⟩ := bd1_inv h
      have hJ26 : ∀ (H : Heap) (locs : List Loc) (ls : Array Slot), gS (wA E) s.heap (cP E g4) H locs → lv_has ls 3 [(0, .ref (cad E 0)), (2, .int y2)] → W p l e rm_c_X2_inRings s m args below meth c H locs 0 0 Q (F0 m 26 ls [.int v6, .int y1]) := by
        intro H locs ls S hl
        refine lv_iadd hx hb dX2_inRings_26 ?_
        refine lv_istore_n (lv' := [(1, .int (y1 + v6)), (0, .ref (cad E 0)), (2, .int y2)]) hx hb dX2_inRings_27 rfl hl (by decide) rfl (fun ls hl => ?_)
        refine lv_iinc (v := (y2 + 1)) (lv' := [(2, .int (y2 + 1)), (1, .int (y1 + v6)), (0, .ref (cad E 0))]) hx hb dX2_inRings_28 hl (k := 2) rfl rfl (by decide) rfl (fun ls hl => ?_)
        refine lv_goto (tgt := 4) hx hb dX2_inRings_31 (by decide) ?_
        exact ih _ _ _ _ h _ _ _ S (lv_sub hl [2, 1, 0] rfl) kx
      clear h
      have h := hB
      clear hB
      refine lv_if_eq (tgt := 25) hx hb dX2_inRings_18 (by decide) (fun c5 => ?_) (fun c5 => ?_)
      · rw [if_pos c5] at h
        refine lv_iconst (v := 0) hx hb dX2_inRings_25 (by decide) ?_
        cases h
        exact hJ26 _ _ _ S (lv_sub hl [0, 2] rfl)
      · rw [if_neg c5] at h
        refine lv_iconst (v := 1) hx hb dX2_inRings_21 (by decide) ?_
        refine lv_goto (tgt := 26) hx hb dX2_inRings_22 (by decide) ?_
        cases h
        exact hJ26 _ _ _ S (lv_sub hl [0, 2] rfl)
set_option maxHeartbeats 4000000 in
set_option maxRecDepth 100000 in
theorem met_c_X2_inRings (l : Launch) (E : cEnv) (g : mS) (r : Int32) (gZ : mS) (h : fc_X2_inRings g = some (r, gZ)) : Met l yX2_inRings (ws_ yX2_inRings cX2_inRings 3 (some .int)) rm_c_X2_inRings (va_Pc [.ref (cad E 0)] (gPre (cK E) (cP E g))) (gQi r (cP E gZ) (wA E)) 0 0 (wA E) := by
  refine g_met (own := RX2) (by decide) rfl (Nat.le_of_ble_eq_true rfl) ?_
  intro p e s m args below meth c ls F hr hlk hK S hl
  have hx := F.1
  have hb := F.2.1
  have hl : lv_has ls 3 [(0, .ref (cad E 0))] := hl
  unfold fc_X2_inRings at h
  refine lv_iconst (v := 0) hx hb dX2_inRings_0 (by decide) ?_
  refine lv_istore_n (lv' := [(1, .int 0), (0, .ref (cad E 0))]) hx hb dX2_inRings_1 rfl hl (by decide) rfl (fun ls hl => ?_)
  refine lv_iconst (v := 0) hx hb dX2_inRings_2 (by decide) ?_
  refine lv_istore_n (lv' := [(2, .int 0), (1, .int 0), (0, .ref (cad E 0))]) hx hb dX2_inRings_3 rfl hl (by decide) rfl (fun ls hl => ?_)
  obtain ⟨v9, g10, e8, h⟩ := bd2_inv h
  refine loop_c_X2_inRings_1 E F hr hlk hK _ _ _ _ _ e8 _ _ _ S (lv_sub hl [2, 1, 0] rfl) (fun v9z g10z H locs ls o S hl => ?_)
  cases o
  refine lv_iload_n hx hb dX2_inRings_34 rfl (lv_at hl 0 rfl) ?_
  cases h
  exact g_iret F hr hlk S rfl dX2_inRings_35
theorem call_c_X2_inRings_X1_289 {p : Program} {l : Launch} {e : Env} {s : State} {m : MethodId} {args : Array Value} {below : List Frame} {meth : Method} {c : Code} {R : Room} {H : Heap} {locs : List Loc} {cells slots pc nL : Nat} {Q : State → Prop} {ls : Array Slot} {rest : List Value} {cc : ByteArray} {E : cEnv} {g : mS} {r : Int32} {gZ : mS} (F : CallFix p m c cc nL s args lw_all RX1) (hK : cK E s) (S : gS (wA E) s.heap (cP E g) H locs) (h : fc_X2_inRings g = some (r, gZ)) (hls : ls.size = nL) (hW : (rest.map fun v => v.category).sum ≤ 8) (hR : rm_c_X2_inRings.frames + 1 ≤ R.frames ∧ 8 + (3 + 11) + rm_c_X2_inRings.locals ≤ R.locals) (hf : cells ≤ R.cells ∧ slots ≤ R.slots) (hdg : decode cc pc = .ok (.invokevirtual 289, 3))
    (kk : ∀ (H1 : Heap) (locs1 : List Loc), gS (wA E) s.heap (cP E gZ) H1 locs1 → W p l e R s m args below meth c H1 locs1 cells slots Q (F0 m (pc + 3) ls (.int r :: rest))) : W p l e R s m args below meth c H locs cells slots Q (F0 m pc ls (.ref (cad E 0) :: rest)) :=
  g_ki (g_runV F hK (cKm E) S (met_c_X2_inRings l E g r gZ h) (cwV 0 F.2.2.2.2 (lw_V q1698 q1699 q1700 q112 q1701) rfl rfl rfl (by decide +kernel) hR) (va_recv hK.1 (va_P1 (cAt_ray S.1)) (ci := 2) (q0 := 0) rfl rfl) rfl hls rfl hW hdg hf) S kk
abbrev rm_c_X2_mostFollowing : Room := { frames := 5, cells := 0, slots := 0, locals := 111 }
def Lc_X2_mostFollowing_1 : Nat → mS → Int32 → Int32 → Option (Int32 × mS)
  | 0, _, _, _ => none
  | n + 1, g, y1, y2 =>
    if (g 0 4) ≤ y2 then
      some (y1, g)
    else
      bd1 (crdI g 1 y2) fun v2 =>
      bd2 (fc_X2_follow g v2) fun v5 g6 =>
      Lc_X2_mostFollowing_1 n g6 (if y1 < v5 then v5 else y1) (y2 + 1)
def fc_X2_mostFollowing (g : mS)  : Option (Int32 × mS) :=
  bd2 (Lc_X2_mostFollowing_1 FUEL g 0 0) fun v8 g9 =>
  some (v8, g9)
set_option maxHeartbeats 4000000 in
set_option maxRecDepth 100000 in
theorem loop_c_X2_mostFollowing_1 {p : Program} {l : Launch} {e : Env} {s : State} {m : MethodId} {args : Array Value} {below : List Frame} {meth : Method} {c : Code} (E : cEnv) (F : CallFix p m c cX2_mostFollowing 3 s args lw_all RX2) (hr : meth.sig.returnType = some .int) (hlk : meth.locks = false) (hK : cK E s) {Q : State → Prop} : ∀ (n : Nat) (g : mS) (y1 : Int32) (y2 : Int32) (o : Int32 × mS), Lc_X2_mostFollowing_1 n g y1 y2 = some o → ∀ (H : Heap) (locs : List Loc) (ls : Array Slot), gS (wA E) s.heap (cP E g) H locs → lv_has ls 3 [(0, .ref (cad E 0)), (1, .int y1), (2, .int y2)] → (∀ (w1 : Int32) (gx : mS) (H : Heap) (locs : List Loc) (ls : Array Slot), o = (w1, gx) → gS (wA E) s.heap (cP E gx) H locs → lv_has ls 3 [(1, .int w1)] → W p l e rm_c_X2_mostFollowing s m args below meth c H locs 0 0 Q (F0 m 33 ls [])) → W p l e rm_c_X2_mostFollowing s m args below meth c H locs 0 0 Q (F0 m 4 ls []) := by
  have hx := F.1
  have hb := F.2.1
  intro n
  induction n with
  | zero =>
    intro g y1 y2 o h
    rw [Lc_X2_mostFollowing_1] at h
    cases h
  | succ n ih =>
    intro g y1 y2 o h H locs ls S hl kx
    rw [Lc_X2_mostFollowing_1] at h
    refine lv_iload_n hx hb dX2_mostFollowing_4 rfl (lv_at hl 2 rfl) ?_
    refine lv_aload_n hx hb dX2_mostFollowing_5 rfl (lv_at hl 0 rfl) ?_
    refine cg_X2_63 F hK S  dX2_mostFollowing_6 ?_
    refine lv_icmp_ge (tgt := 33) hx hb dX2_mostFollowing_9 (by decide) (fun c1 => ?_) (fun c1 => ?_)
    · rw [if_pos c1] at h
      cases h
      exact kx _ _ _ _ _ rfl S (lv_sub hl [1] rfl)
    · rw [if_neg c1] at h
      refine lv_iload_n hx hb dX2_mostFollowing_12 rfl (lv_at hl 1 rfl) ?_
      refine lv_aload_n hx hb dX2_mostFollowing_13 rfl (lv_at hl 0 rfl) ?_
      refine lv_aload_n hx hb dX2_mostFollowing_14 rfl (lv_at hl 0 rfl) ?_
      refine cg_X2_9 F hK S  dX2_mostFollowing_15 ?_
      refine lv_iload_n hx hb dX2_mostFollowing_18 rfl (lv_at hl 2 rfl) ?_
      obtain ⟨v2, e3, h⟩ := bd1_inv h
      refine c_iald F hK S e3 dX2_mostFollowing_19 ?_
      obtain ⟨v5, g6, e4, h⟩ := bd2_inv h
      refine call_c_X2_follow_X2_83 F hK S e4 hl.1 (Nat.le_of_ble_eq_true rfl) ⟨Nat.le_of_ble_eq_true rfl, Nat.le_of_ble_eq_true rfl⟩ ⟨Nat.zero_le _, Nat.zero_le _⟩ dX2_mostFollowing_20 (fun H locs S => ?_)
      refine va_mmax hx hb (F.2.2.1.trans hl.1.symm) F.2.2.2.1 (F.2.2.2.2 _ q1369) (F.2.2.2.2 _ q594) (F.2.2.2.2 _ q128) (F.2.2.2.2 _ q595) (Nat.le_of_ble_eq_true rfl) (Nat.le_of_ble_eq_true rfl) (Nat.zero_le _) (Nat.zero_le _) dX2_mostFollowing_23 ?_
      refine lv_istore_n (lv' := [(1, .int (if y1 < v5 then v5 else y1)), (0, .ref (cad E 0)), (2, .int y2)]) hx hb dX2_mostFollowing_26 rfl hl (by decide) rfl (fun ls hl => ?_)
      refine lv_iinc (v := (y2 + 1)) (lv' := [(2, .int (y2 + 1)), (1, .int (if y1 < v5 then v5 else y1)), (0, .ref (cad E 0))]) hx hb dX2_mostFollowing_27 hl (k := 2) rfl rfl (by decide) rfl (fun ls hl => ?_)
      refine lv_goto (tgt := 4) hx hb dX2_mostFollowing_30 (by decide) ?_
      exact ih _ _ _ _ h _ _ _ S (lv_sub hl [2, 1, 0] rfl) kx
set_option maxHeartbeats 4000000 in
set_option maxRecDepth 100000 in
theorem met_c_X2_mostFollowing (l : Launch) (E : cEnv) (g : mS) (r : Int32) (gZ : mS) (h : fc_X2_mostFollowing g = some (r, gZ)) : Met l yX2_mostFollowing (ws_ yX2_mostFollowing cX2_mostFollowing 3 (some .int)) rm_c_X2_mostFollowing (va_Pc [.ref (cad E 0)] (gPre (cK E) (cP E g))) (gQi r (cP E gZ) (wA E)) 0 0 (wA E) := by
  refine g_met (own := RX2) (by decide) rfl (Nat.le_of_ble_eq_true rfl) ?_
  intro p e s m args below meth c ls F hr hlk hK S hl
  have hx := F.1
  have hb := F.2.1
  have hl : lv_has ls 3 [(0, .ref (cad E 0))] := hl
  unfold fc_X2_mostFollowing at h
  refine lv_iconst (v := 0) hx hb dX2_mostFollowing_0 (by decide) ?_
  refine lv_istore_n (lv' := [(1, .int 0), (0, .ref (cad E 0))]) hx hb dX2_mostFollowing_1 rfl hl (by decide) rfl (fun ls hl => ?_)
  refine lv_iconst (v := 0) hx hb dX2_mostFollowing_2 (by decide) ?_
  refine lv_istore_n (lv' := [(2, .int 0), (1, .int 0), (0, .ref (cad E 0))]) hx hb dX2_mostFollowing_3 rfl hl (by decide) rfl (fun ls hl => ?_)
  obtain ⟨v8, g9, e7, h⟩ := bd2_inv h
  refine loop_c_X2_mostFollowing_1 E F hr hlk hK _ _ _ _ _ e7 _ _ _ S (lv_sub hl [2, 1, 0] rfl) (fun v8z g9z H locs ls o S hl => ?_)
  cases o
  refine lv_iload_n hx hb dX2_mostFollowing_33 rfl (lv_at hl 0 rfl) ?_
  cases h
  exact g_iret F hr hlk S rfl dX2_mostFollowing_34
theorem call_c_X2_mostFollowing_X1_305 {p : Program} {l : Launch} {e : Env} {s : State} {m : MethodId} {args : Array Value} {below : List Frame} {meth : Method} {c : Code} {R : Room} {H : Heap} {locs : List Loc} {cells slots pc nL : Nat} {Q : State → Prop} {ls : Array Slot} {rest : List Value} {cc : ByteArray} {E : cEnv} {g : mS} {r : Int32} {gZ : mS} (F : CallFix p m c cc nL s args lw_all RX1) (hK : cK E s) (S : gS (wA E) s.heap (cP E g) H locs) (h : fc_X2_mostFollowing g = some (r, gZ)) (hls : ls.size = nL) (hW : (rest.map fun v => v.category).sum ≤ 8) (hR : rm_c_X2_mostFollowing.frames + 1 ≤ R.frames ∧ 8 + (3 + 11) + rm_c_X2_mostFollowing.locals ≤ R.locals) (hf : cells ≤ R.cells ∧ slots ≤ R.slots) (hdg : decode cc pc = .ok (.invokevirtual 305, 3))
    (kk : ∀ (H1 : Heap) (locs1 : List Loc), gS (wA E) s.heap (cP E gZ) H1 locs1 → W p l e R s m args below meth c H1 locs1 cells slots Q (F0 m (pc + 3) ls (.int r :: rest))) : W p l e R s m args below meth c H locs cells slots Q (F0 m pc ls (.ref (cad E 0) :: rest)) :=
  g_ki (g_runV F hK (cKm E) S (met_c_X2_mostFollowing l E g r gZ h) (cwV 0 F.2.2.2.2 (lw_V q1716 q1717 q1718 q112 q1719) rfl rfl rfl (by decide +kernel) hR) (va_recv hK.1 (va_P1 (cAt_ray S.1)) (ci := 2) (q0 := 0) rfl rfl) rfl hls rfl hW hdg hf) S kk
abbrev rm_c_X2_stopped : Room := { frames := 1, cells := 0, slots := 0, locals := 20 }
def Lc_X2_stopped_1 : Nat → mS → Int32 → Int32 → Option (Int32)
  | 0, _, _, _ => none
  | n + 1, g, y1, y2 =>
    if (g 0 4) ≤ y2 then
      some y1
    else
      bd1 (rdW g) fun v2 =>
      bd1 (crdI g 1 y2) fun v4 =>
      bd1 (ix100 (v4 / 4)) fun v6 =>
      bd1 ((
        if (isC 8 g v2 v6) = 0 then
          some 0
        else
          bd1 (crdI g 1 y2) fun v9 =>
          if (vForm g v2 v6) = (irm v9 4) then
            some 0
          else
            some 1) : Option (Int32)) fun v12 =>
      Lc_X2_stopped_1 n g (y1 + v12) (y2 + 1)
def fc_X2_stopped (g : mS)  : Option (Int32) :=
  bd1 (Lc_X2_stopped_1 FUEL g 0 0) fun v15 =>
  some v15
set_option maxHeartbeats 4000000 in
set_option maxRecDepth 100000 in
theorem loop_c_X2_stopped_1 {p : Program} {l : Launch} {e : Env} {s : State} {m : MethodId} {args : Array Value} {below : List Frame} {meth : Method} {c : Code} (E : cEnv) (F : CallFix p m c cX2_stopped 4 s args lw_all RX2) (hr : meth.sig.returnType = some .int) (hlk : meth.locks = false) (hK : cK E s) {Q : State → Prop} {g : mS} : ∀ (n : Nat) (y1 : Int32) (y2 : Int32) (o : Int32), Lc_X2_stopped_1 n g y1 y2 = some o → ∀ (H : Heap) (locs : List Loc) (ls : Array Slot), gS (wA E) s.heap (cP E g) H locs → lv_has ls 4 [(0, .ref (cad E 0)), (1, .int y1), (2, .int y2)] → (∀ (w1 : Int32) (H : Heap) (locs : List Loc) (ls : Array Slot), o = w1 → gS (wA E) s.heap (cP E g) H locs → lv_has ls 4 [(1, .int w1)] → W p l e rm_c_X2_stopped s m args below meth c H locs 0 0 Q (F0 m 65 ls [])) → W p l e rm_c_X2_stopped s m args below meth c H locs 0 0 Q (F0 m 4 ls []) := by
  have hx := F.1
  have hb := F.2.1
  intro n
  induction n with
  | zero =>
    intro y1 y2 o h
    rw [Lc_X2_stopped_1] at h
    cases h
  | succ n ih =>
    intro y1 y2 o h H locs ls S hl kx
    rw [Lc_X2_stopped_1] at h
    refine lv_iload_n hx hb dX2_stopped_4 rfl (lv_at hl 2 rfl) ?_
    refine lv_aload_n hx hb dX2_stopped_5 rfl (lv_at hl 0 rfl) ?_
    refine cg_X2_63 F hK S  dX2_stopped_6 ?_
    refine lv_icmp_ge (tgt := 65) hx hb dX2_stopped_9 (by decide) (fun c1 => ?_) (fun c1 => ?_)
    · rw [if_pos c1] at h
      cases h
      exact kx _ _ _ _ rfl S (lv_sub hl [1] rfl)
    · rw [if_neg c1] at h
      refine lv_aload_n hx hb dX2_stopped_12 rfl (lv_at hl 0 rfl) ?_
      obtain ⟨v2, e3, h⟩ := bd1_inv h
      refine cg_X2_36 F hK S e3 dX2_stopped_13 (fun hv2 => ?_)
      refine cg_X2_53 F hK S (by assumption) dX2_stopped_16 ?_
      refine lv_aload_n hx hb dX2_stopped_19 rfl (lv_at hl 0 rfl) ?_
      refine cg_X2_9 F hK S  dX2_stopped_20 ?_
      refine lv_iload_n hx hb dX2_stopped_23 rfl (lv_at hl 2 rfl) ?_
      obtain ⟨v4, e5, h⟩ := bd1_inv h
      refine c_iald F hK S e5 dX2_stopped_24 ?_
      refine lv_iconst (v := 4) hx hb dX2_stopped_25 (by decide) ?_
      refine lv_idiv hx hb dX2_stopped_26 (by decide) ?_
      obtain ⟨v6, e7, h⟩ := bd1_inv h
      have hv6 := ix100_lt e7
      refine c_aald F hK S (by assumption) e7 dX2_stopped_27 ?_
      refine lv_astore_n (lv' := [(3, .ref (coa E v2 v6)), (0, .ref (cad E 0)), (1, .int y1), (2, .int y2)]) hx hb dX2_stopped_28 rfl hl (by decide) rfl (fun ls hl => ?_)
      refine lv_iload_n hx hb dX2_stopped_29 rfl (lv_at hl 2 rfl) ?_
      refine lv_aload_n hx hb dX2_stopped_30 rfl (lv_at hl 0 rfl) ?_
      refine ci_X2_106 F hK S (by assumption) (by assumption) dX2_stopped_31 ?_
      obtain ⟨v12, hB, h⟩ := bd1_inv h
      have hJ57 : ∀ (H : Heap) (locs : List Loc) (ls : Array Slot), gS (wA E) s.heap (cP E g) H locs → lv_has ls 4 [(0, .ref (cad E 0)), (2, .int y2)] → W p l e rm_c_X2_stopped s m args below meth c H locs 0 0 Q (F0 m 57 ls [.int v12, .int y1]) := by
        intro H locs ls S hl
        refine lv_iadd hx hb dX2_stopped_57 ?_
        refine lv_istore_n (lv' := [(1, .int (y1 + v12)), (0, .ref (cad E 0)), (2, .int y2)]) hx hb dX2_stopped_58 rfl hl (by decide) rfl (fun ls hl => ?_)
        refine lv_iinc (v := (y2 + 1)) (lv' := [(2, .int (y2 + 1)), (1, .int (y1 + v12)), (0, .ref (cad E 0))]) hx hb dX2_stopped_59 hl (k := 2) rfl rfl (by decide) rfl (fun ls hl => ?_)
        refine lv_goto (tgt := 4) hx hb dX2_stopped_62 (by decide) ?_
        exact ih _ _ _ h _ _ _ S (lv_sub hl [2, 1, 0] rfl) kx
      clear h
      have h := hB
      clear hB
      refine lv_if_eq (tgt := 56) hx hb dX2_stopped_34 (by decide) (fun c8 => ?_) (fun c8 => ?_)
      · rw [if_pos c8] at h
        refine lv_iconst (v := 0) hx hb dX2_stopped_56 (by decide) ?_
        cases h
        exact hJ57 _ _ _ S (lv_sub hl [1, 3] rfl)
      · rw [if_neg c8] at h
        refine lv_aload_n hx hb dX2_stopped_37 rfl (lv_at hl 0 rfl) ?_
        refine cv_form_X2_108 F hK S (by assumption) (by assumption) hl.1 (Nat.le_of_ble_eq_true rfl) ⟨Nat.le_of_ble_eq_true rfl, Nat.le_of_ble_eq_true rfl⟩ ⟨Nat.zero_le _, Nat.zero_le _⟩ dX2_stopped_38 (fun H locs S => ?_)
        refine lv_aload_n hx hb dX2_stopped_41 rfl (lv_at hl 1 rfl) ?_
        refine cg_X2_9 F hK S  dX2_stopped_42 ?_
        refine lv_iload_n hx hb dX2_stopped_45 rfl (lv_at hl 3 rfl) ?_
        obtain ⟨v9, e10, h⟩ := bd1_inv h
        refine c_iald F hK S e10 dX2_stopped_46 ?_
        refine lv_iconst (v := 4) hx hb dX2_stopped_47 (by decide) ?_
        refine lv_irem hx hb dX2_stopped_48 (by decide) ?_
        refine lv_icmp_eq (tgt := 56) hx hb dX2_stopped_49 (by decide) (fun c11 => ?_) (fun c11 => ?_)
        · rw [if_pos c11] at h
          refine lv_iconst (v := 0) hx hb dX2_stopped_56 (by decide) ?_
          cases h
          exact hJ57 _ _ _ S (lv_sub hl [1, 3] rfl)
        · rw [if_neg c11] at h
          refine lv_iconst (v := 1) hx hb dX2_stopped_52 (by decide) ?_
          refine lv_goto (tgt := 57) hx hb dX2_stopped_53 (by decide) ?_
          cases h
          exact hJ57 _ _ _ S (lv_sub hl [1, 3] rfl)
set_option maxHeartbeats 4000000 in
set_option maxRecDepth 100000 in
theorem met_c_X2_stopped (l : Launch) (E : cEnv) (g : mS) (r : Int32) (h : fc_X2_stopped g = some r) : Met l yX2_stopped (ws_ yX2_stopped cX2_stopped 4 (some .int)) rm_c_X2_stopped (va_Pc [.ref (cad E 0)] (gPre (cK E) (cP E g))) (gQi r (cP E g) (wA E)) 0 0 (wA E) := by
  refine g_met (own := RX2) (by decide) rfl (Nat.le_of_ble_eq_true rfl) ?_
  intro p e s m args below meth c ls F hr hlk hK S hl
  have hx := F.1
  have hb := F.2.1
  have hl : lv_has ls 4 [(0, .ref (cad E 0))] := hl
  unfold fc_X2_stopped at h
  refine lv_iconst (v := 0) hx hb dX2_stopped_0 (by decide) ?_
  refine lv_istore_n (lv' := [(1, .int 0), (0, .ref (cad E 0))]) hx hb dX2_stopped_1 rfl hl (by decide) rfl (fun ls hl => ?_)
  refine lv_iconst (v := 0) hx hb dX2_stopped_2 (by decide) ?_
  refine lv_istore_n (lv' := [(2, .int 0), (1, .int 0), (0, .ref (cad E 0))]) hx hb dX2_stopped_3 rfl hl (by decide) rfl (fun ls hl => ?_)
  obtain ⟨v15, e14, h⟩ := bd1_inv h
  refine loop_c_X2_stopped_1 E F hr hlk hK _ _ _ _ e14 _ _ _ S (lv_sub hl [2, 1, 0] rfl) (fun v15z H locs ls o S hl => ?_)
  cases o
  refine lv_iload_n hx hb dX2_stopped_65 rfl (lv_at hl 0 rfl) ?_
  cases h
  exact g_iret F hr hlk S rfl dX2_stopped_66
theorem call_c_X2_stopped_X1_302 {p : Program} {l : Launch} {e : Env} {s : State} {m : MethodId} {args : Array Value} {below : List Frame} {meth : Method} {c : Code} {R : Room} {H : Heap} {locs : List Loc} {cells slots pc nL : Nat} {Q : State → Prop} {ls : Array Slot} {rest : List Value} {cc : ByteArray} {E : cEnv} {g : mS} {r : Int32} (F : CallFix p m c cc nL s args lw_all RX1) (hK : cK E s) (S : gS (wA E) s.heap (cP E g) H locs) (h : fc_X2_stopped g = some r) (hls : ls.size = nL) (hW : (rest.map fun v => v.category).sum ≤ 8) (hR : rm_c_X2_stopped.frames + 1 ≤ R.frames ∧ 8 + (4 + 11) + rm_c_X2_stopped.locals ≤ R.locals) (hf : cells ≤ R.cells ∧ slots ≤ R.slots) (hdg : decode cc pc = .ok (.invokevirtual 302, 3))
    (kk : ∀ (H1 : Heap) (locs1 : List Loc), gS (wA E) s.heap (cP E g) H1 locs1 → W p l e R s m args below meth c H1 locs1 cells slots Q (F0 m (pc + 3) ls (.int r :: rest))) : W p l e R s m args below meth c H locs cells slots Q (F0 m pc ls (.ref (cad E 0) :: rest)) :=
  g_ki (g_runV F hK (cKm E) S (met_c_X2_stopped l E g r h) (cwV 0 F.2.2.2.2 (lw_V q1710 q1711 q1712 q112 q1713) rfl rfl rfl (by decide +kernel) hR) (va_recv hK.1 (va_P1 (cAt_ray S.1)) (ci := 2) (q0 := 0) rfl rfl) rfl hls rfl hW hdg hf) S kk
abbrev rm_c_X2_gap : Room := { frames := 5, cells := 0, slots := 0, locals := 111 }
def Lc_X2_gap_2 : Nat → mS → Int32 → Int32 → Int32 → Int32 → Option (Int32 × mS)
  | 0, _, _, _, _, _ => none
  | n + 1, g, y1, y2, y3, y4 =>
    if y3 ≤ y4 then
      some (y1, g)
    else
      bd1 (crdI g 4 y4) fun v10 =>
      bd1 (fc_X2_numberOf g v10) fun v13 =>
      bd1 ((
        if v13 = (-1) then
          some 1
        else
          some 0) : Option (Int32)) fun v15 =>
      bd1 ((
        if v13 = (-1) then
          bd1 (crdI g 5 0) fun v17 =>
          some v17
        else
          some (g 0 11)) : Option (Int32)) fun v19 =>
      bd1 (cwrI g 5 (if 0 < v13 then v13 else 0) v19) fun g20 =>
      Lc_X2_gap_2 n g20 (y1 + v15) y2 y3 (y4 + 1)
def Lc_X2_gap_1 : Nat → mS → Int32 → Int32 → Option (Int32 × mS)
  | 0, _, _, _ => none
  | n + 1, g, y1, y2 =>
    if (g 0 4) ≤ y2 then
      some (y1, g)
    else
      bd1 (crdI g 1 y2) fun v4 =>
      bd2 (fc_X2_follow g v4) fun v7 g8 =>
      bd2 (Lc_X2_gap_2 FUEL g8 y1 y2 v7 0) fun v25 g26 =>
      Lc_X2_gap_1 n g26 v25 (y2 + 1)
def Lc_X2_gap_3 : Nat → mS → Int32 → Int32 → Option (Int32)
  | 0, _, _, _ => none
  | n + 1, g, y1, y2 =>
    if (g 0 4) ≤ y2 then
      some y1
    else
      bd1 (crdI g 5 y2) fun v32 =>
      bd1 ((
        if v32 = (g 0 11) then
          some 0
        else
          some 1) : Option (Int32)) fun v35 =>
      Lc_X2_gap_3 n g (y1 + v35) (y2 + 1)
def fc_X2_gap (g : mS)  : Option (Int32 × mS) :=
  bd1 (wrF g 11 ((g 0 11) + 1)) fun g1 =>
  bd2 (Lc_X2_gap_1 FUEL g1 0 0) fun v29 g30 =>
  bd1 (Lc_X2_gap_3 FUEL g30 v29 1) fun v38 =>
  some (v38, g30)
set_option maxHeartbeats 4000000 in
set_option maxRecDepth 100000 in
theorem loop_c_X2_gap_2 {p : Program} {l : Launch} {e : Env} {s : State} {m : MethodId} {args : Array Value} {below : List Frame} {meth : Method} {c : Code} (E : cEnv) (F : CallFix p m c cX2_gap 6 s args lw_all RX2) (hr : meth.sig.returnType = some .int) (hlk : meth.locks = false) (hK : cK E s) {Q : State → Prop} : ∀ (n : Nat) (g : mS) (y1 : Int32) (y2 : Int32) (y3 : Int32) (y4 : Int32) (o : Int32 × mS), Lc_X2_gap_2 n g y1 y2 y3 y4 = some o → ∀ (H : Heap) (locs : List Loc) (ls : Array Slot), gS (wA E) s.heap (cP E g) H locs → lv_has ls 6 [(0, .ref (cad E 0)), (1, .int y1), (2, .int y2), (3, .int y3), (4, .int y4)] → (∀ (w1 : Int32) (gx : mS) (H : Heap) (locs : List Loc) (ls : Array Slot), o = (w1, gx) → gS (wA E) s.heap (cP E gx) H locs → lv_has ls 6 [(0, .ref (cad E 0)), (1, .int w1), (2, .int y2)] → W p l e rm_c_X2_gap s m args below meth c H locs 0 0 Q (F0 m 105 ls [])) → W p l e rm_c_X2_gap s m args below meth c H locs 0 0 Q (F0 m 36 ls []) := by
  have hx := F.1
  have hb := F.2.1
  intro n
  induction n with
  | zero =>
    intro g y1 y2 y3 y4 o h
    rw [Lc_X2_gap_2] at h
    cases h
  | succ n ih =>
    intro g y1 y2 y3 y4 o h H locs ls S hl kx
    rw [Lc_X2_gap_2] at h
    refine lv_iload hx hb dX2_gap_36 (lv_at hl 4 rfl) ?_
    refine lv_iload_n hx hb dX2_gap_38 rfl (lv_at hl 3 rfl) ?_
    refine lv_icmp_ge (tgt := 105) hx hb dX2_gap_39 (by decide) (fun c9 => ?_) (fun c9 => ?_)
    · rw [if_pos c9] at h
      cases h
      exact kx _ _ _ _ _ rfl S (lv_sub hl [0, 1, 2] rfl)
    · rw [if_neg c9] at h
      refine lv_aload_n hx hb dX2_gap_42 rfl (lv_at hl 0 rfl) ?_
      refine lv_aload_n hx hb dX2_gap_43 rfl (lv_at hl 0 rfl) ?_
      refine cg_X2_21 F hK S  dX2_gap_44 ?_
      refine lv_iload hx hb dX2_gap_47 (lv_at hl 4 rfl) ?_
      obtain ⟨v10, e11, h⟩ := bd1_inv h
      refine c_iald F hK S e11 dX2_gap_49 ?_
      obtain ⟨v13, e12, h⟩ := bd1_inv h
      refine call_c_X2_numberOf_X2_87 F hK S e12 hl.1 (Nat.le_of_ble_eq_true rfl) ⟨Nat.le_of_ble_eq_true rfl, Nat.le_of_ble_eq_true rfl⟩ ⟨Nat.zero_le _, Nat.zero_le _⟩ dX2_gap_50 (fun H locs S => ?_)
      refine lv_istore (lv' := [(5, .int v13), (0, .ref (cad E 0)), (1, .int y1), (2, .int y2), (3, .int y3), (4, .int y4)]) hx hb dX2_gap_53 hl (by decide) rfl (fun ls hl => ?_)
      refine lv_iload_n hx hb dX2_gap_55 rfl (lv_at hl 2 rfl) ?_
      refine lv_iload hx hb dX2_gap_56 (lv_at hl 0 rfl) ?_
      refine lv_iconst (v := (-1)) hx hb dX2_gap_58 (by decide) ?_
      obtain ⟨v15, hB, h⟩ := bd1_inv h
      have hJ67 : ∀ (H : Heap) (locs : List Loc) (ls : Array Slot), gS (wA E) s.heap (cP E g) H locs → lv_has ls 6 [(0, .ref (cad E 0)), (2, .int y2), (3, .int y3), (4, .int y4), (5, .int v13)] → W p l e rm_c_X2_gap s m args below meth c H locs 0 0 Q (F0 m 67 ls [.int v15, .int y1]) := by
        intro H locs ls S hl
        refine lv_iadd hx hb dX2_gap_67 ?_
        refine lv_istore_n (lv' := [(1, .int (y1 + v15)), (0, .ref (cad E 0)), (2, .int y2), (3, .int y3), (4, .int y4), (5, .int v13)]) hx hb dX2_gap_68 rfl hl (by decide) rfl (fun ls hl => ?_)
        refine lv_aload_n hx hb dX2_gap_69 rfl (lv_at hl 1 rfl) ?_
        refine cg_X2_24 F hK S  dX2_gap_70 ?_
        refine lv_iconst (v := 0) hx hb dX2_gap_73 (by decide) ?_
        refine lv_iload hx hb dX2_gap_74 (lv_at hl 5 rfl) ?_
        refine va_mmax hx hb (F.2.2.1.trans hl.1.symm) F.2.2.2.1 (F.2.2.2.2 _ q1369) (F.2.2.2.2 _ q594) (F.2.2.2.2 _ q128) (F.2.2.2.2 _ q595) (Nat.le_of_ble_eq_true rfl) (Nat.le_of_ble_eq_true rfl) (Nat.zero_le _) (Nat.zero_le _) dX2_gap_76 ?_
        refine lv_iload hx hb dX2_gap_79 (lv_at hl 5 rfl) ?_
        refine lv_iconst (v := (-1)) hx hb dX2_gap_81 (by decide) ?_
        obtain ⟨v19, hB, h⟩ := bd1_inv h
        have hJ98 : ∀ (H : Heap) (locs : List Loc) (ls : Array Slot), gS (wA E) s.heap (cP E g) H locs → lv_has ls 6 [(0, .ref (cad E 0)), (1, .int (y1 + v15)), (2, .int y2), (3, .int y3), (4, .int y4)] → W p l e rm_c_X2_gap s m args below meth c H locs 0 0 Q (F0 m 98 ls [.int v19, .int (if 0 < v13 then v13 else 0), .ref (cad E 5)]) := by
          intro H locs ls S hl
          obtain ⟨g20, e21, h⟩ := bd1_inv h
          refine c_iast F hK S e21 dX2_gap_98 (fun H locs S => ?_)
          refine lv_iinc (v := (y4 + 1)) (lv' := [(4, .int (y4 + 1)), (0, .ref (cad E 0)), (1, .int (y1 + v15)), (2, .int y2), (3, .int y3)]) hx hb dX2_gap_99 hl (k := 4) rfl rfl (by decide) rfl (fun ls hl => ?_)
          refine lv_goto (tgt := 36) hx hb dX2_gap_102 (by decide) ?_
          exact ih _ _ _ _ _ _ h _ _ _ S (lv_sub hl [1, 2, 3, 4, 0] rfl) kx
        clear h
        have h := hB
        clear hB
        refine lv_icmp_ne (tgt := 94) hx hb dX2_gap_82 (by decide) (fun c16 => ?_) (fun c16 => ?_)
        · rw [if_neg c16] at h
          refine lv_aload_n hx hb dX2_gap_94 rfl (lv_at hl 1 rfl) ?_
          refine cg_X2_96 F hK S  dX2_gap_95 ?_
          cases h
          exact hJ98 _ _ _ S (lv_sub hl [1, 0, 2, 3, 4] rfl)
        · rw [if_pos c16] at h
          refine lv_aload_n hx hb dX2_gap_85 rfl (lv_at hl 1 rfl) ?_
          refine cg_X2_24 F hK S  dX2_gap_86 ?_
          refine lv_iconst (v := 0) hx hb dX2_gap_89 (by decide) ?_
          obtain ⟨v17, e18, h⟩ := bd1_inv h
          refine c_iald F hK S e18 dX2_gap_90 ?_
          refine lv_goto (tgt := 98) hx hb dX2_gap_91 (by decide) ?_
          cases h
          exact hJ98 _ _ _ S (lv_sub hl [1, 0, 2, 3, 4] rfl)
      clear h
      have h := hB
      clear hB
      refine lv_icmp_ne (tgt := 66) hx hb dX2_gap_59 (by decide) (fun c14 => ?_) (fun c14 => ?_)
      · rw [if_neg c14] at h
        refine lv_iconst (v := 0) hx hb dX2_gap_66 (by decide) ?_
        cases h
        exact hJ67 _ _ _ S (lv_sub hl [1, 3, 4, 5, 0] rfl)
      · rw [if_pos c14] at h
        refine lv_iconst (v := 1) hx hb dX2_gap_62 (by decide) ?_
        refine lv_goto (tgt := 67) hx hb dX2_gap_63 (by decide) ?_
        cases h
        exact hJ67 _ _ _ S (lv_sub hl [1, 3, 4, 5, 0] rfl)
set_option maxHeartbeats 4000000 in
set_option maxRecDepth 100000 in
theorem loop_c_X2_gap_1 {p : Program} {l : Launch} {e : Env} {s : State} {m : MethodId} {args : Array Value} {below : List Frame} {meth : Method} {c : Code} (E : cEnv) (F : CallFix p m c cX2_gap 6 s args lw_all RX2) (hr : meth.sig.returnType = some .int) (hlk : meth.locks = false) (hK : cK E s) {Q : State → Prop} : ∀ (n : Nat) (g : mS) (y1 : Int32) (y2 : Int32) (o : Int32 × mS), Lc_X2_gap_1 n g y1 y2 = some o → ∀ (H : Heap) (locs : List Loc) (ls : Array Slot), gS (wA E) s.heap (cP E g) H locs → lv_has ls 6 [(0, .ref (cad E 0)), (1, .int y1), (2, .int y2)] → (∀ (w1 : Int32) (gx : mS) (H : Heap) (locs : List Loc) (ls : Array Slot), o = (w1, gx) → gS (wA E) s.heap (cP E gx) H locs → lv_has ls 6 [(0, .ref (cad E 0)), (1, .int w1)] → W p l e rm_c_X2_gap s m args below meth c H locs 0 0 Q (F0 m 111 ls [])) → W p l e rm_c_X2_gap s m args below meth c H locs 0 0 Q (F0 m 14 ls []) := by
  have hx := F.1
  have hb := F.2.1
  intro n
  induction n with
  | zero =>
    intro g y1 y2 o h
    rw [Lc_X2_gap_1] at h
    cases h
  | succ n ih =>
    intro g y1 y2 o h H locs ls S hl kx
    rw [Lc_X2_gap_1] at h
    refine lv_iload_n hx hb dX2_gap_14 rfl (lv_at hl 2 rfl) ?_
    refine lv_aload_n hx hb dX2_gap_15 rfl (lv_at hl 0 rfl) ?_
    refine cg_X2_63 F hK S  dX2_gap_16 ?_
    refine lv_icmp_ge (tgt := 111) hx hb dX2_gap_19 (by decide) (fun c3 => ?_) (fun c3 => ?_)
    · rw [if_pos c3] at h
      cases h
      exact kx _ _ _ _ _ rfl S (lv_sub hl [0, 1] rfl)
    · rw [if_neg c3] at h
      refine lv_aload_n hx hb dX2_gap_22 rfl (lv_at hl 0 rfl) ?_
      refine lv_aload_n hx hb dX2_gap_23 rfl (lv_at hl 0 rfl) ?_
      refine cg_X2_9 F hK S  dX2_gap_24 ?_
      refine lv_iload_n hx hb dX2_gap_27 rfl (lv_at hl 2 rfl) ?_
      obtain ⟨v4, e5, h⟩ := bd1_inv h
      refine c_iald F hK S e5 dX2_gap_28 ?_
      obtain ⟨v7, g8, e6, h⟩ := bd2_inv h
      refine call_c_X2_follow_X2_83 F hK S e6 hl.1 (Nat.le_of_ble_eq_true rfl) ⟨Nat.le_of_ble_eq_true rfl, Nat.le_of_ble_eq_true rfl⟩ ⟨Nat.zero_le _, Nat.zero_le _⟩ dX2_gap_29 (fun H locs S => ?_)
      refine lv_istore_n (lv' := [(3, .int v7), (0, .ref (cad E 0)), (1, .int y1), (2, .int y2)]) hx hb dX2_gap_32 rfl hl (by decide) rfl (fun ls hl => ?_)
      refine lv_iconst (v := 0) hx hb dX2_gap_33 (by decide) ?_
      refine lv_istore (lv' := [(4, .int 0), (3, .int v7), (0, .ref (cad E 0)), (1, .int y1), (2, .int y2)]) hx hb dX2_gap_34 hl (by decide) rfl (fun ls hl => ?_)
      obtain ⟨v25, g26, e24, h⟩ := bd2_inv h
      refine loop_c_X2_gap_2 E F hr hlk hK _ _ _ _ _ _ _ e24 _ _ _ S (lv_sub hl [2, 3, 4, 1, 0] rfl) (fun v25z g26z H locs ls o S hl => ?_)
      cases o
      refine lv_iinc (v := (y2 + 1)) (lv' := [(2, .int (y2 + 1)), (0, .ref (cad E 0)), (1, .int v25)]) hx hb dX2_gap_105 hl (k := 2) rfl rfl (by decide) rfl (fun ls hl => ?_)
      refine lv_goto (tgt := 14) hx hb dX2_gap_108 (by decide) ?_
      exact ih _ _ _ _ h _ _ _ S (lv_sub hl [1, 2, 0] rfl) kx
set_option maxHeartbeats 4000000 in
set_option maxRecDepth 100000 in
theorem loop_c_X2_gap_3 {p : Program} {l : Launch} {e : Env} {s : State} {m : MethodId} {args : Array Value} {below : List Frame} {meth : Method} {c : Code} (E : cEnv) (F : CallFix p m c cX2_gap 6 s args lw_all RX2) (hr : meth.sig.returnType = some .int) (hlk : meth.locks = false) (hK : cK E s) {Q : State → Prop} : ∀ (n : Nat) (g : mS) (y1 : Int32) (y2 : Int32) (o : Int32), Lc_X2_gap_3 n g y1 y2 = some o → ∀ (H : Heap) (locs : List Loc) (ls : Array Slot), gS (wA E) s.heap (cP E g) H locs → lv_has ls 6 [(0, .ref (cad E 0)), (1, .int y1), (2, .int y2)] → (∀ (w1 : Int32) (H : Heap) (locs : List Loc) (ls : Array Slot), o = w1 → gS (wA E) s.heap (cP E g) H locs → lv_has ls 6 [(1, .int w1)] → W p l e rm_c_X2_gap s m args below meth c H locs 0 0 Q (F0 m 148 ls [])) → W p l e rm_c_X2_gap s m args below meth c H locs 0 0 Q (F0 m 113 ls []) := by
  have hx := F.1
  have hb := F.2.1
  intro n
  induction n with
  | zero =>
    intro g y1 y2 o h
    rw [Lc_X2_gap_3] at h
    cases h
  | succ n ih =>
    intro g y1 y2 o h H locs ls S hl kx
    rw [Lc_X2_gap_3] at h
    refine lv_iload_n hx hb dX2_gap_113 rfl (lv_at hl 2 rfl) ?_
    refine lv_aload_n hx hb dX2_gap_114 rfl (lv_at hl 0 rfl) ?_
    refine cg_X2_63 F hK S  dX2_gap_115 ?_
    refine lv_icmp_ge (tgt := 148) hx hb dX2_gap_118 (by decide) (fun c31 => ?_) (fun c31 => ?_)
    · rw [if_pos c31] at h
      cases h
      exact kx _ _ _ _ rfl S (lv_sub hl [1] rfl)
    · rw [if_neg c31] at h
      refine lv_iload_n hx hb dX2_gap_121 rfl (lv_at hl 1 rfl) ?_
      refine lv_aload_n hx hb dX2_gap_122 rfl (lv_at hl 0 rfl) ?_
      refine cg_X2_24 F hK S  dX2_gap_123 ?_
      refine lv_iload_n hx hb dX2_gap_126 rfl (lv_at hl 2 rfl) ?_
      obtain ⟨v32, e33, h⟩ := bd1_inv h
      refine c_iald F hK S e33 dX2_gap_127 ?_
      refine lv_aload_n hx hb dX2_gap_128 rfl (lv_at hl 0 rfl) ?_
      refine cg_X2_96 F hK S  dX2_gap_129 ?_
      obtain ⟨v35, hB, h⟩ := bd1_inv h
      have hJ140 : ∀ (H : Heap) (locs : List Loc) (ls : Array Slot), gS (wA E) s.heap (cP E g) H locs → lv_has ls 6 [(0, .ref (cad E 0)), (2, .int y2)] → W p l e rm_c_X2_gap s m args below meth c H locs 0 0 Q (F0 m 140 ls [.int v35, .int y1]) := by
        intro H locs ls S hl
        refine lv_iadd hx hb dX2_gap_140 ?_
        refine lv_istore_n (lv' := [(1, .int (y1 + v35)), (0, .ref (cad E 0)), (2, .int y2)]) hx hb dX2_gap_141 rfl hl (by decide) rfl (fun ls hl => ?_)
        refine lv_iinc (v := (y2 + 1)) (lv' := [(2, .int (y2 + 1)), (1, .int (y1 + v35)), (0, .ref (cad E 0))]) hx hb dX2_gap_142 hl (k := 2) rfl rfl (by decide) rfl (fun ls hl => ?_)
        refine lv_goto (tgt := 113) hx hb dX2_gap_145 (by decide) ?_
        exact ih _ _ _ _ h _ _ _ S (lv_sub hl [2, 1, 0] rfl) kx
      clear h
      have h := hB
      clear hB
      refine lv_icmp_ne (tgt := 139) hx hb dX2_gap_132 (by decide) (fun c34 => ?_) (fun c34 => ?_)
      · rw [if_neg c34] at h
        refine lv_iconst (v := 1) hx hb dX2_gap_139 (by decide) ?_
        cases h
        exact hJ140 _ _ _ S (lv_sub hl [0, 2] rfl)
      · rw [if_pos c34] at h
        refine lv_iconst (v := 0) hx hb dX2_gap_135 (by decide) ?_
        refine lv_goto (tgt := 140) hx hb dX2_gap_136 (by decide) ?_
        cases h
        exact hJ140 _ _ _ S (lv_sub hl [0, 2] rfl)
set_option maxHeartbeats 4000000 in
set_option maxRecDepth 100000 in
theorem met_c_X2_gap (l : Launch) (E : cEnv) (g : mS) (r : Int32) (gZ : mS) (h : fc_X2_gap g = some (r, gZ)) : Met l yX2_gap (ws_ yX2_gap cX2_gap 6 (some .int)) rm_c_X2_gap (va_Pc [.ref (cad E 0)] (gPre (cK E) (cP E g))) (gQi r (cP E gZ) (wA E)) 0 0 (wA E) := by
  refine g_met (own := RX2) (by decide) rfl (Nat.le_of_ble_eq_true rfl) ?_
  intro p e s m args below meth c ls F hr hlk hK S hl
  have hx := F.1
  have hb := F.2.1
  have hl : lv_has ls 6 [(0, .ref (cad E 0))] := hl
  unfold fc_X2_gap at h
  refine lv_iconst (v := 0) hx hb dX2_gap_0 (by decide) ?_
  refine lv_istore_n (lv' := [(1, .int 0), (0, .ref (cad E 0))]) hx hb dX2_gap_1 rfl hl (by decide) rfl (fun ls hl => ?_)
  refine lv_aload_n hx hb dX2_gap_2 rfl (lv_at hl 1 rfl) ?_
  refine lv_dup hx hb dX2_gap_3 rfl ?_
  refine cg_X2_96 F hK S  dX2_gap_4 ?_
  refine lv_iconst (v := 1) hx hb dX2_gap_7 (by decide) ?_
  refine lv_iadd hx hb dX2_gap_8 ?_
  obtain ⟨g1, e2, h⟩ := bd1_inv h
  refine cw_X2_96 F hK S  e2 dX2_gap_9 (fun H locs S => ?_)
  refine lv_iconst (v := 0) hx hb dX2_gap_12 (by decide) ?_
  refine lv_istore_n (lv' := [(2, .int 0), (1, .int 0), (0, .ref (cad E 0))]) hx hb dX2_gap_13 rfl hl (by decide) rfl (fun ls hl => ?_)
  obtain ⟨v29, g30, e28, h⟩ := bd2_inv h
  refine loop_c_X2_gap_1 E F hr hlk hK _ _ _ _ _ e28 _ _ _ S (lv_sub hl [2, 1, 0] rfl) (fun v29z g30z H locs ls o S hl => ?_)
  cases o
  refine lv_iconst (v := 1) hx hb dX2_gap_111 (by decide) ?_
  refine lv_istore_n (lv' := [(2, .int 1), (0, .ref (cad E 0)), (1, .int v29)]) hx hb dX2_gap_112 rfl hl (by decide) rfl (fun ls hl => ?_)
  obtain ⟨v38, e37, h⟩ := bd1_inv h
  refine loop_c_X2_gap_3 E F hr hlk hK _ _ _ _ _ e37 _ _ _ S (lv_sub hl [1, 2, 0] rfl) (fun v38z H locs ls o S hl => ?_)
  cases o
  refine lv_iload_n hx hb dX2_gap_148 rfl (lv_at hl 0 rfl) ?_
  cases h
  exact g_iret F hr hlk S rfl dX2_gap_149
theorem call_c_X2_gap_X1_321 {p : Program} {l : Launch} {e : Env} {s : State} {m : MethodId} {args : Array Value} {below : List Frame} {meth : Method} {c : Code} {R : Room} {H : Heap} {locs : List Loc} {cells slots pc nL : Nat} {Q : State → Prop} {ls : Array Slot} {rest : List Value} {cc : ByteArray} {E : cEnv} {g : mS} {r : Int32} {gZ : mS} (F : CallFix p m c cc nL s args lw_all RX1) (hK : cK E s) (S : gS (wA E) s.heap (cP E g) H locs) (h : fc_X2_gap g = some (r, gZ)) (hls : ls.size = nL) (hW : (rest.map fun v => v.category).sum ≤ 8) (hR : rm_c_X2_gap.frames + 1 ≤ R.frames ∧ 8 + (6 + 11) + rm_c_X2_gap.locals ≤ R.locals) (hf : cells ≤ R.cells ∧ slots ≤ R.slots) (hdg : decode cc pc = .ok (.invokevirtual 321, 3))
    (kk : ∀ (H1 : Heap) (locs1 : List Loc), gS (wA E) s.heap (cP E gZ) H1 locs1 → W p l e R s m args below meth c H1 locs1 cells slots Q (F0 m (pc + 3) ls (.int r :: rest))) : W p l e R s m args below meth c H locs cells slots Q (F0 m pc ls (.ref (cad E 0) :: rest)) :=
  g_ki (g_runV F hK (cKm E) S (met_c_X2_gap l E g r gZ h) (cwV 0 F.2.2.2.2 (lw_V q1361 q1362 q1363 q112 q1364) rfl rfl rfl (by decide +kernel) hR) (va_recv hK.1 (va_P1 (cAt_ray S.1)) (ci := 2) (q0 := 0) rfl rfl) rfl hls rfl hW hdg hf) S kk
