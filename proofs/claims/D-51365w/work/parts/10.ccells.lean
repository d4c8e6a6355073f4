/-! THE COMPONENT, extracted (printed by gen/emit_comp.py) -/
set_option maxRecDepth 100000
abbrev rm_c_X4_form : Room := { frames := 0, cells := 0, slots := 0, locals := 0 }
def fc_X4_form (g : mS) (J : Nat) (c0 : Nat)  : Option (Int32) :=
  some (-1)
set_option maxHeartbeats 4000000 in
set_option maxRecDepth 100000 in
theorem met_c_X4_form (l : Launch) (E : cEnv) (g : mS) (J : Nat) (c0 : Nat) (hJ : okW E J) (hc0 : c0 < 100) (r : Int32) (h : fc_X4_form g J c0 = some r) : Met l yX4_form (ws_ yX4_form cX4_form 1 (some .int)) rm_c_X4_form (va_Pc [.ref (coa E J c0)] (gPre (cK E) (cP E g))) (gQi r (cP E g) (wA E)) 0 0 (wA E) := by
  refine g_met (own := RX4) (by decide) rfl (Nat.le_of_ble_eq_true rfl) ?_
  intro p e s m args below meth c ls F hr hlk hK S hl
  have hx := F.1
  have hb := F.2.1
  have hl : lv_has ls 1 [(0, .ref (coa E J c0))] := hl
  unfold fc_X4_form at h
  refine lv_iconst (v := (-1)) hx hb dX4_form_0 (by decide) ?_
  cases h
  exact g_iret F hr hlk S rfl dX4_form_1
abbrev rm_c_X4_owner : Room := { frames := 0, cells := 0, slots := 0, locals := 0 }
def fc_X4_owner (g : mS) (J : Nat) (c0 : Nat)  : Option (Int32) :=
  some (-1)
set_option maxHeartbeats 4000000 in
set_option maxRecDepth 100000 in
theorem met_c_X4_owner (l : Launch) (E : cEnv) (g : mS) (J : Nat) (c0 : Nat) (hJ : okW E J) (hc0 : c0 < 100) (r : Int32) (h : fc_X4_owner g J c0 = some r) : Met l yX4_owner (ws_ yX4_owner cX4_owner 1 (some .int)) rm_c_X4_owner (va_Pc [.ref (coa E J c0)] (gPre (cK E) (cP E g))) (gQi r (cP E g) (wA E)) 0 0 (wA E) := by
  refine g_met (own := RX4) (by decide) rfl (Nat.le_of_ble_eq_true rfl) ?_
  intro p e s m args below meth c ls F hr hlk hK S hl
  have hx := F.1
  have hb := F.2.1
  have hl : lv_has ls 1 [(0, .ref (coa E J c0))] := hl
  unfold fc_X4_owner at h
  refine lv_iconst (v := (-1)) hx hb dX4_owner_0 (by decide) ?_
  cases h
  exact g_iret F hr hlk S rfl dX4_owner_1
abbrev rm_c_X5_kind : Room := { frames := 0, cells := 0, slots := 0, locals := 0 }
def fc_X5_kind (g : mS) (J : Nat) (c0 : Nat)  : Option (Int32) :=
  some 0
set_option maxHeartbeats 4000000 in
set_option maxRecDepth 100000 in
theorem met_c_X5_kind (l : Launch) (E : cEnv) (g : mS) (J : Nat) (c0 : Nat) (hJ : okW E J) (hc0 : c0 < 100) (hcl : cCl g J c0 = 4) (r : Int32) (h : fc_X5_kind g J c0 = some r) : Met l yX5_kind (ws_ yX5_kind cX5_kind 1 (some .int)) rm_c_X5_kind (va_Pc [.ref (coa E J c0)] (gPre (cK E) (cP E g))) (gQi r (cP E g) (wA E)) 0 0 (wA E) := by
  refine g_met (own := RX5) (by decide) rfl (Nat.le_of_ble_eq_true rfl) ?_
  intro p e s m args below meth c ls F hr hlk hK S hl
  have hx := F.1
  have hb := F.2.1
  have hl : lv_has ls 1 [(0, .ref (coa E J c0))] := hl
  unfold fc_X5_kind at h
  refine lv_iconst (v := 0) hx hb dX5_kind_0 (by decide) ?_
  cases h
  exact g_iret F hr hlk S rfl dX5_kind_1
abbrev rm_c_X6_kind : Room := { frames := 0, cells := 0, slots := 0, locals := 0 }
def fc_X6_kind (g : mS) (J : Nat) (c0 : Nat)  : Option (Int32) :=
  bd1 (fldC 5 g J c0 1) fun v1 =>
  bd1 ((
    if v1 = (-1) then
      some 1
    else
      some 7) : Option (Int32)) fun v4 =>
  some v4
set_option maxHeartbeats 4000000 in
set_option maxRecDepth 100000 in
theorem met_c_X6_kind (l : Launch) (E : cEnv) (g : mS) (J : Nat) (c0 : Nat) (hJ : okW E J) (hc0 : c0 < 100) (hcl : cCl g J c0 = 5) (r : Int32) (h : fc_X6_kind g J c0 = some r) : Met l yX6_kind (ws_ yX6_kind cX6_kind 1 (some .int)) rm_c_X6_kind (va_Pc [.ref (coa E J c0)] (gPre (cK E) (cP E g))) (gQi r (cP E g) (wA E)) 0 0 (wA E) := by
  refine g_met (own := RX6) (by decide) rfl (Nat.le_of_ble_eq_true rfl) ?_
  intro p e s m args below meth c ls F hr hlk hK S hl
  have hx := F.1
  have hb := F.2.1
  have hl : lv_has ls 1 [(0, .ref (coa E J c0))] := hl
  unfold fc_X6_kind at h
  refine lv_aload_n hx hb dX6_kind_0 rfl (lv_at hl 0 rfl) ?_
  obtain ⟨v1, e2, h⟩ := bd1_inv h
  refine cg_X6_14 F hK S (by assumption) (by assumption) e2 dX6_kind_1 ?_
  refine lv_iconst (v := (-1)) hx hb dX6_kind_4 (by decide) ?_
  obtain ⟨v4, hB, h⟩ := bd1_inv h
  have hJ14 : ∀ (H : Heap) (locs : List Loc) (ls : Array Slot), gS (wA E) s.heap (cP E g) H locs → lv_has ls 1 [] → W p l e rm_c_X6_kind s m args below meth c H locs 0 0 (MQ below (gQi r (cP E g) (wA E)) args s 0 0 (wA E)) (F0 m 14 ls [.int v4]) := by
    intro H locs ls S hl
    cases h
    exact g_iret F hr hlk S rfl dX6_kind_14
  clear h
  have h := hB
  clear hB
  refine lv_icmp_ne (tgt := 12) hx hb dX6_kind_5 (by decide) (fun c3 => ?_) (fun c3 => ?_)
  · rw [if_neg c3] at h
    refine lv_bipush (v := 7) hx hb dX6_kind_12 (by decide) ?_
    cases h
    exact hJ14 _ _ _ S (lv_sub hl [] rfl)
  · rw [if_pos c3] at h
    refine lv_iconst (v := 1) hx hb dX6_kind_8 (by decide) ?_
    refine lv_goto (tgt := 14) hx hb dX6_kind_9 (by decide) ?_
    cases h
    exact hJ14 _ _ _ S (lv_sub hl [] rfl)
abbrev rm_c_X6_form : Room := { frames := 0, cells := 0, slots := 0, locals := 0 }
def fc_X6_form (g : mS) (J : Nat) (c0 : Nat)  : Option (Int32) :=
  bd1 (fldC 5 g J c0 1) fun v1 =>
  some v1
set_option maxHeartbeats 4000000 in
set_option maxRecDepth 100000 in
theorem met_c_X6_form (l : Launch) (E : cEnv) (g : mS) (J : Nat) (c0 : Nat) (hJ : okW E J) (hc0 : c0 < 100) (hcl : cCl g J c0 = 5) (r : Int32) (h : fc_X6_form g J c0 = some r) : Met l yX6_form (ws_ yX6_form cX6_form 1 (some .int)) rm_c_X6_form (va_Pc [.ref (coa E J c0)] (gPre (cK E) (cP E g))) (gQi r (cP E g) (wA E)) 0 0 (wA E) := by
  refine g_met (own := RX6) (by decide) rfl (Nat.le_of_ble_eq_true rfl) ?_
  intro p e s m args below meth c ls F hr hlk hK S hl
  have hx := F.1
  have hb := F.2.1
  have hl : lv_has ls 1 [(0, .ref (coa E J c0))] := hl
  unfold fc_X6_form at h
  refine lv_aload_n hx hb dX6_form_0 rfl (lv_at hl 0 rfl) ?_
  obtain ⟨v1, e2, h⟩ := bd1_inv h
  refine cg_X6_14 F hK S (by assumption) (by assumption) e2 dX6_form_1 ?_
  cases h
  exact g_iret F hr hlk S rfl dX6_form_4
abbrev rm_c_X7_kind : Room := { frames := 0, cells := 0, slots := 0, locals := 0 }
def fc_X7_kind (g : mS) (J : Nat) (c0 : Nat)  : Option (Int32) :=
  bd1 (fldH g J c0) fun v1 =>
  bd1 ((
    if v1 = 0 then
      some 2
    else
      some 3) : Option (Int32)) fun v4 =>
  some v4
set_option maxHeartbeats 4000000 in
set_option maxRecDepth 100000 in
theorem met_c_X7_kind (l : Launch) (E : cEnv) (g : mS) (J : Nat) (c0 : Nat) (hJ : okW E J) (hc0 : c0 < 100) (hcl : cCl g J c0 = 6) (r : Int32) (h : fc_X7_kind g J c0 = some r) : Met l yX7_kind (ws_ yX7_kind cX7_kind 1 (some .int)) rm_c_X7_kind (va_Pc [.ref (coa E J c0)] (gPre (cK E) (cP E g))) (gQi r (cP E g) (wA E)) 0 0 (wA E) := by
  refine g_met (own := RX7) (by decide) rfl (Nat.le_of_ble_eq_true rfl) ?_
  intro p e s m args below meth c ls F hr hlk hK S hl
  have hx := F.1
  have hb := F.2.1
  have hl : lv_has ls 1 [(0, .ref (coa E J c0))] := hl
  unfold fc_X7_kind at h
  refine lv_aload_n hx hb dX7_kind_0 rfl (lv_at hl 0 rfl) ?_
  obtain ⟨v1, e2, h⟩ := bd1_inv h
  refine cg_X7_7 F hK S (by assumption) (by assumption) e2 dX7_kind_1 ?_
  obtain ⟨v4, hB, h⟩ := bd1_inv h
  have hJ12 : ∀ (H : Heap) (locs : List Loc) (ls : Array Slot), gS (wA E) s.heap (cP E g) H locs → lv_has ls 1 [] → W p l e rm_c_X7_kind s m args below meth c H locs 0 0 (MQ below (gQi r (cP E g) (wA E)) args s 0 0 (wA E)) (F0 m 12 ls [.int v4]) := by
    intro H locs ls S hl
    cases h
    exact g_iret F hr hlk S rfl dX7_kind_12
  clear h
  have h := hB
  clear hB
  refine lv_if_eq (tgt := 11) hx hb dX7_kind_4 (by decide) (fun c3 => ?_) (fun c3 => ?_)
  · rw [if_pos c3] at h
    refine lv_iconst (v := 2) hx hb dX7_kind_11 (by decide) ?_
    cases h
    exact hJ12 _ _ _ S (lv_sub hl [] rfl)
  · rw [if_neg c3] at h
    refine lv_iconst (v := 3) hx hb dX7_kind_7 (by decide) ?_
    refine lv_goto (tgt := 12) hx hb dX7_kind_8 (by decide) ?_
    cases h
    exact hJ12 _ _ _ S (lv_sub hl [] rfl)
abbrev rm_c_X7_form : Room := { frames := 0, cells := 0, slots := 0, locals := 0 }
def fc_X7_form (g : mS) (J : Nat) (c0 : Nat)  : Option (Int32) :=
  bd1 (fldC 6 g J c0 1) fun v1 =>
  some v1
set_option maxHeartbeats 4000000 in
set_option maxRecDepth 100000 in
theorem met_c_X7_form (l : Launch) (E : cEnv) (g : mS) (J : Nat) (c0 : Nat) (hJ : okW E J) (hc0 : c0 < 100) (hcl : cCl g J c0 = 6) (r : Int32) (h : fc_X7_form g J c0 = some r) : Met l yX7_form (ws_ yX7_form cX7_form 1 (some .int)) rm_c_X7_form (va_Pc [.ref (coa E J c0)] (gPre (cK E) (cP E g))) (gQi r (cP E g) (wA E)) 0 0 (wA E) := by
  refine g_met (own := RX7) (by decide) rfl (Nat.le_of_ble_eq_true rfl) ?_
  intro p e s m args below meth c ls F hr hlk hK S hl
  have hx := F.1
  have hb := F.2.1
  have hl : lv_has ls 1 [(0, .ref (coa E J c0))] := hl
  unfold fc_X7_form at h
  refine lv_aload_n hx hb dX7_form_0 rfl (lv_at hl 0 rfl) ?_
  obtain ⟨v1, e2, h⟩ := bd1_inv h
  refine cg_X7_13 F hK S (by assumption) (by assumption) e2 dX7_form_1 ?_
  cases h
  exact g_iret F hr hlk S rfl dX7_form_4
abbrev rm_c_X7_owner : Room := { frames := 0, cells := 0, slots := 0, locals := 0 }
def fc_X7_owner (g : mS) (J : Nat) (c0 : Nat)  : Option (Int32) :=
  bd1 (fldC 6 g J c0 2) fun v1 =>
  some v1
set_option maxHeartbeats 4000000 in
set_option maxRecDepth 100000 in
theorem met_c_X7_owner (l : Launch) (E : cEnv) (g : mS) (J : Nat) (c0 : Nat) (hJ : okW E J) (hc0 : c0 < 100) (hcl : cCl g J c0 = 6) (r : Int32) (h : fc_X7_owner g J c0 = some r) : Met l yX7_owner (ws_ yX7_owner cX7_owner 1 (some .int)) rm_c_X7_owner (va_Pc [.ref (coa E J c0)] (gPre (cK E) (cP E g))) (gQi r (cP E g) (wA E)) 0 0 (wA E) := by
  refine g_met (own := RX7) (by decide) rfl (Nat.le_of_ble_eq_true rfl) ?_
  intro p e s m args below meth c ls F hr hlk hK S hl
  have hx := F.1
  have hb := F.2.1
  have hl : lv_has ls 1 [(0, .ref (coa E J c0))] := hl
  unfold fc_X7_owner at h
  refine lv_aload_n hx hb dX7_owner_0 rfl (lv_at hl 0 rfl) ?_
  obtain ⟨v1, e2, h⟩ := bd1_inv h
  refine cg_X7_17 F hK S (by assumption) (by assumption) e2 dX7_owner_1 ?_
  cases h
  exact g_iret F hr hlk S rfl dX7_owner_4
abbrev rm_c_X7_isFor : Room := { frames := 0, cells := 0, slots := 0, locals := 0 }
def fc_X7_isFor (g : mS) (J : Nat) (c0 : Nat) (x1 : Int32) : Option (Int32) :=
  bd1 (fldC 6 g J c0 2) fun v1 =>
  bd1 ((
    if v1 = 0 then
      bd1 (fldC 6 g J c0 3) fun v4 =>
      if v4 = 0 then
        some 1
      else
        some 0
    else
      bd1 (fldC 6 g J c0 2) fun v7 =>
      if v7 = x1 then
        bd1 (fldC 6 g J c0 3) fun v10 =>
        if v10 = 0 then
          some 1
        else
          some 0
      else
        some 0) : Option (Int32)) fun v13 =>
  some (zN v13)
set_option maxHeartbeats 4000000 in
set_option maxRecDepth 100000 in
theorem met_c_X7_isFor (l : Launch) (E : cEnv) (g : mS) (J : Nat) (c0 : Nat) (x1 : Int32) (hJ : okW E J) (hc0 : c0 < 100) (hcl : cCl g J c0 = 6) (r : Int32) (h : fc_X7_isFor g J c0 x1 = some r) : Met l yX7_isFor (ws_ yX7_isFor cX7_isFor 2 (some .boolean)) rm_c_X7_isFor (va_Pc [.ref (coa E J c0), .int x1] (gPre (cK E) (cP E g))) (gQi r (cP E g) (wA E)) 0 0 (wA E) := by
  refine g_met (own := RX7) (by decide) rfl (Nat.le_of_ble_eq_true rfl) ?_
  intro p e s m args below meth c ls F hr hlk hK S hl
  have hx := F.1
  have hb := F.2.1
  have hl : lv_has ls 2 [(0, .ref (coa E J c0)), (1, .int x1)] := hl
  unfold fc_X7_isFor at h
  refine lv_aload_n hx hb dX7_isFor_0 rfl (lv_at hl 0 rfl) ?_
  obtain ⟨v1, e2, h⟩ := bd1_inv h
  refine cg_X7_17 F hK S (by assumption) (by assumption) e2 dX7_isFor_1 ?_
  obtain ⟨v13, hB, h⟩ := bd1_inv h
  have hJ27 : ∀ (H : Heap) (locs : List Loc) (ls : Array Slot), gS (wA E) s.heap (cP E g) H locs → lv_has ls 2 [] → W p l e rm_c_X7_isFor s m args below meth c H locs 0 0 (MQ below (gQi r (cP E g) (wA E)) args s 0 0 (wA E)) (F0 m 27 ls [.int v13]) := by
    intro H locs ls S hl
    cases h
    exact g_zret F hr hlk S rfl dX7_isFor_27
  clear h
  have h := hB
  clear hB
  refine lv_if_eq (tgt := 15) hx hb dX7_isFor_4 (by decide) (fun c3 => ?_) (fun c3 => ?_)
  · rw [if_pos c3] at h
    refine lv_aload_n hx hb dX7_isFor_15 rfl (lv_at hl 0 rfl) ?_
    obtain ⟨v4, e5, h⟩ := bd1_inv h
    refine cg_X7_26 F hK S (by assumption) (by assumption) e5 dX7_isFor_16 ?_
    refine lv_if_ne (tgt := 26) hx hb dX7_isFor_19 (by decide) (fun c6 => ?_) (fun c6 => ?_)
    · rw [if_neg c6] at h
      refine lv_iconst (v := 0) hx hb dX7_isFor_26 (by decide) ?_
      cases h
      exact hJ27 _ _ _ S (lv_sub hl [] rfl)
    · rw [if_pos c6] at h
      refine lv_iconst (v := 1) hx hb dX7_isFor_22 (by decide) ?_
      refine lv_goto (tgt := 27) hx hb dX7_isFor_23 (by decide) ?_
      cases h
      exact hJ27 _ _ _ S (lv_sub hl [] rfl)
  · rw [if_neg c3] at h
    refine lv_aload_n hx hb dX7_isFor_7 rfl (lv_at hl 0 rfl) ?_
    obtain ⟨v7, e8, h⟩ := bd1_inv h
    refine cg_X7_17 F hK S (by assumption) (by assumption) e8 dX7_isFor_8 ?_
    refine lv_iload_n hx hb dX7_isFor_11 rfl (lv_at hl 1 rfl) ?_
    refine lv_icmp_ne (tgt := 26) hx hb dX7_isFor_12 (by decide) (fun c9 => ?_) (fun c9 => ?_)
    · rw [if_neg c9] at h
      refine lv_iconst (v := 0) hx hb dX7_isFor_26 (by decide) ?_
      cases h
      exact hJ27 _ _ _ S (lv_sub hl [] rfl)
    · rw [if_pos c9] at h
      refine lv_aload_n hx hb dX7_isFor_15 rfl (lv_at hl 0 rfl) ?_
      obtain ⟨v10, e11, h⟩ := bd1_inv h
      refine cg_X7_26 F hK S (by assumption) (by assumption) e11 dX7_isFor_16 ?_
      refine lv_if_ne (tgt := 26) hx hb dX7_isFor_19 (by decide) (fun c12 => ?_) (fun c12 => ?_)
      · rw [if_neg c12] at h
        refine lv_iconst (v := 0) hx hb dX7_isFor_26 (by decide) ?_
        cases h
        exact hJ27 _ _ _ S (lv_sub hl [] rfl)
      · rw [if_pos c12] at h
        refine lv_iconst (v := 1) hx hb dX7_isFor_22 (by decide) ?_
        refine lv_goto (tgt := 27) hx hb dX7_isFor_23 (by decide) ?_
        cases h
        exact hJ27 _ _ _ S (lv_sub hl [] rfl)
theorem call_c_X7_isFor_X3_135 {p : Program} {l : Launch} {e : Env} {s : State} {m : MethodId} {args : Array Value} {below : List Frame} {meth : Method} {c : Code} {R : Room} {H : Heap} {locs : List Loc} {cells slots pc nL : Nat} {Q : State → Prop} {ls : Array Slot} {rest : List Value} {cc : ByteArray} {E : cEnv} {g : mS} {J : Nat} {c0 : Nat} {x1 : Int32} {r : Int32} (hJ : okW E J) (hc0 : c0 < 100) (hcl : cCl g J c0 = 6) (F : CallFix p m c cc nL s args lw_all RX3) (hK : cK E s) (S : gS (wA E) s.heap (cP E g) H locs) (h : fc_X7_isFor g J c0 x1 = some r) (hls : ls.size = nL) (hW : (rest.map fun v => v.category).sum ≤ 8) (hR : rm_c_X7_isFor.frames + 1 ≤ R.frames ∧ 8 + (2 + 11) + rm_c_X7_isFor.locals ≤ R.locals) (hf : cells ≤ R.cells ∧ slots ≤ R.slots) (hdg : decode cc pc = .ok (.invokevirtual 135, 3))
    (kk : ∀ (H1 : Heap) (locs1 : List Loc), gS (wA E) s.heap (cP E g) H1 locs1 → W p l e R s m args below meth c H1 locs1 cells slots Q (F0 m (pc + 3) ls (.int r :: rest))) : W p l e R s m args below meth c H locs cells slots Q (F0 m pc ls (.int x1 :: .ref (coa E J c0) :: rest)) :=
  g_ki (g_runV F hK (cKm E) S (met_c_X7_isFor l E g J c0 x1 hJ hc0 hcl r h) (cwV 1 F.2.2.2.2 (lw_V q1292 q1293 q1294 q119 q1295) rfl rfl rfl (by decide +kernel) hR) (va_recv hK.1 (va_P1 (cAt_6 S.1 hJ hc0 hcl)) (ci := 6) (q0 := 0) rfl rfl) rfl hls rfl hW hdg hf) S kk
abbrev rm_c_X8_kind : Room := { frames := 0, cells := 0, slots := 0, locals := 0 }
def fc_X8_kind (g : mS) (J : Nat) (c0 : Nat)  : Option (Int32) :=
  some 4
set_option maxHeartbeats 4000000 in
set_option maxRecDepth 100000 in
theorem met_c_X8_kind (l : Launch) (E : cEnv) (g : mS) (J : Nat) (c0 : Nat) (hJ : okW E J) (hc0 : c0 < 100) (hcl : cCl g J c0 = 7) (r : Int32) (h : fc_X8_kind g J c0 = some r) : Met l yX8_kind (ws_ yX8_kind cX8_kind 1 (some .int)) rm_c_X8_kind (va_Pc [.ref (coa E J c0)] (gPre (cK E) (cP E g))) (gQi r (cP E g) (wA E)) 0 0 (wA E) := by
  refine g_met (own := RX8) (by decide) rfl (Nat.le_of_ble_eq_true rfl) ?_
  intro p e s m args below meth c ls F hr hlk hK S hl
  have hx := F.1
  have hb := F.2.1
  have hl : lv_has ls 1 [(0, .ref (coa E J c0))] := hl
  unfold fc_X8_kind at h
  refine lv_iconst (v := 4) hx hb dX8_kind_0 (by decide) ?_
  cases h
  exact g_iret F hr hlk S rfl dX8_kind_1
abbrev rm_c_X8_owner : Room := { frames := 0, cells := 0, slots := 0, locals := 0 }
def fc_X8_owner (g : mS) (J : Nat) (c0 : Nat)  : Option (Int32) :=
  bd1 (fldC 7 g J c0 2) fun v1 =>
  some v1
set_option maxHeartbeats 4000000 in
set_option maxRecDepth 100000 in
theorem met_c_X8_owner (l : Launch) (E : cEnv) (g : mS) (J : Nat) (c0 : Nat) (hJ : okW E J) (hc0 : c0 < 100) (hcl : cCl g J c0 = 7) (r : Int32) (h : fc_X8_owner g J c0 = some r) : Met l yX8_owner (ws_ yX8_owner cX8_owner 1 (some .int)) rm_c_X8_owner (va_Pc [.ref (coa E J c0)] (gPre (cK E) (cP E g))) (gQi r (cP E g) (wA E)) 0 0 (wA E) := by
  refine g_met (own := RX8) (by decide) rfl (Nat.le_of_ble_eq_true rfl) ?_
  intro p e s m args below meth c ls F hr hlk hK S hl
  have hx := F.1
  have hb := F.2.1
  have hl : lv_has ls 1 [(0, .ref (coa E J c0))] := hl
  unfold fc_X8_owner at h
  refine lv_aload_n hx hb dX8_owner_0 rfl (lv_at hl 0 rfl) ?_
  obtain ⟨v1, e2, h⟩ := bd1_inv h
  refine cg_X8_15 F hK S (by assumption) (by assumption) e2 dX8_owner_1 ?_
  cases h
  exact g_iret F hr hlk S rfl dX8_owner_4
abbrev rm_c_X8_isOpen : Room := { frames := 0, cells := 0, slots := 0, locals := 0 }
def fc_X8_isOpen (g : mS) (J : Nat) (c0 : Nat)  : Option (Int32) :=
  bd1 (fldC 7 g J c0 5) fun v1 =>
  bd1 ((
    if v1 = (-1) then
      some 0
    else
      some 1) : Option (Int32)) fun v4 =>
  some (zN v4)
set_option maxHeartbeats 4000000 in
set_option maxRecDepth 100000 in
theorem met_c_X8_isOpen (l : Launch) (E : cEnv) (g : mS) (J : Nat) (c0 : Nat) (hJ : okW E J) (hc0 : c0 < 100) (hcl : cCl g J c0 = 7) (r : Int32) (h : fc_X8_isOpen g J c0 = some r) : Met l yX8_isOpen (ws_ yX8_isOpen cX8_isOpen 1 (some .boolean)) rm_c_X8_isOpen (va_Pc [.ref (coa E J c0)] (gPre (cK E) (cP E g))) (gQi r (cP E g) (wA E)) 0 0 (wA E) := by
  refine g_met (own := RX8) (by decide) rfl (Nat.le_of_ble_eq_true rfl) ?_
  intro p e s m args below meth c ls F hr hlk hK S hl
  have hx := F.1
  have hb := F.2.1
  have hl : lv_has ls 1 [(0, .ref (coa E J c0))] := hl
  unfold fc_X8_isOpen at h
  refine lv_aload_n hx hb dX8_isOpen_0 rfl (lv_at hl 0 rfl) ?_
  obtain ⟨v1, e2, h⟩ := bd1_inv h
  refine cg_X8_9 F hK S (by assumption) (by assumption) e2 dX8_isOpen_1 ?_
  refine lv_iconst (v := (-1)) hx hb dX8_isOpen_4 (by decide) ?_
  obtain ⟨v4, hB, h⟩ := bd1_inv h
  have hJ13 : ∀ (H : Heap) (locs : List Loc) (ls : Array Slot), gS (wA E) s.heap (cP E g) H locs → lv_has ls 1 [] → W p l e rm_c_X8_isOpen s m args below meth c H locs 0 0 (MQ below (gQi r (cP E g) (wA E)) args s 0 0 (wA E)) (F0 m 13 ls [.int v4]) := by
    intro H locs ls S hl
    cases h
    exact g_zret F hr hlk S rfl dX8_isOpen_13
  clear h
  have h := hB
  clear hB
  refine lv_icmp_eq (tgt := 12) hx hb dX8_isOpen_5 (by decide) (fun c3 => ?_) (fun c3 => ?_)
  · rw [if_pos c3] at h
    refine lv_iconst (v := 0) hx hb dX8_isOpen_12 (by decide) ?_
    cases h
    exact hJ13 _ _ _ S (lv_sub hl [] rfl)
  · rw [if_neg c3] at h
    refine lv_iconst (v := 1) hx hb dX8_isOpen_8 (by decide) ?_
    refine lv_goto (tgt := 13) hx hb dX8_isOpen_9 (by decide) ?_
    cases h
    exact hJ13 _ _ _ S (lv_sub hl [] rfl)
theorem call_c_X8_isOpen_X1_281 {p : Program} {l : Launch} {e : Env} {s : State} {m : MethodId} {args : Array Value} {below : List Frame} {meth : Method} {c : Code} {R : Room} {H : Heap} {locs : List Loc} {cells slots pc nL : Nat} {Q : State → Prop} {ls : Array Slot} {rest : List Value} {cc : ByteArray} {E : cEnv} {g : mS} {J : Nat} {c0 : Nat} {r : Int32} (hJ : okW E J) (hc0 : c0 < 100) (hcl : cCl g J c0 = 7) (F : CallFix p m c cc nL s args lw_all RX1) (hK : cK E s) (S : gS (wA E) s.heap (cP E g) H locs) (h : fc_X8_isOpen g J c0 = some r) (hls : ls.size = nL) (hW : (rest.map fun v => v.category).sum ≤ 8) (hR : rm_c_X8_isOpen.frames + 1 ≤ R.frames ∧ 8 + (1 + 11) + rm_c_X8_isOpen.locals ≤ R.locals) (hf : cells ≤ R.cells ∧ slots ≤ R.slots) (hdg : decode cc pc = .ok (.invokevirtual 281, 3))
    (kk : ∀ (H1 : Heap) (locs1 : List Loc), gS (wA E) s.heap (cP E g) H1 locs1 → W p l e R s m args below meth c H1 locs1 cells slots Q (F0 m (pc + 3) ls (.int r :: rest))) : W p l e R s m args below meth c H locs cells slots Q (F0 m pc ls (.ref (coa E J c0) :: rest)) :=
  g_ki (g_runV F hK (cKm E) S (met_c_X8_isOpen l E g J c0 hJ hc0 hcl r h) (cwV 0 F.2.2.2.2 (lw_V q1370 q1125 q1126 q120 q1127) rfl rfl rfl (by decide +kernel) hR) (va_recv hK.1 (va_P1 (cAt_7 S.1 hJ hc0 hcl)) (ci := 7) (q0 := 0) rfl rfl) rfl hls rfl hW hdg hf) S kk
theorem call_c_X8_isOpen_X3_93 {p : Program} {l : Launch} {e : Env} {s : State} {m : MethodId} {args : Array Value} {below : List Frame} {meth : Method} {c : Code} {R : Room} {H : Heap} {locs : List Loc} {cells slots pc nL : Nat} {Q : State → Prop} {ls : Array Slot} {rest : List Value} {cc : ByteArray} {E : cEnv} {g : mS} {J : Nat} {c0 : Nat} {r : Int32} (hJ : okW E J) (hc0 : c0 < 100) (hcl : cCl g J c0 = 7) (F : CallFix p m c cc nL s args lw_all RX3) (hK : cK E s) (S : gS (wA E) s.heap (cP E g) H locs) (h : fc_X8_isOpen g J c0 = some r) (hls : ls.size = nL) (hW : (rest.map fun v => v.category).sum ≤ 8) (hR : rm_c_X8_isOpen.frames + 1 ≤ R.frames ∧ 8 + (1 + 11) + rm_c_X8_isOpen.locals ≤ R.locals) (hf : cells ≤ R.cells ∧ slots ≤ R.slots) (hdg : decode cc pc = .ok (.invokevirtual 93, 3))
    (kk : ∀ (H1 : Heap) (locs1 : List Loc), gS (wA E) s.heap (cP E g) H1 locs1 → W p l e R s m args below meth c H1 locs1 cells slots Q (F0 m (pc + 3) ls (.int r :: rest))) : W p l e R s m args below meth c H locs cells slots Q (F0 m pc ls (.ref (coa E J c0) :: rest)) :=
  g_ki (g_runV F hK (cKm E) S (met_c_X8_isOpen l E g J c0 hJ hc0 hcl r h) (cwV 0 F.2.2.2.2 (lw_V q1124 q1125 q1126 q120 q1127) rfl rfl rfl (by decide +kernel) hR) (va_recv hK.1 (va_P1 (cAt_7 S.1 hJ hc0 hcl)) (ci := 7) (q0 := 0) rfl rfl) rfl hls rfl hW hdg hf) S kk
abbrev rm_c_X12_kind : Room := { frames := 0, cells := 0, slots := 0, locals := 0 }
def fc_X12_kind (g : mS) (J : Nat) (c0 : Nat)  : Option (Int32) :=
  some 5
set_option maxHeartbeats 4000000 in
set_option maxRecDepth 100000 in
theorem met_c_X12_kind (l : Launch) (E : cEnv) (g : mS) (J : Nat) (c0 : Nat) (hJ : okW E J) (hc0 : c0 < 100) (hcl : cCl g J c0 = 8) (r : Int32) (h : fc_X12_kind g J c0 = some r) : Met l yX12_kind (ws_ yX12_kind cX12_kind 1 (some .int)) rm_c_X12_kind (va_Pc [.ref (coa E J c0)] (gPre (cK E) (cP E g))) (gQi r (cP E g) (wA E)) 0 0 (wA E) := by
  refine g_met (own := RX12) (by decide) rfl (Nat.le_of_ble_eq_true rfl) ?_
  intro p e s m args below meth c ls F hr hlk hK S hl
  have hx := F.1
  have hb := F.2.1
  have hl : lv_has ls 1 [(0, .ref (coa E J c0))] := hl
  unfold fc_X12_kind at h
  refine lv_iconst (v := 5) hx hb dX12_kind_0 (by decide) ?_
  cases h
  exact g_iret F hr hlk S rfl dX12_kind_1
abbrev rm_c_X12_form : Room := { frames := 0, cells := 0, slots := 0, locals := 0 }
def fc_X12_form (g : mS) (J : Nat) (c0 : Nat)  : Option (Int32) :=
  bd1 (fldC 8 g J c0 1) fun v1 =>
  some v1
set_option maxHeartbeats 4000000 in
set_option maxRecDepth 100000 in
theorem met_c_X12_form (l : Launch) (E : cEnv) (g : mS) (J : Nat) (c0 : Nat) (hJ : okW E J) (hc0 : c0 < 100) (hcl : cCl g J c0 = 8) (r : Int32) (h : fc_X12_form g J c0 = some r) : Met l yX12_form (ws_ yX12_form cX12_form 1 (some .int)) rm_c_X12_form (va_Pc [.ref (coa E J c0)] (gPre (cK E) (cP E g))) (gQi r (cP E g) (wA E)) 0 0 (wA E) := by
  refine g_met (own := RX12) (by decide) rfl (Nat.le_of_ble_eq_true rfl) ?_
  intro p e s m args below meth c ls F hr hlk hK S hl
  have hx := F.1
  have hb := F.2.1
  have hl : lv_has ls 1 [(0, .ref (coa E J c0))] := hl
  unfold fc_X12_form at h
  refine lv_aload_n hx hb dX12_form_0 rfl (lv_at hl 0 rfl) ?_
  obtain ⟨v1, e2, h⟩ := bd1_inv h
  refine cg_X12_7 F hK S (by assumption) (by assumption) e2 dX12_form_1 ?_
  cases h
  exact g_iret F hr hlk S rfl dX12_form_4
abbrev rm_c_X13_kind : Room := { frames := 0, cells := 0, slots := 0, locals := 0 }
def fc_X13_kind (g : mS) (J : Nat) (c0 : Nat)  : Option (Int32) :=
  some 6
set_option maxHeartbeats 4000000 in
set_option maxRecDepth 100000 in
theorem met_c_X13_kind (l : Launch) (E : cEnv) (g : mS) (J : Nat) (c0 : Nat) (hJ : okW E J) (hc0 : c0 < 100) (hcl : cCl g J c0 = 9) (r : Int32) (h : fc_X13_kind g J c0 = some r) : Met l yX13_kind (ws_ yX13_kind cX13_kind 1 (some .int)) rm_c_X13_kind (va_Pc [.ref (coa E J c0)] (gPre (cK E) (cP E g))) (gQi r (cP E g) (wA E)) 0 0 (wA E) := by
  refine g_met (own := RX13) (by decide) rfl (Nat.le_of_ble_eq_true rfl) ?_
  intro p e s m args below meth c ls F hr hlk hK S hl
  have hx := F.1
  have hb := F.2.1
  have hl : lv_has ls 1 [(0, .ref (coa E J c0))] := hl
  unfold fc_X13_kind at h
  refine lv_bipush (v := 6) hx hb dX13_kind_0 (by decide) ?_
  cases h
  exact g_iret F hr hlk S rfl dX13_kind_2
abbrev rm_c_X13_form : Room := { frames := 0, cells := 0, slots := 0, locals := 0 }
def fc_X13_form (g : mS) (J : Nat) (c0 : Nat)  : Option (Int32) :=
  bd1 (fldC 9 g J c0 1) fun v1 =>
  some v1
set_option maxHeartbeats 4000000 in
set_option maxRecDepth 100000 in
theorem met_c_X13_form (l : Launch) (E : cEnv) (g : mS) (J : Nat) (c0 : Nat) (hJ : okW E J) (hc0 : c0 < 100) (hcl : cCl g J c0 = 9) (r : Int32) (h : fc_X13_form g J c0 = some r) : Met l yX13_form (ws_ yX13_form cX13_form 1 (some .int)) rm_c_X13_form (va_Pc [.ref (coa E J c0)] (gPre (cK E) (cP E g))) (gQi r (cP E g) (wA E)) 0 0 (wA E) := by
  refine g_met (own := RX13) (by decide) rfl (Nat.le_of_ble_eq_true rfl) ?_
  intro p e s m args below meth c ls F hr hlk hK S hl
  have hx := F.1
  have hb := F.2.1
  have hl : lv_has ls 1 [(0, .ref (coa E J c0))] := hl
  unfold fc_X13_form at h
  refine lv_aload_n hx hb dX13_form_0 rfl (lv_at hl 0 rfl) ?_
  obtain ⟨v1, e2, h⟩ := bd1_inv h
  refine cg_X13_7 F hK S (by assumption) (by assumption) e2 dX13_form_1 ?_
  cases h
  exact g_iret F hr hlk S rfl dX13_form_4
theorem vKind_4 {g : mS} {J c : Nat} (t : cCl g J c = 4) : fc_X5_kind g J c = some (vKind g J c) := by
  unfold fc_X5_kind vKind
  simp [t, fldC, fldH, bd1]
theorem vKind_5 {g : mS} {J c : Nat} (t : cCl g J c = 5) : fc_X6_kind g J c = some (vKind g J c) := by
  unfold fc_X6_kind vKind
  simp [t, fldC, fldH, bd1]
  by_cases q : cfl g J c 1 = -1 <;> simp [q]
theorem vKind_6 {g : mS} {J c : Nat} (t : cCl g J c = 6) : fc_X7_kind g J c = some (vKind g J c) := by
  unfold fc_X7_kind vKind
  simp [t, fldC, fldH, bd1]
  by_cases q : cHalf g J c = 0 <;> simp [q]
theorem vKind_7 {g : mS} {J c : Nat} (t : cCl g J c = 7) : fc_X8_kind g J c = some (vKind g J c) := by
  unfold fc_X8_kind vKind
  simp [t, fldC, fldH, bd1]
theorem vKind_8 {g : mS} {J c : Nat} (t : cCl g J c = 8) : fc_X12_kind g J c = some (vKind g J c) := by
  unfold fc_X12_kind vKind
  simp [t, fldC, fldH, bd1]
theorem vKind_9 {g : mS} {J c : Nat} (t : cCl g J c = 9) : fc_X13_kind g J c = some (vKind g J c) := by
  unfold fc_X13_kind vKind
  simp [t, fldC, fldH, bd1]
theorem vForm_4 {g : mS} {J c : Nat} (t : cCl g J c = 4) : fc_X4_form g J c = some (vForm g J c) := by
  unfold fc_X4_form vForm
  simp [t, fldC, fldH, bd1]
theorem vForm_5 {g : mS} {J c : Nat} (t : cCl g J c = 5) : fc_X6_form g J c = some (vForm g J c) := by
  unfold fc_X6_form vForm
  simp [t, fldC, fldH, bd1]
theorem vForm_6 {g : mS} {J c : Nat} (t : cCl g J c = 6) : fc_X7_form g J c = some (vForm g J c) := by
  unfold fc_X7_form vForm
  simp [t, fldC, fldH, bd1]
theorem vForm_7 {g : mS} {J c : Nat} (t : cCl g J c = 7) : fc_X4_form g J c = some (vForm g J c) := by
  unfold fc_X4_form vForm
  simp [t, fldC, fldH, bd1]
theorem vForm_8 {g : mS} {J c : Nat} (t : cCl g J c = 8) : fc_X12_form g J c = some (vForm g J c) := by
  unfold fc_X12_form vForm
  simp [t, fldC, fldH, bd1]
theorem vForm_9 {g : mS} {J c : Nat} (t : cCl g J c = 9) : fc_X13_form g J c = some (vForm g J c) := by
  unfold fc_X13_form vForm
  simp [t, fldC, fldH, bd1]
theorem vOwner_4 {g : mS} {J c : Nat} (t : cCl g J c = 4) : fc_X4_owner g J c = some (vOwner g J c) := by
  unfold fc_X4_owner vOwner
  simp [t, fldC, fldH, bd1]
theorem vOwner_5 {g : mS} {J c : Nat} (t : cCl g J c = 5) : fc_X4_owner g J c = some (vOwner g J c) := by
  unfold fc_X4_owner vOwner
  simp [t, fldC, fldH, bd1]
theorem vOwner_6 {g : mS} {J c : Nat} (t : cCl g J c = 6) : fc_X7_owner g J c = some (vOwner g J c) := by
  unfold fc_X7_owner vOwner
  simp [t, fldC, fldH, bd1]
theorem vOwner_7 {g : mS} {J c : Nat} (t : cCl g J c = 7) : fc_X8_owner g J c = some (vOwner g J c) := by
  unfold fc_X8_owner vOwner
  simp [t, fldC, fldH, bd1]
theorem vOwner_8 {g : mS} {J c : Nat} (t : cCl g J c = 8) : fc_X4_owner g J c = some (vOwner g J c) := by
  unfold fc_X4_owner vOwner
  simp [t, fldC, fldH, bd1]
theorem vOwner_9 {g : mS} {J c : Nat} (t : cCl g J c = 9) : fc_X4_owner g J c = some (vOwner g J c) := by
  unfold fc_X4_owner vOwner
  simp [t, fldC, fldH, bd1]
theorem cv_form_X2_108 {p : Program} {l : Launch} {e : Env} {s : State} {m : MethodId} {args : Array Value} {below : List Frame} {meth : Method} {c : Code} {R : Room} {H : Heap} {locs : List Loc} {cells slots pc nL : Nat} {Q : State → Prop} {ls : Array Slot} {rest : List Value} {cc : ByteArray} {E : cEnv} {g : mS} {J k0 : Nat} (F : CallFix p m c cc nL s args lw_all RX2) (hK : cK E s) (S : gS (wA E) s.heap (cP E g) H locs) (hJ : okW E J) (hk : k0 < 100) (hls : ls.size = nL) (hW : (rest.map fun v => v.category).sum ≤ 8) (hR : 0 + 1 ≤ R.frames ∧ 8 + (1 + 11) + 0 ≤ R.locals) (hf : cells ≤ R.cells ∧ slots ≤ R.slots) (hdg : decode cc pc = .ok (.invokevirtual 108, 3))
    (kk : ∀ (H1 : Heap) (locs1 : List Loc), gS (wA E) s.heap (cP E g) H1 locs1 → W p l e R s m args below meth c H1 locs1 cells slots Q (F0 m (pc + 3) ls (.int (vForm g J k0) :: rest))) : W p l e R s m args below meth c H locs cells slots Q (F0 m pc ls (.ref (coa E J k0) :: rest)) := by
  rcases cAt_any S.1 hJ hk with ⟨t, z⟩ | ⟨t, z⟩ | ⟨t, z⟩ | ⟨t, z⟩ | ⟨t, z⟩ | ⟨t, z⟩
  · exact g_ki (g_runU F hK (cKm E) S (met_c_X4_form l E g J k0 hJ hk (vForm g J k0) (vForm_4 t)) (va_cwU 0 F.2.2.2.2 (gw_U q1715 q389 q391 q388 q116 q404) rfl rfl rfl rfl (by decide +kernel) ⟨Nat.le_trans (Nat.le_of_ble_eq_true rfl) hR.1, Nat.le_trans (Nat.le_of_ble_eq_true rfl) hR.2⟩) (va_recv hK.1 (va_P1 z) (ci := 4) (q0 := 0) rfl rfl) rfl hls rfl hW hdg hf) S kk
  · exact g_ki (g_runU F hK (cKm E) S (met_c_X6_form l E g J k0 hJ hk t (vForm g J k0) (vForm_5 t)) (va_cwO 0 F.2.2.2.2 (gw_O q1715 q389 q388 q401 q402 q118 q403) rfl rfl rfl q404 (by decide +kernel) ⟨Nat.le_trans (Nat.le_of_ble_eq_true rfl) hR.1, Nat.le_trans (Nat.le_of_ble_eq_true rfl) hR.2⟩) (va_recv hK.1 (va_P1 z) (ci := 5) (q0 := 0) rfl rfl) rfl hls rfl hW hdg hf) S kk
  · exact g_ki (g_runU F hK (cKm E) S (met_c_X7_form l E g J k0 hJ hk t (vForm g J k0) (vForm_6 t)) (va_cwO 0 F.2.2.2.2 (gw_O q1715 q389 q388 q395 q396 q119 q397) rfl rfl rfl q404 (by decide +kernel) ⟨Nat.le_trans (Nat.le_of_ble_eq_true rfl) hR.1, Nat.le_trans (Nat.le_of_ble_eq_true rfl) hR.2⟩) (va_recv hK.1 (va_P1 z) (ci := 6) (q0 := 0) rfl rfl) rfl hls rfl hW hdg hf) S kk
  · exact g_ki (g_runU F hK (cKm E) S (met_c_X4_form l E g J k0 hJ hk (vForm g J k0) (vForm_7 t)) (va_cwU 0 F.2.2.2.2 (gw_U q1715 q389 q390 q388 q116 q404) rfl rfl rfl rfl (by decide +kernel) ⟨Nat.le_trans (Nat.le_of_ble_eq_true rfl) hR.1, Nat.le_trans (Nat.le_of_ble_eq_true rfl) hR.2⟩) (va_recv hK.1 (va_P1 z) (ci := 7) (q0 := 0) rfl rfl) rfl hls rfl hW hdg hf) S kk
  · exact g_ki (g_runU F hK (cKm E) S (met_c_X12_form l E g J k0 hJ hk t (vForm g J k0) (vForm_8 t)) (va_cwO 0 F.2.2.2.2 (gw_O q1715 q389 q388 q392 q393 q140 q394) rfl rfl rfl q404 (by decide +kernel) ⟨Nat.le_trans (Nat.le_of_ble_eq_true rfl) hR.1, Nat.le_trans (Nat.le_of_ble_eq_true rfl) hR.2⟩) (va_recv hK.1 (va_P1 z) (ci := 8) (q0 := 0) rfl rfl) rfl hls rfl hW hdg hf) S kk
  · exact g_ki (g_runU F hK (cKm E) S (met_c_X13_form l E g J k0 hJ hk t (vForm g J k0) (vForm_9 t)) (va_cwO 0 F.2.2.2.2 (gw_O q1715 q389 q388 q398 q399 q141 q400) rfl rfl rfl q404 (by decide +kernel) ⟨Nat.le_trans (Nat.le_of_ble_eq_true rfl) hR.1, Nat.le_trans (Nat.le_of_ble_eq_true rfl) hR.2⟩) (va_recv hK.1 (va_P1 z) (ci := 9) (q0 := 0) rfl rfl) rfl hls rfl hW hdg hf) S kk
theorem cv_form_X3_64 {p : Program} {l : Launch} {e : Env} {s : State} {m : MethodId} {args : Array Value} {below : List Frame} {meth : Method} {c : Code} {R : Room} {H : Heap} {locs : List Loc} {cells slots pc nL : Nat} {Q : State → Prop} {ls : Array Slot} {rest : List Value} {cc : ByteArray} {E : cEnv} {g : mS} {J k0 : Nat} (F : CallFix p m c cc nL s args lw_all RX3) (hK : cK E s) (S : gS (wA E) s.heap (cP E g) H locs) (hJ : okW E J) (hk : k0 < 100) (hls : ls.size = nL) (hW : (rest.map fun v => v.category).sum ≤ 8) (hR : 0 + 1 ≤ R.frames ∧ 8 + (1 + 11) + 0 ≤ R.locals) (hf : cells ≤ R.cells ∧ slots ≤ R.slots) (hdg : decode cc pc = .ok (.invokevirtual 64, 3))
    (kk : ∀ (H1 : Heap) (locs1 : List Loc), gS (wA E) s.heap (cP E g) H1 locs1 → W p l e R s m args below meth c H1 locs1 cells slots Q (F0 m (pc + 3) ls (.int (vForm g J k0) :: rest))) : W p l e R s m args below meth c H locs cells slots Q (F0 m pc ls (.ref (coa E J k0) :: rest)) := by
  rcases cAt_any S.1 hJ hk with ⟨t, z⟩ | ⟨t, z⟩ | ⟨t, z⟩ | ⟨t, z⟩ | ⟨t, z⟩ | ⟨t, z⟩
  · exact g_ki (g_runU F hK (cKm E) S (met_c_X4_form l E g J k0 hJ hk (vForm g J k0) (vForm_4 t)) (va_cwU 0 F.2.2.2.2 (gw_U q387 q389 q391 q388 q116 q404) rfl rfl rfl rfl (by decide +kernel) ⟨Nat.le_trans (Nat.le_of_ble_eq_true rfl) hR.1, Nat.le_trans (Nat.le_of_ble_eq_true rfl) hR.2⟩) (va_recv hK.1 (va_P1 z) (ci := 4) (q0 := 0) rfl rfl) rfl hls rfl hW hdg hf) S kk
  · exact g_ki (g_runU F hK (cKm E) S (met_c_X6_form l E g J k0 hJ hk t (vForm g J k0) (vForm_5 t)) (va_cwO 0 F.2.2.2.2 (gw_O q387 q389 q388 q401 q402 q118 q403) rfl rfl rfl q404 (by decide +kernel) ⟨Nat.le_trans (Nat.le_of_ble_eq_true rfl) hR.1, Nat.le_trans (Nat.le_of_ble_eq_true rfl) hR.2⟩) (va_recv hK.1 (va_P1 z) (ci := 5) (q0 := 0) rfl rfl) rfl hls rfl hW hdg hf) S kk
  · exact g_ki (g_runU F hK (cKm E) S (met_c_X7_form l E g J k0 hJ hk t (vForm g J k0) (vForm_6 t)) (va_cwO 0 F.2.2.2.2 (gw_O q387 q389 q388 q395 q396 q119 q397) rfl rfl rfl q404 (by decide +kernel) ⟨Nat.le_trans (Nat.le_of_ble_eq_true rfl) hR.1, Nat.le_trans (Nat.le_of_ble_eq_true rfl) hR.2⟩) (va_recv hK.1 (va_P1 z) (ci := 6) (q0 := 0) rfl rfl) rfl hls rfl hW hdg hf) S kk
  · exact g_ki (g_runU F hK (cKm E) S (met_c_X4_form l E g J k0 hJ hk (vForm g J k0) (vForm_7 t)) (va_cwU 0 F.2.2.2.2 (gw_U q387 q389 q390 q388 q116 q404) rfl rfl rfl rfl (by decide +kernel) ⟨Nat.le_trans (Nat.le_of_ble_eq_true rfl) hR.1, Nat.le_trans (Nat.le_of_ble_eq_true rfl) hR.2⟩) (va_recv hK.1 (va_P1 z) (ci := 7) (q0 := 0) rfl rfl) rfl hls rfl hW hdg hf) S kk
  · exact g_ki (g_runU F hK (cKm E) S (met_c_X12_form l E g J k0 hJ hk t (vForm g J k0) (vForm_8 t)) (va_cwO 0 F.2.2.2.2 (gw_O q387 q389 q388 q392 q393 q140 q394) rfl rfl rfl q404 (by decide +kernel) ⟨Nat.le_trans (Nat.le_of_ble_eq_true rfl) hR.1, Nat.le_trans (Nat.le_of_ble_eq_true rfl) hR.2⟩) (va_recv hK.1 (va_P1 z) (ci := 8) (q0 := 0) rfl rfl) rfl hls rfl hW hdg hf) S kk
  · exact g_ki (g_runU F hK (cKm E) S (met_c_X13_form l E g J k0 hJ hk t (vForm g J k0) (vForm_9 t)) (va_cwO 0 F.2.2.2.2 (gw_O q387 q389 q388 q398 q399 q141 q400) rfl rfl rfl q404 (by decide +kernel) ⟨Nat.le_trans (Nat.le_of_ble_eq_true rfl) hR.1, Nat.le_trans (Nat.le_of_ble_eq_true rfl) hR.2⟩) (va_recv hK.1 (va_P1 z) (ci := 9) (q0 := 0) rfl rfl) rfl hls rfl hW hdg hf) S kk
theorem cv_kind_X3_68 {p : Program} {l : Launch} {e : Env} {s : State} {m : MethodId} {args : Array Value} {below : List Frame} {meth : Method} {c : Code} {R : Room} {H : Heap} {locs : List Loc} {cells slots pc nL : Nat} {Q : State → Prop} {ls : Array Slot} {rest : List Value} {cc : ByteArray} {E : cEnv} {g : mS} {J k0 : Nat} (F : CallFix p m c cc nL s args lw_all RX3) (hK : cK E s) (S : gS (wA E) s.heap (cP E g) H locs) (hJ : okW E J) (hk : k0 < 100) (hls : ls.size = nL) (hW : (rest.map fun v => v.category).sum ≤ 8) (hR : 0 + 1 ≤ R.frames ∧ 8 + (1 + 11) + 0 ≤ R.locals) (hf : cells ≤ R.cells ∧ slots ≤ R.slots) (hdg : decode cc pc = .ok (.invokevirtual 68, 3))
    (kk : ∀ (H1 : Heap) (locs1 : List Loc), gS (wA E) s.heap (cP E g) H1 locs1 → W p l e R s m args below meth c H1 locs1 cells slots Q (F0 m (pc + 3) ls (.int (vKind g J k0) :: rest))) : W p l e R s m args below meth c H locs cells slots Q (F0 m pc ls (.ref (coa E J k0) :: rest)) := by
  rcases cAt_any S.1 hJ hk with ⟨t, z⟩ | ⟨t, z⟩ | ⟨t, z⟩ | ⟨t, z⟩ | ⟨t, z⟩ | ⟨t, z⟩
  · exact g_ki (g_runU F hK (cKm E) S (met_c_X5_kind l E g J k0 hJ hk t (vKind g J k0) (vKind_4 t)) (va_cwA 0 F.2.2.2.2 (gw_U q1009 q1011 q1015 q1016 q117 q1017) rfl rfl rfl (hK.2.2.2.2.1 _ (List.mem_of_getElem? (i := 0) rfl)) (by decide +kernel) ⟨Nat.le_trans (Nat.le_of_ble_eq_true rfl) hR.1, Nat.le_trans (Nat.le_of_ble_eq_true rfl) hR.2⟩) (va_recv hK.1 (va_P1 z) (ci := 4) (q0 := 0) rfl rfl) rfl hls rfl hW hdg hf) S kk
  · exact g_ki (g_runU F hK (cKm E) S (met_c_X6_kind l E g J k0 hJ hk t (vKind g J k0) (vKind_5 t)) (va_cwA 0 F.2.2.2.2 (gw_U q1009 q1011 q1027 q1028 q118 q1029) rfl rfl rfl (hK.2.2.2.2.1 _ (List.mem_of_getElem? (i := 0) rfl)) (by decide +kernel) ⟨Nat.le_trans (Nat.le_of_ble_eq_true rfl) hR.1, Nat.le_trans (Nat.le_of_ble_eq_true rfl) hR.2⟩) (va_recv hK.1 (va_P1 z) (ci := 5) (q0 := 0) rfl rfl) rfl hls rfl hW hdg hf) S kk
  · exact g_ki (g_runU F hK (cKm E) S (met_c_X7_kind l E g J k0 hJ hk t (vKind g J k0) (vKind_6 t)) (va_cwA 0 F.2.2.2.2 (gw_U q1009 q1011 q1021 q1022 q119 q1023) rfl rfl rfl (hK.2.2.2.2.1 _ (List.mem_of_getElem? (i := 0) rfl)) (by decide +kernel) ⟨Nat.le_trans (Nat.le_of_ble_eq_true rfl) hR.1, Nat.le_trans (Nat.le_of_ble_eq_true rfl) hR.2⟩) (va_recv hK.1 (va_P1 z) (ci := 6) (q0 := 0) rfl rfl) rfl hls rfl hW hdg hf) S kk
  · exact g_ki (g_runU F hK (cKm E) S (met_c_X8_kind l E g J k0 hJ hk t (vKind g J k0) (vKind_7 t)) (va_cwA 0 F.2.2.2.2 (gw_U q1009 q1011 q1012 q1013 q120 q1014) rfl rfl rfl (hK.2.2.2.2.1 _ (List.mem_of_getElem? (i := 0) rfl)) (by decide +kernel) ⟨Nat.le_trans (Nat.le_of_ble_eq_true rfl) hR.1, Nat.le_trans (Nat.le_of_ble_eq_true rfl) hR.2⟩) (va_recv hK.1 (va_P1 z) (ci := 7) (q0 := 0) rfl rfl) rfl hls rfl hW hdg hf) S kk
  · exact g_ki (g_runU F hK (cKm E) S (met_c_X12_kind l E g J k0 hJ hk t (vKind g J k0) (vKind_8 t)) (va_cwA 0 F.2.2.2.2 (gw_U q1009 q1011 q1018 q1019 q140 q1020) rfl rfl rfl (hK.2.2.2.2.1 _ (List.mem_of_getElem? (i := 0) rfl)) (by decide +kernel) ⟨Nat.le_trans (Nat.le_of_ble_eq_true rfl) hR.1, Nat.le_trans (Nat.le_of_ble_eq_true rfl) hR.2⟩) (va_recv hK.1 (va_P1 z) (ci := 8) (q0 := 0) rfl rfl) rfl hls rfl hW hdg hf) S kk
  · exact g_ki (g_runU F hK (cKm E) S (met_c_X13_kind l E g J k0 hJ hk t (vKind g J k0) (vKind_9 t)) (va_cwA 0 F.2.2.2.2 (gw_U q1009 q1011 q1024 q1025 q141 q1026) rfl rfl rfl (hK.2.2.2.2.1 _ (List.mem_of_getElem? (i := 0) rfl)) (by decide +kernel) ⟨Nat.le_trans (Nat.le_of_ble_eq_true rfl) hR.1, Nat.le_trans (Nat.le_of_ble_eq_true rfl) hR.2⟩) (va_recv hK.1 (va_P1 z) (ci := 9) (q0 := 0) rfl rfl) rfl hls rfl hW hdg hf) S kk
theorem cv_owner_X3_90 {p : Program} {l : Launch} {e : Env} {s : State} {m : MethodId} {args : Array Value} {below : List Frame} {meth : Method} {c : Code} {R : Room} {H : Heap} {locs : List Loc} {cells slots pc nL : Nat} {Q : State → Prop} {ls : Array Slot} {rest : List Value} {cc : ByteArray} {E : cEnv} {g : mS} {J k0 : Nat} (F : CallFix p m c cc nL s args lw_all RX3) (hK : cK E s) (S : gS (wA E) s.heap (cP E g) H locs) (hJ : okW E J) (hk : k0 < 100) (hls : ls.size = nL) (hW : (rest.map fun v => v.category).sum ≤ 8) (hR : 0 + 1 ≤ R.frames ∧ 8 + (1 + 11) + 0 ≤ R.locals) (hf : cells ≤ R.cells ∧ slots ≤ R.slots) (hdg : decode cc pc = .ok (.invokevirtual 90, 3))
    (kk : ∀ (H1 : Heap) (locs1 : List Loc), gS (wA E) s.heap (cP E g) H1 locs1 → W p l e R s m args below meth c H1 locs1 cells slots Q (F0 m (pc + 3) ls (.int (vOwner g J k0) :: rest))) : W p l e R s m args below meth c H locs cells slots Q (F0 m pc ls (.ref (coa E J k0) :: rest)) := by
  rcases cAt_any S.1 hJ hk with ⟨t, z⟩ | ⟨t, z⟩ | ⟨t, z⟩ | ⟨t, z⟩ | ⟨t, z⟩ | ⟨t, z⟩
  · exact g_ki (g_runU F hK (cKm E) S (met_c_X4_owner l E g J k0 hJ hk (vOwner g J k0) (vOwner_4 t)) (va_cwU 0 F.2.2.2.2 (gw_U q1106 q1108 q1112 q1107 q116 q1119) rfl rfl rfl rfl (by decide +kernel) ⟨Nat.le_trans (Nat.le_of_ble_eq_true rfl) hR.1, Nat.le_trans (Nat.le_of_ble_eq_true rfl) hR.2⟩) (va_recv hK.1 (va_P1 z) (ci := 4) (q0 := 0) rfl rfl) rfl hls rfl hW hdg hf) S kk
  · exact g_ki (g_runU F hK (cKm E) S (met_c_X4_owner l E g J k0 hJ hk (vOwner g J k0) (vOwner_5 t)) (va_cwU 0 F.2.2.2.2 (gw_U q1106 q1108 q1118 q1107 q116 q1119) rfl rfl rfl rfl (by decide +kernel) ⟨Nat.le_trans (Nat.le_of_ble_eq_true rfl) hR.1, Nat.le_trans (Nat.le_of_ble_eq_true rfl) hR.2⟩) (va_recv hK.1 (va_P1 z) (ci := 5) (q0 := 0) rfl rfl) rfl hls rfl hW hdg hf) S kk
  · exact g_ki (g_runU F hK (cKm E) S (met_c_X7_owner l E g J k0 hJ hk t (vOwner g J k0) (vOwner_6 t)) (va_cwO 0 F.2.2.2.2 (gw_O q1106 q1108 q1107 q1114 q1115 q119 q1116) rfl rfl rfl q1119 (by decide +kernel) ⟨Nat.le_trans (Nat.le_of_ble_eq_true rfl) hR.1, Nat.le_trans (Nat.le_of_ble_eq_true rfl) hR.2⟩) (va_recv hK.1 (va_P1 z) (ci := 6) (q0 := 0) rfl rfl) rfl hls rfl hW hdg hf) S kk
  · exact g_ki (g_runU F hK (cKm E) S (met_c_X8_owner l E g J k0 hJ hk t (vOwner g J k0) (vOwner_7 t)) (va_cwO 0 F.2.2.2.2 (gw_O q1106 q1108 q1107 q1109 q1110 q120 q1111) rfl rfl rfl q1119 (by decide +kernel) ⟨Nat.le_trans (Nat.le_of_ble_eq_true rfl) hR.1, Nat.le_trans (Nat.le_of_ble_eq_true rfl) hR.2⟩) (va_recv hK.1 (va_P1 z) (ci := 7) (q0 := 0) rfl rfl) rfl hls rfl hW hdg hf) S kk
  · exact g_ki (g_runU F hK (cKm E) S (met_c_X4_owner l E g J k0 hJ hk (vOwner g J k0) (vOwner_8 t)) (va_cwU 0 F.2.2.2.2 (gw_U q1106 q1108 q1113 q1107 q116 q1119) rfl rfl rfl rfl (by decide +kernel) ⟨Nat.le_trans (Nat.le_of_ble_eq_true rfl) hR.1, Nat.le_trans (Nat.le_of_ble_eq_true rfl) hR.2⟩) (va_recv hK.1 (va_P1 z) (ci := 8) (q0 := 0) rfl rfl) rfl hls rfl hW hdg hf) S kk
  · exact g_ki (g_runU F hK (cKm E) S (met_c_X4_owner l E g J k0 hJ hk (vOwner g J k0) (vOwner_9 t)) (va_cwU 0 F.2.2.2.2 (gw_U q1106 q1108 q1117 q1107 q116 q1119) rfl rfl rfl rfl (by decide +kernel) ⟨Nat.le_trans (Nat.le_of_ble_eq_true rfl) hR.1, Nat.le_trans (Nat.le_of_ble_eq_true rfl) hR.2⟩) (va_recv hK.1 (va_P1 z) (ci := 9) (q0 := 0) rfl rfl) rfl hls rfl hW hdg hf) S kk
abbrev rm_c_X3_isOn : Room := { frames := 1, cells := 0, slots := 0, locals := 22 }
def fc_X3_isOn (g : mS) (J : Nat) (x1 : Int32) (x2 : Int32) : Option (Int32) :=
  bd1 (fp_isIn g x1 0 ((g J 0) - 1)) fun v1 =>
  bd1 ((
    if v1 = 0 then
      some 0
    else
      bd1 (fp_isIn g x2 0 ((g J 1) - 1)) fun v4 =>
      if v4 = 0 then
        some 0
      else
        some 1) : Option (Int32)) fun v7 =>
  some (zN v7)
set_option maxHeartbeats 4000000 in
set_option maxRecDepth 100000 in
theorem met_c_X3_isOn (l : Launch) (E : cEnv) (g : mS) (J : Nat) (x1 : Int32) (x2 : Int32) (hJ : okW E J) (r : Int32) (h : fc_X3_isOn g J x1 x2 = some r) : Met l yX3_isOn (ws_ yX3_isOn cX3_isOn 3 (some .boolean)) rm_c_X3_isOn (va_Pc [.ref (cad E J), .int x1, .int x2] (gPre (cK E) (cP E g))) (gQi r (cP E g) (wA E)) 0 0 (wA E) := by
  refine g_met (own := RX3) (by decide) rfl (Nat.le_of_ble_eq_true rfl) ?_
  intro p e s m args below meth c ls F hr hlk hK S hl
  have hx := F.1
  have hb := F.2.1
  have hl : lv_has ls 3 [(0, .ref (cad E J)), (1, .int x1), (2, .int x2)] := hl
  unfold fc_X3_isOn at h
  refine lv_iload_n hx hb dX3_isOn_0 rfl (lv_at hl 1 rfl) ?_
  refine lv_iconst (v := 0) hx hb dX3_isOn_1 (by decide) ?_
  refine lv_aload_n hx hb dX3_isOn_2 rfl (lv_at hl 0 rfl) ?_
  refine cg_X3_38 F hK S (by assumption) dX3_isOn_3 ?_
  refine lv_iconst (v := 1) hx hb dX3_isOn_6 (by decide) ?_
  refine lv_isub hx hb dX3_isOn_7 ?_
  obtain ⟨v1, e2, h⟩ := bd1_inv h
  refine call_p_isIn_X3_60 (cKm E) F hK S (hK.2.2.1 _ (List.mem_of_getElem? (i := 2) rfl)) e2 hl.1 (Nat.le_of_ble_eq_true rfl) ⟨Nat.le_of_ble_eq_true rfl, Nat.le_of_ble_eq_true rfl⟩ ⟨Nat.zero_le _, Nat.zero_le _⟩ dX3_isOn_8 (fun H locs S => ?_)
  obtain ⟨v7, hB, h⟩ := bd1_inv h
  have hJ33 : ∀ (H : Heap) (locs : List Loc) (ls : Array Slot), gS (wA E) s.heap (cP E g) H locs → lv_has ls 3 [] → W p l e rm_c_X3_isOn s m args below meth c H locs 0 0 (MQ below (gQi r (cP E g) (wA E)) args s 0 0 (wA E)) (F0 m 33 ls [.int v7]) := by
    intro H locs ls S hl
    cases h
    exact g_zret F hr hlk S rfl dX3_isOn_33
  clear h
  have h := hB
  clear hB
  refine lv_if_eq (tgt := 32) hx hb dX3_isOn_11 (by decide) (fun c3 => ?_) (fun c3 => ?_)
  · rw [if_pos c3] at h
    refine lv_iconst (v := 0) hx hb dX3_isOn_32 (by decide) ?_
    cases h
    exact hJ33 _ _ _ S (lv_sub hl [] rfl)
  · rw [if_neg c3] at h
    refine lv_iload_n hx hb dX3_isOn_14 rfl (lv_at hl 2 rfl) ?_
    refine lv_iconst (v := 0) hx hb dX3_isOn_15 (by decide) ?_
    refine lv_aload_n hx hb dX3_isOn_16 rfl (lv_at hl 0 rfl) ?_
    refine cg_X3_41 F hK S (by assumption) dX3_isOn_17 ?_
    refine lv_iconst (v := 1) hx hb dX3_isOn_20 (by decide) ?_
    refine lv_isub hx hb dX3_isOn_21 ?_
    obtain ⟨v4, e5, h⟩ := bd1_inv h
    refine call_p_isIn_X3_60 (cKm E) F hK S (hK.2.2.1 _ (List.mem_of_getElem? (i := 2) rfl)) e5 hl.1 (Nat.le_of_ble_eq_true rfl) ⟨Nat.le_of_ble_eq_true rfl, Nat.le_of_ble_eq_true rfl⟩ ⟨Nat.zero_le _, Nat.zero_le _⟩ dX3_isOn_22 (fun H locs S => ?_)
    refine lv_if_eq (tgt := 32) hx hb dX3_isOn_25 (by decide) (fun c6 => ?_) (fun c6 => ?_)
    · rw [if_pos c6] at h
      refine lv_iconst (v := 0) hx hb dX3_isOn_32 (by decide) ?_
      cases h
      exact hJ33 _ _ _ S (lv_sub hl [] rfl)
    · rw [if_neg c6] at h
      refine lv_iconst (v := 1) hx hb dX3_isOn_28 (by decide) ?_
      refine lv_goto (tgt := 33) hx hb dX3_isOn_29 (by decide) ?_
      cases h
      exact hJ33 _ _ _ S (lv_sub hl [] rfl)
theorem call_c_X3_isOn_X1_100 {p : Program} {l : Launch} {e : Env} {s : State} {m : MethodId} {args : Array Value} {below : List Frame} {meth : Method} {c : Code} {R : Room} {H : Heap} {locs : List Loc} {cells slots pc nL : Nat} {Q : State → Prop} {ls : Array Slot} {rest : List Value} {cc : ByteArray} {E : cEnv} {g : mS} {J : Nat} {x1 : Int32} {x2 : Int32} {r : Int32} (hJ : okW E J) (F : CallFix p m c cc nL s args lw_all RX1) (hK : cK E s) (S : gS (wA E) s.heap (cP E g) H locs) (h : fc_X3_isOn g J x1 x2 = some r) (hls : ls.size = nL) (hW : (rest.map fun v => v.category).sum ≤ 8) (hR : rm_c_X3_isOn.frames + 1 ≤ R.frames ∧ 8 + (3 + 11) + rm_c_X3_isOn.locals ≤ R.locals) (hf : cells ≤ R.cells ∧ slots ≤ R.slots) (hdg : decode cc pc = .ok (.invokevirtual 100, 3))
    (kk : ∀ (H1 : Heap) (locs1 : List Loc), gS (wA E) s.heap (cP E g) H1 locs1 → W p l e R s m args below meth c H1 locs1 cells slots Q (F0 m (pc + 3) ls (.int r :: rest))) : W p l e R s m args below meth c H locs cells slots Q (F0 m pc ls (.int x2 :: .int x1 :: .ref (cad E J) :: rest)) :=
  g_ki (g_runV F hK (cKm E) S (met_c_X3_isOn l E g J x1 x2 hJ r h) (cwV 2 F.2.2.2.2 (lw_V q1459 q414 q415 q115 q416) rfl rfl rfl (by decide +kernel) hR) (va_recv hK.1 (va_P1 (cAt_w S.1 hJ)) (ci := 3) (q0 := 0) rfl rfl) rfl hls rfl hW hdg hf) S kk
theorem call_c_X3_isOn_X2_40 {p : Program} {l : Launch} {e : Env} {s : State} {m : MethodId} {args : Array Value} {below : List Frame} {meth : Method} {c : Code} {R : Room} {H : Heap} {locs : List Loc} {cells slots pc nL : Nat} {Q : State → Prop} {ls : Array Slot} {rest : List Value} {cc : ByteArray} {E : cEnv} {g : mS} {J : Nat} {x1 : Int32} {x2 : Int32} {r : Int32} (hJ : okW E J) (F : CallFix p m c cc nL s args lw_all RX2) (hK : cK E s) (S : gS (wA E) s.heap (cP E g) H locs) (h : fc_X3_isOn g J x1 x2 = some r) (hls : ls.size = nL) (hW : (rest.map fun v => v.category).sum ≤ 8) (hR : rm_c_X3_isOn.frames + 1 ≤ R.frames ∧ 8 + (3 + 11) + rm_c_X3_isOn.locals ≤ R.locals) (hf : cells ≤ R.cells ∧ slots ≤ R.slots) (hdg : decode cc pc = .ok (.invokevirtual 40, 3))
    (kk : ∀ (H1 : Heap) (locs1 : List Loc), gS (wA E) s.heap (cP E g) H1 locs1 → W p l e R s m args below meth c H1 locs1 cells slots Q (F0 m (pc + 3) ls (.int r :: rest))) : W p l e R s m args below meth c H locs cells slots Q (F0 m pc ls (.int x2 :: .int x1 :: .ref (cad E J) :: rest)) :=
  g_ki (g_runV F hK (cKm E) S (met_c_X3_isOn l E g J x1 x2 hJ r h) (cwV 2 F.2.2.2.2 (lw_V q413 q414 q415 q115 q416) rfl rfl rfl (by decide +kernel) hR) (va_recv hK.1 (va_P1 (cAt_w S.1 hJ)) (ci := 3) (q0 := 0) rfl rfl) rfl hls rfl hW hdg hf) S kk
abbrev rm_c_X2_goes : Room := { frames := 2, cells := 0, slots := 0, locals := 44 }
def fc_X2_goes (g : mS) (x1 : Int32) (x2 : Int32) : Option (mS) :=
  bd1 (rdX x2) fun v1 =>
  bd1 (rdY x2) fun v3 =>
  bd1 (rdW g) fun v5 =>
  bd1 (fc_X3_isOn g v5 ((irm x1 10) + v1) ((x1 / 10) + v3)) fun v8 =>
  if v8 = 0 then
    bd1 (wrF g 8 ((g 0 8) + 1)) fun g14 =>
    some g14
  else
    bd1 (cwrI g 4 (g 0 7) ((4 * ((10 * ((x1 / 10) + v3)) + ((irm x1 10) + v1))) + x2)) fun g10 =>
    bd1 (wrF g10 7 ((g10 0 7) + 1)) fun g12 =>
    some g12
set_option maxHeartbeats 4000000 in
set_option maxRecDepth 100000 in
theorem met_c_X2_goes (l : Launch) (E : cEnv) (g : mS) (x1 : Int32) (x2 : Int32) (gZ : mS) (h : fc_X2_goes g x1 x2 = some gZ) : Met l yX2_goes (ws_ yX2_goes cX2_goes 5 (none)) rm_c_X2_goes (va_Pc [.ref (cad E 0), .int x1, .int x2] (gPre (cK E) (cP E g))) (gQv (cP E gZ) (wA E)) 0 0 (wA E) := by
  refine g_met (own := RX2) (by decide) rfl (Nat.le_of_ble_eq_true rfl) ?_
  intro p e s m args below meth c ls F hr hlk hK S hl
  have hx := F.1
  have hb := F.2.1
  have hl : lv_has ls 5 [(0, .ref (cad E 0)), (1, .int x1), (2, .int x2)] := hl
  unfold fc_X2_goes at h
  refine lv_iload_n hx hb dX2_goes_0 rfl (lv_at hl 1 rfl) ?_
  refine lv_bipush (v := 10) hx hb dX2_goes_1 (by decide) ?_
  refine lv_irem hx hb dX2_goes_3 (by decide) ?_
  refine c_getDX F hK S (own := RX2) (hK.2.1 _ (List.mem_of_getElem? (i := 19) rfl)) dX2_goes_4 ?_
  refine lv_iload_n hx hb dX2_goes_7 rfl (lv_at hl 2 rfl) ?_
  obtain ⟨v1, e2, h⟩ := bd1_inv h
  refine c_ialdX F hK S e2 dX2_goes_8 ?_
  refine lv_iadd hx hb dX2_goes_9 ?_
  refine lv_istore_n (lv' := [(3, .int ((irm x1 10) + v1)), (0, .ref (cad E 0)), (1, .int x1), (2, .int x2)]) hx hb dX2_goes_10 rfl hl (by decide) rfl (fun ls hl => ?_)
  refine lv_iload_n hx hb dX2_goes_11 rfl (lv_at hl 2 rfl) ?_
  refine lv_bipush (v := 10) hx hb dX2_goes_12 (by decide) ?_
  refine lv_idiv hx hb dX2_goes_14 (by decide) ?_
  refine c_getDY F hK S (own := RX2) (hK.2.1 _ (List.mem_of_getElem? (i := 20) rfl)) dX2_goes_15 ?_
  refine lv_iload_n hx hb dX2_goes_18 rfl (lv_at hl 3 rfl) ?_
  obtain ⟨v3, e4, h⟩ := bd1_inv h
  refine c_ialdY F hK S e4 dX2_goes_19 ?_
  refine lv_iadd hx hb dX2_goes_20 ?_
  refine lv_istore (lv' := [(4, .int ((x1 / 10) + v3)), (3, .int ((irm x1 10) + v1)), (0, .ref (cad E 0)), (1, .int x1), (2, .int x2)]) hx hb dX2_goes_21 hl (by decide) rfl (fun ls hl => ?_)
  refine lv_aload_n hx hb dX2_goes_23 rfl (lv_at hl 2 rfl) ?_
  obtain ⟨v5, e6, h⟩ := bd1_inv h
  refine cg_X2_36 F hK S e6 dX2_goes_24 (fun hv5 => ?_)
  refine lv_iload_n hx hb dX2_goes_27 rfl (lv_at hl 1 rfl) ?_
  refine lv_iload hx hb dX2_goes_28 (lv_at hl 0 rfl) ?_
  obtain ⟨v8, e7, h⟩ := bd1_inv h
  refine call_c_X3_isOn_X2_40 (by assumption) F hK S e7 hl.1 (Nat.le_of_ble_eq_true rfl) ⟨Nat.le_of_ble_eq_true rfl, Nat.le_of_ble_eq_true rfl⟩ ⟨Nat.zero_le _, Nat.zero_le _⟩ dX2_goes_30 (fun H locs S => ?_)
  refine lv_if_ne (tgt := 47) hx hb dX2_goes_33 (by decide) (fun c9 => ?_) (fun c9 => ?_)
  · rw [if_neg c9] at h
    refine lv_aload_n hx hb dX2_goes_47 rfl (lv_at hl 2 rfl) ?_
    refine cg_X2_21 F hK S  dX2_goes_48 ?_
    refine lv_aload_n hx hb dX2_goes_51 rfl (lv_at hl 2 rfl) ?_
    refine cg_X2_50 F hK S  dX2_goes_52 ?_
    refine lv_iconst (v := 4) hx hb dX2_goes_55 (by decide) ?_
    refine lv_bipush (v := 10) hx hb dX2_goes_56 (by decide) ?_
    refine lv_iload hx hb dX2_goes_58 (lv_at hl 0 rfl) ?_
    refine lv_imul hx hb dX2_goes_60 ?_
    refine lv_iload_n hx hb dX2_goes_61 rfl (lv_at hl 1 rfl) ?_
    refine lv_iadd hx hb dX2_goes_62 ?_
    refine lv_imul hx hb dX2_goes_63 ?_
    refine lv_iload_n hx hb dX2_goes_64 rfl (lv_at hl 4 rfl) ?_
    refine lv_iadd hx hb dX2_goes_65 ?_
    obtain ⟨g10, e11, h⟩ := bd1_inv h
    refine c_iast F hK S e11 dX2_goes_66 (fun H locs S => ?_)
    refine lv_aload_n hx hb dX2_goes_67 rfl (lv_at hl 2 rfl) ?_
    refine lv_dup hx hb dX2_goes_68 rfl ?_
    refine cg_X2_50 F hK S  dX2_goes_69 ?_
    refine lv_iconst (v := 1) hx hb dX2_goes_72 (by decide) ?_
    refine lv_iadd hx hb dX2_goes_73 ?_
    obtain ⟨g12, e13, h⟩ := bd1_inv h
    refine cw_X2_50 F hK S  e13 dX2_goes_74 (fun H locs S => ?_)
    cases h
    exact g_vret F hr hlk S dX2_goes_77
  · rw [if_pos c9] at h
    refine lv_aload_n hx hb dX2_goes_36 rfl (lv_at hl 2 rfl) ?_
    refine lv_dup hx hb dX2_goes_37 rfl ?_
    refine cg_X2_46 F hK S  dX2_goes_38 ?_
    refine lv_iconst (v := 1) hx hb dX2_goes_41 (by decide) ?_
    refine lv_iadd hx hb dX2_goes_42 ?_
    obtain ⟨g14, e15, h⟩ := bd1_inv h
    refine cw_X2_46 F hK S  e15 dX2_goes_43 (fun H locs S => ?_)
    cases h
    exact g_vret F hr hlk S dX2_goes_46
theorem call_c_X2_goes_X2_73 {p : Program} {l : Launch} {e : Env} {s : State} {m : MethodId} {args : Array Value} {below : List Frame} {meth : Method} {c : Code} {R : Room} {H : Heap} {locs : List Loc} {cells slots pc nL : Nat} {Q : State → Prop} {ls : Array Slot} {rest : List Value} {cc : ByteArray} {E : cEnv} {g : mS} {x1 : Int32} {x2 : Int32} {gZ : mS} (F : CallFix p m c cc nL s args lw_all RX2) (hK : cK E s) (S : gS (wA E) s.heap (cP E g) H locs) (h : fc_X2_goes g x1 x2 = some gZ) (hls : ls.size = nL) (hW : (rest.map fun v => v.category).sum ≤ 8) (hR : rm_c_X2_goes.frames + 1 ≤ R.frames ∧ 8 + (5 + 11) + rm_c_X2_goes.locals ≤ R.locals) (hf : cells ≤ R.cells ∧ slots ≤ R.slots) (hdg : decode cc pc = .ok (.invokevirtual 73, 3))
    (kk : ∀ (H1 : Heap) (locs1 : List Loc), gS (wA E) s.heap (cP E gZ) H1 locs1 → W p l e R s m args below meth c H1 locs1 cells slots Q (F0 m (pc + 3) ls (rest))) : W p l e R s m args below meth c H locs cells slots Q (F0 m pc ls (.int x2 :: .int x1 :: .ref (cad E 0) :: rest)) :=
  g_kv (g_runV F hK (cKm E) S (met_c_X2_goes l E g x1 x2 gZ h) (cwV 2 F.2.2.2.2 (lw_V q405 q406 q407 q112 q408) rfl rfl rfl (by decide +kernel) hR) (va_recv hK.1 (va_P1 (cAt_ray S.1)) (ci := 2) (q0 := 0) rfl rfl) rfl hls rfl hW hdg hf) S kk
theorem call_c_X2_goes_X5_13 {p : Program} {l : Launch} {e : Env} {s : State} {m : MethodId} {args : Array Value} {below : List Frame} {meth : Method} {c : Code} {R : Room} {H : Heap} {locs : List Loc} {cells slots pc nL : Nat} {Q : State → Prop} {ls : Array Slot} {rest : List Value} {cc : ByteArray} {count : Nat} {E : cEnv} {g : mS} {x1 x2 : Int32} {gZ : mS} (F : CallFix p m c cc nL s args lw_all RX5) (hK : cK E s) (S : gS (wA E) s.heap (cP E g) H locs) (h : fc_X2_goes g x1 x2 = some gZ) (hls : ls.size = nL) (hW : (rest.map fun v => v.category).sum ≤ 8) (hR : rm_c_X2_goes.frames + 1 ≤ R.frames ∧ 8 + (5 + 11) + rm_c_X2_goes.locals ≤ R.locals) (hf : cells ≤ R.cells ∧ slots ≤ R.slots) (hdg : decode cc pc = .ok (.invokeinterface 13 count, 5))
    (kk : ∀ (H1 : Heap) (locs1 : List Loc), gS (wA E) s.heap (cP E gZ) H1 locs1 → W p l e R s m args below meth c H1 locs1 cells slots Q (F0 m (pc + 5) ls rest)) : W p l e R s m args below meth c H locs cells slots Q (F0 m pc ls (.int x2 :: .int x1 :: .ref (cad E 0) :: rest)) :=
  g_k5v (g_runF (hK.1.1 2 _ rfl).2 F hK (cKm E) S (met_c_X2_goes l E g x1 x2 gZ h) (va_cwF 2 F.2.2.2.2 (gw_F q438 q442 q406 q112 q408) rfl rfl rfl hK.2.2.2.2.2.1 (by decide +kernel) hR) (va_recv hK.1 (va_P1 (cAt_ray S.1)) (ci := 2) (q0 := 0) rfl rfl) rfl hls rfl hW hdg hf) S kk
theorem call_c_X2_goes_X12_16 {p : Program} {l : Launch} {e : Env} {s : State} {m : MethodId} {args : Array Value} {below : List Frame} {meth : Method} {c : Code} {R : Room} {H : Heap} {locs : List Loc} {cells slots pc nL : Nat} {Q : State → Prop} {ls : Array Slot} {rest : List Value} {cc : ByteArray} {count : Nat} {E : cEnv} {g : mS} {x1 x2 : Int32} {gZ : mS} (F : CallFix p m c cc nL s args lw_all RX12) (hK : cK E s) (S : gS (wA E) s.heap (cP E g) H locs) (h : fc_X2_goes g x1 x2 = some gZ) (hls : ls.size = nL) (hW : (rest.map fun v => v.category).sum ≤ 8) (hR : rm_c_X2_goes.frames + 1 ≤ R.frames ∧ 8 + (5 + 11) + rm_c_X2_goes.locals ≤ R.locals) (hf : cells ≤ R.cells ∧ slots ≤ R.slots) (hdg : decode cc pc = .ok (.invokeinterface 16 count, 5))
    (kk : ∀ (H1 : Heap) (locs1 : List Loc), gS (wA E) s.heap (cP E gZ) H1 locs1 → W p l e R s m args below meth c H1 locs1 cells slots Q (F0 m (pc + 5) ls rest)) : W p l e R s m args below meth c H locs cells slots Q (F0 m pc ls (.int x2 :: .int x1 :: .ref (cad E 0) :: rest)) :=
  g_k5v (g_runF (hK.1.1 2 _ rfl).2 F hK (cKm E) S (met_c_X2_goes l E g x1 x2 gZ h) (va_cwF 2 F.2.2.2.2 (gw_F q449 q442 q406 q112 q408) rfl rfl rfl hK.2.2.2.2.2.1 (by decide +kernel) hR) (va_recv hK.1 (va_P1 (cAt_ray S.1)) (ci := 2) (q0 := 0) rfl rfl) rfl hls rfl hW hdg hf) S kk
theorem call_c_X2_goes_X7_32 {p : Program} {l : Launch} {e : Env} {s : State} {m : MethodId} {args : Array Value} {below : List Frame} {meth : Method} {c : Code} {R : Room} {H : Heap} {locs : List Loc} {cells slots pc nL : Nat} {Q : State → Prop} {ls : Array Slot} {rest : List Value} {cc : ByteArray} {count : Nat} {E : cEnv} {g : mS} {x1 x2 : Int32} {gZ : mS} (F : CallFix p m c cc nL s args lw_all RX7) (hK : cK E s) (S : gS (wA E) s.heap (cP E g) H locs) (h : fc_X2_goes g x1 x2 = some gZ) (hls : ls.size = nL) (hW : (rest.map fun v => v.category).sum ≤ 8) (hR : rm_c_X2_goes.frames + 1 ≤ R.frames ∧ 8 + (5 + 11) + rm_c_X2_goes.locals ≤ R.locals) (hf : cells ≤ R.cells ∧ slots ≤ R.slots) (hdg : decode cc pc = .ok (.invokeinterface 32 count, 5))
    (kk : ∀ (H1 : Heap) (locs1 : List Loc), gS (wA E) s.heap (cP E gZ) H1 locs1 → W p l e R s m args below meth c H1 locs1 cells slots Q (F0 m (pc + 5) ls rest)) : W p l e R s m args below meth c H locs cells slots Q (F0 m pc ls (.int x2 :: .int x1 :: .ref (cad E 0) :: rest)) :=
  g_k5v (g_runF (hK.1.1 2 _ rfl).2 F hK (cKm E) S (met_c_X2_goes l E g x1 x2 gZ h) (va_cwF 2 F.2.2.2.2 (gw_F q454 q442 q406 q112 q408) rfl rfl rfl hK.2.2.2.2.2.1 (by decide +kernel) hR) (va_recv hK.1 (va_P1 (cAt_ray S.1)) (ci := 2) (q0 := 0) rfl rfl) rfl hls rfl hW hdg hf) S kk
theorem call_c_X2_goes_X13_13 {p : Program} {l : Launch} {e : Env} {s : State} {m : MethodId} {args : Array Value} {below : List Frame} {meth : Method} {c : Code} {R : Room} {H : Heap} {locs : List Loc} {cells slots pc nL : Nat} {Q : State → Prop} {ls : Array Slot} {rest : List Value} {cc : ByteArray} {count : Nat} {E : cEnv} {g : mS} {x1 x2 : Int32} {gZ : mS} (F : CallFix p m c cc nL s args lw_all RX13) (hK : cK E s) (S : gS (wA E) s.heap (cP E g) H locs) (h : fc_X2_goes g x1 x2 = some gZ) (hls : ls.size = nL) (hW : (rest.map fun v => v.category).sum ≤ 8) (hR : rm_c_X2_goes.frames + 1 ≤ R.frames ∧ 8 + (5 + 11) + rm_c_X2_goes.locals ≤ R.locals) (hf : cells ≤ R.cells ∧ slots ≤ R.slots) (hdg : decode cc pc = .ok (.invokeinterface 13 count, 5))
    (kk : ∀ (H1 : Heap) (locs1 : List Loc), gS (wA E) s.heap (cP E gZ) H1 locs1 → W p l e R s m args below meth c H1 locs1 cells slots Q (F0 m (pc + 5) ls rest)) : W p l e R s m args below meth c H locs cells slots Q (F0 m pc ls (.int x2 :: .int x1 :: .ref (cad E 0) :: rest)) :=
  g_k5v (g_runF (hK.1.1 2 _ rfl).2 F hK (cKm E) S (met_c_X2_goes l E g x1 x2 gZ h) (va_cwF 2 F.2.2.2.2 (gw_F q459 q442 q406 q112 q408) rfl rfl rfl hK.2.2.2.2.2.1 (by decide +kernel) hR) (va_recv hK.1 (va_P1 (cAt_ray S.1)) (ci := 2) (q0 := 0) rfl rfl) rfl hls rfl hW hdg hf) S kk
abbrev rm_c_X5_passes : Room := { frames := 3, cells := 0, slots := 0, locals := 68 }
def fc_X5_passes (g : mS) (J : Nat) (c0 : Nat) (x1 : Int32) : Option (mS) :=
  bd1 (ckC 4 g J c0) fun u1 =>
  bd1 (fc_X2_goes g (nI c0) x1) fun g4 =>
  some g4
set_option maxHeartbeats 4000000 in
set_option maxRecDepth 100000 in
theorem met_c_X5_passes (l : Launch) (E : cEnv) (g : mS) (J : Nat) (c0 : Nat) (x1 : Int32) (hJ : okW E J) (hc0 : c0 < 100) (hcl : cCl g J c0 = 4) (gZ : mS) (h : fc_X5_passes g J c0 x1 = some gZ) : Met l yX5_passes (ws_ yX5_passes cX5_passes 3 (none)) rm_c_X5_passes (va_Pc [.ref (coa E J c0), .int x1, .ref (cad E 0)] (gPre (cK E) (cP E g))) (gQv (cP E gZ) (wA E)) 0 0 (wA E) := by
  refine g_met (own := RX5) (by decide) rfl (Nat.le_of_ble_eq_true rfl) ?_
  intro p e s m args below meth c ls F hr hlk hK S hl
  have hx := F.1
  have hb := F.2.1
  have hl : lv_has ls 3 [(0, .ref (coa E J c0)), (1, .int x1), (2, .ref (cad E 0))] := hl
  unfold fc_X5_passes at h
  refine lv_aload_n hx hb dX5_passes_0 rfl (lv_at hl 2 rfl) ?_
  refine lv_aload_n hx hb dX5_passes_1 rfl (lv_at hl 0 rfl) ?_
  obtain ⟨u1, e2, h⟩ := bd1_inv h
  refine cg_X5_7 F hK S (by assumption) (by assumption) e2 dX5_passes_2 ?_
  refine lv_iload_n hx hb dX5_passes_5 rfl (lv_at hl 1 rfl) ?_
  obtain ⟨g4, e3, h⟩ := bd1_inv h
  refine call_c_X2_goes_X5_13 F hK S e3 hl.1 (Nat.le_of_ble_eq_true rfl) ⟨Nat.le_of_ble_eq_true rfl, Nat.le_of_ble_eq_true rfl⟩ ⟨Nat.zero_le _, Nat.zero_le _⟩ dX5_passes_6 (fun H locs S => ?_)
  cases h
  exact g_vret F hr hlk S dX5_passes_11
abbrev rm_c_X6_passes : Room := { frames := 0, cells := 0, slots := 0, locals := 0 }
def fc_X6_passes (g : mS) (J : Nat) (c0 : Nat) (x1 : Int32) : Option (mS) :=
  some g
set_option maxHeartbeats 4000000 in
set_option maxRecDepth 100000 in
theorem met_c_X6_passes (l : Launch) (E : cEnv) (g : mS) (J : Nat) (c0 : Nat) (x1 : Int32) (hJ : okW E J) (hc0 : c0 < 100) (hcl : cCl g J c0 = 5) (gZ : mS) (h : fc_X6_passes g J c0 x1 = some gZ) : Met l yX6_passes (ws_ yX6_passes cX6_passes 3 (none)) rm_c_X6_passes (va_Pc [.ref (coa E J c0), .int x1, .ref (cad E 0)] (gPre (cK E) (cP E g))) (gQv (cP E gZ) (wA E)) 0 0 (wA E) := by
  refine g_met (own := RX6) (by decide) rfl (Nat.le_of_ble_eq_true rfl) ?_
  intro p e s m args below meth c ls F hr hlk hK S hl
  have hx := F.1
  have hb := F.2.1
  have hl : lv_has ls 3 [(0, .ref (coa E J c0)), (1, .int x1), (2, .ref (cad E 0))] := hl
  unfold fc_X6_passes at h
  cases h
  exact g_vret F hr hlk S dX6_passes_0
abbrev rm_c_X7_passes : Room := { frames := 3, cells := 0, slots := 0, locals := 68 }
def fc_X7_passes (g : mS) (J : Nat) (c0 : Nat) (x1 : Int32) : Option (mS) :=
  bd1 (fldH g J c0) fun v1 =>
  bd1 ((
    if v1 = 0 then
      some g
    else
      bd1 (ckC 6 g J c0) fun u4 =>
      bd1 (fc_X2_goes g (nI c0) x1) fun g7 =>
      some g7) : Option (mS)) fun g8 =>
  bd1 (ckC 6 g8 J c0) fun u9 =>
  bd1 (fldC 6 g8 J c0 1) fun v11 =>
  bd1 ((
    if v11 = 0 then
      some (x1 ^^^ 1)
    else
      some (3 - x1)) : Option (Int32)) fun v14 =>
  bd1 (fc_X2_goes g8 (nI c0) v14) fun g16 =>
  some g16
set_option maxHeartbeats 4000000 in
set_option maxRecDepth 100000 in
theorem met_c_X7_passes (l : Launch) (E : cEnv) (g : mS) (J : Nat) (c0 : Nat) (x1 : Int32) (hJ : okW E J) (hc0 : c0 < 100) (hcl : cCl g J c0 = 6) (gZ : mS) (h : fc_X7_passes g J c0 x1 = some gZ) : Met l yX7_passes (ws_ yX7_passes cX7_passes 3 (none)) rm_c_X7_passes (va_Pc [.ref (coa E J c0), .int x1, .ref (cad E 0)] (gPre (cK E) (cP E g))) (gQv (cP E gZ) (wA E)) 0 0 (wA E) := by
  refine g_met (own := RX7) (by decide) rfl (Nat.le_of_ble_eq_true rfl) ?_
  intro p e s m args below meth c ls F hr hlk hK S hl
  have hx := F.1
  have hb := F.2.1
  have hl : lv_has ls 3 [(0, .ref (coa E J c0)), (1, .int x1), (2, .ref (cad E 0))] := hl
  unfold fc_X7_passes at h
  refine lv_aload_n hx hb dX7_passes_0 rfl (lv_at hl 0 rfl) ?_
  obtain ⟨v1, e2, h⟩ := bd1_inv h
  refine cg_X7_7 F hK S (by assumption) (by assumption) e2 dX7_passes_1 ?_
  obtain ⟨g8, hB, h⟩ := bd1_inv h
  have hJ18 : ∀ (H : Heap) (locs : List Loc) (ls : Array Slot), gS (wA E) s.heap (cP E g8) H locs → lv_has ls 3 [(0, .ref (coa E J c0)), (1, .int x1), (2, .ref (cad E 0))] → W p l e rm_c_X7_passes s m args below meth c H locs 0 0 (MQ below (gQv (cP E gZ) (wA E)) args s 0 0 (wA E)) (F0 m 18 ls []) := by
    intro H locs ls S hl
    refine lv_aload_n hx hb dX7_passes_18 rfl (lv_at hl 2 rfl) ?_
    refine lv_aload_n hx hb dX7_passes_19 rfl (lv_at hl 0 rfl) ?_
    obtain ⟨u9, e10, h⟩ := bd1_inv h
    refine cg_X7_20 F hK S (by assumption) (by assumption) e10 dX7_passes_20 ?_
    refine lv_aload_n hx hb dX7_passes_23 rfl (lv_at hl 0 rfl) ?_
    obtain ⟨v11, e12, h⟩ := bd1_inv h
    refine cg_X7_13 F hK S (by assumption) (by assumption) e12 dX7_passes_24 ?_
    obtain ⟨v14, hB, h⟩ := bd1_inv h
    have hJ39 : ∀ (H : Heap) (locs : List Loc) (ls : Array Slot), gS (wA E) s.heap (cP E g8) H locs → lv_has ls 3 [] → W p l e rm_c_X7_passes s m args below meth c H locs 0 0 (MQ below (gQv (cP E gZ) (wA E)) args s 0 0 (wA E)) (F0 m 39 ls [.int v14, .int (nI c0), .ref (cad E 0)]) := by
      intro H locs ls S hl
      obtain ⟨g16, e15, h⟩ := bd1_inv h
      refine call_c_X2_goes_X7_32 F hK S e15 hl.1 (Nat.le_of_ble_eq_true rfl) ⟨Nat.le_of_ble_eq_true rfl, Nat.le_of_ble_eq_true rfl⟩ ⟨Nat.zero_le _, Nat.zero_le _⟩ dX7_passes_39 (fun H locs S => ?_)
      cases h
      exact g_vret F hr hlk S dX7_passes_44
    clear h
    have h := hB
    clear hB
    refine lv_if_ne (tgt := 36) hx hb dX7_passes_27 (by decide) (fun c13 => ?_) (fun c13 => ?_)
    · rw [if_neg c13] at h
      refine lv_iconst (v := 3) hx hb dX7_passes_36 (by decide) ?_
      refine lv_iload_n hx hb dX7_passes_37 rfl (lv_at hl 1 rfl) ?_
      refine lv_isub hx hb dX7_passes_38 ?_
      cases h
      exact hJ39 _ _ _ S (lv_sub hl [] rfl)
    · rw [if_pos c13] at h
      refine lv_iload_n hx hb dX7_passes_30 rfl (lv_at hl 1 rfl) ?_
      refine lv_iconst (v := 1) hx hb dX7_passes_31 (by decide) ?_
      refine lv_ixor hx hb dX7_passes_32 ?_
      refine lv_goto (tgt := 39) hx hb dX7_passes_33 (by decide) ?_
      cases h
      exact hJ39 _ _ _ S (lv_sub hl [] rfl)
  clear h
  have h := hB
  clear hB
  refine lv_if_eq (tgt := 18) hx hb dX7_passes_4 (by decide) (fun c3 => ?_) (fun c3 => ?_)
  · rw [if_pos c3] at h
    cases h
    exact hJ18 _ _ _ S (lv_sub hl [0, 1, 2] rfl)
  · rw [if_neg c3] at h
    refine lv_aload_n hx hb dX7_passes_7 rfl (lv_at hl 2 rfl) ?_
    refine lv_aload_n hx hb dX7_passes_8 rfl (lv_at hl 0 rfl) ?_
    obtain ⟨u4, e5, h⟩ := bd1_inv h
    refine cg_X7_20 F hK S (by assumption) (by assumption) e5 dX7_passes_9 ?_
    refine lv_iload_n hx hb dX7_passes_12 rfl (lv_at hl 1 rfl) ?_
    obtain ⟨g7, e6, h⟩ := bd1_inv h
    refine call_c_X2_goes_X7_32 F hK S e6 hl.1 (Nat.le_of_ble_eq_true rfl) ⟨Nat.le_of_ble_eq_true rfl, Nat.le_of_ble_eq_true rfl⟩ ⟨Nat.zero_le _, Nat.zero_le _⟩ dX7_passes_13 (fun H locs S => ?_)
    cases h
    exact hJ18 _ _ _ S (lv_sub hl [0, 1, 2] rfl)
abbrev rm_c_X8_passes : Room := { frames := 0, cells := 0, slots := 0, locals := 0 }
def fc_X8_passes (g : mS) (J : Nat) (c0 : Nat) (x1 : Int32) : Option (mS) :=
  some g
set_option maxHeartbeats 4000000 in
set_option maxRecDepth 100000 in
theorem met_c_X8_passes (l : Launch) (E : cEnv) (g : mS) (J : Nat) (c0 : Nat) (x1 : Int32) (hJ : okW E J) (hc0 : c0 < 100) (hcl : cCl g J c0 = 7) (gZ : mS) (h : fc_X8_passes g J c0 x1 = some gZ) : Met l yX8_passes (ws_ yX8_passes cX8_passes 3 (none)) rm_c_X8_passes (va_Pc [.ref (coa E J c0), .int x1, .ref (cad E 0)] (gPre (cK E) (cP E g))) (gQv (cP E gZ) (wA E)) 0 0 (wA E) := by
  refine g_met (own := RX8) (by decide) rfl (Nat.le_of_ble_eq_true rfl) ?_
  intro p e s m args below meth c ls F hr hlk hK S hl
  have hx := F.1
  have hb := F.2.1
  have hl : lv_has ls 3 [(0, .ref (coa E J c0)), (1, .int x1), (2, .ref (cad E 0))] := hl
  unfold fc_X8_passes at h
  cases h
  exact g_vret F hr hlk S dX8_passes_0
abbrev rm_c_X12_passes : Room := { frames := 3, cells := 0, slots := 0, locals := 68 }
def fc_X12_passes (g : mS) (J : Nat) (c0 : Nat) (x1 : Int32) : Option (mS) :=
  bd1 (fldC 8 g J c0 1) fun v1 =>
  if x1 = v1 then
    bd1 (ckC 8 g J c0) fun u4 =>
    bd1 (fc_X2_goes g (nI c0) x1) fun g7 =>
    some g7
  else
    some g
set_option maxHeartbeats 4000000 in
set_option maxRecDepth 100000 in
theorem met_c_X12_passes (l : Launch) (E : cEnv) (g : mS) (J : Nat) (c0 : Nat) (x1 : Int32) (hJ : okW E J) (hc0 : c0 < 100) (hcl : cCl g J c0 = 8) (gZ : mS) (h : fc_X12_passes g J c0 x1 = some gZ) : Met l yX12_passes (ws_ yX12_passes cX12_passes 3 (none)) rm_c_X12_passes (va_Pc [.ref (coa E J c0), .int x1, .ref (cad E 0)] (gPre (cK E) (cP E g))) (gQv (cP E gZ) (wA E)) 0 0 (wA E) := by
  refine g_met (own := RX12) (by decide) rfl (Nat.le_of_ble_eq_true rfl) ?_
  intro p e s m args below meth c ls F hr hlk hK S hl
  have hx := F.1
  have hb := F.2.1
  have hl : lv_has ls 3 [(0, .ref (coa E J c0)), (1, .int x1), (2, .ref (cad E 0))] := hl
  unfold fc_X12_passes at h
  refine lv_iload_n hx hb dX12_passes_0 rfl (lv_at hl 1 rfl) ?_
  refine lv_aload_n hx hb dX12_passes_1 rfl (lv_at hl 0 rfl) ?_
  obtain ⟨v1, e2, h⟩ := bd1_inv h
  refine cg_X12_7 F hK S (by assumption) (by assumption) e2 dX12_passes_2 ?_
  refine lv_icmp_ne (tgt := 19) hx hb dX12_passes_5 (by decide) (fun c3 => ?_) (fun c3 => ?_)
  · rw [if_neg c3] at h
    cases h
    exact g_vret F hr hlk S dX12_passes_19
  · rw [if_pos c3] at h
    refine lv_aload_n hx hb dX12_passes_8 rfl (lv_at hl 2 rfl) ?_
    refine lv_aload_n hx hb dX12_passes_9 rfl (lv_at hl 0 rfl) ?_
    obtain ⟨u4, e5, h⟩ := bd1_inv h
    refine cg_X12_13 F hK S (by assumption) (by assumption) e5 dX12_passes_10 ?_
    refine lv_iload_n hx hb dX12_passes_13 rfl (lv_at hl 1 rfl) ?_
    obtain ⟨g7, e6, h⟩ := bd1_inv h
    refine call_c_X2_goes_X12_16 F hK S e6 hl.1 (Nat.le_of_ble_eq_true rfl) ⟨Nat.le_of_ble_eq_true rfl, Nat.le_of_ble_eq_true rfl⟩ ⟨Nat.zero_le _, Nat.zero_le _⟩ dX12_passes_14 (fun H locs S => ?_)
    cases h
    exact g_vret F hr hlk S dX12_passes_19
abbrev rm_c_X13_passes : Room := { frames := 3, cells := 0, slots := 0, locals := 68 }
def fc_X13_passes (g : mS) (J : Nat) (c0 : Nat) (x1 : Int32) : Option (mS) :=
  bd1 (fldC 9 g J c0 1) fun v1 =>
  bd1 (fc_X2_goes g v1 x1) fun g4 =>
  some g4
set_option maxHeartbeats 4000000 in
set_option maxRecDepth 100000 in
theorem met_c_X13_passes (l : Launch) (E : cEnv) (g : mS) (J : Nat) (c0 : Nat) (x1 : Int32) (hJ : okW E J) (hc0 : c0 < 100) (hcl : cCl g J c0 = 9) (gZ : mS) (h : fc_X13_passes g J c0 x1 = some gZ) : Met l yX13_passes (ws_ yX13_passes cX13_passes 3 (none)) rm_c_X13_passes (va_Pc [.ref (coa E J c0), .int x1, .ref (cad E 0)] (gPre (cK E) (cP E g))) (gQv (cP E gZ) (wA E)) 0 0 (wA E) := by
  refine g_met (own := RX13) (by decide) rfl (Nat.le_of_ble_eq_true rfl) ?_
  intro p e s m args below meth c ls F hr hlk hK S hl
  have hx := F.1
  have hb := F.2.1
  have hl : lv_has ls 3 [(0, .ref (coa E J c0)), (1, .int x1), (2, .ref (cad E 0))] := hl
  unfold fc_X13_passes at h
  refine lv_aload_n hx hb dX13_passes_0 rfl (lv_at hl 2 rfl) ?_
  refine lv_aload_n hx hb dX13_passes_1 rfl (lv_at hl 0 rfl) ?_
  obtain ⟨v1, e2, h⟩ := bd1_inv h
  refine cg_X13_7 F hK S (by assumption) (by assumption) e2 dX13_passes_2 ?_
  refine lv_iload_n hx hb dX13_passes_5 rfl (lv_at hl 1 rfl) ?_
  obtain ⟨g4, e3, h⟩ := bd1_inv h
  refine call_c_X2_goes_X13_13 F hK S e3 hl.1 (Nat.le_of_ble_eq_true rfl) ⟨Nat.le_of_ble_eq_true rfl, Nat.le_of_ble_eq_true rfl⟩ ⟨Nat.zero_le _, Nat.zero_le _⟩ dX13_passes_6 (fun H locs S => ?_)
  cases h
  exact g_vret F hr hlk S dX13_passes_11
def vPasses (g : mS) (J c : Nat) (x : Int32) : Option mS := if cCl g J c = 4 then fc_X5_passes g J c x else if cCl g J c = 5 then fc_X6_passes g J c x else if cCl g J c = 6 then fc_X7_passes g J c x else if cCl g J c = 7 then fc_X8_passes g J c x else if cCl g J c = 8 then fc_X12_passes g J c x else fc_X13_passes g J c x
theorem vPasses_4 {g : mS} {J c : Nat} {x : Int32} (t : cCl g J c = 4) : vPasses g J c x = fc_X5_passes g J c x := by simp [vPasses, t]
theorem vPasses_5 {g : mS} {J c : Nat} {x : Int32} (t : cCl g J c = 5) : vPasses g J c x = fc_X6_passes g J c x := by simp [vPasses, t]
theorem vPasses_6 {g : mS} {J c : Nat} {x : Int32} (t : cCl g J c = 6) : vPasses g J c x = fc_X7_passes g J c x := by simp [vPasses, t]
theorem vPasses_7 {g : mS} {J c : Nat} {x : Int32} (t : cCl g J c = 7) : vPasses g J c x = fc_X8_passes g J c x := by simp [vPasses, t]
theorem vPasses_8 {g : mS} {J c : Nat} {x : Int32} (t : cCl g J c = 8) : vPasses g J c x = fc_X12_passes g J c x := by simp [vPasses, t]
theorem vPasses_9 {g : mS} {J c : Nat} {x : Int32} (t : cCl g J c = 9) : vPasses g J c x = fc_X13_passes g J c x := by simp [vPasses, t]
theorem cv_passes_X2_57 {p : Program} {l : Launch} {e : Env} {s : State} {m : MethodId} {args : Array Value} {below : List Frame} {meth : Method} {c : Code} {R : Room} {H : Heap} {locs : List Loc} {cells slots pc nL : Nat} {Q : State → Prop} {ls : Array Slot} {rest : List Value} {cc : ByteArray} {E : cEnv} {g : mS} {J k0 : Nat} {x1 : Int32} {gZ : mS} (F : CallFix p m c cc nL s args lw_all RX2) (hK : cK E s) (S : gS (wA E) s.heap (cP E g) H locs) (hJ : okW E J) (hk : k0 < 100) (h : vPasses g J k0 x1 = some gZ) (hls : ls.size = nL) (hW : (rest.map fun v => v.category).sum ≤ 8) (hR : 3 + 1 ≤ R.frames ∧ 8 + (3 + 11) + 68 ≤ R.locals) (hf : cells ≤ R.cells ∧ slots ≤ R.slots) (hdg : decode cc pc = .ok (.invokevirtual 57, 3))
    (kk : ∀ (H1 : Heap) (locs1 : List Loc), gS (wA E) s.heap (cP E gZ) H1 locs1 → W p l e R s m args below meth c H1 locs1 cells slots Q (F0 m (pc + 3) ls (rest))) : W p l e R s m args below meth c H locs cells slots Q (F0 m pc ls (.ref (cad E 0) :: .int x1 :: .ref (coa E J k0) :: rest)) := by
  rcases cAt_any S.1 hJ hk with ⟨t, z⟩ | ⟨t, z⟩ | ⟨t, z⟩ | ⟨t, z⟩ | ⟨t, z⟩ | ⟨t, z⟩
  · exact g_kv (g_runU F hK (cKm E) S (met_c_X5_passes l E g J k0 x1 hJ hk t gZ (by rw [vPasses_4 t] at h; exact h)) (va_cwA 2 F.2.2.2.2 (gw_U q428 q430 q434 q435 q117 q436) rfl rfl rfl (hK.2.2.2.2.1 _ (List.mem_of_getElem? (i := 1) rfl)) (by decide +kernel) ⟨Nat.le_trans (Nat.le_of_ble_eq_true rfl) hR.1, Nat.le_trans (Nat.le_of_ble_eq_true rfl) hR.2⟩) (va_recv hK.1 (va_P1 z) (ci := 4) (q0 := 0) rfl rfl) rfl hls rfl hW hdg hf) S kk
  · exact g_kv (g_runU F hK (cKm E) S (met_c_X6_passes l E g J k0 x1 hJ hk t gZ (by rw [vPasses_5 t] at h; exact h)) (va_cwA 2 F.2.2.2.2 (gw_U q428 q430 q460 q461 q118 q462) rfl rfl rfl (hK.2.2.2.2.1 _ (List.mem_of_getElem? (i := 1) rfl)) (by decide +kernel) ⟨Nat.le_trans (Nat.le_of_ble_eq_true rfl) hR.1, Nat.le_trans (Nat.le_of_ble_eq_true rfl) hR.2⟩) (va_recv hK.1 (va_P1 z) (ci := 5) (q0 := 0) rfl rfl) rfl hls rfl hW hdg hf) S kk
  · exact g_kv (g_runU F hK (cKm E) S (met_c_X7_passes l E g J k0 x1 hJ hk t gZ (by rw [vPasses_6 t] at h; exact h)) (va_cwA 2 F.2.2.2.2 (gw_U q428 q430 q450 q451 q119 q452) rfl rfl rfl (hK.2.2.2.2.1 _ (List.mem_of_getElem? (i := 1) rfl)) (by decide +kernel) ⟨Nat.le_trans (Nat.le_of_ble_eq_true rfl) hR.1, Nat.le_trans (Nat.le_of_ble_eq_true rfl) hR.2⟩) (va_recv hK.1 (va_P1 z) (ci := 6) (q0 := 0) rfl rfl) rfl hls rfl hW hdg hf) S kk
  · exact g_kv (g_runU F hK (cKm E) S (met_c_X8_passes l E g J k0 x1 hJ hk t gZ (by rw [vPasses_7 t] at h; exact h)) (va_cwA 2 F.2.2.2.2 (gw_U q428 q430 q431 q432 q120 q433) rfl rfl rfl (hK.2.2.2.2.1 _ (List.mem_of_getElem? (i := 1) rfl)) (by decide +kernel) ⟨Nat.le_trans (Nat.le_of_ble_eq_true rfl) hR.1, Nat.le_trans (Nat.le_of_ble_eq_true rfl) hR.2⟩) (va_recv hK.1 (va_P1 z) (ci := 7) (q0 := 0) rfl rfl) rfl hls rfl hW hdg hf) S kk
  · exact g_kv (g_runU F hK (cKm E) S (met_c_X12_passes l E g J k0 x1 hJ hk t gZ (by rw [vPasses_8 t] at h; exact h)) (va_cwA 2 F.2.2.2.2 (gw_U q428 q430 q445 q446 q140 q447) rfl rfl rfl (hK.2.2.2.2.1 _ (List.mem_of_getElem? (i := 1) rfl)) (by decide +kernel) ⟨Nat.le_trans (Nat.le_of_ble_eq_true rfl) hR.1, Nat.le_trans (Nat.le_of_ble_eq_true rfl) hR.2⟩) (va_recv hK.1 (va_P1 z) (ci := 8) (q0 := 0) rfl rfl) rfl hls rfl hW hdg hf) S kk
  · exact g_kv (g_runU F hK (cKm E) S (met_c_X13_passes l E g J k0 x1 hJ hk t gZ (by rw [vPasses_9 t] at h; exact h)) (va_cwA 2 F.2.2.2.2 (gw_U q428 q430 q455 q456 q141 q457) rfl rfl rfl (hK.2.2.2.2.1 _ (List.mem_of_getElem? (i := 1) rfl)) (by decide +kernel) ⟨Nat.le_trans (Nat.le_of_ble_eq_true rfl) hR.1, Nat.le_trans (Nat.le_of_ble_eq_true rfl) hR.2⟩) (va_recv hK.1 (va_P1 z) (ci := 9) (q0 := 0) rfl rfl) rfl hls rfl hW hdg hf) S kk
