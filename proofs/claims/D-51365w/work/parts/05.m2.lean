/-! THE MODEL, extracted: functions and walks (printed by gen/emit_model.py) -/
set_option maxRecDepth 100000
abbrev rm_m_putPortals : Room := { frames := 9, cells := 0, slots := 0, locals := 210 }
def fm_putPortals (g : mS) (x1 : Int32) (x2 : Int32) (x3 : Int32) (x4 : Int32) : Option (Int32 × mS) :=
  bd1 (wrF g 0 0) fun g1 =>
  bd2 (fm_noCell g1 x1 x2) fun v4 g5 =>
  if v4 = 0 then
    bd2 (fm_noCell g5 x3 x4) fun v8 g9 =>
    if v8 = 0 then
      if x1 = x3 then
        if x2 = x4 then
          bd1 (wrF g9 0 2) fun g47 =>
          some (0, g47)
        else
          bd1 (fm_noLay g9 x1 x2) fun v31 =>
          bd1 ((
            if v31 = 0 then
              bd1 (fm_noLay g9 x3 x4) fun v34 =>
              some v34
            else
              some v31) : Option (Int32)) fun v35 =>
          if v35 = 0 then
            bd1 (fm_count g9 6) fun v38 =>
            if v38 = 8 then
              some ((-4), g9)
            else
              bd1 (fm_keepPast g9 1) fun g41 =>
              bd1 (fm_layPair g41 x1 x2 x3 x4) fun g43 =>
              bd1 (fm_count g43 6) fun v45 =>
              some ((v45 / 2), g43)
          else
            some ((-v35), g9)
      else
        bd1 (fm_noLay g9 x1 x2) fun v13 =>
        bd1 ((
          if v13 = 0 then
            bd1 (fm_noLay g9 x3 x4) fun v16 =>
            some v16
          else
            some v13) : Option (Int32)) fun v17 =>
        if v17 = 0 then
          bd1 (fm_count g9 6) fun v20 =>
          if v20 = 8 then
            some ((-4), g9)
          else
            bd1 (fm_keepPast g9 1) fun g23 =>
            bd1 (fm_layPair g23 x1 x2 x3 x4) fun g25 =>
            bd1 (fm_count g25 6) fun v27 =>
            some ((v27 / 2), g25)
        else
          some ((-v17), g9)
    else
      some (0, g9)
  else
    some (0, g5)
set_option maxHeartbeats 4000000 in
set_option maxRecDepth 100000 in
theorem met_m_putPortals (l : Launch) (E : mEnv) (hE : mInj E) (g : mS) (x1 : Int32) (x2 : Int32) (x3 : Int32) (x4 : Int32) (r : Int32) (gZ : mS) (h : fm_putPortals g x1 x2 x3 x4 = some (r, gZ)) : Met l yX9_putPortals (ws_ yX9_putPortals cX9_putPortals 6 (some .int)) rm_m_putPortals (va_Pc [.ref (mad E 0), .int x1, .int x2, .int x3, .int x4] (gPre (mK E) (mP E g))) (gQi r (mP E gZ) (mA E)) 0 0 (mA E) := by
  refine g_met (own := RX9) (by decide) rfl (Nat.le_of_ble_eq_true rfl) ?_
  intro p e s m args below meth c ls F hr hlk hK S hl
  have hx := F.1
  have hb := F.2.1
  have hl : lv_has ls 6 [(0, .ref (mad E 0)), (1, .int x1), (2, .int x2), (3, .int x3), (4, .int x4)] := hl
  unfold fm_putPortals at h
  refine lv_aload_n hx hb dX9_putPortals_0 rfl (lv_at hl 0 rfl) ?_
  refine lv_iconst (v := 0) hx hb dX9_putPortals_1 (by decide) ?_
  obtain ⟨g1, e2, h⟩ := bd1_inv h
  refine m_put0 hE F hK S e2 dX9_putPortals_2 (fun H locs S => ?_)
  refine lv_aload_n hx hb dX9_putPortals_5 rfl (lv_at hl 0 rfl) ?_
  refine lv_iload_n hx hb dX9_putPortals_6 rfl (lv_at hl 1 rfl) ?_
  refine lv_iload_n hx hb dX9_putPortals_7 rfl (lv_at hl 2 rfl) ?_
  obtain ⟨v4, g5, e3, h⟩ := bd2_inv h
  refine call_m_noCell hE F hK S e3 hl.1 (Nat.le_of_ble_eq_true rfl) ⟨Nat.le_of_ble_eq_true rfl, Nat.le_of_ble_eq_true rfl⟩ ⟨Nat.zero_le _, Nat.zero_le _⟩ dX9_putPortals_8 (fun H locs S => ?_)
  refine lv_if_ne (tgt := 24) hx hb dX9_putPortals_11 (by decide) (fun c6 => ?_) (fun c6 => ?_)
  · rw [if_neg c6] at h
    refine lv_iconst (v := 0) hx hb dX9_putPortals_24 (by decide) ?_
    cases h
    exact g_iret F hr hlk S rfl dX9_putPortals_25
  · rw [if_pos c6] at h
    refine lv_aload_n hx hb dX9_putPortals_14 rfl (lv_at hl 0 rfl) ?_
    refine lv_iload_n hx hb dX9_putPortals_15 rfl (lv_at hl 3 rfl) ?_
    refine lv_iload hx hb dX9_putPortals_16 (lv_at hl 4 rfl) ?_
    obtain ⟨v8, g9, e7, h⟩ := bd2_inv h
    refine call_m_noCell hE F hK S e7 hl.1 (Nat.le_of_ble_eq_true rfl) ⟨Nat.le_of_ble_eq_true rfl, Nat.le_of_ble_eq_true rfl⟩ ⟨Nat.zero_le _, Nat.zero_le _⟩ dX9_putPortals_18 (fun H locs S => ?_)
    refine lv_if_eq (tgt := 26) hx hb dX9_putPortals_21 (by decide) (fun c10 => ?_) (fun c10 => ?_)
    · rw [if_pos c10] at h
      refine lv_iload_n hx hb dX9_putPortals_26 rfl (lv_at hl 1 rfl) ?_
      refine lv_iload_n hx hb dX9_putPortals_27 rfl (lv_at hl 3 rfl) ?_
      refine lv_icmp_ne (tgt := 44) hx hb dX9_putPortals_28 (by decide) (fun c11 => ?_) (fun c11 => ?_)
      · rw [if_neg c11] at h
        refine lv_aload_n hx hb dX9_putPortals_44 rfl (lv_at hl 0 rfl) ?_
        refine lv_iload_n hx hb dX9_putPortals_45 rfl (lv_at hl 1 rfl) ?_
        refine lv_iload_n hx hb dX9_putPortals_46 rfl (lv_at hl 2 rfl) ?_
        obtain ⟨v13, e12, h⟩ := bd1_inv h
        refine call_m_noLay hE F hK S e12 hl.1 (Nat.le_of_ble_eq_true rfl) ⟨Nat.le_of_ble_eq_true rfl, Nat.le_of_ble_eq_true rfl⟩ ⟨Nat.zero_le _, Nat.zero_le _⟩ dX9_putPortals_47 (fun H locs S => ?_)
        refine lv_istore (lv' := [(5, .int v13), (0, .ref (mad E 0)), (1, .int x1), (2, .int x2), (3, .int x3), (4, .int x4)]) hx hb dX9_putPortals_50 hl (by decide) rfl (fun ls hl => ?_)
        refine lv_iload hx hb dX9_putPortals_52 (lv_at hl 0 rfl) ?_
        obtain ⟨v17, hB, h⟩ := bd1_inv h
        have hJ69 : ∀ (H : Heap) (locs : List Loc) (ls : Array Slot), gS (mA E) s.heap (mP E g9) H locs → lv_has ls 6 [(0, .ref (mad E 0)), (1, .int x1), (2, .int x2), (3, .int x3), (4, .int x4)] → W p l e rm_m_putPortals s m args below meth c H locs 0 0 (MQ below (gQi r (mP E gZ) (mA E)) args s 0 0 (mA E)) (F0 m 69 ls [.int v17]) := by
          intro H locs ls S hl
          refine lv_istore (lv' := [(5, .int v17), (0, .ref (mad E 0)), (1, .int x1), (2, .int x2), (3, .int x3), (4, .int x4)]) hx hb dX9_putPortals_69 hl (by decide) rfl (fun ls hl => ?_)
          refine lv_iload hx hb dX9_putPortals_71 (lv_at hl 0 rfl) ?_
          refine lv_if_eq (tgt := 80) hx hb dX9_putPortals_73 (by decide) (fun c18 => ?_) (fun c18 => ?_)
          · rw [if_pos c18] at h
            refine lv_aload_n hx hb dX9_putPortals_80 rfl (lv_at hl 1 rfl) ?_
            refine lv_bipush (v := 6) hx hb dX9_putPortals_81 (by decide) ?_
            obtain ⟨v20, e19, h⟩ := bd1_inv h
            refine call_m_count hE F hK S e19 hl.1 (Nat.le_of_ble_eq_true rfl) ⟨Nat.le_of_ble_eq_true rfl, Nat.le_of_ble_eq_true rfl⟩ ⟨Nat.zero_le _, Nat.zero_le _⟩ dX9_putPortals_83 (fun H locs S => ?_)
            refine lv_bipush (v := 8) hx hb dX9_putPortals_86 (by decide) ?_
            refine lv_icmp_ne (tgt := 94) hx hb dX9_putPortals_88 (by decide) (fun c21 => ?_) (fun c21 => ?_)
            · rw [if_neg c21] at h
              refine lv_aload_n hx hb dX9_putPortals_94 rfl (lv_at hl 1 rfl) ?_
              refine lv_aload_n hx hb dX9_putPortals_95 rfl (lv_at hl 1 rfl) ?_
              refine m_get1 F hK S dX9_putPortals_96 ?_
              obtain ⟨g23, e22, h⟩ := bd1_inv h
              refine call_m_keepPast hE F hK S e22 hl.1 (Nat.le_of_ble_eq_true rfl) ⟨Nat.le_of_ble_eq_true rfl, Nat.le_of_ble_eq_true rfl⟩ ⟨Nat.zero_le _, Nat.zero_le _⟩ dX9_putPortals_99 (fun H locs S => ?_)
              refine lv_aload_n hx hb dX9_putPortals_102 rfl (lv_at hl 1 rfl) ?_
              refine lv_iload_n hx hb dX9_putPortals_103 rfl (lv_at hl 2 rfl) ?_
              refine lv_iload_n hx hb dX9_putPortals_104 rfl (lv_at hl 3 rfl) ?_
              refine lv_iload_n hx hb dX9_putPortals_105 rfl (lv_at hl 4 rfl) ?_
              refine lv_iload hx hb dX9_putPortals_106 (lv_at hl 5 rfl) ?_
              obtain ⟨g25, e24, h⟩ := bd1_inv h
              refine call_m_layPair hE F hK S e24 hl.1 (Nat.le_of_ble_eq_true rfl) ⟨Nat.le_of_ble_eq_true rfl, Nat.le_of_ble_eq_true rfl⟩ ⟨Nat.zero_le _, Nat.zero_le _⟩ dX9_putPortals_108 (fun H locs S => ?_)
              refine lv_aload_n hx hb dX9_putPortals_111 rfl (lv_at hl 1 rfl) ?_
              refine lv_bipush (v := 6) hx hb dX9_putPortals_112 (by decide) ?_
              obtain ⟨v27, e26, h⟩ := bd1_inv h
              refine call_m_count hE F hK S e26 hl.1 (Nat.le_of_ble_eq_true rfl) ⟨Nat.le_of_ble_eq_true rfl, Nat.le_of_ble_eq_true rfl⟩ ⟨Nat.zero_le _, Nat.zero_le _⟩ dX9_putPortals_114 (fun H locs S => ?_)
              refine lv_iconst (v := 2) hx hb dX9_putPortals_117 (by decide) ?_
              refine lv_idiv hx hb dX9_putPortals_118 (by decide) ?_
              cases h
              exact g_iret F hr hlk S rfl dX9_putPortals_119
            · rw [if_pos c21] at h
              refine lv_bipush (v := (-4)) hx hb dX9_putPortals_91 (by decide) ?_
              cases h
              exact g_iret F hr hlk S rfl dX9_putPortals_93
          · rw [if_neg c18] at h
            refine lv_iload hx hb dX9_putPortals_76 (lv_at hl 0 rfl) ?_
            refine lv_ineg hx hb dX9_putPortals_78 ?_
            cases h
            exact g_iret F hr hlk S rfl dX9_putPortals_79
        clear h
        have h := hB
        clear hB
        refine lv_if_eq (tgt := 62) hx hb dX9_putPortals_54 (by decide) (fun c14 => ?_) (fun c14 => ?_)
        · rw [if_pos c14] at h
          refine lv_aload_n hx hb dX9_putPortals_62 rfl (lv_at hl 1 rfl) ?_
          refine lv_iload_n hx hb dX9_putPortals_63 rfl (lv_at hl 4 rfl) ?_
          refine lv_iload hx hb dX9_putPortals_64 (lv_at hl 5 rfl) ?_
          obtain ⟨v16, e15, h⟩ := bd1_inv h
          refine call_m_noLay hE F hK S e15 hl.1 (Nat.le_of_ble_eq_true rfl) ⟨Nat.le_of_ble_eq_true rfl, Nat.le_of_ble_eq_true rfl⟩ ⟨Nat.zero_le _, Nat.zero_le _⟩ dX9_putPortals_66 (fun H locs S => ?_)
          cases h
          exact hJ69 _ _ _ S (lv_sub hl [1, 2, 3, 4, 5] rfl)
        · rw [if_neg c14] at h
          refine lv_iload hx hb dX9_putPortals_57 (lv_at hl 0 rfl) ?_
          refine lv_goto (tgt := 69) hx hb dX9_putPortals_59 (by decide) ?_
          cases h
          exact hJ69 _ _ _ S (lv_sub hl [1, 2, 3, 4, 5] rfl)
      · rw [if_pos c11] at h
        refine lv_iload_n hx hb dX9_putPortals_31 rfl (lv_at hl 2 rfl) ?_
        refine lv_iload hx hb dX9_putPortals_32 (lv_at hl 4 rfl) ?_
        refine lv_icmp_ne (tgt := 44) hx hb dX9_putPortals_34 (by decide) (fun c29 => ?_) (fun c29 => ?_)
        · rw [if_neg c29] at h
          refine lv_aload_n hx hb dX9_putPortals_44 rfl (lv_at hl 0 rfl) ?_
          refine lv_iload_n hx hb dX9_putPortals_45 rfl (lv_at hl 1 rfl) ?_
          refine lv_iload_n hx hb dX9_putPortals_46 rfl (lv_at hl 2 rfl) ?_
          obtain ⟨v31, e30, h⟩ := bd1_inv h
          refine call_m_noLay hE F hK S e30 hl.1 (Nat.le_of_ble_eq_true rfl) ⟨Nat.le_of_ble_eq_true rfl, Nat.le_of_ble_eq_true rfl⟩ ⟨Nat.zero_le _, Nat.zero_le _⟩ dX9_putPortals_47 (fun H locs S => ?_)
          refine lv_istore (lv' := [(5, .int v31), (0, .ref (mad E 0)), (1, .int x1), (2, .int x2), (3, .int x3), (4, .int x4)]) hx hb dX9_putPortals_50 hl (by decide) rfl (fun ls hl => ?_)
          refine lv_iload hx hb dX9_putPortals_52 (lv_at hl 0 rfl) ?_
          obtain ⟨v35, hB, h⟩ := bd1_inv h
          have hJ69 : ∀ (H : Heap) (locs : List Loc) (ls : Array Slot), gS (mA E) s.heap (mP E g9) H locs → lv_has ls 6 [(0, .ref (mad E 0)), (1, .int x1), (2, .int x2), (3, .int x3), (4, .int x4)] → W p l e rm_m_putPortals s m args below meth c H locs 0 0 (MQ below (gQi r (mP E gZ) (mA E)) args s 0 0 (mA E)) (F0 m 69 ls [.int v35]) := by
            intro H locs ls S hl
            refine lv_istore (lv' := [(5, .int v35), (0, .ref (mad E 0)), (1, .int x1), (2, .int x2), (3, .int x3), (4, .int x4)]) hx hb dX9_putPortals_69 hl (by decide) rfl (fun ls hl => ?_)
            refine lv_iload hx hb dX9_putPortals_71 (lv_at hl 0 rfl) ?_
            refine lv_if_eq (tgt := 80) hx hb dX9_putPortals_73 (by decide) (fun c36 => ?_) (fun c36 => ?_)
            · rw [if_pos c36] at h
              refine lv_aload_n hx hb dX9_putPortals_80 rfl (lv_at hl 1 rfl) ?_
              refine lv_bipush (v := 6) hx hb dX9_putPortals_81 (by decide) ?_
              obtain ⟨v38, e37, h⟩ := bd1_inv h
              refine call_m_count hE F hK S e37 hl.1 (Nat.le_of_ble_eq_true rfl) ⟨Nat.le_of_ble_eq_true rfl, Nat.le_of_ble_eq_true rfl⟩ ⟨Nat.zero_le _, Nat.zero_le _⟩ dX9_putPortals_83 (fun H locs S => ?_)
              refine lv_bipush (v := 8) hx hb dX9_putPortals_86 (by decide) ?_
              refine lv_icmp_ne (tgt := 94) hx hb dX9_putPortals_88 (by decide) (fun c39 => ?_) (fun c39 => ?_)
              · rw [if_neg c39] at h
                refine lv_aload_n hx hb dX9_putPortals_94 rfl (lv_at hl 1 rfl) ?_
                refine lv_aload_n hx hb dX9_putPortals_95 rfl (lv_at hl 1 rfl) ?_
                refine m_get1 F hK S dX9_putPortals_96 ?_
                obtain ⟨g41, e40, h⟩ := bd1_inv h
                refine call_m_keepPast hE F hK S e40 hl.1 (Nat.le_of_ble_eq_true rfl) ⟨Nat.le_of_ble_eq_true rfl, Nat.le_of_ble_eq_true rfl⟩ ⟨Nat.zero_le _, Nat.zero_le _⟩ dX9_putPortals_99 (fun H locs S => ?_)
                refine lv_aload_n hx hb dX9_putPortals_102 rfl (lv_at hl 1 rfl) ?_
                refine lv_iload_n hx hb dX9_putPortals_103 rfl (lv_at hl 2 rfl) ?_
                refine lv_iload_n hx hb dX9_putPortals_104 rfl (lv_at hl 3 rfl) ?_
                refine lv_iload_n hx hb dX9_putPortals_105 rfl (lv_at hl 4 rfl) ?_
                refine lv_iload hx hb dX9_putPortals_106 (lv_at hl 5 rfl) ?_
                obtain ⟨g43, e42, h⟩ := bd1_inv h
                refine call_m_layPair hE F hK S e42 hl.1 (Nat.le_of_ble_eq_true rfl) ⟨Nat.le_of_ble_eq_true rfl, Nat.le_of_ble_eq_true rfl⟩ ⟨Nat.zero_le _, Nat.zero_le _⟩ dX9_putPortals_108 (fun H locs S => ?_)
                refine lv_aload_n hx hb dX9_putPortals_111 rfl (lv_at hl 1 rfl) ?_
                refine lv_bipush (v := 6) hx hb dX9_putPortals_112 (by decide) ?_
                obtain ⟨v45, e44, h⟩ := bd1_inv h
                refine call_m_count hE F hK S e44 hl.1 (Nat.le_of_ble_eq_true rfl) ⟨Nat.le_of_ble_eq_true rfl, Nat.le_of_ble_eq_true rfl⟩ ⟨Nat.zero_le _, Nat.zero_le _⟩ dX9_putPortals_114 (fun H locs S => ?_)
                refine lv_iconst (v := 2) hx hb dX9_putPortals_117 (by decide) ?_
                refine lv_idiv hx hb dX9_putPortals_118 (by decide) ?_
                cases h
                exact g_iret F hr hlk S rfl dX9_putPortals_119
              · rw [if_pos c39] at h
                refine lv_bipush (v := (-4)) hx hb dX9_putPortals_91 (by decide) ?_
                cases h
                exact g_iret F hr hlk S rfl dX9_putPortals_93
            · rw [if_neg c36] at h
              refine lv_iload hx hb dX9_putPortals_76 (lv_at hl 0 rfl) ?_
              refine lv_ineg hx hb dX9_putPortals_78 ?_
              cases h
              exact g_iret F hr hlk S rfl dX9_putPortals_79
          clear h
          have h := hB
          clear hB
          refine lv_if_eq (tgt := 62) hx hb dX9_putPortals_54 (by decide) (fun c32 => ?_) (fun c32 => ?_)
          · rw [if_pos c32] at h
            refine lv_aload_n hx hb dX9_putPortals_62 rfl (lv_at hl 1 rfl) ?_
            refine lv_iload_n hx hb dX9_putPortals_63 rfl (lv_at hl 4 rfl) ?_
            refine lv_iload hx hb dX9_putPortals_64 (lv_at hl 5 rfl) ?_
            obtain ⟨v34, e33, h⟩ := bd1_inv h
            refine call_m_noLay hE F hK S e33 hl.1 (Nat.le_of_ble_eq_true rfl) ⟨Nat.le_of_ble_eq_true rfl, Nat.le_of_ble_eq_true rfl⟩ ⟨Nat.zero_le _, Nat.zero_le _⟩ dX9_putPortals_66 (fun H locs S => ?_)
            cases h
            exact hJ69 _ _ _ S (lv_sub hl [1, 2, 3, 4, 5] rfl)
          · rw [if_neg c32] at h
            refine lv_iload hx hb dX9_putPortals_57 (lv_at hl 0 rfl) ?_
            refine lv_goto (tgt := 69) hx hb dX9_putPortals_59 (by decide) ?_
            cases h
            exact hJ69 _ _ _ S (lv_sub hl [1, 2, 3, 4, 5] rfl)
        · rw [if_pos c29] at h
          refine lv_aload_n hx hb dX9_putPortals_37 rfl (lv_at hl 0 rfl) ?_
          refine lv_iconst (v := 2) hx hb dX9_putPortals_38 (by decide) ?_
          obtain ⟨g47, e48, h⟩ := bd1_inv h
          refine m_put0 hE F hK S e48 dX9_putPortals_39 (fun H locs S => ?_)
          refine lv_iconst (v := 0) hx hb dX9_putPortals_42 (by decide) ?_
          cases h
          exact g_iret F hr hlk S rfl dX9_putPortals_43
    · rw [if_neg c10] at h
      refine lv_iconst (v := 0) hx hb dX9_putPortals_24 (by decide) ?_
      cases h
      exact g_iret F hr hlk S rfl dX9_putPortals_25
abbrev rm_m_clear : Room := { frames := 8, cells := 0, slots := 0, locals := 186 }
def fm_clear (g : mS) (x1 : Int32) (x2 : Int32) : Option (Int32 × mS) :=
  bd1 (wrF g 0 0) fun g1 =>
  bd2 (fm_noCell g1 x1 x2) fun v4 g5 =>
  if v4 = 0 then
    bd1 (fm_cellAt g5 x1 x2) fun v8 =>
    bd1 (fm_of g5 v8 0) fun v10 =>
    bd1 (rdI g5 1 4) fun v11 =>
    if v11 ≤ 0 then
      if v10 = 0 then
        some ((-5), g5)
      else
        if v10 = 7 then
          some ((-5), g5)
        else
          bd1 (fm_keepPast g5 1) fun g17 =>
          bd1 ((
            if v10 = 6 then
              bd1 (fm_of g17 v8 1) fun v20 =>
              bd1 (fm_empty g17 v20) fun g22 =>
              some g22
            else
              some g17) : Option (mS)) fun g23 =>
          bd1 (fm_empty g23 v8) fun g25 =>
          bd2 (fm_openAll g25) fun v27 g28 =>
          some (v10, g28)
    else
      some ((-2), g5)
  else
    some (0, g5)
set_option maxHeartbeats 4000000 in
set_option maxRecDepth 100000 in
theorem met_m_clear (l : Launch) (E : mEnv) (hE : mInj E) (g : mS) (x1 : Int32) (x2 : Int32) (r : Int32) (gZ : mS) (h : fm_clear g x1 x2 = some (r, gZ)) : Met l yX9_clear (ws_ yX9_clear cX9_clear 5 (some .int)) rm_m_clear (va_Pc [.ref (mad E 0), .int x1, .int x2] (gPre (mK E) (mP E g))) (gQi r (mP E gZ) (mA E)) 0 0 (mA E) := by
  refine g_met (own := RX9) (by decide) rfl (Nat.le_of_ble_eq_true rfl) ?_
  intro p e s m args below meth c ls F hr hlk hK S hl
  have hx := F.1
  have hb := F.2.1
  have hl : lv_has ls 5 [(0, .ref (mad E 0)), (1, .int x1), (2, .int x2)] := hl
  unfold fm_clear at h
  refine lv_aload_n hx hb dX9_clear_0 rfl (lv_at hl 0 rfl) ?_
  refine lv_iconst (v := 0) hx hb dX9_clear_1 (by decide) ?_
  obtain ⟨g1, e2, h⟩ := bd1_inv h
  refine m_put0 hE F hK S e2 dX9_clear_2 (fun H locs S => ?_)
  refine lv_aload_n hx hb dX9_clear_5 rfl (lv_at hl 0 rfl) ?_
  refine lv_iload_n hx hb dX9_clear_6 rfl (lv_at hl 1 rfl) ?_
  refine lv_iload_n hx hb dX9_clear_7 rfl (lv_at hl 2 rfl) ?_
  obtain ⟨v4, g5, e3, h⟩ := bd2_inv h
  refine call_m_noCell hE F hK S e3 hl.1 (Nat.le_of_ble_eq_true rfl) ⟨Nat.le_of_ble_eq_true rfl, Nat.le_of_ble_eq_true rfl⟩ ⟨Nat.zero_le _, Nat.zero_le _⟩ dX9_clear_8 (fun H locs S => ?_)
  refine lv_if_eq (tgt := 16) hx hb dX9_clear_11 (by decide) (fun c6 => ?_) (fun c6 => ?_)
  · rw [if_pos c6] at h
    refine lv_aload_n hx hb dX9_clear_16 rfl (lv_at hl 0 rfl) ?_
    refine lv_iload_n hx hb dX9_clear_17 rfl (lv_at hl 1 rfl) ?_
    refine lv_iload_n hx hb dX9_clear_18 rfl (lv_at hl 2 rfl) ?_
    obtain ⟨v8, e7, h⟩ := bd1_inv h
    refine call_m_cellAt hE F hK S e7 hl.1 (Nat.le_of_ble_eq_true rfl) ⟨Nat.le_of_ble_eq_true rfl, Nat.le_of_ble_eq_true rfl⟩ ⟨Nat.zero_le _, Nat.zero_le _⟩ dX9_clear_19 (fun H locs S => ?_)
    refine lv_istore_n (lv' := [(3, .int v8), (0, .ref (mad E 0)), (1, .int x1), (2, .int x2)]) hx hb dX9_clear_22 rfl hl (by decide) rfl (fun ls hl => ?_)
    refine lv_aload_n hx hb dX9_clear_23 rfl (lv_at hl 1 rfl) ?_
    refine lv_iload_n hx hb dX9_clear_24 rfl (lv_at hl 0 rfl) ?_
    refine lv_iconst (v := 0) hx hb dX9_clear_25 (by decide) ?_
    obtain ⟨v10, e9, h⟩ := bd1_inv h
    refine call_m_of hE F hK S e9 hl.1 (Nat.le_of_ble_eq_true rfl) ⟨Nat.le_of_ble_eq_true rfl, Nat.le_of_ble_eq_true rfl⟩ ⟨Nat.zero_le _, Nat.zero_le _⟩ dX9_clear_26 (fun H locs S => ?_)
    refine lv_istore (lv' := [(4, .int v10), (3, .int v8), (0, .ref (mad E 0)), (1, .int x1), (2, .int x2)]) hx hb dX9_clear_29 hl (by decide) rfl (fun ls hl => ?_)
    refine lv_aload_n hx hb dX9_clear_31 rfl (lv_at hl 2 rfl) ?_
    refine m_get1 F hK S dX9_clear_32 ?_
    refine lv_iconst (v := 4) hx hb dX9_clear_35 (by decide) ?_
    obtain ⟨v11, e12, h⟩ := bd1_inv h
    refine m_iald F hK S e12 dX9_clear_36 ?_
    refine lv_if_le (tgt := 43) hx hb dX9_clear_37 (by decide) (fun c13 => ?_) (fun c13 => ?_)
    · rw [if_pos c13] at h
      refine lv_iload hx hb dX9_clear_43 (lv_at hl 0 rfl) ?_
      refine lv_if_eq (tgt := 55) hx hb dX9_clear_45 (by decide) (fun c14 => ?_) (fun c14 => ?_)
      · rw [if_pos c14] at h
        refine lv_bipush (v := (-5)) hx hb dX9_clear_55 (by decide) ?_
        cases h
        exact g_iret F hr hlk S rfl dX9_clear_57
      · rw [if_neg c14] at h
        refine lv_iload hx hb dX9_clear_48 (lv_at hl 0 rfl) ?_
        refine lv_bipush (v := 7) hx hb dX9_clear_50 (by decide) ?_
        refine lv_icmp_ne (tgt := 58) hx hb dX9_clear_52 (by decide) (fun c15 => ?_) (fun c15 => ?_)
        · rw [if_neg c15] at h
          refine lv_aload_n hx hb dX9_clear_58 rfl (lv_at hl 2 rfl) ?_
          refine lv_aload_n hx hb dX9_clear_59 rfl (lv_at hl 2 rfl) ?_
          refine m_get1 F hK S dX9_clear_60 ?_
          obtain ⟨g17, e16, h⟩ := bd1_inv h
          refine call_m_keepPast hE F hK S e16 hl.1 (Nat.le_of_ble_eq_true rfl) ⟨Nat.le_of_ble_eq_true rfl, Nat.le_of_ble_eq_true rfl⟩ ⟨Nat.zero_le _, Nat.zero_le _⟩ dX9_clear_63 (fun H locs S => ?_)
          refine lv_iload hx hb dX9_clear_66 (lv_at hl 0 rfl) ?_
          refine lv_bipush (v := 6) hx hb dX9_clear_68 (by decide) ?_
          obtain ⟨g23, hB, h⟩ := bd1_inv h
          have hJ83 : ∀ (H : Heap) (locs : List Loc) (ls : Array Slot), gS (mA E) s.heap (mP E g23) H locs → lv_has ls 5 [(0, .ref (mad E 0)), (3, .int v8), (4, .int v10)] → W p l e rm_m_clear s m args below meth c H locs 0 0 (MQ below (gQi r (mP E gZ) (mA E)) args s 0 0 (mA E)) (F0 m 83 ls []) := by
            intro H locs ls S hl
            refine lv_aload_n hx hb dX9_clear_83 rfl (lv_at hl 0 rfl) ?_
            refine lv_iload_n hx hb dX9_clear_84 rfl (lv_at hl 1 rfl) ?_
            obtain ⟨g25, e24, h⟩ := bd1_inv h
            refine call_m_empty hE F hK S e24 hl.1 (Nat.le_of_ble_eq_true rfl) ⟨Nat.le_of_ble_eq_true rfl, Nat.le_of_ble_eq_true rfl⟩ ⟨Nat.zero_le _, Nat.zero_le _⟩ dX9_clear_85 (fun H locs S => ?_)
            refine lv_aload_n hx hb dX9_clear_88 rfl (lv_at hl 0 rfl) ?_
            obtain ⟨v27, g28, e26, h⟩ := bd2_inv h
            refine call_m_openAll hE F hK S e26 hl.1 (Nat.le_of_ble_eq_true rfl) ⟨Nat.le_of_ble_eq_true rfl, Nat.le_of_ble_eq_true rfl⟩ ⟨Nat.zero_le _, Nat.zero_le _⟩ dX9_clear_89 (fun H locs S => ?_)
            refine lv_pop hx hb dX9_clear_92 rfl ?_
            refine lv_iload hx hb dX9_clear_93 (lv_at hl 2 rfl) ?_
            cases h
            exact g_iret F hr hlk S rfl dX9_clear_95
          clear h
          have h := hB
          clear hB
          refine lv_icmp_ne (tgt := 83) hx hb dX9_clear_70 (by decide) (fun c18 => ?_) (fun c18 => ?_)
          · rw [if_neg c18] at h
            cases h
            exact hJ83 _ _ _ S (lv_sub hl [2, 1, 0] rfl)
          · rw [if_pos c18] at h
            refine lv_aload_n hx hb dX9_clear_73 rfl (lv_at hl 2 rfl) ?_
            refine lv_aload_n hx hb dX9_clear_74 rfl (lv_at hl 2 rfl) ?_
            refine lv_iload_n hx hb dX9_clear_75 rfl (lv_at hl 1 rfl) ?_
            refine lv_iconst (v := 1) hx hb dX9_clear_76 (by decide) ?_
            obtain ⟨v20, e19, h⟩ := bd1_inv h
            refine call_m_of hE F hK S e19 hl.1 (Nat.le_of_ble_eq_true rfl) ⟨Nat.le_of_ble_eq_true rfl, Nat.le_of_ble_eq_true rfl⟩ ⟨Nat.zero_le _, Nat.zero_le _⟩ dX9_clear_77 (fun H locs S => ?_)
            obtain ⟨g22, e21, h⟩ := bd1_inv h
            refine call_m_empty hE F hK S e21 hl.1 (Nat.le_of_ble_eq_true rfl) ⟨Nat.le_of_ble_eq_true rfl, Nat.le_of_ble_eq_true rfl⟩ ⟨Nat.zero_le _, Nat.zero_le _⟩ dX9_clear_80 (fun H locs S => ?_)
            cases h
            exact hJ83 _ _ _ S (lv_sub hl [2, 1, 0] rfl)
        · rw [if_pos c15] at h
          refine lv_bipush (v := (-5)) hx hb dX9_clear_55 (by decide) ?_
          cases h
          exact g_iret F hr hlk S rfl dX9_clear_57
    · rw [if_neg c13] at h
      refine lv_bipush (v := (-2)) hx hb dX9_clear_40 (by decide) ?_
      cases h
      exact g_iret F hr hlk S rfl dX9_clear_42
  · rw [if_neg c6] at h
    refine lv_iconst (v := 0) hx hb dX9_clear_14 (by decide) ?_
    cases h
    exact g_iret F hr hlk S rfl dX9_clear_15
abbrev rm_m_setLamp : Room := { frames := 8, cells := 0, slots := 0, locals := 186 }
def fm_setLamp (g : mS) (x1 : Int32) (x2 : Int32) (x3 : Int32) : Option (Int32 × mS) :=
  bd1 (wrF g 0 0) fun g1 =>
  bd2 (fm_noCell g1 x1 x2) fun v4 g5 =>
  if v4 = 0 then
    bd2 (fm_bad g5 x3 0 3 2) fun v8 g9 =>
    if v8 = 0 then
      bd1 (rdI g9 1 4) fun v11 =>
      if v11 ≤ 0 then
        bd1 (fm_cellAt g9 x1 x2) fun v15 =>
        bd1 (fm_of g9 v15 0) fun v17 =>
        if v17 = 0 then
          bd1 (fm_keepPast g9 1) fun g20 =>
          bd1 (fm_lamp g20) fun v22 =>
          bd1 (fm_of g20 v22 1) fun v24 =>
          bd1 (fm_lamp g20) fun v26 =>
          bd1 (fm_empty g20 v26) fun g28 =>
          bd1 (fm_lay g28 x1 x2 7 x3 0) fun g30 =>
          bd2 (fm_openAll g30) fun v32 g33 =>
          some (v24, g33)
        else
          if v17 = 7 then
            bd1 (fm_keepPast g9 1) fun g36 =>
            bd1 (fm_lamp g36) fun v38 =>
            bd1 (fm_of g36 v38 1) fun v40 =>
            bd1 (fm_lamp g36) fun v42 =>
            bd1 (fm_empty g36 v42) fun g44 =>
            bd1 (fm_lay g44 x1 x2 7 x3 0) fun g46 =>
            bd2 (fm_openAll g46) fun v48 g49 =>
            some (v40, g49)
          else
            some ((-3), g9)
      else
        some ((-2), g9)
    else
      some (0, g9)
  else
    some (0, g5)
set_option maxHeartbeats 4000000 in
set_option maxRecDepth 100000 in
theorem met_m_setLamp (l : Launch) (E : mEnv) (hE : mInj E) (g : mS) (x1 : Int32) (x2 : Int32) (x3 : Int32) (r : Int32) (gZ : mS) (h : fm_setLamp g x1 x2 x3 = some (r, gZ)) : Met l yX9_setLamp (ws_ yX9_setLamp cX9_setLamp 6 (some .int)) rm_m_setLamp (va_Pc [.ref (mad E 0), .int x1, .int x2, .int x3] (gPre (mK E) (mP E g))) (gQi r (mP E gZ) (mA E)) 0 0 (mA E) := by
  refine g_met (own := RX9) (by decide) rfl (Nat.le_of_ble_eq_true rfl) ?_
  intro p e s m args below meth c ls F hr hlk hK S hl
  have hx := F.1
  have hb := F.2.1
  have hl : lv_has ls 6 [(0, .ref (mad E 0)), (1, .int x1), (2, .int x2), (3, .int x3)] := hl
  unfold fm_setLamp at h
  refine lv_aload_n hx hb dX9_setLamp_0 rfl (lv_at hl 0 rfl) ?_
  refine lv_iconst (v := 0) hx hb dX9_setLamp_1 (by decide) ?_
  obtain ⟨g1, e2, h⟩ := bd1_inv h
  refine m_put0 hE F hK S e2 dX9_setLamp_2 (fun H locs S => ?_)
  refine lv_aload_n hx hb dX9_setLamp_5 rfl (lv_at hl 0 rfl) ?_
  refine lv_iload_n hx hb dX9_setLamp_6 rfl (lv_at hl 1 rfl) ?_
  refine lv_iload_n hx hb dX9_setLamp_7 rfl (lv_at hl 2 rfl) ?_
  obtain ⟨v4, g5, e3, h⟩ := bd2_inv h
  refine call_m_noCell hE F hK S e3 hl.1 (Nat.le_of_ble_eq_true rfl) ⟨Nat.le_of_ble_eq_true rfl, Nat.le_of_ble_eq_true rfl⟩ ⟨Nat.zero_le _, Nat.zero_le _⟩ dX9_setLamp_8 (fun H locs S => ?_)
  refine lv_if_ne (tgt := 25) hx hb dX9_setLamp_11 (by decide) (fun c6 => ?_) (fun c6 => ?_)
  · rw [if_neg c6] at h
    refine lv_iconst (v := 0) hx hb dX9_setLamp_25 (by decide) ?_
    cases h
    exact g_iret F hr hlk S rfl dX9_setLamp_26
  · rw [if_pos c6] at h
    refine lv_aload_n hx hb dX9_setLamp_14 rfl (lv_at hl 0 rfl) ?_
    refine lv_iload_n hx hb dX9_setLamp_15 rfl (lv_at hl 3 rfl) ?_
    refine lv_iconst (v := 0) hx hb dX9_setLamp_16 (by decide) ?_
    refine lv_iconst (v := 3) hx hb dX9_setLamp_17 (by decide) ?_
    refine lv_iconst (v := 2) hx hb dX9_setLamp_18 (by decide) ?_
    obtain ⟨v8, g9, e7, h⟩ := bd2_inv h
    refine call_m_bad hE F hK S e7 hl.1 (Nat.le_of_ble_eq_true rfl) ⟨Nat.le_of_ble_eq_true rfl, Nat.le_of_ble_eq_true rfl⟩ ⟨Nat.zero_le _, Nat.zero_le _⟩ dX9_setLamp_19 (fun H locs S => ?_)
    refine lv_if_eq (tgt := 27) hx hb dX9_setLamp_22 (by decide) (fun c10 => ?_) (fun c10 => ?_)
    · rw [if_pos c10] at h
      refine lv_aload_n hx hb dX9_setLamp_27 rfl (lv_at hl 0 rfl) ?_
      refine m_get1 F hK S dX9_setLamp_28 ?_
      refine lv_iconst (v := 4) hx hb dX9_setLamp_31 (by decide) ?_
      obtain ⟨v11, e12, h⟩ := bd1_inv h
      refine m_iald F hK S e12 dX9_setLamp_32 ?_
      refine lv_if_le (tgt := 39) hx hb dX9_setLamp_33 (by decide) (fun c13 => ?_) (fun c13 => ?_)
      · rw [if_pos c13] at h
        refine lv_aload_n hx hb dX9_setLamp_39 rfl (lv_at hl 0 rfl) ?_
        refine lv_aload_n hx hb dX9_setLamp_40 rfl (lv_at hl 0 rfl) ?_
        refine lv_iload_n hx hb dX9_setLamp_41 rfl (lv_at hl 1 rfl) ?_
        refine lv_iload_n hx hb dX9_setLamp_42 rfl (lv_at hl 2 rfl) ?_
        obtain ⟨v15, e14, h⟩ := bd1_inv h
        refine call_m_cellAt hE F hK S e14 hl.1 (Nat.le_of_ble_eq_true rfl) ⟨Nat.le_of_ble_eq_true rfl, Nat.le_of_ble_eq_true rfl⟩ ⟨Nat.zero_le _, Nat.zero_le _⟩ dX9_setLamp_43 (fun H locs S => ?_)
        refine lv_iconst (v := 0) hx hb dX9_setLamp_46 (by decide) ?_
        obtain ⟨v17, e16, h⟩ := bd1_inv h
        refine call_m_of hE F hK S e16 hl.1 (Nat.le_of_ble_eq_true rfl) ⟨Nat.le_of_ble_eq_true rfl, Nat.le_of_ble_eq_true rfl⟩ ⟨Nat.zero_le _, Nat.zero_le _⟩ dX9_setLamp_47 (fun H locs S => ?_)
        refine lv_istore (lv' := [(4, .int v17), (0, .ref (mad E 0)), (1, .int x1), (2, .int x2), (3, .int x3)]) hx hb dX9_setLamp_50 hl (by decide) rfl (fun ls hl => ?_)
        refine lv_iload hx hb dX9_setLamp_52 (lv_at hl 0 rfl) ?_
        refine lv_if_eq (tgt := 67) hx hb dX9_setLamp_54 (by decide) (fun c18 => ?_) (fun c18 => ?_)
        · rw [if_pos c18] at h
          refine lv_aload_n hx hb dX9_setLamp_67 rfl (lv_at hl 1 rfl) ?_
          refine lv_aload_n hx hb dX9_setLamp_68 rfl (lv_at hl 1 rfl) ?_
          refine m_get1 F hK S dX9_setLamp_69 ?_
          obtain ⟨g20, e19, h⟩ := bd1_inv h
          refine call_m_keepPast hE F hK S e19 hl.1 (Nat.le_of_ble_eq_true rfl) ⟨Nat.le_of_ble_eq_true rfl, Nat.le_of_ble_eq_true rfl⟩ ⟨Nat.zero_le _, Nat.zero_le _⟩ dX9_setLamp_72 (fun H locs S => ?_)
          refine lv_aload_n hx hb dX9_setLamp_75 rfl (lv_at hl 1 rfl) ?_
          refine lv_aload_n hx hb dX9_setLamp_76 rfl (lv_at hl 1 rfl) ?_
          obtain ⟨v22, e21, h⟩ := bd1_inv h
          refine call_m_lamp hE F hK S e21 hl.1 (Nat.le_of_ble_eq_true rfl) ⟨Nat.le_of_ble_eq_true rfl, Nat.le_of_ble_eq_true rfl⟩ ⟨Nat.zero_le _, Nat.zero_le _⟩ dX9_setLamp_77 (fun H locs S => ?_)
          refine lv_iconst (v := 1) hx hb dX9_setLamp_80 (by decide) ?_
          obtain ⟨v24, e23, h⟩ := bd1_inv h
          refine call_m_of hE F hK S e23 hl.1 (Nat.le_of_ble_eq_true rfl) ⟨Nat.le_of_ble_eq_true rfl, Nat.le_of_ble_eq_true rfl⟩ ⟨Nat.zero_le _, Nat.zero_le _⟩ dX9_setLamp_81 (fun H locs S => ?_)
          refine lv_istore (lv' := [(5, .int v24), (4, .int v17), (0, .ref (mad E 0)), (1, .int x1), (2, .int x2), (3, .int x3)]) hx hb dX9_setLamp_84 hl (by decide) rfl (fun ls hl => ?_)
          refine lv_aload_n hx hb dX9_setLamp_86 rfl (lv_at hl 2 rfl) ?_
          refine lv_aload_n hx hb dX9_setLamp_87 rfl (lv_at hl 2 rfl) ?_
          obtain ⟨v26, e25, h⟩ := bd1_inv h
          refine call_m_lamp hE F hK S e25 hl.1 (Nat.le_of_ble_eq_true rfl) ⟨Nat.le_of_ble_eq_true rfl, Nat.le_of_ble_eq_true rfl⟩ ⟨Nat.zero_le _, Nat.zero_le _⟩ dX9_setLamp_88 (fun H locs S => ?_)
          obtain ⟨g28, e27, h⟩ := bd1_inv h
          refine call_m_empty hE F hK S e27 hl.1 (Nat.le_of_ble_eq_true rfl) ⟨Nat.le_of_ble_eq_true rfl, Nat.le_of_ble_eq_true rfl⟩ ⟨Nat.zero_le _, Nat.zero_le _⟩ dX9_setLamp_91 (fun H locs S => ?_)
          refine lv_aload_n hx hb dX9_setLamp_94 rfl (lv_at hl 2 rfl) ?_
          refine lv_iload_n hx hb dX9_setLamp_95 rfl (lv_at hl 3 rfl) ?_
          refine lv_iload_n hx hb dX9_setLamp_96 rfl (lv_at hl 4 rfl) ?_
          refine lv_bipush (v := 7) hx hb dX9_setLamp_97 (by decide) ?_
          refine lv_iload_n hx hb dX9_setLamp_99 rfl (lv_at hl 5 rfl) ?_
          refine lv_iconst (v := 0) hx hb dX9_setLamp_100 (by decide) ?_
          obtain ⟨g30, e29, h⟩ := bd1_inv h
          refine call_m_lay hE F hK S e29 hl.1 (Nat.le_of_ble_eq_true rfl) ⟨Nat.le_of_ble_eq_true rfl, Nat.le_of_ble_eq_true rfl⟩ ⟨Nat.zero_le _, Nat.zero_le _⟩ dX9_setLamp_101 (fun H locs S => ?_)
          refine lv_aload_n hx hb dX9_setLamp_104 rfl (lv_at hl 2 rfl) ?_
          obtain ⟨v32, g33, e31, h⟩ := bd2_inv h
          refine call_m_openAll hE F hK S e31 hl.1 (Nat.le_of_ble_eq_true rfl) ⟨Nat.le_of_ble_eq_true rfl, Nat.le_of_ble_eq_true rfl⟩ ⟨Nat.zero_le _, Nat.zero_le _⟩ dX9_setLamp_105 (fun H locs S => ?_)
          refine lv_pop hx hb dX9_setLamp_108 rfl ?_
          refine lv_iload hx hb dX9_setLamp_109 (lv_at hl 0 rfl) ?_
          cases h
          exact g_iret F hr hlk S rfl dX9_setLamp_111
        · rw [if_neg c18] at h
          refine lv_iload hx hb dX9_setLamp_57 (lv_at hl 0 rfl) ?_
          refine lv_bipush (v := 7) hx hb dX9_setLamp_59 (by decide) ?_
          refine lv_icmp_eq (tgt := 67) hx hb dX9_setLamp_61 (by decide) (fun c34 => ?_) (fun c34 => ?_)
          · rw [if_pos c34] at h
            refine lv_aload_n hx hb dX9_setLamp_67 rfl (lv_at hl 1 rfl) ?_
            refine lv_aload_n hx hb dX9_setLamp_68 rfl (lv_at hl 1 rfl) ?_
            refine m_get1 F hK S dX9_setLamp_69 ?_
            obtain ⟨g36, e35, h⟩ := bd1_inv h
            refine call_m_keepPast hE F hK S e35 hl.1 (Nat.le_of_ble_eq_true rfl) ⟨Nat.le_of_ble_eq_true rfl, Nat.le_of_ble_eq_true rfl⟩ ⟨Nat.zero_le _, Nat.zero_le _⟩ dX9_setLamp_72 (fun H locs S => ?_)
            refine lv_aload_n hx hb dX9_setLamp_75 rfl (lv_at hl 1 rfl) ?_
            refine lv_aload_n hx hb dX9_setLamp_76 rfl (lv_at hl 1 rfl) ?_
            obtain ⟨v38, e37, h⟩ := bd1_inv h
            refine call_m_lamp hE F hK S e37 hl.1 (Nat.le_of_ble_eq_true rfl) ⟨Nat.le_of_ble_eq_true rfl, Nat.le_of_ble_eq_true rfl⟩ ⟨Nat.zero_le _, Nat.zero_le _⟩ dX9_setLamp_77 (fun H locs S => ?_)
            refine lv_iconst (v := 1) hx hb dX9_setLamp_80 (by decide) ?_
            obtain ⟨v40, e39, h⟩ := bd1_inv h
            refine call_m_of hE F hK S e39 hl.1 (Nat.le_of_ble_eq_true rfl) ⟨Nat.le_of_ble_eq_true rfl, Nat.le_of_ble_eq_true rfl⟩ ⟨Nat.zero_le _, Nat.zero_le _⟩ dX9_setLamp_81 (fun H locs S => ?_)
            refine lv_istore (lv' := [(5, .int v40), (4, .int v17), (0, .ref (mad E 0)), (1, .int x1), (2, .int x2), (3, .int x3)]) hx hb dX9_setLamp_84 hl (by decide) rfl (fun ls hl => ?_)
            refine lv_aload_n hx hb dX9_setLamp_86 rfl (lv_at hl 2 rfl) ?_
            refine lv_aload_n hx hb dX9_setLamp_87 rfl (lv_at hl 2 rfl) ?_
            obtain ⟨v42, e41, h⟩ := bd1_inv h
            refine call_m_lamp hE F hK S e41 hl.1 (Nat.le_of_ble_eq_true rfl) ⟨Nat.le_of_ble_eq_true rfl, Nat.le_of_ble_eq_true rfl⟩ ⟨Nat.zero_le _, Nat.zero_le _⟩ dX9_setLamp_88 (fun H locs S => ?_)
            obtain ⟨g44, e43, h⟩ := bd1_inv h
            refine call_m_empty hE F hK S e43 hl.1 (Nat.le_of_ble_eq_true rfl) ⟨Nat.le_of_ble_eq_true rfl, Nat.le_of_ble_eq_true rfl⟩ ⟨Nat.zero_le _, Nat.zero_le _⟩ dX9_setLamp_91 (fun H locs S => ?_)
            refine lv_aload_n hx hb dX9_setLamp_94 rfl (lv_at hl 2 rfl) ?_
            refine lv_iload_n hx hb dX9_setLamp_95 rfl (lv_at hl 3 rfl) ?_
            refine lv_iload_n hx hb dX9_setLamp_96 rfl (lv_at hl 4 rfl) ?_
            refine lv_bipush (v := 7) hx hb dX9_setLamp_97 (by decide) ?_
            refine lv_iload_n hx hb dX9_setLamp_99 rfl (lv_at hl 5 rfl) ?_
            refine lv_iconst (v := 0) hx hb dX9_setLamp_100 (by decide) ?_
            obtain ⟨g46, e45, h⟩ := bd1_inv h
            refine call_m_lay hE F hK S e45 hl.1 (Nat.le_of_ble_eq_true rfl) ⟨Nat.le_of_ble_eq_true rfl, Nat.le_of_ble_eq_true rfl⟩ ⟨Nat.zero_le _, Nat.zero_le _⟩ dX9_setLamp_101 (fun H locs S => ?_)
            refine lv_aload_n hx hb dX9_setLamp_104 rfl (lv_at hl 2 rfl) ?_
            obtain ⟨v48, g49, e47, h⟩ := bd2_inv h
            refine call_m_openAll hE F hK S e47 hl.1 (Nat.le_of_ble_eq_true rfl) ⟨Nat.le_of_ble_eq_true rfl, Nat.le_of_ble_eq_true rfl⟩ ⟨Nat.zero_le _, Nat.zero_le _⟩ dX9_setLamp_105 (fun H locs S => ?_)
            refine lv_pop hx hb dX9_setLamp_108 rfl ?_
            refine lv_iload hx hb dX9_setLamp_109 (lv_at hl 0 rfl) ?_
            cases h
            exact g_iret F hr hlk S rfl dX9_setLamp_111
          · rw [if_neg c34] at h
            refine lv_bipush (v := (-3)) hx hb dX9_setLamp_64 (by decide) ?_
            cases h
            exact g_iret F hr hlk S rfl dX9_setLamp_66
      · rw [if_neg c13] at h
        refine lv_bipush (v := (-2)) hx hb dX9_setLamp_36 (by decide) ?_
        cases h
        exact g_iret F hr hlk S rfl dX9_setLamp_38
    · rw [if_neg c10] at h
      refine lv_iconst (v := 0) hx hb dX9_setLamp_25 (by decide) ?_
      cases h
      exact g_iret F hr hlk S rfl dX9_setLamp_26
abbrev rm_m_set : Room := { frames := 2, cells := 0, slots := 0, locals := 45 }
def fm_set (g : mS) (x1 : Int32) (x2 : Int32) : Option (Int32 × mS) :=
  bd1 (wrF g 0 0) fun g1 =>
  bd1 ((
    if x1 = 0 then
      some 0
    else
      some 1) : Option (Int32)) fun v4 =>
  bd1 ((
    if x1 = 0 then
      some 3
    else
      some 99) : Option (Int32)) fun v6 =>
  bd2 (fm_bad g1 x2 v4 v6 1) fun v8 g9 =>
  if v8 = 0 then
    bd1 (rdI g9 1 4) fun v11 =>
    if v11 ≤ 0 then
      bd1 (fm_keepPast g9 1) fun g15 =>
      bd1 ((
        if x1 = 0 then
          some 2
        else
          some 3) : Option (Int32)) fun v17 =>
      bd1 (rdI g15 1 v17) fun v18 =>
      bd1 (wrI g15 1 v17 x2) fun g20 =>
      some (v18, g20)
    else
      some ((-2), g9)
  else
    some (0, g9)
set_option maxHeartbeats 4000000 in
set_option maxRecDepth 100000 in
theorem met_m_set (l : Launch) (E : mEnv) (hE : mInj E) (g : mS) (x1 : Int32) (x2 : Int32) (r : Int32) (gZ : mS) (h : fm_set g x1 x2 = some (r, gZ)) : Met l yX9_set (ws_ yX9_set cX9_set 5 (some .int)) rm_m_set (va_Pc [.ref (mad E 0), .int x1, .int x2] (gPre (mK E) (mP E g))) (gQi r (mP E gZ) (mA E)) 0 0 (mA E) := by
  refine g_met (own := RX9) (by decide) rfl (Nat.le_of_ble_eq_true rfl) ?_
  intro p e s m args below meth c ls F hr hlk hK S hl
  have hx := F.1
  have hb := F.2.1
  have hl : lv_has ls 5 [(0, .ref (mad E 0)), (1, .int x1), (2, .int x2)] := hl
  unfold fm_set at h
  refine lv_aload_n hx hb dX9_set_0 rfl (lv_at hl 0 rfl) ?_
  refine lv_iconst (v := 0) hx hb dX9_set_1 (by decide) ?_
  obtain ⟨g1, e2, h⟩ := bd1_inv h
  refine m_put0 hE F hK S e2 dX9_set_2 (fun H locs S => ?_)
  refine lv_aload_n hx hb dX9_set_5 rfl (lv_at hl 0 rfl) ?_
  refine lv_iload_n hx hb dX9_set_6 rfl (lv_at hl 2 rfl) ?_
  refine lv_iload_n hx hb dX9_set_7 rfl (lv_at hl 1 rfl) ?_
  obtain ⟨v4, hB, h⟩ := bd1_inv h
  have hJ16 : ∀ (H : Heap) (locs : List Loc) (ls : Array Slot), gS (mA E) s.heap (mP E g1) H locs → lv_has ls 5 [(0, .ref (mad E 0)), (1, .int x1), (2, .int x2)] → W p l e rm_m_set s m args below meth c H locs 0 0 (MQ below (gQi r (mP E gZ) (mA E)) args s 0 0 (mA E)) (F0 m 16 ls [.int v4, .int x2, .ref (mad E 0)]) := by
    intro H locs ls S hl
    refine lv_iload_n hx hb dX9_set_16 rfl (lv_at hl 1 rfl) ?_
    obtain ⟨v6, hB, h⟩ := bd1_inv h
    have hJ26 : ∀ (H : Heap) (locs : List Loc) (ls : Array Slot), gS (mA E) s.heap (mP E g1) H locs → lv_has ls 5 [(0, .ref (mad E 0)), (1, .int x1), (2, .int x2)] → W p l e rm_m_set s m args below meth c H locs 0 0 (MQ below (gQi r (mP E gZ) (mA E)) args s 0 0 (mA E)) (F0 m 26 ls [.int v6, .int v4, .int x2, .ref (mad E 0)]) := by
      intro H locs ls S hl
      refine lv_iconst (v := 1) hx hb dX9_set_26 (by decide) ?_
      obtain ⟨v8, g9, e7, h⟩ := bd2_inv h
      refine call_m_bad hE F hK S e7 hl.1 (Nat.le_of_ble_eq_true rfl) ⟨Nat.le_of_ble_eq_true rfl, Nat.le_of_ble_eq_true rfl⟩ ⟨Nat.zero_le _, Nat.zero_le _⟩ dX9_set_27 (fun H locs S => ?_)
      refine lv_if_eq (tgt := 35) hx hb dX9_set_30 (by decide) (fun c10 => ?_) (fun c10 => ?_)
      · rw [if_pos c10] at h
        refine lv_aload_n hx hb dX9_set_35 rfl (lv_at hl 0 rfl) ?_
        refine m_get1 F hK S dX9_set_36 ?_
        refine lv_iconst (v := 4) hx hb dX9_set_39 (by decide) ?_
        obtain ⟨v11, e12, h⟩ := bd1_inv h
        refine m_iald F hK S e12 dX9_set_40 ?_
        refine lv_if_le (tgt := 47) hx hb dX9_set_41 (by decide) (fun c13 => ?_) (fun c13 => ?_)
        · rw [if_pos c13] at h
          refine lv_aload_n hx hb dX9_set_47 rfl (lv_at hl 0 rfl) ?_
          refine lv_aload_n hx hb dX9_set_48 rfl (lv_at hl 0 rfl) ?_
          refine m_get1 F hK S dX9_set_49 ?_
          obtain ⟨g15, e14, h⟩ := bd1_inv h
          refine call_m_keepPast hE F hK S e14 hl.1 (Nat.le_of_ble_eq_true rfl) ⟨Nat.le_of_ble_eq_true rfl, Nat.le_of_ble_eq_true rfl⟩ ⟨Nat.zero_le _, Nat.zero_le _⟩ dX9_set_52 (fun H locs S => ?_)
          refine lv_iload_n hx hb dX9_set_55 rfl (lv_at hl 1 rfl) ?_
          obtain ⟨v17, hB, h⟩ := bd1_inv h
          have hJ64 : ∀ (H : Heap) (locs : List Loc) (ls : Array Slot), gS (mA E) s.heap (mP E g15) H locs → lv_has ls 5 [(0, .ref (mad E 0)), (2, .int x2)] → W p l e rm_m_set s m args below meth c H locs 0 0 (MQ below (gQi r (mP E gZ) (mA E)) args s 0 0 (mA E)) (F0 m 64 ls [.int v17]) := by
            intro H locs ls S hl
            refine lv_istore_n (lv' := [(3, .int v17), (0, .ref (mad E 0)), (2, .int x2)]) hx hb dX9_set_64 rfl hl (by decide) rfl (fun ls hl => ?_)
            refine lv_aload_n hx hb dX9_set_65 rfl (lv_at hl 1 rfl) ?_
            refine m_get1 F hK S dX9_set_66 ?_
            refine lv_iload_n hx hb dX9_set_69 rfl (lv_at hl 0 rfl) ?_
            obtain ⟨v18, e19, h⟩ := bd1_inv h
            refine m_iald F hK S e19 dX9_set_70 ?_
            refine lv_istore (lv' := [(4, .int v18), (3, .int v17), (0, .ref (mad E 0)), (2, .int x2)]) hx hb dX9_set_71 hl (by decide) rfl (fun ls hl => ?_)
            refine lv_aload_n hx hb dX9_set_73 rfl (lv_at hl 2 rfl) ?_
            refine m_get1 F hK S dX9_set_74 ?_
            refine lv_iload_n hx hb dX9_set_77 rfl (lv_at hl 1 rfl) ?_
            refine lv_iload_n hx hb dX9_set_78 rfl (lv_at hl 3 rfl) ?_
            obtain ⟨g20, e21, h⟩ := bd1_inv h
            refine m_iast hE F hK S e21 dX9_set_79 (fun H locs S => ?_)
            refine lv_iload hx hb dX9_set_80 (lv_at hl 0 rfl) ?_
            cases h
            exact g_iret F hr hlk S rfl dX9_set_82
          clear h
          have h := hB
          clear hB
          refine lv_if_eq (tgt := 63) hx hb dX9_set_56 (by decide) (fun c16 => ?_) (fun c16 => ?_)
          · rw [if_pos c16] at h
            refine lv_iconst (v := 2) hx hb dX9_set_63 (by decide) ?_
            cases h
            exact hJ64 _ _ _ S (lv_sub hl [0, 2] rfl)
          · rw [if_neg c16] at h
            refine lv_iconst (v := 3) hx hb dX9_set_59 (by decide) ?_
            refine lv_goto (tgt := 64) hx hb dX9_set_60 (by decide) ?_
            cases h
            exact hJ64 _ _ _ S (lv_sub hl [0, 2] rfl)
        · rw [if_neg c13] at h
          refine lv_bipush (v := (-2)) hx hb dX9_set_44 (by decide) ?_
          cases h
          exact g_iret F hr hlk S rfl dX9_set_46
      · rw [if_neg c10] at h
        refine lv_iconst (v := 0) hx hb dX9_set_33 (by decide) ?_
        cases h
        exact g_iret F hr hlk S rfl dX9_set_34
    clear h
    have h := hB
    clear hB
    refine lv_if_eq (tgt := 25) hx hb dX9_set_17 (by decide) (fun c5 => ?_) (fun c5 => ?_)
    · rw [if_pos c5] at h
      refine lv_iconst (v := 3) hx hb dX9_set_25 (by decide) ?_
      cases h
      exact hJ26 _ _ _ S (lv_sub hl [0, 1, 2] rfl)
    · rw [if_neg c5] at h
      refine lv_bipush (v := 99) hx hb dX9_set_20 (by decide) ?_
      refine lv_goto (tgt := 26) hx hb dX9_set_22 (by decide) ?_
      cases h
      exact hJ26 _ _ _ S (lv_sub hl [0, 1, 2] rfl)
  clear h
  have h := hB
  clear hB
  refine lv_if_eq (tgt := 15) hx hb dX9_set_8 (by decide) (fun c3 => ?_) (fun c3 => ?_)
  · rw [if_pos c3] at h
    refine lv_iconst (v := 0) hx hb dX9_set_15 (by decide) ?_
    cases h
    exact hJ16 _ _ _ S (lv_sub hl [0, 1, 2] rfl)
  · rw [if_neg c3] at h
    refine lv_iconst (v := 1) hx hb dX9_set_11 (by decide) ?_
    refine lv_goto (tgt := 16) hx hb dX9_set_12 (by decide) ?_
    cases h
    exact hJ16 _ _ _ S (lv_sub hl [0, 1, 2] rfl)
abbrev rm_m_doorsOf : Room := { frames := 3, cells := 0, slots := 0, locals := 65 }
def Lm_doorsOf_1 : Nat → mS → Int32 → Int32 → Int32 → Int32 → Option (Int32)
  | 0, _, _, _, _, _ => none
  | n + 1, g, y1, y2, y3, y4 =>
    if 100 ≤ y4 then
      some y3
    else
      bd1 (fm_isOf g y4 4) fun v3 =>
      bd1 ((
        if v3 = 0 then
          some 0
        else
          bd1 (fm_of g y4 2) fun v6 =>
          if v6 = y1 then
            if y2 = 0 then
              some 1
            else
              bd1 (fm_of g y4 5) fun v10 =>
              if v10 = (-1) then
                some 0
              else
                some 1
          else
            some 0) : Option (Int32)) fun v12 =>
      Lm_doorsOf_1 n g y1 y2 (y3 + v12) (y4 + 1)
def fm_doorsOf (g : mS) (x1 : Int32) (x2 : Int32) : Option (Int32) :=
  bd1 (Lm_doorsOf_1 FUEL g x1 x2 0 0) fun v15 =>
  some v15
set_option maxHeartbeats 4000000 in
set_option maxRecDepth 100000 in
theorem loop_m_doorsOf_1 {p : Program} {l : Launch} {e : Env} {s : State} {m : MethodId} {args : Array Value} {below : List Frame} {meth : Method} {c : Code} (E : mEnv) (hE : mInj E) (F : CallFix p m c cX9_doorsOf 5 s args lw_all RX9) (hr : meth.sig.returnType = some .int) (hlk : meth.locks = false) (hK : mK E s) {Q : State → Prop} {g : mS} : ∀ (n : Nat) (y1 : Int32) (y2 : Int32) (y3 : Int32) (y4 : Int32) (o : Int32), Lm_doorsOf_1 n g y1 y2 y3 y4 = some o → ∀ (H : Heap) (locs : List Loc) (ls : Array Slot), gS (mA E) s.heap (mP E g) H locs → lv_has ls 5 [(0, .ref (mad E 0)), (1, .int y1), (2, .int y2), (3, .int y3), (4, .int y4)] → (∀ (w3 : Int32) (H : Heap) (locs : List Loc) (ls : Array Slot), o = w3 → gS (mA E) s.heap (mP E g) H locs → lv_has ls 5 [(3, .int w3)] → W p l e rm_m_doorsOf s m args below meth c H locs 0 0 Q (F0 m 62 ls [])) → W p l e rm_m_doorsOf s m args below meth c H locs 0 0 Q (F0 m 5 ls []) := by
  have hx := F.1
  have hb := F.2.1
  intro n
  induction n with
  | zero =>
    intro y1 y2 y3 y4 o h
    rw [Lm_doorsOf_1] at h
    cases h
  | succ n ih =>
    intro y1 y2 y3 y4 o h H locs ls S hl kx
    rw [Lm_doorsOf_1] at h
    refine lv_iload hx hb dX9_doorsOf_5 (lv_at hl 4 rfl) ?_
    refine lv_bipush (v := 100) hx hb dX9_doorsOf_7 (by decide) ?_
    refine lv_icmp_ge (tgt := 62) hx hb dX9_doorsOf_9 (by decide) (fun c1 => ?_) (fun c1 => ?_)
    · rw [if_pos c1] at h
      cases h
      exact kx _ _ _ _ rfl S (lv_sub hl [3] rfl)
    · rw [if_neg c1] at h
      refine lv_iload_n hx hb dX9_doorsOf_12 rfl (lv_at hl 3 rfl) ?_
      refine lv_aload_n hx hb dX9_doorsOf_13 rfl (lv_at hl 0 rfl) ?_
      refine lv_iload hx hb dX9_doorsOf_14 (lv_at hl 4 rfl) ?_
      refine lv_iconst (v := 4) hx hb dX9_doorsOf_16 (by decide) ?_
      obtain ⟨v3, e2, h⟩ := bd1_inv h
      refine call_m_isOf hE F hK S e2 hl.1 (Nat.le_of_ble_eq_true rfl) ⟨Nat.le_of_ble_eq_true rfl, Nat.le_of_ble_eq_true rfl⟩ ⟨Nat.zero_le _, Nat.zero_le _⟩ dX9_doorsOf_17 (fun H locs S => ?_)
      obtain ⟨v12, hB, h⟩ := bd1_inv h
      have hJ54 : ∀ (H : Heap) (locs : List Loc) (ls : Array Slot), gS (mA E) s.heap (mP E g) H locs → lv_has ls 5 [(0, .ref (mad E 0)), (1, .int y1), (2, .int y2), (4, .int y4)] → W p l e rm_m_doorsOf s m args below meth c H locs 0 0 Q (F0 m 54 ls [.int v12, .int y3]) := by
        intro H locs ls S hl
        refine lv_iadd hx hb dX9_doorsOf_54 ?_
        refine lv_istore_n (lv' := [(3, .int (y3 + v12)), (0, .ref (mad E 0)), (1, .int y1), (2, .int y2), (4, .int y4)]) hx hb dX9_doorsOf_55 rfl hl (by decide) rfl (fun ls hl => ?_)
        refine lv_iinc (v := (y4 + 1)) (lv' := [(4, .int (y4 + 1)), (3, .int (y3 + v12)), (0, .ref (mad E 0)), (1, .int y1), (2, .int y2)]) hx hb dX9_doorsOf_56 hl (k := 4) rfl rfl (by decide) rfl (fun ls hl => ?_)
        refine lv_goto (tgt := 5) hx hb dX9_doorsOf_59 (by decide) ?_
        exact ih _ _ _ _ _ h _ _ _ S (lv_sub hl [2, 3, 4, 1, 0] rfl) kx
      clear h
      have h := hB
      clear hB
      refine lv_if_eq (tgt := 53) hx hb dX9_doorsOf_20 (by decide) (fun c4 => ?_) (fun c4 => ?_)
      · rw [if_pos c4] at h
        refine lv_iconst (v := 0) hx hb dX9_doorsOf_53 (by decide) ?_
        cases h
        exact hJ54 _ _ _ S (lv_sub hl [0, 1, 2, 4] rfl)
      · rw [if_neg c4] at h
        refine lv_aload_n hx hb dX9_doorsOf_23 rfl (lv_at hl 0 rfl) ?_
        refine lv_iload hx hb dX9_doorsOf_24 (lv_at hl 4 rfl) ?_
        refine lv_iconst (v := 2) hx hb dX9_doorsOf_26 (by decide) ?_
        obtain ⟨v6, e5, h⟩ := bd1_inv h
        refine call_m_of hE F hK S e5 hl.1 (Nat.le_of_ble_eq_true rfl) ⟨Nat.le_of_ble_eq_true rfl, Nat.le_of_ble_eq_true rfl⟩ ⟨Nat.zero_le _, Nat.zero_le _⟩ dX9_doorsOf_27 (fun H locs S => ?_)
        refine lv_iload_n hx hb dX9_doorsOf_30 rfl (lv_at hl 1 rfl) ?_
        refine lv_icmp_ne (tgt := 53) hx hb dX9_doorsOf_31 (by decide) (fun c7 => ?_) (fun c7 => ?_)
        · rw [if_neg c7] at h
          refine lv_iconst (v := 0) hx hb dX9_doorsOf_53 (by decide) ?_
          cases h
          exact hJ54 _ _ _ S (lv_sub hl [0, 1, 2, 4] rfl)
        · rw [if_pos c7] at h
          refine lv_iload_n hx hb dX9_doorsOf_34 rfl (lv_at hl 2 rfl) ?_
          refine lv_if_eq (tgt := 49) hx hb dX9_doorsOf_35 (by decide) (fun c8 => ?_) (fun c8 => ?_)
          · rw [if_pos c8] at h
            refine lv_iconst (v := 1) hx hb dX9_doorsOf_49 (by decide) ?_
            refine lv_goto (tgt := 54) hx hb dX9_doorsOf_50 (by decide) ?_
            cases h
            exact hJ54 _ _ _ S (lv_sub hl [0, 1, 2, 4] rfl)
          · rw [if_neg c8] at h
            refine lv_aload_n hx hb dX9_doorsOf_38 rfl (lv_at hl 0 rfl) ?_
            refine lv_iload hx hb dX9_doorsOf_39 (lv_at hl 4 rfl) ?_
            refine lv_iconst (v := 5) hx hb dX9_doorsOf_41 (by decide) ?_
            obtain ⟨v10, e9, h⟩ := bd1_inv h
            refine call_m_of hE F hK S e9 hl.1 (Nat.le_of_ble_eq_true rfl) ⟨Nat.le_of_ble_eq_true rfl, Nat.le_of_ble_eq_true rfl⟩ ⟨Nat.zero_le _, Nat.zero_le _⟩ dX9_doorsOf_42 (fun H locs S => ?_)
            refine lv_iconst (v := (-1)) hx hb dX9_doorsOf_45 (by decide) ?_
            refine lv_icmp_eq (tgt := 53) hx hb dX9_doorsOf_46 (by decide) (fun c11 => ?_) (fun c11 => ?_)
            · rw [if_pos c11] at h
              refine lv_iconst (v := 0) hx hb dX9_doorsOf_53 (by decide) ?_
              cases h
              exact hJ54 _ _ _ S (lv_sub hl [0, 1, 2, 4] rfl)
            · rw [if_neg c11] at h
              refine lv_iconst (v := 1) hx hb dX9_doorsOf_49 (by decide) ?_
              refine lv_goto (tgt := 54) hx hb dX9_doorsOf_50 (by decide) ?_
              cases h
              exact hJ54 _ _ _ S (lv_sub hl [0, 1, 2, 4] rfl)
set_option maxHeartbeats 4000000 in
set_option maxRecDepth 100000 in
theorem met_m_doorsOf (l : Launch) (E : mEnv) (hE : mInj E) (g : mS) (x1 : Int32) (x2 : Int32) (r : Int32) (h : fm_doorsOf g x1 x2 = some r) : Met l yX9_doorsOf (ws_ yX9_doorsOf cX9_doorsOf 5 (some .int)) rm_m_doorsOf (va_Pc [.ref (mad E 0), .int x1, .int x2] (gPre (mK E) (mP E g))) (gQi r (mP E g) (mA E)) 0 0 (mA E) := by
  refine g_met (own := RX9) (by decide) rfl (Nat.le_of_ble_eq_true rfl) ?_
  intro p e s m args below meth c ls F hr hlk hK S hl
  have hx := F.1
  have hb := F.2.1
  have hl : lv_has ls 5 [(0, .ref (mad E 0)), (1, .int x1), (2, .int x2)] := hl
  unfold fm_doorsOf at h
  refine lv_iconst (v := 0) hx hb dX9_doorsOf_0 (by decide) ?_
  refine lv_istore_n (lv' := [(3, .int 0), (0, .ref (mad E 0)), (1, .int x1), (2, .int x2)]) hx hb dX9_doorsOf_1 rfl hl (by decide) rfl (fun ls hl => ?_)
  refine lv_iconst (v := 0) hx hb dX9_doorsOf_2 (by decide) ?_
  refine lv_istore (lv' := [(4, .int 0), (3, .int 0), (0, .ref (mad E 0)), (1, .int x1), (2, .int x2)]) hx hb dX9_doorsOf_3 hl (by decide) rfl (fun ls hl => ?_)
  obtain ⟨v15, e14, h⟩ := bd1_inv h
  refine loop_m_doorsOf_1 E hE F hr hlk hK _ _ _ _ _ _ e14 _ _ _ S (lv_sub hl [2, 3, 4, 1, 0] rfl) (fun v15z H locs ls o S hl => ?_)
  cases o
  refine lv_iload_n hx hb dX9_doorsOf_62 rfl (lv_at hl 0 rfl) ?_
  cases h
  exact g_iret F hr hlk S rfl dX9_doorsOf_63
theorem call_m_doorsOf {p : Program} {l : Launch} {e : Env} {s : State} {m : MethodId} {args : Array Value} {below : List Frame} {meth : Method} {c : Code} {R : Room} {H : Heap} {locs : List Loc} {cells slots pc nL : Nat} {Q : State → Prop} {ls : Array Slot} {rest : List Value} {cc : ByteArray} {E : mEnv} (hE : mInj E) {g : mS} {x1 : Int32} {x2 : Int32} {r : Int32} (F : CallFix p m c cc nL s args lw_all RX9) (hK : mK E s) (S : gS (mA E) s.heap (mP E g) H locs) (h : fm_doorsOf g x1 x2 = some r) (hls : ls.size = nL) (hW : (rest.map fun v => v.category).sum ≤ 8) (hR : rm_m_doorsOf.frames + 1 ≤ R.frames ∧ 8 + (5 + 11) + rm_m_doorsOf.locals ≤ R.locals) (hf : cells ≤ R.cells ∧ slots ≤ R.slots) (hdg : decode cc pc = .ok (.invokevirtual 170, 3))
    (kk : ∀ (H1 : Heap) (locs1 : List Loc), gS (mA E) s.heap (mP E g) H1 locs1 → W p l e R s m args below meth c H1 locs1 cells slots Q (F0 m (pc + 3) ls (.int r :: rest))) : W p l e R s m args below meth c H locs cells slots Q (F0 m pc ls (.int x2 :: .int x1 :: .ref (mad E 0) :: rest)) :=
  g_ki (g_runV F hK (mKm E) S (met_m_doorsOf l E hE g x1 x2 r h) (cwV 2 F.2.2.2.2 (lw_V q2082 q2084 qs71 q121 q2085) rfl rfl rfl (by decide +kernel) hR) (m_recv hK S) rfl hls rfl hW hdg hf) S kk
abbrev rm_m_points : Room := { frames := 4, cells := 0, slots := 0, locals := 89 }
def fm_points (g : mS) (x1 : Int32) : Option (Int32) :=
  bd1 (fm_doorsOf g x1 1) fun v2 =>
  some v2
set_option maxHeartbeats 4000000 in
set_option maxRecDepth 100000 in
theorem met_m_points (l : Launch) (E : mEnv) (hE : mInj E) (g : mS) (x1 : Int32) (r : Int32) (h : fm_points g x1 = some r) : Met l yX9_points (ws_ yX9_points cX9_points 2 (some .int)) rm_m_points (va_Pc [.ref (mad E 0), .int x1] (gPre (mK E) (mP E g))) (gQi r (mP E g) (mA E)) 0 0 (mA E) := by
  refine g_met (own := RX9) (by decide) rfl (Nat.le_of_ble_eq_true rfl) ?_
  intro p e s m args below meth c ls F hr hlk hK S hl
  have hx := F.1
  have hb := F.2.1
  have hl : lv_has ls 2 [(0, .ref (mad E 0)), (1, .int x1)] := hl
  unfold fm_points at h
  refine lv_aload_n hx hb dX9_points_0 rfl (lv_at hl 0 rfl) ?_
  refine lv_iload_n hx hb dX9_points_1 rfl (lv_at hl 1 rfl) ?_
  refine lv_iconst (v := 1) hx hb dX9_points_2 (by decide) ?_
  obtain ⟨v2, e1, h⟩ := bd1_inv h
  refine call_m_doorsOf hE F hK S e1 hl.1 (Nat.le_of_ble_eq_true rfl) ⟨Nat.le_of_ble_eq_true rfl, Nat.le_of_ble_eq_true rfl⟩ ⟨Nat.zero_le _, Nat.zero_le _⟩ dX9_points_3 (fun H locs S => ?_)
  cases h
  exact g_iret F hr hlk S rfl dX9_points_6
theorem call_m_points {p : Program} {l : Launch} {e : Env} {s : State} {m : MethodId} {args : Array Value} {below : List Frame} {meth : Method} {c : Code} {R : Room} {H : Heap} {locs : List Loc} {cells slots pc nL : Nat} {Q : State → Prop} {ls : Array Slot} {rest : List Value} {cc : ByteArray} {E : mEnv} (hE : mInj E) {g : mS} {x1 : Int32} {r : Int32} (F : CallFix p m c cc nL s args lw_all RX9) (hK : mK E s) (S : gS (mA E) s.heap (mP E g) H locs) (h : fm_points g x1 = some r) (hls : ls.size = nL) (hW : (rest.map fun v => v.category).sum ≤ 8) (hR : rm_m_points.frames + 1 ≤ R.frames ∧ 8 + (2 + 11) + rm_m_points.locals ≤ R.locals) (hf : cells ≤ R.cells ∧ slots ≤ R.slots) (hdg : decode cc pc = .ok (.invokevirtual 174, 3))
    (kk : ∀ (H1 : Heap) (locs1 : List Loc), gS (mA E) s.heap (mP E g) H1 locs1 → W p l e R s m args below meth c H1 locs1 cells slots Q (F0 m (pc + 3) ls (.int r :: rest))) : W p l e R s m args below meth c H locs cells slots Q (F0 m pc ls (.int x1 :: .ref (mad E 0) :: rest)) :=
  g_ki (g_runV F hK (mKm E) S (met_m_points l E hE g x1 r h) (cwV 1 F.2.2.2.2 (lw_V q2086 q2088 qs72 q121 q2089) rfl rfl rfl (by decide +kernel) hR) (m_recv hK S) rfl hls rfl hW hdg hf) S kk
abbrev rm_m_hasAll : Room := { frames := 5, cells := 0, slots := 0, locals := 110 }
def fm_hasAll (g : mS) (x1 : Int32) : Option (Int32) :=
  bd1 (fm_doorsOf g x1 0) fun v2 =>
  bd1 ((
    if v2 ≤ 0 then
      some 0
    else
      bd1 (fm_doorsOf g x1 0) fun v5 =>
      bd1 (fm_points g x1) fun v7 =>
      if v5 = v7 then
        some 1
      else
        some 0) : Option (Int32)) fun v9 =>
  some (zN v9)
set_option maxHeartbeats 4000000 in
set_option maxRecDepth 100000 in
theorem met_m_hasAll (l : Launch) (E : mEnv) (hE : mInj E) (g : mS) (x1 : Int32) (r : Int32) (h : fm_hasAll g x1 = some r) : Met l yX9_hasAll (ws_ yX9_hasAll cX9_hasAll 2 (some .boolean)) rm_m_hasAll (va_Pc [.ref (mad E 0), .int x1] (gPre (mK E) (mP E g))) (gQi r (mP E g) (mA E)) 0 0 (mA E) := by
  refine g_met (own := RX9) (by decide) rfl (Nat.le_of_ble_eq_true rfl) ?_
  intro p e s m args below meth c ls F hr hlk hK S hl
  have hx := F.1
  have hb := F.2.1
  have hl : lv_has ls 2 [(0, .ref (mad E 0)), (1, .int x1)] := hl
  unfold fm_hasAll at h
  refine lv_aload_n hx hb dX9_hasAll_0 rfl (lv_at hl 0 rfl) ?_
  refine lv_iload_n hx hb dX9_hasAll_1 rfl (lv_at hl 1 rfl) ?_
  refine lv_iconst (v := 0) hx hb dX9_hasAll_2 (by decide) ?_
  obtain ⟨v2, e1, h⟩ := bd1_inv h
  refine call_m_doorsOf hE F hK S e1 hl.1 (Nat.le_of_ble_eq_true rfl) ⟨Nat.le_of_ble_eq_true rfl, Nat.le_of_ble_eq_true rfl⟩ ⟨Nat.zero_le _, Nat.zero_le _⟩ dX9_hasAll_3 (fun H locs S => ?_)
  obtain ⟨v9, hB, h⟩ := bd1_inv h
  have hJ28 : ∀ (H : Heap) (locs : List Loc) (ls : Array Slot), gS (mA E) s.heap (mP E g) H locs → lv_has ls 2 [] → W p l e rm_m_hasAll s m args below meth c H locs 0 0 (MQ below (gQi r (mP E g) (mA E)) args s 0 0 (mA E)) (F0 m 28 ls [.int v9]) := by
    intro H locs ls S hl
    cases h
    exact g_zret F hr hlk S rfl dX9_hasAll_28
  clear h
  have h := hB
  clear hB
  refine lv_if_le (tgt := 27) hx hb dX9_hasAll_6 (by decide) (fun c3 => ?_) (fun c3 => ?_)
  · rw [if_pos c3] at h
    refine lv_iconst (v := 0) hx hb dX9_hasAll_27 (by decide) ?_
    cases h
    exact hJ28 _ _ _ S (lv_sub hl [] rfl)
  · rw [if_neg c3] at h
    refine lv_aload_n hx hb dX9_hasAll_9 rfl (lv_at hl 0 rfl) ?_
    refine lv_iload_n hx hb dX9_hasAll_10 rfl (lv_at hl 1 rfl) ?_
    refine lv_iconst (v := 0) hx hb dX9_hasAll_11 (by decide) ?_
    obtain ⟨v5, e4, h⟩ := bd1_inv h
    refine call_m_doorsOf hE F hK S e4 hl.1 (Nat.le_of_ble_eq_true rfl) ⟨Nat.le_of_ble_eq_true rfl, Nat.le_of_ble_eq_true rfl⟩ ⟨Nat.zero_le _, Nat.zero_le _⟩ dX9_hasAll_12 (fun H locs S => ?_)
    refine lv_aload_n hx hb dX9_hasAll_15 rfl (lv_at hl 0 rfl) ?_
    refine lv_iload_n hx hb dX9_hasAll_16 rfl (lv_at hl 1 rfl) ?_
    obtain ⟨v7, e6, h⟩ := bd1_inv h
    refine call_m_points hE F hK S e6 hl.1 (Nat.le_of_ble_eq_true rfl) ⟨Nat.le_of_ble_eq_true rfl, Nat.le_of_ble_eq_true rfl⟩ ⟨Nat.zero_le _, Nat.zero_le _⟩ dX9_hasAll_17 (fun H locs S => ?_)
    refine lv_icmp_ne (tgt := 27) hx hb dX9_hasAll_20 (by decide) (fun c8 => ?_) (fun c8 => ?_)
    · rw [if_neg c8] at h
      refine lv_iconst (v := 0) hx hb dX9_hasAll_27 (by decide) ?_
      cases h
      exact hJ28 _ _ _ S (lv_sub hl [] rfl)
    · rw [if_pos c8] at h
      refine lv_iconst (v := 1) hx hb dX9_hasAll_23 (by decide) ?_
      refine lv_goto (tgt := 28) hx hb dX9_hasAll_24 (by decide) ?_
      cases h
      exact hJ28 _ _ _ S (lv_sub hl [] rfl)
theorem call_m_hasAll {p : Program} {l : Launch} {e : Env} {s : State} {m : MethodId} {args : Array Value} {below : List Frame} {meth : Method} {c : Code} {R : Room} {H : Heap} {locs : List Loc} {cells slots pc nL : Nat} {Q : State → Prop} {ls : Array Slot} {rest : List Value} {cc : ByteArray} {E : mEnv} (hE : mInj E) {g : mS} {x1 : Int32} {r : Int32} (F : CallFix p m c cc nL s args lw_all RX9) (hK : mK E s) (S : gS (mA E) s.heap (mP E g) H locs) (h : fm_hasAll g x1 = some r) (hls : ls.size = nL) (hW : (rest.map fun v => v.category).sum ≤ 8) (hR : rm_m_hasAll.frames + 1 ≤ R.frames ∧ 8 + (2 + 11) + rm_m_hasAll.locals ≤ R.locals) (hf : cells ≤ R.cells ∧ slots ≤ R.slots) (hdg : decode cc pc = .ok (.invokevirtual 177, 3))
    (kk : ∀ (H1 : Heap) (locs1 : List Loc), gS (mA E) s.heap (mP E g) H1 locs1 → W p l e R s m args below meth c H1 locs1 cells slots Q (F0 m (pc + 3) ls (.int r :: rest))) : W p l e R s m args below meth c H locs cells slots Q (F0 m pc ls (.int x1 :: .ref (mad E 0) :: rest)) :=
  g_ki (g_runV F hK (mKm E) S (met_m_hasAll l E hE g x1 r h) (cwV 1 F.2.2.2.2 (lw_V q2078 q2080 qs70 q121 q2081) rfl rfl rfl (by decide +kernel) hR) (m_recv hK S) rfl hls rfl hW hdg hf) S kk
abbrev rm_m_isOver : Room := { frames := 6, cells := 0, slots := 0, locals := 131 }
def fm_isOver (g : mS)  : Option (Int32) :=
  bd1 (fm_hasAll g 1) fun v2 =>
  bd1 ((
    if v2 = 0 then
      bd1 (fm_hasAll g 2) fun v5 =>
      if v5 = 0 then
        bd1 (rdI g 1 4) fun v7 =>
        bd1 (rdI g 1 3) fun v9 =>
        if v7 < v9 then
          some 0
        else
          some 1
      else
        some 1
    else
      some 1) : Option (Int32)) fun v12 =>
  some (zN v12)
set_option maxHeartbeats 4000000 in
set_option maxRecDepth 100000 in
theorem met_m_isOver (l : Launch) (E : mEnv) (hE : mInj E) (g : mS)  (r : Int32) (h : fm_isOver g = some r) : Met l yX9_isOver (ws_ yX9_isOver cX9_isOver 1 (some .boolean)) rm_m_isOver (va_Pc [.ref (mad E 0)] (gPre (mK E) (mP E g))) (gQi r (mP E g) (mA E)) 0 0 (mA E) := by
  refine g_met (own := RX9) (by decide) rfl (Nat.le_of_ble_eq_true rfl) ?_
  intro p e s m args below meth c ls F hr hlk hK S hl
  have hx := F.1
  have hb := F.2.1
  have hl : lv_has ls 1 [(0, .ref (mad E 0))] := hl
  unfold fm_isOver at h
  refine lv_aload_n hx hb dX9_isOver_0 rfl (lv_at hl 0 rfl) ?_
  refine lv_iconst (v := 1) hx hb dX9_isOver_1 (by decide) ?_
  obtain ⟨v2, e1, h⟩ := bd1_inv h
  refine call_m_hasAll hE F hK S e1 hl.1 (Nat.le_of_ble_eq_true rfl) ⟨Nat.le_of_ble_eq_true rfl, Nat.le_of_ble_eq_true rfl⟩ ⟨Nat.zero_le _, Nat.zero_le _⟩ dX9_isOver_2 (fun H locs S => ?_)
  obtain ⟨v12, hB, h⟩ := bd1_inv h
  have hJ36 : ∀ (H : Heap) (locs : List Loc) (ls : Array Slot), gS (mA E) s.heap (mP E g) H locs → lv_has ls 1 [] → W p l e rm_m_isOver s m args below meth c H locs 0 0 (MQ below (gQi r (mP E g) (mA E)) args s 0 0 (mA E)) (F0 m 36 ls [.int v12]) := by
    intro H locs ls S hl
    cases h
    exact g_zret F hr hlk S rfl dX9_isOver_36
  clear h
  have h := hB
  clear hB
  refine lv_if_ne (tgt := 31) hx hb dX9_isOver_5 (by decide) (fun c3 => ?_) (fun c3 => ?_)
  · rw [if_neg c3] at h
    refine lv_iconst (v := 1) hx hb dX9_isOver_31 (by decide) ?_
    refine lv_goto (tgt := 36) hx hb dX9_isOver_32 (by decide) ?_
    cases h
    exact hJ36 _ _ _ S (lv_sub hl [] rfl)
  · rw [if_pos c3] at h
    refine lv_aload_n hx hb dX9_isOver_8 rfl (lv_at hl 0 rfl) ?_
    refine lv_iconst (v := 2) hx hb dX9_isOver_9 (by decide) ?_
    obtain ⟨v5, e4, h⟩ := bd1_inv h
    refine call_m_hasAll hE F hK S e4 hl.1 (Nat.le_of_ble_eq_true rfl) ⟨Nat.le_of_ble_eq_true rfl, Nat.le_of_ble_eq_true rfl⟩ ⟨Nat.zero_le _, Nat.zero_le _⟩ dX9_isOver_10 (fun H locs S => ?_)
    refine lv_if_ne (tgt := 31) hx hb dX9_isOver_13 (by decide) (fun c6 => ?_) (fun c6 => ?_)
    · rw [if_neg c6] at h
      refine lv_iconst (v := 1) hx hb dX9_isOver_31 (by decide) ?_
      refine lv_goto (tgt := 36) hx hb dX9_isOver_32 (by decide) ?_
      cases h
      exact hJ36 _ _ _ S (lv_sub hl [] rfl)
    · rw [if_pos c6] at h
      refine lv_aload_n hx hb dX9_isOver_16 rfl (lv_at hl 0 rfl) ?_
      refine m_get1 F hK S dX9_isOver_17 ?_
      refine lv_iconst (v := 4) hx hb dX9_isOver_20 (by decide) ?_
      obtain ⟨v7, e8, h⟩ := bd1_inv h
      refine m_iald F hK S e8 dX9_isOver_21 ?_
      refine lv_aload_n hx hb dX9_isOver_22 rfl (lv_at hl 0 rfl) ?_
      refine m_get1 F hK S dX9_isOver_23 ?_
      refine lv_iconst (v := 3) hx hb dX9_isOver_26 (by decide) ?_
      obtain ⟨v9, e10, h⟩ := bd1_inv h
      refine m_iald F hK S e10 dX9_isOver_27 ?_
      refine lv_icmp_lt (tgt := 35) hx hb dX9_isOver_28 (by decide) (fun c11 => ?_) (fun c11 => ?_)
      · rw [if_pos c11] at h
        refine lv_iconst (v := 0) hx hb dX9_isOver_35 (by decide) ?_
        cases h
        exact hJ36 _ _ _ S (lv_sub hl [] rfl)
      · rw [if_neg c11] at h
        refine lv_iconst (v := 1) hx hb dX9_isOver_31 (by decide) ?_
        refine lv_goto (tgt := 36) hx hb dX9_isOver_32 (by decide) ?_
        cases h
        exact hJ36 _ _ _ S (lv_sub hl [] rfl)
theorem call_m_isOver {p : Program} {l : Launch} {e : Env} {s : State} {m : MethodId} {args : Array Value} {below : List Frame} {meth : Method} {c : Code} {R : Room} {H : Heap} {locs : List Loc} {cells slots pc nL : Nat} {Q : State → Prop} {ls : Array Slot} {rest : List Value} {cc : ByteArray} {E : mEnv} (hE : mInj E) {g : mS} {r : Int32} (F : CallFix p m c cc nL s args lw_all RX9) (hK : mK E s) (S : gS (mA E) s.heap (mP E g) H locs) (h : fm_isOver g = some r) (hls : ls.size = nL) (hW : (rest.map fun v => v.category).sum ≤ 8) (hR : rm_m_isOver.frames + 1 ≤ R.frames ∧ 8 + (1 + 11) + rm_m_isOver.locals ≤ R.locals) (hf : cells ≤ R.cells ∧ slots ≤ R.slots) (hdg : decode cc pc = .ok (.invokevirtual 180, 3))
    (kk : ∀ (H1 : Heap) (locs1 : List Loc), gS (mA E) s.heap (mP E g) H1 locs1 → W p l e R s m args below meth c H1 locs1 cells slots Q (F0 m (pc + 3) ls (.int r :: rest))) : W p l e R s m args below meth c H locs cells slots Q (F0 m pc ls (.ref (mad E 0) :: rest)) :=
  g_ki (g_runV F hK (mKm E) S (met_m_isOver l E hE g  r h) (cwV 0 F.2.2.2.2 (lw_V q2074 q2076 qs69 q121 q2077) rfl rfl rfl (by decide +kernel) hR) (m_recv hK S) rfl hls rfl hW hdg hf) S kk
abbrev rm_m_noTurn : Room := { frames := 7, cells := 0, slots := 0, locals := 151 }
def fm_noTurn (g : mS) (x1 : Int32) : Option (Int32) :=
  bd1 (fm_isOver g) fun v2 =>
  if v2 = 0 then
    bd1 (fm_isMirror g x1) fun v5 =>
    if v5 = 0 then
      some 7
    else
      bd1 (fm_of g x1 2) fun v8 =>
      bd1 (rdI g 1 5) fun v9 =>
      if v8 = (3 - v9) then
        some 8
      else
        bd1 (fm_of g x1 3) fun v13 =>
        bd1 ((
          if v13 = 0 then
            some 0
          else
            some 9) : Option (Int32)) fun v15 =>
        some v15
  else
    some 6
set_option maxHeartbeats 4000000 in
set_option maxRecDepth 100000 in
theorem met_m_noTurn (l : Launch) (E : mEnv) (hE : mInj E) (g : mS) (x1 : Int32) (r : Int32) (h : fm_noTurn g x1 = some r) : Met l yX9_noTurn (ws_ yX9_noTurn cX9_noTurn 2 (some .int)) rm_m_noTurn (va_Pc [.ref (mad E 0), .int x1] (gPre (mK E) (mP E g))) (gQi r (mP E g) (mA E)) 0 0 (mA E) := by
  refine g_met (own := RX9) (by decide) rfl (Nat.le_of_ble_eq_true rfl) ?_
  intro p e s m args below meth c ls F hr hlk hK S hl
  have hx := F.1
  have hb := F.2.1
  have hl : lv_has ls 2 [(0, .ref (mad E 0)), (1, .int x1)] := hl
  unfold fm_noTurn at h
  refine lv_aload_n hx hb dX9_noTurn_0 rfl (lv_at hl 0 rfl) ?_
  obtain ⟨v2, e1, h⟩ := bd1_inv h
  refine call_m_isOver hE F hK S e1 hl.1 (Nat.le_of_ble_eq_true rfl) ⟨Nat.le_of_ble_eq_true rfl, Nat.le_of_ble_eq_true rfl⟩ ⟨Nat.zero_le _, Nat.zero_le _⟩ dX9_noTurn_1 (fun H locs S => ?_)
  refine lv_if_eq (tgt := 10) hx hb dX9_noTurn_4 (by decide) (fun c3 => ?_) (fun c3 => ?_)
  · rw [if_pos c3] at h
    refine lv_aload_n hx hb dX9_noTurn_10 rfl (lv_at hl 0 rfl) ?_
    refine lv_iload_n hx hb dX9_noTurn_11 rfl (lv_at hl 1 rfl) ?_
    obtain ⟨v5, e4, h⟩ := bd1_inv h
    refine call_m_isMirror hE F hK S e4 hl.1 (Nat.le_of_ble_eq_true rfl) ⟨Nat.le_of_ble_eq_true rfl, Nat.le_of_ble_eq_true rfl⟩ ⟨Nat.zero_le _, Nat.zero_le _⟩ dX9_noTurn_12 (fun H locs S => ?_)
    refine lv_if_ne (tgt := 21) hx hb dX9_noTurn_15 (by decide) (fun c6 => ?_) (fun c6 => ?_)
    · rw [if_neg c6] at h
      refine lv_aload_n hx hb dX9_noTurn_21 rfl (lv_at hl 0 rfl) ?_
      refine lv_iload_n hx hb dX9_noTurn_22 rfl (lv_at hl 1 rfl) ?_
      refine lv_iconst (v := 2) hx hb dX9_noTurn_23 (by decide) ?_
      obtain ⟨v8, e7, h⟩ := bd1_inv h
      refine call_m_of hE F hK S e7 hl.1 (Nat.le_of_ble_eq_true rfl) ⟨Nat.le_of_ble_eq_true rfl, Nat.le_of_ble_eq_true rfl⟩ ⟨Nat.zero_le _, Nat.zero_le _⟩ dX9_noTurn_24 (fun H locs S => ?_)
      refine lv_iconst (v := 3) hx hb dX9_noTurn_27 (by decide) ?_
      refine lv_aload_n hx hb dX9_noTurn_28 rfl (lv_at hl 0 rfl) ?_
      refine m_get1 F hK S dX9_noTurn_29 ?_
      refine lv_iconst (v := 5) hx hb dX9_noTurn_32 (by decide) ?_
      obtain ⟨v9, e10, h⟩ := bd1_inv h
      refine m_iald F hK S e10 dX9_noTurn_33 ?_
      refine lv_isub hx hb dX9_noTurn_34 ?_
      refine lv_icmp_ne (tgt := 41) hx hb dX9_noTurn_35 (by decide) (fun c11 => ?_) (fun c11 => ?_)
      · rw [if_neg c11] at h
        refine lv_aload_n hx hb dX9_noTurn_41 rfl (lv_at hl 0 rfl) ?_
        refine lv_iload_n hx hb dX9_noTurn_42 rfl (lv_at hl 1 rfl) ?_
        refine lv_iconst (v := 3) hx hb dX9_noTurn_43 (by decide) ?_
        obtain ⟨v13, e12, h⟩ := bd1_inv h
        refine call_m_of hE F hK S e12 hl.1 (Nat.le_of_ble_eq_true rfl) ⟨Nat.le_of_ble_eq_true rfl, Nat.le_of_ble_eq_true rfl⟩ ⟨Nat.zero_le _, Nat.zero_le _⟩ dX9_noTurn_44 (fun H locs S => ?_)
        obtain ⟨v15, hB, h⟩ := bd1_inv h
        have hJ56 : ∀ (H : Heap) (locs : List Loc) (ls : Array Slot), gS (mA E) s.heap (mP E g) H locs → lv_has ls 2 [] → W p l e rm_m_noTurn s m args below meth c H locs 0 0 (MQ below (gQi r (mP E g) (mA E)) args s 0 0 (mA E)) (F0 m 56 ls [.int v15]) := by
          intro H locs ls S hl
          cases h
          exact g_iret F hr hlk S rfl dX9_noTurn_56
        clear h
        have h := hB
        clear hB
        refine lv_if_eq (tgt := 55) hx hb dX9_noTurn_47 (by decide) (fun c14 => ?_) (fun c14 => ?_)
        · rw [if_pos c14] at h
          refine lv_iconst (v := 0) hx hb dX9_noTurn_55 (by decide) ?_
          cases h
          exact hJ56 _ _ _ S (lv_sub hl [] rfl)
        · rw [if_neg c14] at h
          refine lv_bipush (v := 9) hx hb dX9_noTurn_50 (by decide) ?_
          refine lv_goto (tgt := 56) hx hb dX9_noTurn_52 (by decide) ?_
          cases h
          exact hJ56 _ _ _ S (lv_sub hl [] rfl)
      · rw [if_pos c11] at h
        refine lv_bipush (v := 8) hx hb dX9_noTurn_38 (by decide) ?_
        cases h
        exact g_iret F hr hlk S rfl dX9_noTurn_40
    · rw [if_pos c6] at h
      refine lv_bipush (v := 7) hx hb dX9_noTurn_18 (by decide) ?_
      cases h
      exact g_iret F hr hlk S rfl dX9_noTurn_20
  · rw [if_neg c3] at h
    refine lv_bipush (v := 6) hx hb dX9_noTurn_7 (by decide) ?_
    cases h
    exact g_iret F hr hlk S rfl dX9_noTurn_9
theorem call_m_noTurn {p : Program} {l : Launch} {e : Env} {s : State} {m : MethodId} {args : Array Value} {below : List Frame} {meth : Method} {c : Code} {R : Room} {H : Heap} {locs : List Loc} {cells slots pc nL : Nat} {Q : State → Prop} {ls : Array Slot} {rest : List Value} {cc : ByteArray} {E : mEnv} (hE : mInj E) {g : mS} {x1 : Int32} {r : Int32} (F : CallFix p m c cc nL s args lw_all RX9) (hK : mK E s) (S : gS (mA E) s.heap (mP E g) H locs) (h : fm_noTurn g x1 = some r) (hls : ls.size = nL) (hW : (rest.map fun v => v.category).sum ≤ 8) (hR : rm_m_noTurn.frames + 1 ≤ R.frames ∧ 8 + (2 + 11) + rm_m_noTurn.locals ≤ R.locals) (hf : cells ≤ R.cells ∧ slots ≤ R.slots) (hdg : decode cc pc = .ok (.invokevirtual 184, 3))
    (kk : ∀ (H1 : Heap) (locs1 : List Loc), gS (mA E) s.heap (mP E g) H1 locs1 → W p l e R s m args below meth c H1 locs1 cells slots Q (F0 m (pc + 3) ls (.int r :: rest))) : W p l e R s m args below meth c H locs cells slots Q (F0 m pc ls (.int x1 :: .ref (mad E 0) :: rest)) :=
  g_ki (g_runV F hK (mKm E) S (met_m_noTurn l E hE g x1 r h) (cwV 1 F.2.2.2.2 (lw_V q2070 q2072 qs68 q121 q2073) rfl rfl rfl (by decide +kernel) hR) (m_recv hK S) rfl hls rfl hW hdg hf) S kk
abbrev rm_m_move : Room := { frames := 8, cells := 0, slots := 0, locals := 186 }
def Lm_move_1 : Nat → mS → Int32 → Int32 → Option (mS)
  | 0, _, _, _ => none
  | n + 1, g, y1, y2 =>
    if 100 ≤ y2 then
      some g
    else
      bd1 (fm_of g y2 3) fun v3 =>
      bd1 ((
        if v3 ≤ 0 then
          some 0
        else
          bd1 (fm_of g y2 3) fun v6 =>
          some (v6 - 1)) : Option (Int32)) fun v7 =>
      bd1 (fm_put g y2 3 v7) fun g9 =>
      Lm_move_1 n g9 y1 (y2 + 1)
def fm_move (g : mS) (x1 : Int32) : Option (Int32 × mS) :=
  bd1 (Lm_move_1 FUEL g x1 0) fun g12 =>
  bd1 ((
    if x1 = (-1) then
      some g12
    else
      bd1 (fm_of g12 x1 1) fun v15 =>
      bd1 (fm_put g12 x1 1 (1 - v15)) fun g17 =>
      bd1 (rdI g17 1 2) fun v18 =>
      bd1 (fm_put g17 x1 3 v18) fun g21 =>
      bd1 (fm_of g21 x1 4) fun v23 =>
      bd1 (fm_put g21 x1 4 (v23 + 1)) fun g25 =>
      some g25) : Option (mS)) fun g26 =>
  bd1 (rdI g26 1 4) fun v27 =>
  bd1 (wrI g26 1 4 (v27 + 1)) fun g29 =>
  bd1 (rdI g29 1 5) fun v31 =>
  bd1 (wrI g29 1 5 (3 - v31)) fun g33 =>
  bd2 (fm_openAll g33) fun v36 g37 =>
  some (v36, g37)
set_option maxHeartbeats 4000000 in
set_option maxRecDepth 100000 in
theorem loop_m_move_1 {p : Program} {l : Launch} {e : Env} {s : State} {m : MethodId} {args : Array Value} {below : List Frame} {meth : Method} {c : Code} (E : mEnv) (hE : mInj E) (F : CallFix p m c cX9_move 3 s args lw_all RX9) (hr : meth.sig.returnType = some .int) (hlk : meth.locks = false) (hK : mK E s) {Q : State → Prop} : ∀ (n : Nat) (g : mS) (y1 : Int32) (y2 : Int32) (o : mS), Lm_move_1 n g y1 y2 = some o → ∀ (H : Heap) (locs : List Loc) (ls : Array Slot), gS (mA E) s.heap (mP E g) H locs → lv_has ls 3 [(0, .ref (mad E 0)), (1, .int y1), (2, .int y2)] → (∀  (gx : mS) (H : Heap) (locs : List Loc) (ls : Array Slot), o = gx → gS (mA E) s.heap (mP E gx) H locs → lv_has ls 3 [(0, .ref (mad E 0)), (1, .int y1)] → W p l e rm_m_move s m args below meth c H locs 0 0 Q (F0 m 41 ls [])) → W p l e rm_m_move s m args below meth c H locs 0 0 Q (F0 m 2 ls []) := by
  have hx := F.1
  have hb := F.2.1
  intro n
  induction n with
  | zero =>
    intro g y1 y2 o h
    rw [Lm_move_1] at h
    cases h
  | succ n ih =>
    intro g y1 y2 o h H locs ls S hl kx
    rw [Lm_move_1] at h
    refine lv_iload_n hx hb dX9_move_2 rfl (lv_at hl 2 rfl) ?_
    refine lv_bipush (v := 100) hx hb dX9_move_3 (by decide) ?_
    refine lv_icmp_ge (tgt := 41) hx hb dX9_move_5 (by decide) (fun c1 => ?_) (fun c1 => ?_)
    · rw [if_pos c1] at h
      cases h
      exact kx _ _ _ _ rfl S (lv_sub hl [0, 1] rfl)
    · rw [if_neg c1] at h
      refine lv_aload_n hx hb dX9_move_8 rfl (lv_at hl 0 rfl) ?_
      refine lv_iload_n hx hb dX9_move_9 rfl (lv_at hl 2 rfl) ?_
      refine lv_iconst (v := 3) hx hb dX9_move_10 (by decide) ?_
      refine lv_aload_n hx hb dX9_move_11 rfl (lv_at hl 0 rfl) ?_
      refine lv_iload_n hx hb dX9_move_12 rfl (lv_at hl 2 rfl) ?_
      refine lv_iconst (v := 3) hx hb dX9_move_13 (by decide) ?_
      obtain ⟨v3, e2, h⟩ := bd1_inv h
      refine call_m_of hE F hK S e2 hl.1 (Nat.le_of_ble_eq_true rfl) ⟨Nat.le_of_ble_eq_true rfl, Nat.le_of_ble_eq_true rfl⟩ ⟨Nat.zero_le _, Nat.zero_le _⟩ dX9_move_14 (fun H locs S => ?_)
      obtain ⟨v7, hB, h⟩ := bd1_inv h
      have hJ32 : ∀ (H : Heap) (locs : List Loc) (ls : Array Slot), gS (mA E) s.heap (mP E g) H locs → lv_has ls 3 [(0, .ref (mad E 0)), (1, .int y1), (2, .int y2)] → W p l e rm_m_move s m args below meth c H locs 0 0 Q (F0 m 32 ls [.int v7, .int 3, .int y2, .ref (mad E 0)]) := by
        intro H locs ls S hl
        obtain ⟨g9, e8, h⟩ := bd1_inv h
        refine call_m_put hE F hK S e8 hl.1 (Nat.le_of_ble_eq_true rfl) ⟨Nat.le_of_ble_eq_true rfl, Nat.le_of_ble_eq_true rfl⟩ ⟨Nat.zero_le _, Nat.zero_le _⟩ dX9_move_32 (fun H locs S => ?_)
        refine lv_iinc (v := (y2 + 1)) (lv' := [(2, .int (y2 + 1)), (0, .ref (mad E 0)), (1, .int y1)]) hx hb dX9_move_35 hl (k := 2) rfl rfl (by decide) rfl (fun ls hl => ?_)
        refine lv_goto (tgt := 2) hx hb dX9_move_38 (by decide) ?_
        exact ih _ _ _ _ h _ _ _ S (lv_sub hl [1, 2, 0] rfl) kx
      clear h
      have h := hB
      clear hB
      refine lv_if_le (tgt := 31) hx hb dX9_move_17 (by decide) (fun c4 => ?_) (fun c4 => ?_)
      · rw [if_pos c4] at h
        refine lv_iconst (v := 0) hx hb dX9_move_31 (by decide) ?_
        cases h
        exact hJ32 _ _ _ S (lv_sub hl [0, 1, 2] rfl)
      · rw [if_neg c4] at h
        refine lv_aload_n hx hb dX9_move_20 rfl (lv_at hl 0 rfl) ?_
        refine lv_iload_n hx hb dX9_move_21 rfl (lv_at hl 2 rfl) ?_
        refine lv_iconst (v := 3) hx hb dX9_move_22 (by decide) ?_
        obtain ⟨v6, e5, h⟩ := bd1_inv h
        refine call_m_of hE F hK S e5 hl.1 (Nat.le_of_ble_eq_true rfl) ⟨Nat.le_of_ble_eq_true rfl, Nat.le_of_ble_eq_true rfl⟩ ⟨Nat.zero_le _, Nat.zero_le _⟩ dX9_move_23 (fun H locs S => ?_)
        refine lv_iconst (v := 1) hx hb dX9_move_26 (by decide) ?_
        refine lv_isub hx hb dX9_move_27 ?_
        refine lv_goto (tgt := 32) hx hb dX9_move_28 (by decide) ?_
        cases h
        exact hJ32 _ _ _ S (lv_sub hl [0, 1, 2] rfl)
set_option maxHeartbeats 4000000 in
set_option maxRecDepth 100000 in
theorem met_m_move (l : Launch) (E : mEnv) (hE : mInj E) (g : mS) (x1 : Int32) (r : Int32) (gZ : mS) (h : fm_move g x1 = some (r, gZ)) : Met l yX9_move (ws_ yX9_move cX9_move 3 (some .int)) rm_m_move (va_Pc [.ref (mad E 0), .int x1] (gPre (mK E) (mP E g))) (gQi r (mP E gZ) (mA E)) 0 0 (mA E) := by
  refine g_met (own := RX9) (by decide) rfl (Nat.le_of_ble_eq_true rfl) ?_
  intro p e s m args below meth c ls F hr hlk hK S hl
  have hx := F.1
  have hb := F.2.1
  have hl : lv_has ls 3 [(0, .ref (mad E 0)), (1, .int x1)] := hl
  unfold fm_move at h
  refine lv_iconst (v := 0) hx hb dX9_move_0 (by decide) ?_
  refine lv_istore_n (lv' := [(2, .int 0), (0, .ref (mad E 0)), (1, .int x1)]) hx hb dX9_move_1 rfl hl (by decide) rfl (fun ls hl => ?_)
  obtain ⟨g12, e11, h⟩ := bd1_inv h
  refine loop_m_move_1 E hE F hr hlk hK _ _ _ _ _ e11 _ _ _ S (lv_sub hl [1, 2, 0] rfl) (fun g12z H locs ls o S hl => ?_)
  cases o
  refine lv_iload_n hx hb dX9_move_41 rfl (lv_at hl 1 rfl) ?_
  refine lv_iconst (v := (-1)) hx hb dX9_move_42 (by decide) ?_
  obtain ⟨g26, hB, h⟩ := bd1_inv h
  have hJ86 : ∀ (H : Heap) (locs : List Loc) (ls : Array Slot), gS (mA E) s.heap (mP E g26) H locs → lv_has ls 3 [(0, .ref (mad E 0))] → W p l e rm_m_move s m args below meth c H locs 0 0 (MQ below (gQi r (mP E gZ) (mA E)) args s 0 0 (mA E)) (F0 m 86 ls []) := by
    intro H locs ls S hl
    refine lv_aload_n hx hb dX9_move_86 rfl (lv_at hl 0 rfl) ?_
    refine m_get1 F hK S dX9_move_87 ?_
    refine lv_iconst (v := 4) hx hb dX9_move_90 (by decide) ?_
    refine lv_dup2_11 hx hb dX9_move_91 rfl rfl ?_
    obtain ⟨v27, e28, h⟩ := bd1_inv h
    refine m_iald F hK S e28 dX9_move_92 ?_
    refine lv_iconst (v := 1) hx hb dX9_move_93 (by decide) ?_
    refine lv_iadd hx hb dX9_move_94 ?_
    obtain ⟨g29, e30, h⟩ := bd1_inv h
    refine m_iast hE F hK S e30 dX9_move_95 (fun H locs S => ?_)
    refine lv_aload_n hx hb dX9_move_96 rfl (lv_at hl 0 rfl) ?_
    refine m_get1 F hK S dX9_move_97 ?_
    refine lv_iconst (v := 5) hx hb dX9_move_100 (by decide) ?_
    refine lv_iconst (v := 3) hx hb dX9_move_101 (by decide) ?_
    refine lv_aload_n hx hb dX9_move_102 rfl (lv_at hl 0 rfl) ?_
    refine m_get1 F hK S dX9_move_103 ?_
    refine lv_iconst (v := 5) hx hb dX9_move_106 (by decide) ?_
    obtain ⟨v31, e32, h⟩ := bd1_inv h
    refine m_iald F hK S e32 dX9_move_107 ?_
    refine lv_isub hx hb dX9_move_108 ?_
    obtain ⟨g33, e34, h⟩ := bd1_inv h
    refine m_iast hE F hK S e34 dX9_move_109 (fun H locs S => ?_)
    refine lv_aload_n hx hb dX9_move_110 rfl (lv_at hl 0 rfl) ?_
    obtain ⟨v36, g37, e35, h⟩ := bd2_inv h
    refine call_m_openAll hE F hK S e35 hl.1 (Nat.le_of_ble_eq_true rfl) ⟨Nat.le_of_ble_eq_true rfl, Nat.le_of_ble_eq_true rfl⟩ ⟨Nat.zero_le _, Nat.zero_le _⟩ dX9_move_111 (fun H locs S => ?_)
    cases h
    exact g_iret F hr hlk S rfl dX9_move_114
  clear h
  have h := hB
  clear hB
  refine lv_icmp_eq (tgt := 86) hx hb dX9_move_43 (by decide) (fun c13 => ?_) (fun c13 => ?_)
  · rw [if_pos c13] at h
    cases h
    exact hJ86 _ _ _ S (lv_sub hl [0] rfl)
  · rw [if_neg c13] at h
    refine lv_aload_n hx hb dX9_move_46 rfl (lv_at hl 0 rfl) ?_
    refine lv_iload_n hx hb dX9_move_47 rfl (lv_at hl 1 rfl) ?_
    refine lv_iconst (v := 1) hx hb dX9_move_48 (by decide) ?_
    refine lv_iconst (v := 1) hx hb dX9_move_49 (by decide) ?_
    refine lv_aload_n hx hb dX9_move_50 rfl (lv_at hl 0 rfl) ?_
    refine lv_iload_n hx hb dX9_move_51 rfl (lv_at hl 1 rfl) ?_
    refine lv_iconst (v := 1) hx hb dX9_move_52 (by decide) ?_
    obtain ⟨v15, e14, h⟩ := bd1_inv h
    refine call_m_of hE F hK S e14 hl.1 (Nat.le_of_ble_eq_true rfl) ⟨Nat.le_of_ble_eq_true rfl, Nat.le_of_ble_eq_true rfl⟩ ⟨Nat.zero_le _, Nat.zero_le _⟩ dX9_move_53 (fun H locs S => ?_)
    refine lv_isub hx hb dX9_move_56 ?_
    obtain ⟨g17, e16, h⟩ := bd1_inv h
    refine call_m_put hE F hK S e16 hl.1 (Nat.le_of_ble_eq_true rfl) ⟨Nat.le_of_ble_eq_true rfl, Nat.le_of_ble_eq_true rfl⟩ ⟨Nat.zero_le _, Nat.zero_le _⟩ dX9_move_57 (fun H locs S => ?_)
    refine lv_aload_n hx hb dX9_move_60 rfl (lv_at hl 0 rfl) ?_
    refine lv_iload_n hx hb dX9_move_61 rfl (lv_at hl 1 rfl) ?_
    refine lv_iconst (v := 3) hx hb dX9_move_62 (by decide) ?_
    refine lv_aload_n hx hb dX9_move_63 rfl (lv_at hl 0 rfl) ?_
    refine m_get1 F hK S dX9_move_64 ?_
    refine lv_iconst (v := 2) hx hb dX9_move_67 (by decide) ?_
    obtain ⟨v18, e19, h⟩ := bd1_inv h
    refine m_iald F hK S e19 dX9_move_68 ?_
    obtain ⟨g21, e20, h⟩ := bd1_inv h
    refine call_m_put hE F hK S e20 hl.1 (Nat.le_of_ble_eq_true rfl) ⟨Nat.le_of_ble_eq_true rfl, Nat.le_of_ble_eq_true rfl⟩ ⟨Nat.zero_le _, Nat.zero_le _⟩ dX9_move_69 (fun H locs S => ?_)
    refine lv_aload_n hx hb dX9_move_72 rfl (lv_at hl 0 rfl) ?_
    refine lv_iload_n hx hb dX9_move_73 rfl (lv_at hl 1 rfl) ?_
    refine lv_iconst (v := 4) hx hb dX9_move_74 (by decide) ?_
    refine lv_aload_n hx hb dX9_move_75 rfl (lv_at hl 0 rfl) ?_
    refine lv_iload_n hx hb dX9_move_76 rfl (lv_at hl 1 rfl) ?_
    refine lv_iconst (v := 4) hx hb dX9_move_77 (by decide) ?_
    obtain ⟨v23, e22, h⟩ := bd1_inv h
    refine call_m_of hE F hK S e22 hl.1 (Nat.le_of_ble_eq_true rfl) ⟨Nat.le_of_ble_eq_true rfl, Nat.le_of_ble_eq_true rfl⟩ ⟨Nat.zero_le _, Nat.zero_le _⟩ dX9_move_78 (fun H locs S => ?_)
    refine lv_iconst (v := 1) hx hb dX9_move_81 (by decide) ?_
    refine lv_iadd hx hb dX9_move_82 ?_
    obtain ⟨g25, e24, h⟩ := bd1_inv h
    refine call_m_put hE F hK S e24 hl.1 (Nat.le_of_ble_eq_true rfl) ⟨Nat.le_of_ble_eq_true rfl, Nat.le_of_ble_eq_true rfl⟩ ⟨Nat.zero_le _, Nat.zero_le _⟩ dX9_move_83 (fun H locs S => ?_)
    cases h
    exact hJ86 _ _ _ S (lv_sub hl [0] rfl)
theorem call_m_move {p : Program} {l : Launch} {e : Env} {s : State} {m : MethodId} {args : Array Value} {below : List Frame} {meth : Method} {c : Code} {R : Room} {H : Heap} {locs : List Loc} {cells slots pc nL : Nat} {Q : State → Prop} {ls : Array Slot} {rest : List Value} {cc : ByteArray} {E : mEnv} (hE : mInj E) {g : mS} {x1 : Int32} {r : Int32} {gZ : mS} (F : CallFix p m c cc nL s args lw_all RX9) (hK : mK E s) (S : gS (mA E) s.heap (mP E g) H locs) (h : fm_move g x1 = some (r, gZ)) (hls : ls.size = nL) (hW : (rest.map fun v => v.category).sum ≤ 8) (hR : rm_m_move.frames + 1 ≤ R.frames ∧ 8 + (3 + 11) + rm_m_move.locals ≤ R.locals) (hf : cells ≤ R.cells ∧ slots ≤ R.slots) (hdg : decode cc pc = .ok (.invokevirtual 212, 3))
    (kk : ∀ (H1 : Heap) (locs1 : List Loc), gS (mA E) s.heap (mP E gZ) H1 locs1 → W p l e R s m args below meth c H1 locs1 cells slots Q (F0 m (pc + 3) ls (.int r :: rest))) : W p l e R s m args below meth c H locs cells slots Q (F0 m pc ls (.int x1 :: .ref (mad E 0) :: rest)) :=
  g_ki (g_runV F hK (mKm E) S (met_m_move l E hE g x1 r gZ h) (cwV 1 F.2.2.2.2 (lw_V q2090 q2092 qs73 q121 q2093) rfl rfl rfl (by decide +kernel) hR) (m_recv hK S) rfl hls rfl hW hdg hf) S kk
abbrev rm_m_turn : Room := { frames := 9, cells := 0, slots := 0, locals := 208 }
def fm_turn (g : mS) (x1 : Int32) (x2 : Int32) : Option (Int32 × mS) :=
  bd1 (wrF g 0 0) fun g1 =>
  bd2 (fm_noCell g1 x1 x2) fun v4 g5 =>
  if v4 = 0 then
    bd1 (fm_cellAt g5 x1 x2) fun v8 =>
    bd1 (fm_noTurn g5 v8) fun v10 =>
    if v10 = 0 then
      bd1 (fm_keepPast g5 1) fun g13 =>
      bd1 (fm_cellAt g13 x1 x2) fun v15 =>
      bd2 (fm_move g13 v15) fun v17 g18 =>
      some (v17, g18)
    else
      some ((-v10), g5)
  else
    some (0, g5)
set_option maxHeartbeats 4000000 in
set_option maxRecDepth 100000 in
theorem met_m_turn (l : Launch) (E : mEnv) (hE : mInj E) (g : mS) (x1 : Int32) (x2 : Int32) (r : Int32) (gZ : mS) (h : fm_turn g x1 x2 = some (r, gZ)) : Met l yX9_turn (ws_ yX9_turn cX9_turn 4 (some .int)) rm_m_turn (va_Pc [.ref (mad E 0), .int x1, .int x2] (gPre (mK E) (mP E g))) (gQi r (mP E gZ) (mA E)) 0 0 (mA E) := by
  refine g_met (own := RX9) (by decide) rfl (Nat.le_of_ble_eq_true rfl) ?_
  intro p e s m args below meth c ls F hr hlk hK S hl
  have hx := F.1
  have hb := F.2.1
  have hl : lv_has ls 4 [(0, .ref (mad E 0)), (1, .int x1), (2, .int x2)] := hl
  unfold fm_turn at h
  refine lv_aload_n hx hb dX9_turn_0 rfl (lv_at hl 0 rfl) ?_
  refine lv_iconst (v := 0) hx hb dX9_turn_1 (by decide) ?_
  obtain ⟨g1, e2, h⟩ := bd1_inv h
  refine m_put0 hE F hK S e2 dX9_turn_2 (fun H locs S => ?_)
  refine lv_aload_n hx hb dX9_turn_5 rfl (lv_at hl 0 rfl) ?_
  refine lv_iload_n hx hb dX9_turn_6 rfl (lv_at hl 1 rfl) ?_
  refine lv_iload_n hx hb dX9_turn_7 rfl (lv_at hl 2 rfl) ?_
  obtain ⟨v4, g5, e3, h⟩ := bd2_inv h
  refine call_m_noCell hE F hK S e3 hl.1 (Nat.le_of_ble_eq_true rfl) ⟨Nat.le_of_ble_eq_true rfl, Nat.le_of_ble_eq_true rfl⟩ ⟨Nat.zero_le _, Nat.zero_le _⟩ dX9_turn_8 (fun H locs S => ?_)
  refine lv_if_eq (tgt := 16) hx hb dX9_turn_11 (by decide) (fun c6 => ?_) (fun c6 => ?_)
  · rw [if_pos c6] at h
    refine lv_aload_n hx hb dX9_turn_16 rfl (lv_at hl 0 rfl) ?_
    refine lv_aload_n hx hb dX9_turn_17 rfl (lv_at hl 0 rfl) ?_
    refine lv_iload_n hx hb dX9_turn_18 rfl (lv_at hl 1 rfl) ?_
    refine lv_iload_n hx hb dX9_turn_19 rfl (lv_at hl 2 rfl) ?_
    obtain ⟨v8, e7, h⟩ := bd1_inv h
    refine call_m_cellAt hE F hK S e7 hl.1 (Nat.le_of_ble_eq_true rfl) ⟨Nat.le_of_ble_eq_true rfl, Nat.le_of_ble_eq_true rfl⟩ ⟨Nat.zero_le _, Nat.zero_le _⟩ dX9_turn_20 (fun H locs S => ?_)
    obtain ⟨v10, e9, h⟩ := bd1_inv h
    refine call_m_noTurn hE F hK S e9 hl.1 (Nat.le_of_ble_eq_true rfl) ⟨Nat.le_of_ble_eq_true rfl, Nat.le_of_ble_eq_true rfl⟩ ⟨Nat.zero_le _, Nat.zero_le _⟩ dX9_turn_23 (fun H locs S => ?_)
    refine lv_istore_n (lv' := [(3, .int v10), (0, .ref (mad E 0)), (1, .int x1), (2, .int x2)]) hx hb dX9_turn_26 rfl hl (by decide) rfl (fun ls hl => ?_)
    refine lv_iload_n hx hb dX9_turn_27 rfl (lv_at hl 0 rfl) ?_
    refine lv_if_eq (tgt := 34) hx hb dX9_turn_28 (by decide) (fun c11 => ?_) (fun c11 => ?_)
    · rw [if_pos c11] at h
      refine lv_aload_n hx hb dX9_turn_34 rfl (lv_at hl 1 rfl) ?_
      refine lv_aload_n hx hb dX9_turn_35 rfl (lv_at hl 1 rfl) ?_
      refine m_get1 F hK S dX9_turn_36 ?_
      obtain ⟨g13, e12, h⟩ := bd1_inv h
      refine call_m_keepPast hE F hK S e12 hl.1 (Nat.le_of_ble_eq_true rfl) ⟨Nat.le_of_ble_eq_true rfl, Nat.le_of_ble_eq_true rfl⟩ ⟨Nat.zero_le _, Nat.zero_le _⟩ dX9_turn_39 (fun H locs S => ?_)
      refine lv_aload_n hx hb dX9_turn_42 rfl (lv_at hl 1 rfl) ?_
      refine lv_aload_n hx hb dX9_turn_43 rfl (lv_at hl 1 rfl) ?_
      refine lv_iload_n hx hb dX9_turn_44 rfl (lv_at hl 2 rfl) ?_
      refine lv_iload_n hx hb dX9_turn_45 rfl (lv_at hl 3 rfl) ?_
      obtain ⟨v15, e14, h⟩ := bd1_inv h
      refine call_m_cellAt hE F hK S e14 hl.1 (Nat.le_of_ble_eq_true rfl) ⟨Nat.le_of_ble_eq_true rfl, Nat.le_of_ble_eq_true rfl⟩ ⟨Nat.zero_le _, Nat.zero_le _⟩ dX9_turn_46 (fun H locs S => ?_)
      obtain ⟨v17, g18, e16, h⟩ := bd2_inv h
      refine call_m_move hE F hK S e16 hl.1 (Nat.le_of_ble_eq_true rfl) ⟨Nat.le_of_ble_eq_true rfl, Nat.le_of_ble_eq_true rfl⟩ ⟨Nat.zero_le _, Nat.zero_le _⟩ dX9_turn_49 (fun H locs S => ?_)
      cases h
      exact g_iret F hr hlk S rfl dX9_turn_52
    · rw [if_neg c11] at h
      refine lv_iload_n hx hb dX9_turn_31 rfl (lv_at hl 0 rfl) ?_
      refine lv_ineg hx hb dX9_turn_32 ?_
      cases h
      exact g_iret F hr hlk S rfl dX9_turn_33
  · rw [if_neg c6] at h
    refine lv_iconst (v := 0) hx hb dX9_turn_14 (by decide) ?_
    cases h
    exact g_iret F hr hlk S rfl dX9_turn_15
abbrev rm_m_canTurn : Room := { frames := 8, cells := 0, slots := 0, locals := 172 }
def Lm_canTurn_1 : Nat → mS → Int32 → Option (Int32 ⊕ Unit)
  | 0, _, _ => none
  | n + 1, g, y1 =>
    if 100 ≤ y1 then
      some (.inr ())
    else
      bd1 (fm_isCell g y1) fun v3 =>
      if v3 = 0 then
        Lm_canTurn_1 n g (y1 + 1)
      else
        bd1 (fm_noTurn g y1) fun v6 =>
        if v6 = 0 then
          some (.inl 1)
        else
          Lm_canTurn_1 n g (y1 + 1)
def fm_canTurn (g : mS)  : Option (Int32) :=
  bs0 (Lm_canTurn_1 FUEL g 0) some <|
  some 0
set_option maxHeartbeats 4000000 in
set_option maxRecDepth 100000 in
theorem loop_m_canTurn_1 {p : Program} {l : Launch} {e : Env} {s : State} {m : MethodId} {args : Array Value} {below : List Frame} {meth : Method} {c : Code} (E : mEnv) (hE : mInj E) (F : CallFix p m c cX9_canTurn 2 s args lw_all RX9) (hr : meth.sig.returnType = some .boolean) (hlk : meth.locks = false) (hK : mK E s) {r0 : Int32} {g : mS} : ∀ (n : Nat) (y1 : Int32) (o : Int32 ⊕ Unit), Lm_canTurn_1 n g y1 = some o → ∀ (H : Heap) (locs : List Loc) (ls : Array Slot), gS (mA E) s.heap (mP E g) H locs → lv_has ls 2 [(0, .ref (mad E 0)), (1, .int y1)] → (∀ rz, o = .inl rz → rz = r0) → (∀ (H : Heap) (locs : List Loc) (ls : Array Slot), o = .inr () → gS (mA E) s.heap (mP E g) H locs → lv_has ls 2 [] → W p l e rm_m_canTurn s m args below meth c H locs 0 0 (MQ below (gQi r0 (mP E g) (mA E)) args s 0 0 (mA E)) (F0 m 32 ls [])) → W p l e rm_m_canTurn s m args below meth c H locs 0 0 (MQ below (gQi r0 (mP E g) (mA E)) args s 0 0 (mA E)) (F0 m 2 ls []) := by
  have hx := F.1
  have hb := F.2.1
  intro n
  induction n with
  | zero =>
    intro y1 o h
    rw [Lm_canTurn_1] at h
    cases h
  | succ n ih =>
    intro y1 o h H locs ls S hl kr kx
    rw [Lm_canTurn_1] at h
    refine lv_iload_n hx hb dX9_canTurn_2 rfl (lv_at hl 1 rfl) ?_
    refine lv_bipush (v := 100) hx hb dX9_canTurn_3 (by decide) ?_
    refine lv_icmp_ge (tgt := 32) hx hb dX9_canTurn_5 (by decide) (fun c1 => ?_) (fun c1 => ?_)
    · rw [if_pos c1] at h
      cases h
      exact kx  _ _ _ rfl S (lv_sub hl [] rfl)
    · rw [if_neg c1] at h
      refine lv_aload_n hx hb dX9_canTurn_8 rfl (lv_at hl 0 rfl) ?_
      refine lv_iload_n hx hb dX9_canTurn_9 rfl (lv_at hl 1 rfl) ?_
      obtain ⟨v3, e2, h⟩ := bd1_inv h
      refine call_m_isCell hE F hK S e2 hl.1 (Nat.le_of_ble_eq_true rfl) ⟨Nat.le_of_ble_eq_true rfl, Nat.le_of_ble_eq_true rfl⟩ ⟨Nat.zero_le _, Nat.zero_le _⟩ dX9_canTurn_10 (fun H locs S => ?_)
      refine lv_if_eq (tgt := 26) hx hb dX9_canTurn_13 (by decide) (fun c4 => ?_) (fun c4 => ?_)
      · rw [if_pos c4] at h
        refine lv_iinc (v := (y1 + 1)) (lv' := [(1, .int (y1 + 1)), (0, .ref (mad E 0))]) hx hb dX9_canTurn_26 hl (k := 1) rfl rfl (by decide) rfl (fun ls hl => ?_)
        refine lv_goto (tgt := 2) hx hb dX9_canTurn_29 (by decide) ?_
        exact ih _ _ h _ _ _ S (lv_sub hl [1, 0] rfl) kr kx
      · rw [if_neg c4] at h
        refine lv_aload_n hx hb dX9_canTurn_16 rfl (lv_at hl 0 rfl) ?_
        refine lv_iload_n hx hb dX9_canTurn_17 rfl (lv_at hl 1 rfl) ?_
        obtain ⟨v6, e5, h⟩ := bd1_inv h
        refine call_m_noTurn hE F hK S e5 hl.1 (Nat.le_of_ble_eq_true rfl) ⟨Nat.le_of_ble_eq_true rfl, Nat.le_of_ble_eq_true rfl⟩ ⟨Nat.zero_le _, Nat.zero_le _⟩ dX9_canTurn_18 (fun H locs S => ?_)
        refine lv_if_ne (tgt := 26) hx hb dX9_canTurn_21 (by decide) (fun c7 => ?_) (fun c7 => ?_)
        · rw [if_neg c7] at h
          refine lv_iinc (v := (y1 + 1)) (lv' := [(1, .int (y1 + 1)), (0, .ref (mad E 0))]) hx hb dX9_canTurn_26 hl (k := 1) rfl rfl (by decide) rfl (fun ls hl => ?_)
          refine lv_goto (tgt := 2) hx hb dX9_canTurn_29 (by decide) ?_
          exact ih _ _ h _ _ _ S (lv_sub hl [1, 0] rfl) kr kx
        · rw [if_pos c7] at h
          refine lv_iconst (v := 1) hx hb dX9_canTurn_24 (by decide) ?_
          have hq := kr _ (Option.some.inj h).symm
          subst hq
          exact g_zret F hr hlk S zN_1 dX9_canTurn_25
set_option maxHeartbeats 4000000 in
set_option maxRecDepth 100000 in
theorem met_m_canTurn (l : Launch) (E : mEnv) (hE : mInj E) (g : mS)  (r : Int32) (h : fm_canTurn g = some r) : Met l yX9_canTurn (ws_ yX9_canTurn cX9_canTurn 2 (some .boolean)) rm_m_canTurn (va_Pc [.ref (mad E 0)] (gPre (mK E) (mP E g))) (gQi r (mP E g) (mA E)) 0 0 (mA E) := by
  refine g_met (own := RX9) (by decide) rfl (Nat.le_of_ble_eq_true rfl) ?_
  intro p e s m args below meth c ls F hr hlk hK S hl
  have hx := F.1
  have hb := F.2.1
  have hl : lv_has ls 2 [(0, .ref (mad E 0))] := hl
  unfold fm_canTurn at h
  refine lv_iconst (v := 0) hx hb dX9_canTurn_0 (by decide) ?_
  refine lv_istore_n (lv' := [(1, .int 0), (0, .ref (mad E 0))]) hx hb dX9_canTurn_1 rfl hl (by decide) rfl (fun ls hl => ?_)
  rcases bs0_inv h with ⟨r9, e8, h⟩ | ⟨e8, h⟩
  · exact loop_m_canTurn_1 E hE F hr hlk hK _ _ _ e8 _ _ _ S (lv_sub hl [1, 0] rfl) (fun rz o => by cases o; exact Option.some.inj h) (fun  H locs ls o S hl => by cases o)
  · refine loop_m_canTurn_1 E hE F hr hlk hK _ _ _ e8 _ _ _ S (lv_sub hl [1, 0] rfl) (fun rz o => by cases o) (fun  H locs ls o S hl => ?_)
    cases o
    refine lv_iconst (v := 0) hx hb dX9_canTurn_32 (by decide) ?_
    cases h
    exact g_zret F hr hlk S zN_0 dX9_canTurn_33
theorem call_m_canTurn {p : Program} {l : Launch} {e : Env} {s : State} {m : MethodId} {args : Array Value} {below : List Frame} {meth : Method} {c : Code} {R : Room} {H : Heap} {locs : List Loc} {cells slots pc nL : Nat} {Q : State → Prop} {ls : Array Slot} {rest : List Value} {cc : ByteArray} {E : mEnv} (hE : mInj E) {g : mS} {r : Int32} (F : CallFix p m c cc nL s args lw_all RX9) (hK : mK E s) (S : gS (mA E) s.heap (mP E g) H locs) (h : fm_canTurn g = some r) (hls : ls.size = nL) (hW : (rest.map fun v => v.category).sum ≤ 8) (hR : rm_m_canTurn.frames + 1 ≤ R.frames ∧ 8 + (2 + 11) + rm_m_canTurn.locals ≤ R.locals) (hf : cells ≤ R.cells ∧ slots ≤ R.slots) (hdg : decode cc pc = .ok (.invokevirtual 215, 3))
    (kk : ∀ (H1 : Heap) (locs1 : List Loc), gS (mA E) s.heap (mP E g) H1 locs1 → W p l e R s m args below meth c H1 locs1 cells slots Q (F0 m (pc + 3) ls (.int r :: rest))) : W p l e R s m args below meth c H locs cells slots Q (F0 m pc ls (.ref (mad E 0) :: rest)) :=
  g_ki (g_runV F hK (mKm E) S (met_m_canTurn l E hE g  r h) (cwV 0 F.2.2.2.2 (lw_V q2098 q2100 qs74 q121 q2101) rfl rfl rfl (by decide +kernel) hR) (m_recv hK S) rfl hls rfl hW hdg hf) S kk
abbrev rm_m_pass : Room := { frames := 9, cells := 0, slots := 0, locals := 208 }
def fm_pass (g : mS)  : Option (Int32 × mS) :=
  bd1 (wrF g 0 0) fun g1 =>
  bd1 (fm_isOver g1) fun v4 =>
  if v4 = 0 then
    bd1 (fm_canTurn g1) fun v7 =>
    if v7 = 0 then
      bd1 (fm_keepPast g1 1) fun g10 =>
      bd2 (fm_move g10 (-1)) fun v12 g13 =>
      some (v12, g13)
    else
      some ((-10), g1)
  else
    some ((-6), g1)
set_option maxHeartbeats 4000000 in
set_option maxRecDepth 100000 in
theorem met_m_pass (l : Launch) (E : mEnv) (hE : mInj E) (g : mS)  (r : Int32) (gZ : mS) (h : fm_pass g = some (r, gZ)) : Met l yX9_pass (ws_ yX9_pass cX9_pass 1 (some .int)) rm_m_pass (va_Pc [.ref (mad E 0)] (gPre (mK E) (mP E g))) (gQi r (mP E gZ) (mA E)) 0 0 (mA E) := by
  refine g_met (own := RX9) (by decide) rfl (Nat.le_of_ble_eq_true rfl) ?_
  intro p e s m args below meth c ls F hr hlk hK S hl
  have hx := F.1
  have hb := F.2.1
  have hl : lv_has ls 1 [(0, .ref (mad E 0))] := hl
  unfold fm_pass at h
  refine lv_aload_n hx hb dX9_pass_0 rfl (lv_at hl 0 rfl) ?_
  refine lv_iconst (v := 0) hx hb dX9_pass_1 (by decide) ?_
  obtain ⟨g1, e2, h⟩ := bd1_inv h
  refine m_put0 hE F hK S e2 dX9_pass_2 (fun H locs S => ?_)
  refine lv_aload_n hx hb dX9_pass_5 rfl (lv_at hl 0 rfl) ?_
  obtain ⟨v4, e3, h⟩ := bd1_inv h
  refine call_m_isOver hE F hK S e3 hl.1 (Nat.le_of_ble_eq_true rfl) ⟨Nat.le_of_ble_eq_true rfl, Nat.le_of_ble_eq_true rfl⟩ ⟨Nat.zero_le _, Nat.zero_le _⟩ dX9_pass_6 (fun H locs S => ?_)
  refine lv_if_eq (tgt := 15) hx hb dX9_pass_9 (by decide) (fun c5 => ?_) (fun c5 => ?_)
  · rw [if_pos c5] at h
    refine lv_aload_n hx hb dX9_pass_15 rfl (lv_at hl 0 rfl) ?_
    obtain ⟨v7, e6, h⟩ := bd1_inv h
    refine call_m_canTurn hE F hK S e6 hl.1 (Nat.le_of_ble_eq_true rfl) ⟨Nat.le_of_ble_eq_true rfl, Nat.le_of_ble_eq_true rfl⟩ ⟨Nat.zero_le _, Nat.zero_le _⟩ dX9_pass_16 (fun H locs S => ?_)
    refine lv_if_eq (tgt := 25) hx hb dX9_pass_19 (by decide) (fun c8 => ?_) (fun c8 => ?_)
    · rw [if_pos c8] at h
      refine lv_aload_n hx hb dX9_pass_25 rfl (lv_at hl 0 rfl) ?_
      refine lv_aload_n hx hb dX9_pass_26 rfl (lv_at hl 0 rfl) ?_
      refine m_get1 F hK S dX9_pass_27 ?_
      obtain ⟨g10, e9, h⟩ := bd1_inv h
      refine call_m_keepPast hE F hK S e9 hl.1 (Nat.le_of_ble_eq_true rfl) ⟨Nat.le_of_ble_eq_true rfl, Nat.le_of_ble_eq_true rfl⟩ ⟨Nat.zero_le _, Nat.zero_le _⟩ dX9_pass_30 (fun H locs S => ?_)
      refine lv_aload_n hx hb dX9_pass_33 rfl (lv_at hl 0 rfl) ?_
      refine lv_iconst (v := (-1)) hx hb dX9_pass_34 (by decide) ?_
      obtain ⟨v12, g13, e11, h⟩ := bd2_inv h
      refine call_m_move hE F hK S e11 hl.1 (Nat.le_of_ble_eq_true rfl) ⟨Nat.le_of_ble_eq_true rfl, Nat.le_of_ble_eq_true rfl⟩ ⟨Nat.zero_le _, Nat.zero_le _⟩ dX9_pass_35 (fun H locs S => ?_)
      cases h
      exact g_iret F hr hlk S rfl dX9_pass_38
    · rw [if_neg c8] at h
      refine lv_bipush (v := (-10)) hx hb dX9_pass_22 (by decide) ?_
      cases h
      exact g_iret F hr hlk S rfl dX9_pass_24
  · rw [if_neg c5] at h
    refine lv_bipush (v := (-6)) hx hb dX9_pass_12 (by decide) ?_
    cases h
    exact g_iret F hr hlk S rfl dX9_pass_14
abbrev rm_m_undo : Room := { frames := 1, cells := 0, slots := 0, locals := 22 }
def fm_undo (g : mS)  : Option (Int32 × mS) :=
  bd1 (wrF g 0 0) fun g1 =>
  if (g1 0 3) = 0 then
    some ((-1), g1)
  else
    bd1 (wrF g1 3 ((g1 0 3) - 1)) fun g4 =>
    bd1 (rdR g4 2 (g4 0 3)) fun v6 =>
    bd1 (fm_copy g4 v6 1) fun g9 =>
    some ((g9 0 3), g9)
set_option maxHeartbeats 4000000 in
set_option maxRecDepth 100000 in
theorem met_m_undo (l : Launch) (E : mEnv) (hE : mInj E) (g : mS)  (r : Int32) (gZ : mS) (h : fm_undo g = some (r, gZ)) : Met l yX9_undo (ws_ yX9_undo cX9_undo 1 (some .int)) rm_m_undo (va_Pc [.ref (mad E 0)] (gPre (mK E) (mP E g))) (gQi r (mP E gZ) (mA E)) 0 0 (mA E) := by
  refine g_met (own := RX9) (by decide) rfl (Nat.le_of_ble_eq_true rfl) ?_
  intro p e s m args below meth c ls F hr hlk hK S hl
  have hx := F.1
  have hb := F.2.1
  have hl : lv_has ls 1 [(0, .ref (mad E 0))] := hl
  unfold fm_undo at h
  refine lv_aload_n hx hb dX9_undo_0 rfl (lv_at hl 0 rfl) ?_
  refine lv_iconst (v := 0) hx hb dX9_undo_1 (by decide) ?_
  obtain ⟨g1, e2, h⟩ := bd1_inv h
  refine m_put0 hE F hK S e2 dX9_undo_2 (fun H locs S => ?_)
  refine lv_aload_n hx hb dX9_undo_5 rfl (lv_at hl 0 rfl) ?_
  refine m_get3 F hK S dX9_undo_6 ?_
  refine lv_if_ne (tgt := 14) hx hb dX9_undo_9 (by decide) (fun c3 => ?_) (fun c3 => ?_)
  · rw [if_neg c3] at h
    refine lv_aload_n hx hb dX9_undo_14 rfl (lv_at hl 0 rfl) ?_
    refine lv_dup hx hb dX9_undo_15 rfl ?_
    refine m_get3 F hK S dX9_undo_16 ?_
    refine lv_iconst (v := 1) hx hb dX9_undo_19 (by decide) ?_
    refine lv_isub hx hb dX9_undo_20 ?_
    obtain ⟨g4, e5, h⟩ := bd1_inv h
    refine m_put3 hE F hK S e5 dX9_undo_21 (fun H locs S => ?_)
    refine lv_aload_n hx hb dX9_undo_24 rfl (lv_at hl 0 rfl) ?_
    refine m_get2 F hK S dX9_undo_25 ?_
    refine lv_aload_n hx hb dX9_undo_28 rfl (lv_at hl 0 rfl) ?_
    refine m_get3 F hK S dX9_undo_29 ?_
    obtain ⟨v6, e7, h⟩ := bd1_inv h
    refine m_aald F hK S e7 dX9_undo_32 ?_
    refine lv_aload_n hx hb dX9_undo_33 rfl (lv_at hl 0 rfl) ?_
    refine m_get1 F hK S dX9_undo_34 ?_
    obtain ⟨g9, e8, h⟩ := bd1_inv h
    refine call_m_copy hE F hK S e8 hl.1 (Nat.le_of_ble_eq_true rfl) ⟨Nat.le_of_ble_eq_true rfl, Nat.le_of_ble_eq_true rfl⟩ ⟨Nat.zero_le _, Nat.zero_le _⟩ dX9_undo_37 (fun H locs S => ?_)
    refine lv_aload_n hx hb dX9_undo_40 rfl (lv_at hl 0 rfl) ?_
    refine m_get3 F hK S dX9_undo_41 ?_
    cases h
    exact g_iret F hr hlk S rfl dX9_undo_44
  · rw [if_pos c3] at h
    refine lv_iconst (v := (-1)) hx hb dX9_undo_12 (by decide) ?_
    cases h
    exact g_iret F hr hlk S rfl dX9_undo_13
abbrev rm_m_keep : Room := { frames := 1, cells := 0, slots := 0, locals := 24 }
def fm_keep (g : mS) (x1 : Int32) : Option (Int32 × mS) :=
  bd1 (wrF g 0 0) fun g1 =>
  bd2 (fm_bad g1 x1 0 1 1) fun v4 g5 =>
  if v4 = 0 then
    bd1 (rdR g5 3 x1) fun v7 =>
    bd1 (fm_copy g5 1 v7) fun g10 =>
    bd1 (wrZ g10 4 x1 1) fun g11 =>
    bd1 (rdI g11 1 4) fun v13 =>
    some (v13, g11)
  else
    some (0, g5)
set_option maxHeartbeats 4000000 in
set_option maxRecDepth 100000 in
theorem met_m_keep (l : Launch) (E : mEnv) (hE : mInj E) (g : mS) (x1 : Int32) (r : Int32) (gZ : mS) (h : fm_keep g x1 = some (r, gZ)) : Met l yX9_keep (ws_ yX9_keep cX9_keep 2 (some .int)) rm_m_keep (va_Pc [.ref (mad E 0), .int x1] (gPre (mK E) (mP E g))) (gQi r (mP E gZ) (mA E)) 0 0 (mA E) := by
  refine g_met (own := RX9) (by decide) rfl (Nat.le_of_ble_eq_true rfl) ?_
  intro p e s m args below meth c ls F hr hlk hK S hl
  have hx := F.1
  have hb := F.2.1
  have hl : lv_has ls 2 [(0, .ref (mad E 0)), (1, .int x1)] := hl
  unfold fm_keep at h
  refine lv_aload_n hx hb dX9_keep_0 rfl (lv_at hl 0 rfl) ?_
  refine lv_iconst (v := 0) hx hb dX9_keep_1 (by decide) ?_
  obtain ⟨g1, e2, h⟩ := bd1_inv h
  refine m_put0 hE F hK S e2 dX9_keep_2 (fun H locs S => ?_)
  refine lv_aload_n hx hb dX9_keep_5 rfl (lv_at hl 0 rfl) ?_
  refine lv_iload_n hx hb dX9_keep_6 rfl (lv_at hl 1 rfl) ?_
  refine lv_iconst (v := 0) hx hb dX9_keep_7 (by decide) ?_
  refine lv_iconst (v := 1) hx hb dX9_keep_8 (by decide) ?_
  refine lv_iconst (v := 1) hx hb dX9_keep_9 (by decide) ?_
  obtain ⟨v4, g5, e3, h⟩ := bd2_inv h
  refine call_m_bad hE F hK S e3 hl.1 (Nat.le_of_ble_eq_true rfl) ⟨Nat.le_of_ble_eq_true rfl, Nat.le_of_ble_eq_true rfl⟩ ⟨Nat.zero_le _, Nat.zero_le _⟩ dX9_keep_10 (fun H locs S => ?_)
  refine lv_if_eq (tgt := 18) hx hb dX9_keep_13 (by decide) (fun c6 => ?_) (fun c6 => ?_)
  · rw [if_pos c6] at h
    refine lv_aload_n hx hb dX9_keep_18 rfl (lv_at hl 0 rfl) ?_
    refine m_get1 F hK S dX9_keep_19 ?_
    refine lv_aload_n hx hb dX9_keep_22 rfl (lv_at hl 0 rfl) ?_
    refine m_get4 F hK S dX9_keep_23 ?_
    refine lv_iload_n hx hb dX9_keep_26 rfl (lv_at hl 1 rfl) ?_
    obtain ⟨v7, e8, h⟩ := bd1_inv h
    refine m_aald F hK S e8 dX9_keep_27 ?_
    obtain ⟨g10, e9, h⟩ := bd1_inv h
    refine call_m_copy hE F hK S e9 hl.1 (Nat.le_of_ble_eq_true rfl) ⟨Nat.le_of_ble_eq_true rfl, Nat.le_of_ble_eq_true rfl⟩ ⟨Nat.zero_le _, Nat.zero_le _⟩ dX9_keep_28 (fun H locs S => ?_)
    refine lv_aload_n hx hb dX9_keep_31 rfl (lv_at hl 0 rfl) ?_
    refine m_get5 F hK S dX9_keep_32 ?_
    refine lv_iload_n hx hb dX9_keep_35 rfl (lv_at hl 1 rfl) ?_
    refine lv_iconst (v := 1) hx hb dX9_keep_36 (by decide) ?_
    obtain ⟨g11, e12, h⟩ := bd1_inv h
    refine m_zast hE F hK S e12 dX9_keep_37 (fun H locs S => ?_)
    refine lv_aload_n hx hb dX9_keep_38 rfl (lv_at hl 0 rfl) ?_
    refine m_get1 F hK S dX9_keep_39 ?_
    refine lv_iconst (v := 4) hx hb dX9_keep_42 (by decide) ?_
    obtain ⟨v13, e14, h⟩ := bd1_inv h
    refine m_iald F hK S e14 dX9_keep_43 ?_
    cases h
    exact g_iret F hr hlk S rfl dX9_keep_44
  · rw [if_neg c6] at h
    refine lv_iconst (v := 0) hx hb dX9_keep_16 (by decide) ?_
    cases h
    exact g_iret F hr hlk S rfl dX9_keep_17
abbrev rm_m_restore : Room := { frames := 1, cells := 0, slots := 0, locals := 24 }
def fm_restore (g : mS) (x1 : Int32) : Option (Int32 × mS) :=
  bd1 (wrF g 0 0) fun g1 =>
  bd2 (fm_bad g1 x1 0 1 1) fun v4 g5 =>
  if v4 = 0 then
    bd1 (rdZ g5 4 x1) fun v7 =>
    if v7 = 0 then
      some ((-1), g5)
    else
      bd1 (rdR g5 3 x1) fun v10 =>
      bd1 (fm_copy g5 v10 1) fun g13 =>
      bd1 (wrF g13 3 0) fun g14 =>
      bd1 (rdI g14 1 4) fun v16 =>
      some (v16, g14)
  else
    some (0, g5)
set_option maxHeartbeats 4000000 in
set_option maxRecDepth 100000 in
theorem met_m_restore (l : Launch) (E : mEnv) (hE : mInj E) (g : mS) (x1 : Int32) (r : Int32) (gZ : mS) (h : fm_restore g x1 = some (r, gZ)) : Met l yX9_restore (ws_ yX9_restore cX9_restore 2 (some .int)) rm_m_restore (va_Pc [.ref (mad E 0), .int x1] (gPre (mK E) (mP E g))) (gQi r (mP E gZ) (mA E)) 0 0 (mA E) := by
  refine g_met (own := RX9) (by decide) rfl (Nat.le_of_ble_eq_true rfl) ?_
  intro p e s m args below meth c ls F hr hlk hK S hl
  have hx := F.1
  have hb := F.2.1
  have hl : lv_has ls 2 [(0, .ref (mad E 0)), (1, .int x1)] := hl
  unfold fm_restore at h
  refine lv_aload_n hx hb dX9_restore_0 rfl (lv_at hl 0 rfl) ?_
  refine lv_iconst (v := 0) hx hb dX9_restore_1 (by decide) ?_
  obtain ⟨g1, e2, h⟩ := bd1_inv h
  refine m_put0 hE F hK S e2 dX9_restore_2 (fun H locs S => ?_)
  refine lv_aload_n hx hb dX9_restore_5 rfl (lv_at hl 0 rfl) ?_
  refine lv_iload_n hx hb dX9_restore_6 rfl (lv_at hl 1 rfl) ?_
  refine lv_iconst (v := 0) hx hb dX9_restore_7 (by decide) ?_
  refine lv_iconst (v := 1) hx hb dX9_restore_8 (by decide) ?_
  refine lv_iconst (v := 1) hx hb dX9_restore_9 (by decide) ?_
  obtain ⟨v4, g5, e3, h⟩ := bd2_inv h
  refine call_m_bad hE F hK S e3 hl.1 (Nat.le_of_ble_eq_true rfl) ⟨Nat.le_of_ble_eq_true rfl, Nat.le_of_ble_eq_true rfl⟩ ⟨Nat.zero_le _, Nat.zero_le _⟩ dX9_restore_10 (fun H locs S => ?_)
  refine lv_if_eq (tgt := 18) hx hb dX9_restore_13 (by decide) (fun c6 => ?_) (fun c6 => ?_)
  · rw [if_pos c6] at h
    refine lv_aload_n hx hb dX9_restore_18 rfl (lv_at hl 0 rfl) ?_
    refine m_get5 F hK S dX9_restore_19 ?_
    refine lv_iload_n hx hb dX9_restore_22 rfl (lv_at hl 1 rfl) ?_
    obtain ⟨v7, e8, h⟩ := bd1_inv h
    refine m_zald F hK S e8 dX9_restore_23 ?_
    refine lv_if_ne (tgt := 29) hx hb dX9_restore_24 (by decide) (fun c9 => ?_) (fun c9 => ?_)
    · rw [if_neg c9] at h
      refine lv_aload_n hx hb dX9_restore_29 rfl (lv_at hl 0 rfl) ?_
      refine m_get4 F hK S dX9_restore_30 ?_
      refine lv_iload_n hx hb dX9_restore_33 rfl (lv_at hl 1 rfl) ?_
      obtain ⟨v10, e11, h⟩ := bd1_inv h
      refine m_aald F hK S e11 dX9_restore_34 ?_
      refine lv_aload_n hx hb dX9_restore_35 rfl (lv_at hl 0 rfl) ?_
      refine m_get1 F hK S dX9_restore_36 ?_
      obtain ⟨g13, e12, h⟩ := bd1_inv h
      refine call_m_copy hE F hK S e12 hl.1 (Nat.le_of_ble_eq_true rfl) ⟨Nat.le_of_ble_eq_true rfl, Nat.le_of_ble_eq_true rfl⟩ ⟨Nat.zero_le _, Nat.zero_le _⟩ dX9_restore_39 (fun H locs S => ?_)
      refine lv_aload_n hx hb dX9_restore_42 rfl (lv_at hl 0 rfl) ?_
      refine lv_iconst (v := 0) hx hb dX9_restore_43 (by decide) ?_
      obtain ⟨g14, e15, h⟩ := bd1_inv h
      refine m_put3 hE F hK S e15 dX9_restore_44 (fun H locs S => ?_)
      refine lv_aload_n hx hb dX9_restore_47 rfl (lv_at hl 0 rfl) ?_
      refine m_get1 F hK S dX9_restore_48 ?_
      refine lv_iconst (v := 4) hx hb dX9_restore_51 (by decide) ?_
      obtain ⟨v16, e17, h⟩ := bd1_inv h
      refine m_iald F hK S e17 dX9_restore_52 ?_
      cases h
      exact g_iret F hr hlk S rfl dX9_restore_53
    · rw [if_pos c9] at h
      refine lv_iconst (v := (-1)) hx hb dX9_restore_27 (by decide) ?_
      cases h
      exact g_iret F hr hlk S rfl dX9_restore_28
  · rw [if_neg c6] at h
    refine lv_iconst (v := 0) hx hb dX9_restore_16 (by decide) ?_
    cases h
    exact g_iret F hr hlk S rfl dX9_restore_17
abbrev rm_m_letterAt : Room := { frames := 0, cells := 0, slots := 0, locals := 0 }
def fm_letterAt (g : mS) (x1 : Int32) : Option (Int32) :=
  bd1 ((
    if (g 0 13) ≤ x1 then
      some 0
    else
      bd1 (rdI g 11 x1) fun v2 =>
      if v2 < 97 then
        some 0
      else
        bd1 (rdI g 11 x1) fun v5 =>
        if 122 < v5 then
          some 0
        else
          some 1) : Option (Int32)) fun v8 =>
  some (zN v8)
set_option maxHeartbeats 4000000 in
set_option maxRecDepth 100000 in
theorem met_m_letterAt (l : Launch) (E : mEnv) (hE : mInj E) (g : mS) (x1 : Int32) (r : Int32) (h : fm_letterAt g x1 = some r) : Met l yX9_letterAt (ws_ yX9_letterAt cX9_letterAt 2 (some .boolean)) rm_m_letterAt (va_Pc [.ref (mad E 0), .int x1] (gPre (mK E) (mP E g))) (gQi r (mP E g) (mA E)) 0 0 (mA E) := by
  refine g_met (own := RX9) (by decide) rfl (Nat.le_of_ble_eq_true rfl) ?_
  intro p e s m args below meth c ls F hr hlk hK S hl
  have hx := F.1
  have hb := F.2.1
  have hl : lv_has ls 2 [(0, .ref (mad E 0)), (1, .int x1)] := hl
  unfold fm_letterAt at h
  refine lv_iload_n hx hb dX9_letterAt_0 rfl (lv_at hl 1 rfl) ?_
  refine lv_aload_n hx hb dX9_letterAt_1 rfl (lv_at hl 0 rfl) ?_
  refine m_get13 F hK S dX9_letterAt_2 ?_
  obtain ⟨v8, hB, h⟩ := bd1_inv h
  have hJ35 : ∀ (H : Heap) (locs : List Loc) (ls : Array Slot), gS (mA E) s.heap (mP E g) H locs → lv_has ls 2 [] → W p l e rm_m_letterAt s m args below meth c H locs 0 0 (MQ below (gQi r (mP E g) (mA E)) args s 0 0 (mA E)) (F0 m 35 ls [.int v8]) := by
    intro H locs ls S hl
    cases h
    exact g_zret F hr hlk S rfl dX9_letterAt_35
  clear h
  have h := hB
  clear hB
  refine lv_icmp_ge (tgt := 34) hx hb dX9_letterAt_5 (by decide) (fun c1 => ?_) (fun c1 => ?_)
  · rw [if_pos c1] at h
    refine lv_iconst (v := 0) hx hb dX9_letterAt_34 (by decide) ?_
    cases h
    exact hJ35 _ _ _ S (lv_sub hl [] rfl)
  · rw [if_neg c1] at h
    refine lv_aload_n hx hb dX9_letterAt_8 rfl (lv_at hl 0 rfl) ?_
    refine m_get12 F hK S dX9_letterAt_9 ?_
    refine lv_iload_n hx hb dX9_letterAt_12 rfl (lv_at hl 1 rfl) ?_
    obtain ⟨v2, e3, h⟩ := bd1_inv h
    refine m_iald F hK S e3 dX9_letterAt_13 ?_
    refine lv_bipush (v := 97) hx hb dX9_letterAt_14 (by decide) ?_
    refine lv_icmp_lt (tgt := 34) hx hb dX9_letterAt_16 (by decide) (fun c4 => ?_) (fun c4 => ?_)
    · rw [if_pos c4] at h
      refine lv_iconst (v := 0) hx hb dX9_letterAt_34 (by decide) ?_
      cases h
      exact hJ35 _ _ _ S (lv_sub hl [] rfl)
    · rw [if_neg c4] at h
      refine lv_aload_n hx hb dX9_letterAt_19 rfl (lv_at hl 0 rfl) ?_
      refine m_get12 F hK S dX9_letterAt_20 ?_
      refine lv_iload_n hx hb dX9_letterAt_23 rfl (lv_at hl 1 rfl) ?_
      obtain ⟨v5, e6, h⟩ := bd1_inv h
      refine m_iald F hK S e6 dX9_letterAt_24 ?_
      refine lv_bipush (v := 122) hx hb dX9_letterAt_25 (by decide) ?_
      refine lv_icmp_gt (tgt := 34) hx hb dX9_letterAt_27 (by decide) (fun c7 => ?_) (fun c7 => ?_)
      · rw [if_pos c7] at h
        refine lv_iconst (v := 0) hx hb dX9_letterAt_34 (by decide) ?_
        cases h
        exact hJ35 _ _ _ S (lv_sub hl [] rfl)
      · rw [if_neg c7] at h
        refine lv_iconst (v := 1) hx hb dX9_letterAt_30 (by decide) ?_
        refine lv_goto (tgt := 35) hx hb dX9_letterAt_31 (by decide) ?_
        cases h
        exact hJ35 _ _ _ S (lv_sub hl [] rfl)
theorem call_m_letterAt {p : Program} {l : Launch} {e : Env} {s : State} {m : MethodId} {args : Array Value} {below : List Frame} {meth : Method} {c : Code} {R : Room} {H : Heap} {locs : List Loc} {cells slots pc nL : Nat} {Q : State → Prop} {ls : Array Slot} {rest : List Value} {cc : ByteArray} {E : mEnv} (hE : mInj E) {g : mS} {x1 : Int32} {r : Int32} (F : CallFix p m c cc nL s args lw_all RX9) (hK : mK E s) (S : gS (mA E) s.heap (mP E g) H locs) (h : fm_letterAt g x1 = some r) (hls : ls.size = nL) (hW : (rest.map fun v => v.category).sum ≤ 8) (hR : rm_m_letterAt.frames + 1 ≤ R.frames ∧ 8 + (2 + 11) + rm_m_letterAt.locals ≤ R.locals) (hf : cells ≤ R.cells ∧ slots ≤ R.slots) (hdg : decode cc pc = .ok (.invokevirtual 230, 3))
    (kk : ∀ (H1 : Heap) (locs1 : List Loc), gS (mA E) s.heap (mP E g) H1 locs1 → W p l e R s m args below meth c H1 locs1 cells slots Q (F0 m (pc + 3) ls (.int r :: rest))) : W p l e R s m args below meth c H locs cells slots Q (F0 m pc ls (.int x1 :: .ref (mad E 0) :: rest)) :=
  g_ki (g_runV F hK (mKm E) S (met_m_letterAt l E hE g x1 r h) (cwV 1 F.2.2.2.2 (lw_V q2122 q2124 qs76 q121 q2125) rfl rfl rfl (by decide +kernel) hR) (m_recv hK S) rfl hls rfl hW hdg hf) S kk
abbrev rm_m_digitAt : Room := { frames := 0, cells := 0, slots := 0, locals := 0 }
def fm_digitAt (g : mS) (x1 : Int32) : Option (Int32) :=
  bd1 ((
    if (g 0 13) ≤ x1 then
      some 0
    else
      bd1 (rdI g 11 x1) fun v2 =>
      if v2 < 48 then
        some 0
      else
        bd1 (rdI g 11 x1) fun v5 =>
        if 57 < v5 then
          some 0
        else
          some 1) : Option (Int32)) fun v8 =>
  some (zN v8)
set_option maxHeartbeats 4000000 in
set_option maxRecDepth 100000 in
theorem met_m_digitAt (l : Launch) (E : mEnv) (hE : mInj E) (g : mS) (x1 : Int32) (r : Int32) (h : fm_digitAt g x1 = some r) : Met l yX9_digitAt (ws_ yX9_digitAt cX9_digitAt 2 (some .boolean)) rm_m_digitAt (va_Pc [.ref (mad E 0), .int x1] (gPre (mK E) (mP E g))) (gQi r (mP E g) (mA E)) 0 0 (mA E) := by
  refine g_met (own := RX9) (by decide) rfl (Nat.le_of_ble_eq_true rfl) ?_
  intro p e s m args below meth c ls F hr hlk hK S hl
  have hx := F.1
  have hb := F.2.1
  have hl : lv_has ls 2 [(0, .ref (mad E 0)), (1, .int x1)] := hl
  unfold fm_digitAt at h
  refine lv_iload_n hx hb dX9_digitAt_0 rfl (lv_at hl 1 rfl) ?_
  refine lv_aload_n hx hb dX9_digitAt_1 rfl (lv_at hl 0 rfl) ?_
  refine m_get13 F hK S dX9_digitAt_2 ?_
  obtain ⟨v8, hB, h⟩ := bd1_inv h
  have hJ35 : ∀ (H : Heap) (locs : List Loc) (ls : Array Slot), gS (mA E) s.heap (mP E g) H locs → lv_has ls 2 [] → W p l e rm_m_digitAt s m args below meth c H locs 0 0 (MQ below (gQi r (mP E g) (mA E)) args s 0 0 (mA E)) (F0 m 35 ls [.int v8]) := by
    intro H locs ls S hl
    cases h
    exact g_zret F hr hlk S rfl dX9_digitAt_35
  clear h
  have h := hB
  clear hB
  refine lv_icmp_ge (tgt := 34) hx hb dX9_digitAt_5 (by decide) (fun c1 => ?_) (fun c1 => ?_)
  · rw [if_pos c1] at h
    refine lv_iconst (v := 0) hx hb dX9_digitAt_34 (by decide) ?_
    cases h
    exact hJ35 _ _ _ S (lv_sub hl [] rfl)
  · rw [if_neg c1] at h
    refine lv_aload_n hx hb dX9_digitAt_8 rfl (lv_at hl 0 rfl) ?_
    refine m_get12 F hK S dX9_digitAt_9 ?_
    refine lv_iload_n hx hb dX9_digitAt_12 rfl (lv_at hl 1 rfl) ?_
    obtain ⟨v2, e3, h⟩ := bd1_inv h
    refine m_iald F hK S e3 dX9_digitAt_13 ?_
    refine lv_bipush (v := 48) hx hb dX9_digitAt_14 (by decide) ?_
    refine lv_icmp_lt (tgt := 34) hx hb dX9_digitAt_16 (by decide) (fun c4 => ?_) (fun c4 => ?_)
    · rw [if_pos c4] at h
      refine lv_iconst (v := 0) hx hb dX9_digitAt_34 (by decide) ?_
      cases h
      exact hJ35 _ _ _ S (lv_sub hl [] rfl)
    · rw [if_neg c4] at h
      refine lv_aload_n hx hb dX9_digitAt_19 rfl (lv_at hl 0 rfl) ?_
      refine m_get12 F hK S dX9_digitAt_20 ?_
      refine lv_iload_n hx hb dX9_digitAt_23 rfl (lv_at hl 1 rfl) ?_
      obtain ⟨v5, e6, h⟩ := bd1_inv h
      refine m_iald F hK S e6 dX9_digitAt_24 ?_
      refine lv_bipush (v := 57) hx hb dX9_digitAt_25 (by decide) ?_
      refine lv_icmp_gt (tgt := 34) hx hb dX9_digitAt_27 (by decide) (fun c7 => ?_) (fun c7 => ?_)
      · rw [if_pos c7] at h
        refine lv_iconst (v := 0) hx hb dX9_digitAt_34 (by decide) ?_
        cases h
        exact hJ35 _ _ _ S (lv_sub hl [] rfl)
      · rw [if_neg c7] at h
        refine lv_iconst (v := 1) hx hb dX9_digitAt_30 (by decide) ?_
        refine lv_goto (tgt := 35) hx hb dX9_digitAt_31 (by decide) ?_
        cases h
        exact hJ35 _ _ _ S (lv_sub hl [] rfl)
theorem call_m_digitAt {p : Program} {l : Launch} {e : Env} {s : State} {m : MethodId} {args : Array Value} {below : List Frame} {meth : Method} {c : Code} {R : Room} {H : Heap} {locs : List Loc} {cells slots pc nL : Nat} {Q : State → Prop} {ls : Array Slot} {rest : List Value} {cc : ByteArray} {E : mEnv} (hE : mInj E) {g : mS} {x1 : Int32} {r : Int32} (F : CallFix p m c cc nL s args lw_all RX9) (hK : mK E s) (S : gS (mA E) s.heap (mP E g) H locs) (h : fm_digitAt g x1 = some r) (hls : ls.size = nL) (hW : (rest.map fun v => v.category).sum ≤ 8) (hR : rm_m_digitAt.frames + 1 ≤ R.frames ∧ 8 + (2 + 11) + rm_m_digitAt.locals ≤ R.locals) (hf : cells ≤ R.cells ∧ slots ≤ R.slots) (hdg : decode cc pc = .ok (.invokevirtual 233, 3))
    (kk : ∀ (H1 : Heap) (locs1 : List Loc), gS (mA E) s.heap (mP E g) H1 locs1 → W p l e R s m args below meth c H1 locs1 cells slots Q (F0 m (pc + 3) ls (.int r :: rest))) : W p l e R s m args below meth c H locs cells slots Q (F0 m pc ls (.int x1 :: .ref (mad E 0) :: rest)) :=
  g_ki (g_runV F hK (mKm E) S (met_m_digitAt l E hE g x1 r h) (cwV 1 F.2.2.2.2 (lw_V q2126 q2128 qs77 q121 q2129) rfl rfl rfl (by decide +kernel) hR) (m_recv hK S) rfl hls rfl hW hdg hf) S kk
abbrev rm_m_next : Room := { frames := 1, cells := 0, slots := 0, locals := 21 }
def Lm_next_1 : Nat → mS → Option (mS)
  | 0, _ => none
  | n + 1, g =>
    if (g 0 13) ≤ (g 0 26) then
      some g
    else
      bd1 (rdI g 11 (g 0 26)) fun v2 =>
      if v2 = 32 then
        bd1 (wrF g 26 ((g 0 26) + 1)) fun g5 =>
        Lm_next_1 n g5 
      else
        bd1 (rdI g 11 (g 0 26)) fun v7 =>
        if v7 = 10 then
          bd1 (wrF g 26 ((g 0 26) + 1)) fun g10 =>
          Lm_next_1 n g10 
        else
          some g
def Lm_next_2 : Nat → mS → Option (mS)
  | 0, _ => none
  | n + 1, g =>
    bd1 (fm_digitAt g (g 0 26)) fun v35 =>
    if v35 = 0 then
      some g
    else
      bd1 ((
        if 4 ≤ ((g 0 26) - (g 0 27)) then
          some (g 0 29)
        else
          bd1 (rdI g 11 (g 0 26)) fun v38 =>
          some (((10 * (g 0 29)) + v38) - 48)) : Option (Int32)) fun v40 =>
      bd1 (wrF g 29 v40) fun g41 =>
      bd1 (wrF g41 26 ((g41 0 26) + 1)) fun g43 =>
      Lm_next_2 n g43 
def Lm_next_3 : Nat → mS → Option (mS)
  | 0, _ => none
  | n + 1, g =>
    bd1 (fm_letterAt g (g 0 26)) fun v55 =>
    if v55 = 0 then
      some g
    else
      bd1 (wrF g 26 ((g 0 26) + 1)) fun g57 =>
      Lm_next_3 n g57 
def fm_next (g : mS)  : Option (mS) :=
  bd1 (Lm_next_1 FUEL g ) fun g13 =>
  bd1 (wrF g13 27 (g13 0 26)) fun g14 =>
  if (g14 0 26) = (g14 0 13) then
    bd1 (wrF g14 28 0) fun g64 =>
    some g64
  else
    bd1 (fm_letterAt g14 (g14 0 26)) fun v18 =>
    if v18 = 0 then
      bd1 (fm_digitAt g14 (g14 0 26)) fun v21 =>
      if v21 = 0 then
        bd1 (rdI g14 11 (g14 0 26)) fun v23 =>
        bd1 ((
          if v23 = 59 then
            some 1
          else
            some 4) : Option (Int32)) fun v26 =>
        bd1 (wrF g14 28 v26) fun g27 =>
        bd1 (wrF g27 26 ((g27 0 26) + 1)) fun g29 =>
        some g29
      else
        bd1 (wrF g14 29 0) fun g32 =>
        bd1 (Lm_next_2 FUEL g32 ) fun g47 =>
        bd1 ((
          if ((g47 0 26) - (g47 0 27)) ≤ 4 then
            some 2
          else
            some 4) : Option (Int32)) fun v49 =>
        bd1 (wrF g47 28 v49) fun g50 =>
        some g50
    else
      bd1 (Lm_next_3 FUEL g14 ) fun g60 =>
      bd1 (wrF g60 28 3) fun g61 =>
      some g61
set_option maxHeartbeats 4000000 in
set_option maxRecDepth 100000 in
theorem loop_m_next_1 {p : Program} {l : Launch} {e : Env} {s : State} {m : MethodId} {args : Array Value} {below : List Frame} {meth : Method} {c : Code} (E : mEnv) (hE : mInj E) (F : CallFix p m c cX9_next 1 s args lw_all RX9) (hr : meth.sig.returnType = none) (hlk : meth.locks = false) (hK : mK E s) {Q : State → Prop} : ∀ (n : Nat) (g : mS)  (o : mS), Lm_next_1 n g  = some o → ∀ (H : Heap) (locs : List Loc) (ls : Array Slot), gS (mA E) s.heap (mP E g) H locs → lv_has ls 1 [(0, .ref (mad E 0))] → (∀  (gx : mS) (H : Heap) (locs : List Loc) (ls : Array Slot), o = gx → gS (mA E) s.heap (mP E gx) H locs → lv_has ls 1 [(0, .ref (mad E 0))] → W p l e rm_m_next s m args below meth c H locs 0 0 Q (F0 m 52 ls [])) → W p l e rm_m_next s m args below meth c H locs 0 0 Q (F0 m 0 ls []) := by
  have hx := F.1
  have hb := F.2.1
  intro n
  induction n with
  | zero =>
    intro g o h
    rw [Lm_next_1] at h
    cases h
  | succ n ih =>
    intro g o h H locs ls S hl kx
    rw [Lm_next_1] at h
    refine lv_aload_n hx hb dX9_next_0 rfl (lv_at hl 0 rfl) ?_
    refine m_get26 F hK S dX9_next_1 ?_
    refine lv_aload_n hx hb dX9_next_4 rfl (lv_at hl 0 rfl) ?_
    refine m_get13 F hK S dX9_next_5 ?_
    refine lv_icmp_ge (tgt := 52) hx hb dX9_next_8 (by decide) (fun c1 => ?_) (fun c1 => ?_)
    · rw [if_pos c1] at h
      cases h
      exact kx _ _ _ _ rfl S (lv_sub hl [0] rfl)
    · rw [if_neg c1] at h
      refine lv_aload_n hx hb dX9_next_11 rfl (lv_at hl 0 rfl) ?_
      refine m_get12 F hK S dX9_next_12 ?_
      refine lv_aload_n hx hb dX9_next_15 rfl (lv_at hl 0 rfl) ?_
      refine m_get26 F hK S dX9_next_16 ?_
      obtain ⟨v2, e3, h⟩ := bd1_inv h
      refine m_iald F hK S e3 dX9_next_19 ?_
      refine lv_bipush (v := 32) hx hb dX9_next_20 (by decide) ?_
      refine lv_icmp_eq (tgt := 39) hx hb dX9_next_22 (by decide) (fun c4 => ?_) (fun c4 => ?_)
      · rw [if_pos c4] at h
        refine lv_aload_n hx hb dX9_next_39 rfl (lv_at hl 0 rfl) ?_
        refine lv_dup hx hb dX9_next_40 rfl ?_
        refine m_get26 F hK S dX9_next_41 ?_
        refine lv_iconst (v := 1) hx hb dX9_next_44 (by decide) ?_
        refine lv_iadd hx hb dX9_next_45 ?_
        obtain ⟨g5, e6, h⟩ := bd1_inv h
        refine m_put26 hE F hK S e6 dX9_next_46 (fun H locs S => ?_)
        refine lv_goto (tgt := 0) hx hb dX9_next_49 (by decide) ?_
        exact ih _ _ h _ _ _ S (lv_sub hl [0] rfl) kx
      · rw [if_neg c4] at h
        refine lv_aload_n hx hb dX9_next_25 rfl (lv_at hl 0 rfl) ?_
        refine m_get12 F hK S dX9_next_26 ?_
        refine lv_aload_n hx hb dX9_next_29 rfl (lv_at hl 0 rfl) ?_
        refine m_get26 F hK S dX9_next_30 ?_
        obtain ⟨v7, e8, h⟩ := bd1_inv h
        refine m_iald F hK S e8 dX9_next_33 ?_
        refine lv_bipush (v := 10) hx hb dX9_next_34 (by decide) ?_
        refine lv_icmp_ne (tgt := 52) hx hb dX9_next_36 (by decide) (fun c9 => ?_) (fun c9 => ?_)
        · rw [if_neg c9] at h
          cases h
          exact kx _ _ _ _ rfl S (lv_sub hl [0] rfl)
        · rw [if_pos c9] at h
          refine lv_aload_n hx hb dX9_next_39 rfl (lv_at hl 0 rfl) ?_
          refine lv_dup hx hb dX9_next_40 rfl ?_
          refine m_get26 F hK S dX9_next_41 ?_
          refine lv_iconst (v := 1) hx hb dX9_next_44 (by decide) ?_
          refine lv_iadd hx hb dX9_next_45 ?_
          obtain ⟨g10, e11, h⟩ := bd1_inv h
          refine m_put26 hE F hK S e11 dX9_next_46 (fun H locs S => ?_)
          refine lv_goto (tgt := 0) hx hb dX9_next_49 (by decide) ?_
          exact ih _ _ h _ _ _ S (lv_sub hl [0] rfl) kx
set_option maxHeartbeats 4000000 in
set_option maxRecDepth 100000 in
theorem loop_m_next_2 {p : Program} {l : Launch} {e : Env} {s : State} {m : MethodId} {args : Array Value} {below : List Frame} {meth : Method} {c : Code} (E : mEnv) (hE : mInj E) (F : CallFix p m c cX9_next 1 s args lw_all RX9) (hr : meth.sig.returnType = none) (hlk : meth.locks = false) (hK : mK E s) {Q : State → Prop} : ∀ (n : Nat) (g : mS)  (o : mS), Lm_next_2 n g  = some o → ∀ (H : Heap) (locs : List Loc) (ls : Array Slot), gS (mA E) s.heap (mP E g) H locs → lv_has ls 1 [(0, .ref (mad E 0))] → (∀  (gx : mS) (H : Heap) (locs : List Loc) (ls : Array Slot), o = gx → gS (mA E) s.heap (mP E gx) H locs → lv_has ls 1 [(0, .ref (mad E 0))] → W p l e rm_m_next s m args below meth c H locs 0 0 Q (F0 m 206 ls [])) → W p l e rm_m_next s m args below meth c H locs 0 0 Q (F0 m 138 ls []) := by
  have hx := F.1
  have hb := F.2.1
  intro n
  induction n with
  | zero =>
    intro g o h
    rw [Lm_next_2] at h
    cases h
  | succ n ih =>
    intro g o h H locs ls S hl kx
    rw [Lm_next_2] at h
    refine lv_aload_n hx hb dX9_next_138 rfl (lv_at hl 0 rfl) ?_
    refine lv_aload_n hx hb dX9_next_139 rfl (lv_at hl 0 rfl) ?_
    refine m_get26 F hK S dX9_next_140 ?_
    obtain ⟨v35, e34, h⟩ := bd1_inv h
    refine call_m_digitAt hE F hK S e34 hl.1 (Nat.le_of_ble_eq_true rfl) ⟨Nat.le_of_ble_eq_true rfl, Nat.le_of_ble_eq_true rfl⟩ ⟨Nat.zero_le _, Nat.zero_le _⟩ dX9_next_143 (fun H locs S => ?_)
    refine lv_if_eq (tgt := 206) hx hb dX9_next_146 (by decide) (fun c36 => ?_) (fun c36 => ?_)
    · rw [if_pos c36] at h
      cases h
      exact kx _ _ _ _ rfl S (lv_sub hl [0] rfl)
    · rw [if_neg c36] at h
      refine lv_aload_n hx hb dX9_next_149 rfl (lv_at hl 0 rfl) ?_
      refine lv_aload_n hx hb dX9_next_150 rfl (lv_at hl 0 rfl) ?_
      refine m_get26 F hK S dX9_next_151 ?_
      refine lv_aload_n hx hb dX9_next_154 rfl (lv_at hl 0 rfl) ?_
      refine m_get27 F hK S dX9_next_155 ?_
      refine lv_isub hx hb dX9_next_158 ?_
      refine lv_iconst (v := 4) hx hb dX9_next_159 (by decide) ?_
      obtain ⟨v40, hB, h⟩ := bd1_inv h
      have hJ190 : ∀ (H : Heap) (locs : List Loc) (ls : Array Slot), gS (mA E) s.heap (mP E g) H locs → lv_has ls 1 [(0, .ref (mad E 0))] → W p l e rm_m_next s m args below meth c H locs 0 0 Q (F0 m 190 ls [.int v40, .ref (mad E 0)]) := by
        intro H locs ls S hl
        obtain ⟨g41, e42, h⟩ := bd1_inv h
        refine m_put29 hE F hK S e42 dX9_next_190 (fun H locs S => ?_)
        refine lv_aload_n hx hb dX9_next_193 rfl (lv_at hl 0 rfl) ?_
        refine lv_dup hx hb dX9_next_194 rfl ?_
        refine m_get26 F hK S dX9_next_195 ?_
        refine lv_iconst (v := 1) hx hb dX9_next_198 (by decide) ?_
        refine lv_iadd hx hb dX9_next_199 ?_
        obtain ⟨g43, e44, h⟩ := bd1_inv h
        refine m_put26 hE F hK S e44 dX9_next_200 (fun H locs S => ?_)
        refine lv_goto (tgt := 138) hx hb dX9_next_203 (by decide) ?_
        exact ih _ _ h _ _ _ S (lv_sub hl [0] rfl) kx
      clear h
      have h := hB
      clear hB
      refine lv_icmp_ge (tgt := 186) hx hb dX9_next_160 (by decide) (fun c37 => ?_) (fun c37 => ?_)
      · rw [if_pos c37] at h
        refine lv_aload_n hx hb dX9_next_186 rfl (lv_at hl 0 rfl) ?_
        refine m_get29 F hK S dX9_next_187 ?_
        cases h
        exact hJ190 _ _ _ S (lv_sub hl [0] rfl)
      · rw [if_neg c37] at h
        refine lv_bipush (v := 10) hx hb dX9_next_163 (by decide) ?_
        refine lv_aload_n hx hb dX9_next_165 rfl (lv_at hl 0 rfl) ?_
        refine m_get29 F hK S dX9_next_166 ?_
        refine lv_imul hx hb dX9_next_169 ?_
        refine lv_aload_n hx hb dX9_next_170 rfl (lv_at hl 0 rfl) ?_
        refine m_get12 F hK S dX9_next_171 ?_
        refine lv_aload_n hx hb dX9_next_174 rfl (lv_at hl 0 rfl) ?_
        refine m_get26 F hK S dX9_next_175 ?_
        obtain ⟨v38, e39, h⟩ := bd1_inv h
        refine m_iald F hK S e39 dX9_next_178 ?_
        refine lv_iadd hx hb dX9_next_179 ?_
        refine lv_bipush (v := 48) hx hb dX9_next_180 (by decide) ?_
        refine lv_isub hx hb dX9_next_182 ?_
        refine lv_goto (tgt := 190) hx hb dX9_next_183 (by decide) ?_
        cases h
        exact hJ190 _ _ _ S (lv_sub hl [0] rfl)
set_option maxHeartbeats 4000000 in
set_option maxRecDepth 100000 in
theorem loop_m_next_3 {p : Program} {l : Launch} {e : Env} {s : State} {m : MethodId} {args : Array Value} {below : List Frame} {meth : Method} {c : Code} (E : mEnv) (hE : mInj E) (F : CallFix p m c cX9_next 1 s args lw_all RX9) (hr : meth.sig.returnType = none) (hlk : meth.locks = false) (hK : mK E s) {Q : State → Prop} : ∀ (n : Nat) (g : mS)  (o : mS), Lm_next_3 n g  = some o → ∀ (H : Heap) (locs : List Loc) (ls : Array Slot), gS (mA E) s.heap (mP E g) H locs → lv_has ls 1 [(0, .ref (mad E 0))] → (∀  (gx : mS) (H : Heap) (locs : List Loc) (ls : Array Slot), o = gx → gS (mA E) s.heap (mP E gx) H locs → lv_has ls 1 [(0, .ref (mad E 0))] → W p l e rm_m_next s m args below meth c H locs 0 0 Q (F0 m 114 ls [])) → W p l e rm_m_next s m args below meth c H locs 0 0 Q (F0 m 90 ls []) := by
  have hx := F.1
  have hb := F.2.1
  intro n
  induction n with
  | zero =>
    intro g o h
    rw [Lm_next_3] at h
    cases h
  | succ n ih =>
    intro g o h H locs ls S hl kx
    rw [Lm_next_3] at h
    refine lv_aload_n hx hb dX9_next_90 rfl (lv_at hl 0 rfl) ?_
    refine lv_aload_n hx hb dX9_next_91 rfl (lv_at hl 0 rfl) ?_
    refine m_get26 F hK S dX9_next_92 ?_
    obtain ⟨v55, e54, h⟩ := bd1_inv h
    refine call_m_letterAt hE F hK S e54 hl.1 (Nat.le_of_ble_eq_true rfl) ⟨Nat.le_of_ble_eq_true rfl, Nat.le_of_ble_eq_true rfl⟩ ⟨Nat.zero_le _, Nat.zero_le _⟩ dX9_next_95 (fun H locs S => ?_)
    refine lv_if_eq (tgt := 114) hx hb dX9_next_98 (by decide) (fun c56 => ?_) (fun c56 => ?_)
    · rw [if_pos c56] at h
      cases h
      exact kx _ _ _ _ rfl S (lv_sub hl [0] rfl)
    · rw [if_neg c56] at h
      refine lv_aload_n hx hb dX9_next_101 rfl (lv_at hl 0 rfl) ?_
      refine lv_dup hx hb dX9_next_102 rfl ?_
      refine m_get26 F hK S dX9_next_103 ?_
      refine lv_iconst (v := 1) hx hb dX9_next_106 (by decide) ?_
      refine lv_iadd hx hb dX9_next_107 ?_
      obtain ⟨g57, e58, h⟩ := bd1_inv h
      refine m_put26 hE F hK S e58 dX9_next_108 (fun H locs S => ?_)
      refine lv_goto (tgt := 90) hx hb dX9_next_111 (by decide) ?_
      exact ih _ _ h _ _ _ S (lv_sub hl [0] rfl) kx
set_option maxHeartbeats 4000000 in
set_option maxRecDepth 100000 in
theorem met_m_next (l : Launch) (E : mEnv) (hE : mInj E) (g : mS)  (gZ : mS) (h : fm_next g = some gZ) : Met l yX9_next (ws_ yX9_next cX9_next 1 (none)) rm_m_next (va_Pc [.ref (mad E 0)] (gPre (mK E) (mP E g))) (gQv (mP E gZ) (mA E)) 0 0 (mA E) := by
  refine g_met (own := RX9) (by decide) rfl (Nat.le_of_ble_eq_true rfl) ?_
  intro p e s m args below meth c ls F hr hlk hK S hl
  have hx := F.1
  have hb := F.2.1
  have hl : lv_has ls 1 [(0, .ref (mad E 0))] := hl
  unfold fm_next at h
  obtain ⟨g13, e12, h⟩ := bd1_inv h
  refine loop_m_next_1 E hE F hr hlk hK _ _ _ e12 _ _ _ S (lv_sub hl [0] rfl) (fun g13z H locs ls o S hl => ?_)
  cases o
  refine lv_aload_n hx hb dX9_next_52 rfl (lv_at hl 0 rfl) ?_
  refine lv_aload_n hx hb dX9_next_53 rfl (lv_at hl 0 rfl) ?_
  refine m_get26 F hK S dX9_next_54 ?_
  obtain ⟨g14, e15, h⟩ := bd1_inv h
  refine m_put27 hE F hK S e15 dX9_next_57 (fun H locs S => ?_)
  refine lv_aload_n hx hb dX9_next_60 rfl (lv_at hl 0 rfl) ?_
  refine m_get26 F hK S dX9_next_61 ?_
  refine lv_aload_n hx hb dX9_next_64 rfl (lv_at hl 0 rfl) ?_
  refine m_get13 F hK S dX9_next_65 ?_
  refine lv_icmp_ne (tgt := 79) hx hb dX9_next_68 (by decide) (fun c16 => ?_) (fun c16 => ?_)
  · rw [if_neg c16] at h
    refine lv_aload_n hx hb dX9_next_79 rfl (lv_at hl 0 rfl) ?_
    refine lv_aload_n hx hb dX9_next_80 rfl (lv_at hl 0 rfl) ?_
    refine m_get26 F hK S dX9_next_81 ?_
    obtain ⟨v18, e17, h⟩ := bd1_inv h
    refine call_m_letterAt hE F hK S e17 hl.1 (Nat.le_of_ble_eq_true rfl) ⟨Nat.le_of_ble_eq_true rfl, Nat.le_of_ble_eq_true rfl⟩ ⟨Nat.zero_le _, Nat.zero_le _⟩ dX9_next_84 (fun H locs S => ?_)
    refine lv_if_eq (tgt := 122) hx hb dX9_next_87 (by decide) (fun c19 => ?_) (fun c19 => ?_)
    · rw [if_pos c19] at h
      refine lv_aload_n hx hb dX9_next_122 rfl (lv_at hl 0 rfl) ?_
      refine lv_aload_n hx hb dX9_next_123 rfl (lv_at hl 0 rfl) ?_
      refine m_get26 F hK S dX9_next_124 ?_
      obtain ⟨v21, e20, h⟩ := bd1_inv h
      refine call_m_digitAt hE F hK S e20 hl.1 (Nat.le_of_ble_eq_true rfl) ⟨Nat.le_of_ble_eq_true rfl, Nat.le_of_ble_eq_true rfl⟩ ⟨Nat.zero_le _, Nat.zero_le _⟩ dX9_next_127 (fun H locs S => ?_)
      refine lv_if_eq (tgt := 231) hx hb dX9_next_130 (by decide) (fun c22 => ?_) (fun c22 => ?_)
      · rw [if_pos c22] at h
        refine lv_aload_n hx hb dX9_next_231 rfl (lv_at hl 0 rfl) ?_
        refine lv_aload_n hx hb dX9_next_232 rfl (lv_at hl 0 rfl) ?_
        refine m_get12 F hK S dX9_next_233 ?_
        refine lv_aload_n hx hb dX9_next_236 rfl (lv_at hl 0 rfl) ?_
        refine m_get26 F hK S dX9_next_237 ?_
        obtain ⟨v23, e24, h⟩ := bd1_inv h
        refine m_iald F hK S e24 dX9_next_240 ?_
        refine lv_bipush (v := 59) hx hb dX9_next_241 (by decide) ?_
        obtain ⟨v26, hB, h⟩ := bd1_inv h
        have hJ251 : ∀ (H : Heap) (locs : List Loc) (ls : Array Slot), gS (mA E) s.heap (mP E g14) H locs → lv_has ls 1 [(0, .ref (mad E 0))] → W p l e rm_m_next s m args below meth c H locs 0 0 (MQ below (gQv (mP E gZ) (mA E)) args s 0 0 (mA E)) (F0 m 251 ls [.int v26, .ref (mad E 0)]) := by
          intro H locs ls S hl
          obtain ⟨g27, e28, h⟩ := bd1_inv h
          refine m_put28 hE F hK S e28 dX9_next_251 (fun H locs S => ?_)
          refine lv_aload_n hx hb dX9_next_254 rfl (lv_at hl 0 rfl) ?_
          refine lv_dup hx hb dX9_next_255 rfl ?_
          refine m_get26 F hK S dX9_next_256 ?_
          refine lv_iconst (v := 1) hx hb dX9_next_259 (by decide) ?_
          refine lv_iadd hx hb dX9_next_260 ?_
          obtain ⟨g29, e30, h⟩ := bd1_inv h
          refine m_put26 hE F hK S e30 dX9_next_261 (fun H locs S => ?_)
          cases h
          exact g_vret F hr hlk S dX9_next_264
        clear h
        have h := hB
        clear hB
        refine lv_icmp_ne (tgt := 250) hx hb dX9_next_243 (by decide) (fun c25 => ?_) (fun c25 => ?_)
        · rw [if_neg c25] at h
          refine lv_iconst (v := 4) hx hb dX9_next_250 (by decide) ?_
          cases h
          exact hJ251 _ _ _ S (lv_sub hl [0] rfl)
        · rw [if_pos c25] at h
          refine lv_iconst (v := 1) hx hb dX9_next_246 (by decide) ?_
          refine lv_goto (tgt := 251) hx hb dX9_next_247 (by decide) ?_
          cases h
          exact hJ251 _ _ _ S (lv_sub hl [0] rfl)
      · rw [if_neg c22] at h
        refine lv_aload_n hx hb dX9_next_133 rfl (lv_at hl 0 rfl) ?_
        refine lv_iconst (v := 0) hx hb dX9_next_134 (by decide) ?_
        obtain ⟨g32, e33, h⟩ := bd1_inv h
        refine m_put29 hE F hK S e33 dX9_next_135 (fun H locs S => ?_)
        obtain ⟨g47, e46, h⟩ := bd1_inv h
        refine loop_m_next_2 E hE F hr hlk hK _ _ _ e46 _ _ _ S (lv_sub hl [0] rfl) (fun g47z H locs ls o S hl => ?_)
        cases o
        refine lv_aload_n hx hb dX9_next_206 rfl (lv_at hl 0 rfl) ?_
        refine lv_aload_n hx hb dX9_next_207 rfl (lv_at hl 0 rfl) ?_
        refine m_get26 F hK S dX9_next_208 ?_
        refine lv_aload_n hx hb dX9_next_211 rfl (lv_at hl 0 rfl) ?_
        refine m_get27 F hK S dX9_next_212 ?_
        refine lv_isub hx hb dX9_next_215 ?_
        refine lv_iconst (v := 4) hx hb dX9_next_216 (by decide) ?_
        obtain ⟨v49, hB, h⟩ := bd1_inv h
        have hJ225 : ∀ (H : Heap) (locs : List Loc) (ls : Array Slot), gS (mA E) s.heap (mP E g47) H locs → lv_has ls 1 [] → W p l e rm_m_next s m args below meth c H locs 0 0 (MQ below (gQv (mP E gZ) (mA E)) args s 0 0 (mA E)) (F0 m 225 ls [.int v49, .ref (mad E 0)]) := by
          intro H locs ls S hl
          obtain ⟨g50, e51, h⟩ := bd1_inv h
          refine m_put28 hE F hK S e51 dX9_next_225 (fun H locs S => ?_)
          refine lv_goto (tgt := 264) hx hb dX9_next_228 (by decide) ?_
          cases h
          exact g_vret F hr hlk S dX9_next_264
        clear h
        have h := hB
        clear hB
        refine lv_icmp_le (tgt := 224) hx hb dX9_next_217 (by decide) (fun c48 => ?_) (fun c48 => ?_)
        · rw [if_pos c48] at h
          refine lv_iconst (v := 2) hx hb dX9_next_224 (by decide) ?_
          cases h
          exact hJ225 _ _ _ S (lv_sub hl [] rfl)
        · rw [if_neg c48] at h
          refine lv_iconst (v := 4) hx hb dX9_next_220 (by decide) ?_
          refine lv_goto (tgt := 225) hx hb dX9_next_221 (by decide) ?_
          cases h
          exact hJ225 _ _ _ S (lv_sub hl [] rfl)
    · rw [if_neg c19] at h
      obtain ⟨g60, e59, h⟩ := bd1_inv h
      refine loop_m_next_3 E hE F hr hlk hK _ _ _ e59 _ _ _ S (lv_sub hl [0] rfl) (fun g60z H locs ls o S hl => ?_)
      cases o
      refine lv_aload_n hx hb dX9_next_114 rfl (lv_at hl 0 rfl) ?_
      refine lv_iconst (v := 3) hx hb dX9_next_115 (by decide) ?_
      obtain ⟨g61, e62, h⟩ := bd1_inv h
      refine m_put28 hE F hK S e62 dX9_next_116 (fun H locs S => ?_)
      refine lv_goto (tgt := 264) hx hb dX9_next_119 (by decide) ?_
      cases h
      exact g_vret F hr hlk S dX9_next_264
  · rw [if_pos c16] at h
    refine lv_aload_n hx hb dX9_next_71 rfl (lv_at hl 0 rfl) ?_
    refine lv_iconst (v := 0) hx hb dX9_next_72 (by decide) ?_
    obtain ⟨g64, e65, h⟩ := bd1_inv h
    refine m_put28 hE F hK S e65 dX9_next_73 (fun H locs S => ?_)
    refine lv_goto (tgt := 264) hx hb dX9_next_76 (by decide) ?_
    cases h
    exact g_vret F hr hlk S dX9_next_264
theorem call_m_next {p : Program} {l : Launch} {e : Env} {s : State} {m : MethodId} {args : Array Value} {below : List Frame} {meth : Method} {c : Code} {R : Room} {H : Heap} {locs : List Loc} {cells slots pc nL : Nat} {Q : State → Prop} {ls : Array Slot} {rest : List Value} {cc : ByteArray} {E : mEnv} (hE : mInj E) {g : mS} {gZ : mS} (F : CallFix p m c cc nL s args lw_all RX9) (hK : mK E s) (S : gS (mA E) s.heap (mP E g) H locs) (h : fm_next g = some gZ) (hls : ls.size = nL) (hW : (rest.map fun v => v.category).sum ≤ 8) (hR : rm_m_next.frames + 1 ≤ R.frames ∧ 8 + (1 + 11) + rm_m_next.locals ≤ R.locals) (hf : cells ≤ R.cells ∧ slots ≤ R.slots) (hdg : decode cc pc = .ok (.invokevirtual 254, 3))
    (kk : ∀ (H1 : Heap) (locs1 : List Loc), gS (mA E) s.heap (mP E gZ) H1 locs1 → W p l e R s m args below meth c H1 locs1 cells slots Q (F0 m (pc + 3) ls (rest))) : W p l e R s m args below meth c H locs cells slots Q (F0 m pc ls (.ref (mad E 0) :: rest)) :=
  g_kv (g_runV F hK (mKm E) S (met_m_next l E hE g  gZ h) (cwV 0 F.2.2.2.2 (lw_V q2118 q2120 qs75 q121 q2121) rfl rfl rfl (by decide +kernel) hR) (m_recv hK S) rfl hls rfl hW hdg hf) S kk
abbrev rm_m_wrong : Room := { frames := 0, cells := 0, slots := 0, locals := 0 }
def fm_wrong (g : mS) (x1 : Int32) : Option (mS) :=
  if (g 0 30) = 0 then
    bd1 (wrF g 30 ((8 * (g 0 27)) + x1)) fun g2 =>
    some g2
  else
    some g
set_option maxHeartbeats 4000000 in
set_option maxRecDepth 100000 in
theorem met_m_wrong (l : Launch) (E : mEnv) (hE : mInj E) (g : mS) (x1 : Int32) (gZ : mS) (h : fm_wrong g x1 = some gZ) : Met l yX9_wrong (ws_ yX9_wrong cX9_wrong 2 (none)) rm_m_wrong (va_Pc [.ref (mad E 0), .int x1] (gPre (mK E) (mP E g))) (gQv (mP E gZ) (mA E)) 0 0 (mA E) := by
  refine g_met (own := RX9) (by decide) rfl (Nat.le_of_ble_eq_true rfl) ?_
  intro p e s m args below meth c ls F hr hlk hK S hl
  have hx := F.1
  have hb := F.2.1
  have hl : lv_has ls 2 [(0, .ref (mad E 0)), (1, .int x1)] := hl
  unfold fm_wrong at h
  refine lv_aload_n hx hb dX9_wrong_0 rfl (lv_at hl 0 rfl) ?_
  refine m_get30 F hK S dX9_wrong_1 ?_
  refine lv_if_ne (tgt := 20) hx hb dX9_wrong_4 (by decide) (fun c1 => ?_) (fun c1 => ?_)
  · rw [if_neg c1] at h
    cases h
    exact g_vret F hr hlk S dX9_wrong_20
  · rw [if_pos c1] at h
    refine lv_aload_n hx hb dX9_wrong_7 rfl (lv_at hl 0 rfl) ?_
    refine lv_bipush (v := 8) hx hb dX9_wrong_8 (by decide) ?_
    refine lv_aload_n hx hb dX9_wrong_10 rfl (lv_at hl 0 rfl) ?_
    refine m_get27 F hK S dX9_wrong_11 ?_
    refine lv_imul hx hb dX9_wrong_14 ?_
    refine lv_iload_n hx hb dX9_wrong_15 rfl (lv_at hl 1 rfl) ?_
    refine lv_iadd hx hb dX9_wrong_16 ?_
    obtain ⟨g2, e3, h⟩ := bd1_inv h
    refine m_put30 hE F hK S e3 dX9_wrong_17 (fun H locs S => ?_)
    cases h
    exact g_vret F hr hlk S dX9_wrong_20
theorem call_m_wrong {p : Program} {l : Launch} {e : Env} {s : State} {m : MethodId} {args : Array Value} {below : List Frame} {meth : Method} {c : Code} {R : Room} {H : Heap} {locs : List Loc} {cells slots pc nL : Nat} {Q : State → Prop} {ls : Array Slot} {rest : List Value} {cc : ByteArray} {E : mEnv} (hE : mInj E) {g : mS} {x1 : Int32} {gZ : mS} (F : CallFix p m c cc nL s args lw_all RX9) (hK : mK E s) (S : gS (mA E) s.heap (mP E g) H locs) (h : fm_wrong g x1 = some gZ) (hls : ls.size = nL) (hW : (rest.map fun v => v.category).sum ≤ 8) (hR : rm_m_wrong.frames + 1 ≤ R.frames ∧ 8 + (2 + 11) + rm_m_wrong.locals ≤ R.locals) (hf : cells ≤ R.cells ∧ slots ≤ R.slots) (hdg : decode cc pc = .ok (.invokevirtual 251, 3))
    (kk : ∀ (H1 : Heap) (locs1 : List Loc), gS (mA E) s.heap (mP E gZ) H1 locs1 → W p l e R s m args below meth c H1 locs1 cells slots Q (F0 m (pc + 3) ls (rest))) : W p l e R s m args below meth c H locs cells slots Q (F0 m pc ls (.int x1 :: .ref (mad E 0) :: rest)) :=
  g_kv (g_runV F hK (mKm E) S (met_m_wrong l E hE g x1 gZ h) (cwV 1 F.2.2.2.2 (lw_V q2141 q2143 qs80 q121 q2144) rfl rfl rfl (by decide +kernel) hR) (m_recv hK S) rfl hls rfl hW hdg hf) S kk
abbrev rm_m_pass_2 : Room := { frames := 2, cells := 0, slots := 0, locals := 41 }
def fm_pass_2 (g : mS) (x1 : Int32) : Option (mS) :=
  if x1 = 0 then
    bd1 (fm_wrong g 1) fun g6 =>
    some g6
  else
    if (g 0 30) = 0 then
      bd1 (fm_next g) fun g4 =>
      some g4
    else
      some g
set_option maxHeartbeats 4000000 in
set_option maxRecDepth 100000 in
theorem met_m_pass_2 (l : Launch) (E : mEnv) (hE : mInj E) (g : mS) (x1 : Int32) (gZ : mS) (h : fm_pass_2 g x1 = some gZ) : Met l yX9_pass_2 (ws_ yX9_pass_2 cX9_pass_2 2 (none)) rm_m_pass_2 (va_Pc [.ref (mad E 0), .int x1] (gPre (mK E) (mP E g))) (gQv (mP E gZ) (mA E)) 0 0 (mA E) := by
  refine g_met (own := RX9) (by decide) rfl (Nat.le_of_ble_eq_true rfl) ?_
  intro p e s m args below meth c ls F hr hlk hK S hl
  have hx := F.1
  have hb := F.2.1
  have hl : lv_has ls 2 [(0, .ref (mad E 0)), (1, .int x1)] := hl
  unfold fm_pass_2 at h
  refine lv_iload_n hx hb dX9_pass_2_0 rfl (lv_at hl 1 rfl) ?_
  refine lv_if_ne (tgt := 12) hx hb dX9_pass_2_1 (by decide) (fun c1 => ?_) (fun c1 => ?_)
  · rw [if_neg c1] at h
    refine lv_aload_n hx hb dX9_pass_2_12 rfl (lv_at hl 0 rfl) ?_
    refine m_get30 F hK S dX9_pass_2_13 ?_
    refine lv_if_ne (tgt := 23) hx hb dX9_pass_2_16 (by decide) (fun c2 => ?_) (fun c2 => ?_)
    · rw [if_neg c2] at h
      cases h
      exact g_vret F hr hlk S dX9_pass_2_23
    · rw [if_pos c2] at h
      refine lv_aload_n hx hb dX9_pass_2_19 rfl (lv_at hl 0 rfl) ?_
      obtain ⟨g4, e3, h⟩ := bd1_inv h
      refine call_m_next hE F hK S e3 hl.1 (Nat.le_of_ble_eq_true rfl) ⟨Nat.le_of_ble_eq_true rfl, Nat.le_of_ble_eq_true rfl⟩ ⟨Nat.zero_le _, Nat.zero_le _⟩ dX9_pass_2_20 (fun H locs S => ?_)
      cases h
      exact g_vret F hr hlk S dX9_pass_2_23
  · rw [if_pos c1] at h
    refine lv_aload_n hx hb dX9_pass_2_4 rfl (lv_at hl 0 rfl) ?_
    refine lv_iconst (v := 1) hx hb dX9_pass_2_5 (by decide) ?_
    obtain ⟨g6, e5, h⟩ := bd1_inv h
    refine call_m_wrong hE F hK S e5 hl.1 (Nat.le_of_ble_eq_true rfl) ⟨Nat.le_of_ble_eq_true rfl, Nat.le_of_ble_eq_true rfl⟩ ⟨Nat.zero_le _, Nat.zero_le _⟩ dX9_pass_2_6 (fun H locs S => ?_)
    refine lv_goto (tgt := 23) hx hb dX9_pass_2_9 (by decide) ?_
    cases h
    exact g_vret F hr hlk S dX9_pass_2_23
theorem call_m_pass_2 {p : Program} {l : Launch} {e : Env} {s : State} {m : MethodId} {args : Array Value} {below : List Frame} {meth : Method} {c : Code} {R : Room} {H : Heap} {locs : List Loc} {cells slots pc nL : Nat} {Q : State → Prop} {ls : Array Slot} {rest : List Value} {cc : ByteArray} {E : mEnv} (hE : mInj E) {g : mS} {x1 : Int32} {gZ : mS} (F : CallFix p m c cc nL s args lw_all RX9) (hK : mK E s) (S : gS (mA E) s.heap (mP E g) H locs) (h : fm_pass_2 g x1 = some gZ) (hls : ls.size = nL) (hW : (rest.map fun v => v.category).sum ≤ 8) (hR : rm_m_pass_2.frames + 1 ≤ R.frames ∧ 8 + (2 + 11) + rm_m_pass_2.locals ≤ R.locals) (hf : cells ≤ R.cells ∧ slots ≤ R.slots) (hdg : decode cc pc = .ok (.invokevirtual 266, 3))
    (kk : ∀ (H1 : Heap) (locs1 : List Loc), gS (mA E) s.heap (mP E gZ) H1 locs1 → W p l e R s m args below meth c H1 locs1 cells slots Q (F0 m (pc + 3) ls (rest))) : W p l e R s m args below meth c H locs cells slots Q (F0 m pc ls (.int x1 :: .ref (mad E 0) :: rest)) :=
  g_kv (g_runV F hK (mKm E) S (met_m_pass_2 l E hE g x1 gZ h) (cwV 1 F.2.2.2.2 (lw_V q2137 q2139 qs79 q121 q2140) rfl rfl rfl (by decide +kernel) hR) (m_recv hK S) rfl hls rfl hW hdg hf) S kk
abbrev rm_m_look : Room := { frames := 1, cells := 0, slots := 0, locals := 21 }
def fm_look (g : mS) (x1 : Int32) (x2 : Int32) : Option (mS) :=
  if (g 0 30) = 0 then
    if (g 0 28) = 2 then
      if (g 0 30) = 0 then
        if (g 0 29) < x1 then
          bd1 (fm_wrong g 2) fun g13 =>
          some g13
        else
          if (g 0 29) ≤ x2 then
            some g
          else
            bd1 (fm_wrong g 2) fun g16 =>
            some g16
      else
        some g
    else
      bd1 (fm_wrong g 1) fun g18 =>
      some g18
  else
    if (g 0 30) = 0 then
      if (g 0 29) < x1 then
        bd1 (fm_wrong g 2) fun g5 =>
        some g5
      else
        if (g 0 29) ≤ x2 then
          some g
        else
          bd1 (fm_wrong g 2) fun g8 =>
          some g8
    else
      some g
set_option maxHeartbeats 4000000 in
set_option maxRecDepth 100000 in
theorem met_m_look (l : Launch) (E : mEnv) (hE : mInj E) (g : mS) (x1 : Int32) (x2 : Int32) (gZ : mS) (h : fm_look g x1 x2 = some gZ) : Met l yX9_look (ws_ yX9_look cX9_look 3 (none)) rm_m_look (va_Pc [.ref (mad E 0), .int x1, .int x2] (gPre (mK E) (mP E g))) (gQv (mP E gZ) (mA E)) 0 0 (mA E) := by
  refine g_met (own := RX9) (by decide) rfl (Nat.le_of_ble_eq_true rfl) ?_
  intro p e s m args below meth c ls F hr hlk hK S hl
  have hx := F.1
  have hb := F.2.1
  have hl : lv_has ls 3 [(0, .ref (mad E 0)), (1, .int x1), (2, .int x2)] := hl
  unfold fm_look at h
  refine lv_aload_n hx hb dX9_look_0 rfl (lv_at hl 0 rfl) ?_
  refine m_get30 F hK S dX9_look_1 ?_
  refine lv_if_ne (tgt := 23) hx hb dX9_look_4 (by decide) (fun c1 => ?_) (fun c1 => ?_)
  · rw [if_neg c1] at h
    refine lv_aload_n hx hb dX9_look_23 rfl (lv_at hl 0 rfl) ?_
    refine m_get30 F hK S dX9_look_24 ?_
    refine lv_if_ne (tgt := 51) hx hb dX9_look_27 (by decide) (fun c2 => ?_) (fun c2 => ?_)
    · rw [if_neg c2] at h
      cases h
      exact g_vret F hr hlk S dX9_look_51
    · rw [if_pos c2] at h
      refine lv_aload_n hx hb dX9_look_30 rfl (lv_at hl 0 rfl) ?_
      refine m_get29 F hK S dX9_look_31 ?_
      refine lv_iload_n hx hb dX9_look_34 rfl (lv_at hl 1 rfl) ?_
      refine lv_icmp_lt (tgt := 46) hx hb dX9_look_35 (by decide) (fun c3 => ?_) (fun c3 => ?_)
      · rw [if_pos c3] at h
        refine lv_aload_n hx hb dX9_look_46 rfl (lv_at hl 0 rfl) ?_
        refine lv_iconst (v := 2) hx hb dX9_look_47 (by decide) ?_
        obtain ⟨g5, e4, h⟩ := bd1_inv h
        refine call_m_wrong hE F hK S e4 hl.1 (Nat.le_of_ble_eq_true rfl) ⟨Nat.le_of_ble_eq_true rfl, Nat.le_of_ble_eq_true rfl⟩ ⟨Nat.zero_le _, Nat.zero_le _⟩ dX9_look_48 (fun H locs S => ?_)
        cases h
        exact g_vret F hr hlk S dX9_look_51
      · rw [if_neg c3] at h
        refine lv_aload_n hx hb dX9_look_38 rfl (lv_at hl 0 rfl) ?_
        refine m_get29 F hK S dX9_look_39 ?_
        refine lv_iload_n hx hb dX9_look_42 rfl (lv_at hl 2 rfl) ?_
        refine lv_icmp_le (tgt := 51) hx hb dX9_look_43 (by decide) (fun c6 => ?_) (fun c6 => ?_)
        · rw [if_pos c6] at h
          cases h
          exact g_vret F hr hlk S dX9_look_51
        · rw [if_neg c6] at h
          refine lv_aload_n hx hb dX9_look_46 rfl (lv_at hl 0 rfl) ?_
          refine lv_iconst (v := 2) hx hb dX9_look_47 (by decide) ?_
          obtain ⟨g8, e7, h⟩ := bd1_inv h
          refine call_m_wrong hE F hK S e7 hl.1 (Nat.le_of_ble_eq_true rfl) ⟨Nat.le_of_ble_eq_true rfl, Nat.le_of_ble_eq_true rfl⟩ ⟨Nat.zero_le _, Nat.zero_le _⟩ dX9_look_48 (fun H locs S => ?_)
          cases h
          exact g_vret F hr hlk S dX9_look_51
  · rw [if_pos c1] at h
    refine lv_aload_n hx hb dX9_look_7 rfl (lv_at hl 0 rfl) ?_
    refine m_get28 F hK S dX9_look_8 ?_
    refine lv_iconst (v := 2) hx hb dX9_look_11 (by decide) ?_
    refine lv_icmp_eq (tgt := 23) hx hb dX9_look_12 (by decide) (fun c9 => ?_) (fun c9 => ?_)
    · rw [if_pos c9] at h
      refine lv_aload_n hx hb dX9_look_23 rfl (lv_at hl 0 rfl) ?_
      refine m_get30 F hK S dX9_look_24 ?_
      refine lv_if_ne (tgt := 51) hx hb dX9_look_27 (by decide) (fun c10 => ?_) (fun c10 => ?_)
      · rw [if_neg c10] at h
        cases h
        exact g_vret F hr hlk S dX9_look_51
      · rw [if_pos c10] at h
        refine lv_aload_n hx hb dX9_look_30 rfl (lv_at hl 0 rfl) ?_
        refine m_get29 F hK S dX9_look_31 ?_
        refine lv_iload_n hx hb dX9_look_34 rfl (lv_at hl 1 rfl) ?_
        refine lv_icmp_lt (tgt := 46) hx hb dX9_look_35 (by decide) (fun c11 => ?_) (fun c11 => ?_)
        · rw [if_pos c11] at h
          refine lv_aload_n hx hb dX9_look_46 rfl (lv_at hl 0 rfl) ?_
          refine lv_iconst (v := 2) hx hb dX9_look_47 (by decide) ?_
          obtain ⟨g13, e12, h⟩ := bd1_inv h
          refine call_m_wrong hE F hK S e12 hl.1 (Nat.le_of_ble_eq_true rfl) ⟨Nat.le_of_ble_eq_true rfl, Nat.le_of_ble_eq_true rfl⟩ ⟨Nat.zero_le _, Nat.zero_le _⟩ dX9_look_48 (fun H locs S => ?_)
          cases h
          exact g_vret F hr hlk S dX9_look_51
        · rw [if_neg c11] at h
          refine lv_aload_n hx hb dX9_look_38 rfl (lv_at hl 0 rfl) ?_
          refine m_get29 F hK S dX9_look_39 ?_
          refine lv_iload_n hx hb dX9_look_42 rfl (lv_at hl 2 rfl) ?_
          refine lv_icmp_le (tgt := 51) hx hb dX9_look_43 (by decide) (fun c14 => ?_) (fun c14 => ?_)
          · rw [if_pos c14] at h
            cases h
            exact g_vret F hr hlk S dX9_look_51
          · rw [if_neg c14] at h
            refine lv_aload_n hx hb dX9_look_46 rfl (lv_at hl 0 rfl) ?_
            refine lv_iconst (v := 2) hx hb dX9_look_47 (by decide) ?_
            obtain ⟨g16, e15, h⟩ := bd1_inv h
            refine call_m_wrong hE F hK S e15 hl.1 (Nat.le_of_ble_eq_true rfl) ⟨Nat.le_of_ble_eq_true rfl, Nat.le_of_ble_eq_true rfl⟩ ⟨Nat.zero_le _, Nat.zero_le _⟩ dX9_look_48 (fun H locs S => ?_)
            cases h
            exact g_vret F hr hlk S dX9_look_51
    · rw [if_neg c9] at h
      refine lv_aload_n hx hb dX9_look_15 rfl (lv_at hl 0 rfl) ?_
      refine lv_iconst (v := 1) hx hb dX9_look_16 (by decide) ?_
      obtain ⟨g18, e17, h⟩ := bd1_inv h
      refine call_m_wrong hE F hK S e17 hl.1 (Nat.le_of_ble_eq_true rfl) ⟨Nat.le_of_ble_eq_true rfl, Nat.le_of_ble_eq_true rfl⟩ ⟨Nat.zero_le _, Nat.zero_le _⟩ dX9_look_17 (fun H locs S => ?_)
      refine lv_goto (tgt := 51) hx hb dX9_look_20 (by decide) ?_
      cases h
      exact g_vret F hr hlk S dX9_look_51
theorem call_m_look {p : Program} {l : Launch} {e : Env} {s : State} {m : MethodId} {args : Array Value} {below : List Frame} {meth : Method} {c : Code} {R : Room} {H : Heap} {locs : List Loc} {cells slots pc nL : Nat} {Q : State → Prop} {ls : Array Slot} {rest : List Value} {cc : ByteArray} {E : mEnv} (hE : mInj E) {g : mS} {x1 : Int32} {x2 : Int32} {gZ : mS} (F : CallFix p m c cc nL s args lw_all RX9) (hK : mK E s) (S : gS (mA E) s.heap (mP E g) H locs) (h : fm_look g x1 x2 = some gZ) (hls : ls.size = nL) (hW : (rest.map fun v => v.category).sum ≤ 8) (hR : rm_m_look.frames + 1 ≤ R.frames ∧ 8 + (3 + 11) + rm_m_look.locals ≤ R.locals) (hf : cells ≤ R.cells ∧ slots ≤ R.slots) (hdg : decode cc pc = .ok (.invokevirtual 257, 3))
    (kk : ∀ (H1 : Heap) (locs1 : List Loc), gS (mA E) s.heap (mP E gZ) H1 locs1 → W p l e R s m args below meth c H1 locs1 cells slots Q (F0 m (pc + 3) ls (rest))) : W p l e R s m args below meth c H locs cells slots Q (F0 m pc ls (.int x2 :: .int x1 :: .ref (mad E 0) :: rest)) :=
  g_kv (g_runV F hK (mKm E) S (met_m_look l E hE g x1 x2 gZ h) (cwV 2 F.2.2.2.2 (lw_V q2149 q2151 qs82 q121 q2152) rfl rfl rfl (by decide +kernel) hR) (m_recv hK S) rfl hls rfl hW hdg hf) S kk
abbrev rm_m_number : Room := { frames := 2, cells := 0, slots := 0, locals := 43 }
def fm_number (g : mS) (x1 : Int32) (x2 : Int32) : Option (Int32 × mS) :=
  bd1 (fm_look g x1 x2) fun g2 =>
  bd1 ((
    if (g2 0 30) = 0 then
      bd1 (fm_next g2) fun g5 =>
      some g5
    else
      some g2) : Option (mS)) fun g6 =>
  bd1 ((
    if (g6 0 30) = 0 then
      some (g2 0 29)
    else
      some 0) : Option (Int32)) fun v8 =>
  some (v8, g6)
set_option maxHeartbeats 4000000 in
set_option maxRecDepth 100000 in
theorem met_m_number (l : Launch) (E : mEnv) (hE : mInj E) (g : mS) (x1 : Int32) (x2 : Int32) (r : Int32) (gZ : mS) (h : fm_number g x1 x2 = some (r, gZ)) : Met l yX9_number (ws_ yX9_number cX9_number 4 (some .int)) rm_m_number (va_Pc [.ref (mad E 0), .int x1, .int x2] (gPre (mK E) (mP E g))) (gQi r (mP E gZ) (mA E)) 0 0 (mA E) := by
  refine g_met (own := RX9) (by decide) rfl (Nat.le_of_ble_eq_true rfl) ?_
  intro p e s m args below meth c ls F hr hlk hK S hl
  have hx := F.1
  have hb := F.2.1
  have hl : lv_has ls 4 [(0, .ref (mad E 0)), (1, .int x1), (2, .int x2)] := hl
  unfold fm_number at h
  refine lv_aload_n hx hb dX9_number_0 rfl (lv_at hl 0 rfl) ?_
  refine lv_iload_n hx hb dX9_number_1 rfl (lv_at hl 1 rfl) ?_
  refine lv_iload_n hx hb dX9_number_2 rfl (lv_at hl 2 rfl) ?_
  obtain ⟨g2, e1, h⟩ := bd1_inv h
  refine call_m_look hE F hK S e1 hl.1 (Nat.le_of_ble_eq_true rfl) ⟨Nat.le_of_ble_eq_true rfl, Nat.le_of_ble_eq_true rfl⟩ ⟨Nat.zero_le _, Nat.zero_le _⟩ dX9_number_3 (fun H locs S => ?_)
  refine lv_aload_n hx hb dX9_number_6 rfl (lv_at hl 0 rfl) ?_
  refine m_get29 F hK S dX9_number_7 ?_
  refine lv_istore_n (lv' := [(3, .int (g2 0 29)), (0, .ref (mad E 0)), (1, .int x1), (2, .int x2)]) hx hb dX9_number_10 rfl hl (by decide) rfl (fun ls hl => ?_)
  refine lv_aload_n hx hb dX9_number_11 rfl (lv_at hl 1 rfl) ?_
  refine m_get30 F hK S dX9_number_12 ?_
  obtain ⟨g6, hB, h⟩ := bd1_inv h
  have hJ22 : ∀ (H : Heap) (locs : List Loc) (ls : Array Slot), gS (mA E) s.heap (mP E g6) H locs → lv_has ls 4 [(0, .ref (mad E 0)), (3, .int (g2 0 29))] → W p l e rm_m_number s m args below meth c H locs 0 0 (MQ below (gQi r (mP E gZ) (mA E)) args s 0 0 (mA E)) (F0 m 22 ls []) := by
    intro H locs ls S hl
    refine lv_aload_n hx hb dX9_number_22 rfl (lv_at hl 0 rfl) ?_
    refine m_get30 F hK S dX9_number_23 ?_
    obtain ⟨v8, hB, h⟩ := bd1_inv h
    have hJ34 : ∀ (H : Heap) (locs : List Loc) (ls : Array Slot), gS (mA E) s.heap (mP E g6) H locs → lv_has ls 4 [] → W p l e rm_m_number s m args below meth c H locs 0 0 (MQ below (gQi r (mP E gZ) (mA E)) args s 0 0 (mA E)) (F0 m 34 ls [.int v8]) := by
      intro H locs ls S hl
      cases h
      exact g_iret F hr hlk S rfl dX9_number_34
    clear h
    have h := hB
    clear hB
    refine lv_if_ne (tgt := 33) hx hb dX9_number_26 (by decide) (fun c7 => ?_) (fun c7 => ?_)
    · rw [if_neg c7] at h
      refine lv_iconst (v := 0) hx hb dX9_number_33 (by decide) ?_
      cases h
      exact hJ34 _ _ _ S (lv_sub hl [] rfl)
    · rw [if_pos c7] at h
      refine lv_iload_n hx hb dX9_number_29 rfl (lv_at hl 1 rfl) ?_
      refine lv_goto (tgt := 34) hx hb dX9_number_30 (by decide) ?_
      cases h
      exact hJ34 _ _ _ S (lv_sub hl [] rfl)
  clear h
  have h := hB
  clear hB
  refine lv_if_ne (tgt := 22) hx hb dX9_number_15 (by decide) (fun c3 => ?_) (fun c3 => ?_)
  · rw [if_neg c3] at h
    cases h
    exact hJ22 _ _ _ S (lv_sub hl [1, 0] rfl)
  · rw [if_pos c3] at h
    refine lv_aload_n hx hb dX9_number_18 rfl (lv_at hl 1 rfl) ?_
    obtain ⟨g5, e4, h⟩ := bd1_inv h
    refine call_m_next hE F hK S e4 hl.1 (Nat.le_of_ble_eq_true rfl) ⟨Nat.le_of_ble_eq_true rfl, Nat.le_of_ble_eq_true rfl⟩ ⟨Nat.zero_le _, Nat.zero_le _⟩ dX9_number_19 (fun H locs S => ?_)
    cases h
    exact hJ22 _ _ _ S (lv_sub hl [1, 0] rfl)
theorem call_m_number {p : Program} {l : Launch} {e : Env} {s : State} {m : MethodId} {args : Array Value} {below : List Frame} {meth : Method} {c : Code} {R : Room} {H : Heap} {locs : List Loc} {cells slots pc nL : Nat} {Q : State → Prop} {ls : Array Slot} {rest : List Value} {cc : ByteArray} {E : mEnv} (hE : mInj E) {g : mS} {x1 : Int32} {x2 : Int32} {r : Int32} {gZ : mS} (F : CallFix p m c cc nL s args lw_all RX9) (hK : mK E s) (S : gS (mA E) s.heap (mP E g) H locs) (h : fm_number g x1 x2 = some (r, gZ)) (hls : ls.size = nL) (hW : (rest.map fun v => v.category).sum ≤ 8) (hR : rm_m_number.frames + 1 ≤ R.frames ∧ 8 + (4 + 11) + rm_m_number.locals ≤ R.locals) (hf : cells ≤ R.cells ∧ slots ≤ R.slots) (hdg : decode cc pc = .ok (.invokevirtual 270, 3))
    (kk : ∀ (H1 : Heap) (locs1 : List Loc), gS (mA E) s.heap (mP E gZ) H1 locs1 → W p l e R s m args below meth c H1 locs1 cells slots Q (F0 m (pc + 3) ls (.int r :: rest))) : W p l e R s m args below meth c H locs cells slots Q (F0 m pc ls (.int x2 :: .int x1 :: .ref (mad E 0) :: rest)) :=
  g_ki (g_runV F hK (mKm E) S (met_m_number l E hE g x1 x2 r gZ h) (cwV 2 F.2.2.2.2 (lw_V q2145 q2147 qs81 q121 q2148) rfl rfl rfl (by decide +kernel) hR) (m_recv hK S) rfl hls rfl hW hdg hf) S kk
abbrev rm_m_semicolon : Room := { frames := 1, cells := 0, slots := 0, locals := 21 }
def fm_semicolon (g : mS)  : Option (mS) :=
  if (g 0 30) = 0 then
    if (g 0 28) = 1 then
      some g
    else
      bd1 (fm_wrong g 1) fun g4 =>
      some g4
  else
    some g
set_option maxHeartbeats 4000000 in
set_option maxRecDepth 100000 in
theorem met_m_semicolon (l : Launch) (E : mEnv) (hE : mInj E) (g : mS)  (gZ : mS) (h : fm_semicolon g = some gZ) : Met l yX9_semicolon (ws_ yX9_semicolon cX9_semicolon 1 (none)) rm_m_semicolon (va_Pc [.ref (mad E 0)] (gPre (mK E) (mP E g))) (gQv (mP E gZ) (mA E)) 0 0 (mA E) := by
  refine g_met (own := RX9) (by decide) rfl (Nat.le_of_ble_eq_true rfl) ?_
  intro p e s m args below meth c ls F hr hlk hK S hl
  have hx := F.1
  have hb := F.2.1
  have hl : lv_has ls 1 [(0, .ref (mad E 0))] := hl
  unfold fm_semicolon at h
  refine lv_aload_n hx hb dX9_semicolon_0 rfl (lv_at hl 0 rfl) ?_
  refine m_get30 F hK S dX9_semicolon_1 ?_
  refine lv_if_ne (tgt := 20) hx hb dX9_semicolon_4 (by decide) (fun c1 => ?_) (fun c1 => ?_)
  · rw [if_neg c1] at h
    cases h
    exact g_vret F hr hlk S dX9_semicolon_20
  · rw [if_pos c1] at h
    refine lv_aload_n hx hb dX9_semicolon_7 rfl (lv_at hl 0 rfl) ?_
    refine m_get28 F hK S dX9_semicolon_8 ?_
    refine lv_iconst (v := 1) hx hb dX9_semicolon_11 (by decide) ?_
    refine lv_icmp_eq (tgt := 20) hx hb dX9_semicolon_12 (by decide) (fun c2 => ?_) (fun c2 => ?_)
    · rw [if_pos c2] at h
      cases h
      exact g_vret F hr hlk S dX9_semicolon_20
    · rw [if_neg c2] at h
      refine lv_aload_n hx hb dX9_semicolon_15 rfl (lv_at hl 0 rfl) ?_
      refine lv_iconst (v := 1) hx hb dX9_semicolon_16 (by decide) ?_
      obtain ⟨g4, e3, h⟩ := bd1_inv h
      refine call_m_wrong hE F hK S e3 hl.1 (Nat.le_of_ble_eq_true rfl) ⟨Nat.le_of_ble_eq_true rfl, Nat.le_of_ble_eq_true rfl⟩ ⟨Nat.zero_le _, Nat.zero_le _⟩ dX9_semicolon_17 (fun H locs S => ?_)
      cases h
      exact g_vret F hr hlk S dX9_semicolon_20
theorem call_m_semicolon {p : Program} {l : Launch} {e : Env} {s : State} {m : MethodId} {args : Array Value} {below : List Frame} {meth : Method} {c : Code} {R : Room} {H : Heap} {locs : List Loc} {cells slots pc nL : Nat} {Q : State → Prop} {ls : Array Slot} {rest : List Value} {cc : ByteArray} {E : mEnv} (hE : mInj E) {g : mS} {gZ : mS} (F : CallFix p m c cc nL s args lw_all RX9) (hK : mK E s) (S : gS (mA E) s.heap (mP E g) H locs) (h : fm_semicolon g = some gZ) (hls : ls.size = nL) (hW : (rest.map fun v => v.category).sum ≤ 8) (hR : rm_m_semicolon.frames + 1 ≤ R.frames ∧ 8 + (1 + 11) + rm_m_semicolon.locals ≤ R.locals) (hf : cells ≤ R.cells ∧ slots ≤ R.slots) (hdg : decode cc pc = .ok (.invokevirtual 274, 3))
    (kk : ∀ (H1 : Heap) (locs1 : List Loc), gS (mA E) s.heap (mP E gZ) H1 locs1 → W p l e R s m args below meth c H1 locs1 cells slots Q (F0 m (pc + 3) ls (rest))) : W p l e R s m args below meth c H locs cells slots Q (F0 m pc ls (.ref (mad E 0) :: rest)) :=
  g_kv (g_runV F hK (mKm E) S (met_m_semicolon l E hE g  gZ h) (cwV 0 F.2.2.2.2 (lw_V q2154 q2156 qs83 q121 q2157) rfl rfl rfl (by decide +kernel) hR) (m_recv hK S) rfl hls rfl hW hdg hf) S kk
abbrev rm_m_turnStatement : Room := { frames := 9, cells := 0, slots := 0, locals := 208 }
def fm_turnStatement (g : mS)  : Option (mS) :=
  bd1 (fm_next g) fun g2 =>
  bd1 (rdI g2 1 0) fun v3 =>
  bd2 (fm_number g2 0 (v3 - 1)) fun v6 g7 =>
  bd1 (rdI g7 1 1) fun v8 =>
  bd1 (fm_look g7 0 (v8 - 1)) fun g11 =>
  bd1 (fm_cellAt g11 v6 (g11 0 29)) fun v13 =>
  bd1 ((
    if (g11 0 30) = 0 then
      bd1 (fm_noTurn g11 v13) fun v16 =>
      if v16 = 0 then
        some g11
      else
        bd1 (fm_wrong g11 5) fun g19 =>
        some g19
    else
      some g11) : Option (mS)) fun g20 =>
  bd1 ((
    if (g20 0 30) = 0 then
      bd1 (fm_next g20) fun g23 =>
      some g23
    else
      some g20) : Option (mS)) fun g24 =>
  bd1 (fm_semicolon g24) fun g26 =>
  if (g26 0 30) = 0 then
    bd2 (fm_move g26 v13) fun v29 g30 =>
    some g30
  else
    some g26
set_option maxHeartbeats 4000000 in
set_option maxRecDepth 100000 in
theorem met_m_turnStatement (l : Launch) (E : mEnv) (hE : mInj E) (g : mS)  (gZ : mS) (h : fm_turnStatement g = some gZ) : Met l yX9_turnStatement (ws_ yX9_turnStatement cX9_turnStatement 3 (none)) rm_m_turnStatement (va_Pc [.ref (mad E 0)] (gPre (mK E) (mP E g))) (gQv (mP E gZ) (mA E)) 0 0 (mA E) := by
  refine g_met (own := RX9) (by decide) rfl (Nat.le_of_ble_eq_true rfl) ?_
  intro p e s m args below meth c ls F hr hlk hK S hl
  have hx := F.1
  have hb := F.2.1
  have hl : lv_has ls 3 [(0, .ref (mad E 0))] := hl
  unfold fm_turnStatement at h
  refine lv_aload_n hx hb dX9_turnStatement_0 rfl (lv_at hl 0 rfl) ?_
  obtain ⟨g2, e1, h⟩ := bd1_inv h
  refine call_m_next hE F hK S e1 hl.1 (Nat.le_of_ble_eq_true rfl) ⟨Nat.le_of_ble_eq_true rfl, Nat.le_of_ble_eq_true rfl⟩ ⟨Nat.zero_le _, Nat.zero_le _⟩ dX9_turnStatement_1 (fun H locs S => ?_)
  refine lv_aload_n hx hb dX9_turnStatement_4 rfl (lv_at hl 0 rfl) ?_
  refine lv_iconst (v := 0) hx hb dX9_turnStatement_5 (by decide) ?_
  refine lv_aload_n hx hb dX9_turnStatement_6 rfl (lv_at hl 0 rfl) ?_
  refine m_get1 F hK S dX9_turnStatement_7 ?_
  refine lv_iconst (v := 0) hx hb dX9_turnStatement_10 (by decide) ?_
  obtain ⟨v3, e4, h⟩ := bd1_inv h
  refine m_iald F hK S e4 dX9_turnStatement_11 ?_
  refine lv_iconst (v := 1) hx hb dX9_turnStatement_12 (by decide) ?_
  refine lv_isub hx hb dX9_turnStatement_13 ?_
  obtain ⟨v6, g7, e5, h⟩ := bd2_inv h
  refine call_m_number hE F hK S e5 hl.1 (Nat.le_of_ble_eq_true rfl) ⟨Nat.le_of_ble_eq_true rfl, Nat.le_of_ble_eq_true rfl⟩ ⟨Nat.zero_le _, Nat.zero_le _⟩ dX9_turnStatement_14 (fun H locs S => ?_)
  refine lv_istore_n (lv' := [(1, .int v6), (0, .ref (mad E 0))]) hx hb dX9_turnStatement_17 rfl hl (by decide) rfl (fun ls hl => ?_)
  refine lv_aload_n hx hb dX9_turnStatement_18 rfl (lv_at hl 1 rfl) ?_
  refine lv_iconst (v := 0) hx hb dX9_turnStatement_19 (by decide) ?_
  refine lv_aload_n hx hb dX9_turnStatement_20 rfl (lv_at hl 1 rfl) ?_
  refine m_get1 F hK S dX9_turnStatement_21 ?_
  refine lv_iconst (v := 1) hx hb dX9_turnStatement_24 (by decide) ?_
  obtain ⟨v8, e9, h⟩ := bd1_inv h
  refine m_iald F hK S e9 dX9_turnStatement_25 ?_
  refine lv_iconst (v := 1) hx hb dX9_turnStatement_26 (by decide) ?_
  refine lv_isub hx hb dX9_turnStatement_27 ?_
  obtain ⟨g11, e10, h⟩ := bd1_inv h
  refine call_m_look hE F hK S e10 hl.1 (Nat.le_of_ble_eq_true rfl) ⟨Nat.le_of_ble_eq_true rfl, Nat.le_of_ble_eq_true rfl⟩ ⟨Nat.zero_le _, Nat.zero_le _⟩ dX9_turnStatement_28 (fun H locs S => ?_)
  refine lv_aload_n hx hb dX9_turnStatement_31 rfl (lv_at hl 1 rfl) ?_
  refine lv_iload_n hx hb dX9_turnStatement_32 rfl (lv_at hl 0 rfl) ?_
  refine lv_aload_n hx hb dX9_turnStatement_33 rfl (lv_at hl 1 rfl) ?_
  refine m_get29 F hK S dX9_turnStatement_34 ?_
  obtain ⟨v13, e12, h⟩ := bd1_inv h
  refine call_m_cellAt hE F hK S e12 hl.1 (Nat.le_of_ble_eq_true rfl) ⟨Nat.le_of_ble_eq_true rfl, Nat.le_of_ble_eq_true rfl⟩ ⟨Nat.zero_le _, Nat.zero_le _⟩ dX9_turnStatement_37 (fun H locs S => ?_)
  refine lv_istore_n (lv' := [(2, .int v13), (1, .int v6), (0, .ref (mad E 0))]) hx hb dX9_turnStatement_40 rfl hl (by decide) rfl (fun ls hl => ?_)
  refine lv_aload_n hx hb dX9_turnStatement_41 rfl (lv_at hl 2 rfl) ?_
  refine m_get30 F hK S dX9_turnStatement_42 ?_
  obtain ⟨g20, hB, h⟩ := bd1_inv h
  have hJ61 : ∀ (H : Heap) (locs : List Loc) (ls : Array Slot), gS (mA E) s.heap (mP E g20) H locs → lv_has ls 3 [(0, .ref (mad E 0)), (2, .int v13)] → W p l e rm_m_turnStatement s m args below meth c H locs 0 0 (MQ below (gQv (mP E gZ) (mA E)) args s 0 0 (mA E)) (F0 m 61 ls []) := by
    intro H locs ls S hl
    refine lv_aload_n hx hb dX9_turnStatement_61 rfl (lv_at hl 0 rfl) ?_
    refine m_get30 F hK S dX9_turnStatement_62 ?_
    obtain ⟨g24, hB, h⟩ := bd1_inv h
    have hJ72 : ∀ (H : Heap) (locs : List Loc) (ls : Array Slot), gS (mA E) s.heap (mP E g24) H locs → lv_has ls 3 [(0, .ref (mad E 0)), (2, .int v13)] → W p l e rm_m_turnStatement s m args below meth c H locs 0 0 (MQ below (gQv (mP E gZ) (mA E)) args s 0 0 (mA E)) (F0 m 72 ls []) := by
      intro H locs ls S hl
      refine lv_aload_n hx hb dX9_turnStatement_72 rfl (lv_at hl 0 rfl) ?_
      obtain ⟨g26, e25, h⟩ := bd1_inv h
      refine call_m_semicolon hE F hK S e25 hl.1 (Nat.le_of_ble_eq_true rfl) ⟨Nat.le_of_ble_eq_true rfl, Nat.le_of_ble_eq_true rfl⟩ ⟨Nat.zero_le _, Nat.zero_le _⟩ dX9_turnStatement_73 (fun H locs S => ?_)
      refine lv_aload_n hx hb dX9_turnStatement_76 rfl (lv_at hl 0 rfl) ?_
      refine m_get30 F hK S dX9_turnStatement_77 ?_
      refine lv_if_ne (tgt := 89) hx hb dX9_turnStatement_80 (by decide) (fun c27 => ?_) (fun c27 => ?_)
      · rw [if_neg c27] at h
        cases h
        exact g_vret F hr hlk S dX9_turnStatement_89
      · rw [if_pos c27] at h
        refine lv_aload_n hx hb dX9_turnStatement_83 rfl (lv_at hl 0 rfl) ?_
        refine lv_iload_n hx hb dX9_turnStatement_84 rfl (lv_at hl 1 rfl) ?_
        obtain ⟨v29, g30, e28, h⟩ := bd2_inv h
        refine call_m_move hE F hK S e28 hl.1 (Nat.le_of_ble_eq_true rfl) ⟨Nat.le_of_ble_eq_true rfl, Nat.le_of_ble_eq_true rfl⟩ ⟨Nat.zero_le _, Nat.zero_le _⟩ dX9_turnStatement_85 (fun H locs S => ?_)
        refine lv_pop hx hb dX9_turnStatement_88 rfl ?_
        cases h
        exact g_vret F hr hlk S dX9_turnStatement_89
    clear h
    have h := hB
    clear hB
    refine lv_if_ne (tgt := 72) hx hb dX9_turnStatement_65 (by decide) (fun c21 => ?_) (fun c21 => ?_)
    · rw [if_neg c21] at h
      cases h
      exact hJ72 _ _ _ S (lv_sub hl [0, 1] rfl)
    · rw [if_pos c21] at h
      refine lv_aload_n hx hb dX9_turnStatement_68 rfl (lv_at hl 0 rfl) ?_
      obtain ⟨g23, e22, h⟩ := bd1_inv h
      refine call_m_next hE F hK S e22 hl.1 (Nat.le_of_ble_eq_true rfl) ⟨Nat.le_of_ble_eq_true rfl, Nat.le_of_ble_eq_true rfl⟩ ⟨Nat.zero_le _, Nat.zero_le _⟩ dX9_turnStatement_69 (fun H locs S => ?_)
      cases h
      exact hJ72 _ _ _ S (lv_sub hl [0, 1] rfl)
  clear h
  have h := hB
  clear hB
  refine lv_if_ne (tgt := 61) hx hb dX9_turnStatement_45 (by decide) (fun c14 => ?_) (fun c14 => ?_)
  · rw [if_neg c14] at h
    cases h
    exact hJ61 _ _ _ S (lv_sub hl [2, 0] rfl)
  · rw [if_pos c14] at h
    refine lv_aload_n hx hb dX9_turnStatement_48 rfl (lv_at hl 2 rfl) ?_
    refine lv_iload_n hx hb dX9_turnStatement_49 rfl (lv_at hl 0 rfl) ?_
    obtain ⟨v16, e15, h⟩ := bd1_inv h
    refine call_m_noTurn hE F hK S e15 hl.1 (Nat.le_of_ble_eq_true rfl) ⟨Nat.le_of_ble_eq_true rfl, Nat.le_of_ble_eq_true rfl⟩ ⟨Nat.zero_le _, Nat.zero_le _⟩ dX9_turnStatement_50 (fun H locs S => ?_)
    refine lv_if_eq (tgt := 61) hx hb dX9_turnStatement_53 (by decide) (fun c17 => ?_) (fun c17 => ?_)
    · rw [if_pos c17] at h
      cases h
      exact hJ61 _ _ _ S (lv_sub hl [2, 0] rfl)
    · rw [if_neg c17] at h
      refine lv_aload_n hx hb dX9_turnStatement_56 rfl (lv_at hl 2 rfl) ?_
      refine lv_iconst (v := 5) hx hb dX9_turnStatement_57 (by decide) ?_
      obtain ⟨g19, e18, h⟩ := bd1_inv h
      refine call_m_wrong hE F hK S e18 hl.1 (Nat.le_of_ble_eq_true rfl) ⟨Nat.le_of_ble_eq_true rfl, Nat.le_of_ble_eq_true rfl⟩ ⟨Nat.zero_le _, Nat.zero_le _⟩ dX9_turnStatement_58 (fun H locs S => ?_)
      cases h
      exact hJ61 _ _ _ S (lv_sub hl [2, 0] rfl)
theorem call_m_turnStatement {p : Program} {l : Launch} {e : Env} {s : State} {m : MethodId} {args : Array Value} {below : List Frame} {meth : Method} {c : Code} {R : Room} {H : Heap} {locs : List Loc} {cells slots pc nL : Nat} {Q : State → Prop} {ls : Array Slot} {rest : List Value} {cc : ByteArray} {E : mEnv} (hE : mInj E) {g : mS} {gZ : mS} (F : CallFix p m c cc nL s args lw_all RX9) (hK : mK E s) (S : gS (mA E) s.heap (mP E g) H locs) (h : fm_turnStatement g = some gZ) (hls : ls.size = nL) (hW : (rest.map fun v => v.category).sum ≤ 8) (hR : rm_m_turnStatement.frames + 1 ≤ R.frames ∧ 8 + (3 + 11) + rm_m_turnStatement.locals ≤ R.locals) (hf : cells ≤ R.cells ∧ slots ≤ R.slots) (hdg : decode cc pc = .ok (.invokevirtual 282, 3))
    (kk : ∀ (H1 : Heap) (locs1 : List Loc), gS (mA E) s.heap (mP E gZ) H1 locs1 → W p l e R s m args below meth c H1 locs1 cells slots Q (F0 m (pc + 3) ls (rest))) : W p l e R s m args below meth c H locs cells slots Q (F0 m pc ls (.ref (mad E 0) :: rest)) :=
  g_kv (g_runV F hK (mKm E) S (met_m_turnStatement l E hE g  gZ h) (cwV 0 F.2.2.2.2 (lw_V q2163 q2165 qs85 q121 q2166) rfl rfl rfl (by decide +kernel) hR) (m_recv hK S) rfl hls rfl hW hdg hf) S kk
abbrev rm_m_free : Room := { frames := 3, cells := 0, slots := 0, locals := 66 }
def fm_free (g : mS) (x1 : Int32) : Option (Int32 × mS) :=
  bd1 (rdI g 1 0) fun v1 =>
  bd2 (fm_number g 0 (v1 - 1)) fun v4 g5 =>
  bd1 (rdI g5 1 1) fun v6 =>
  bd1 (fm_look g5 0 (v6 - 1)) fun g9 =>
  bd1 (fm_cellAt g9 v4 (g9 0 29)) fun v11 =>
  bd1 ((
    if (g9 0 30) = 0 then
      bd1 (fm_of g9 v11 0) fun v14 =>
      if v14 = 0 then
        if v11 = x1 then
          bd1 (fm_wrong g9 3) fun g20 =>
          some g20
        else
          some g9
      else
        bd1 (fm_wrong g9 3) fun g17 =>
        some g17
    else
      some g9) : Option (mS)) fun g21 =>
  bd1 ((
    if (g21 0 30) = 0 then
      bd1 (fm_next g21) fun g24 =>
      some g24
    else
      some g21) : Option (mS)) fun g25 =>
  bd1 ((
    if (g25 0 30) = 0 then
      some v11
    else
      some 0) : Option (Int32)) fun v27 =>
  some (v27, g25)
set_option maxHeartbeats 4000000 in
set_option maxRecDepth 100000 in
theorem met_m_free (l : Launch) (E : mEnv) (hE : mInj E) (g : mS) (x1 : Int32) (r : Int32) (gZ : mS) (h : fm_free g x1 = some (r, gZ)) : Met l yX9_free (ws_ yX9_free cX9_free 4 (some .int)) rm_m_free (va_Pc [.ref (mad E 0), .int x1] (gPre (mK E) (mP E g))) (gQi r (mP E gZ) (mA E)) 0 0 (mA E) := by
  refine g_met (own := RX9) (by decide) rfl (Nat.le_of_ble_eq_true rfl) ?_
  intro p e s m args below meth c ls F hr hlk hK S hl
  have hx := F.1
  have hb := F.2.1
  have hl : lv_has ls 4 [(0, .ref (mad E 0)), (1, .int x1)] := hl
  unfold fm_free at h
  refine lv_aload_n hx hb dX9_free_0 rfl (lv_at hl 0 rfl) ?_
  refine lv_iconst (v := 0) hx hb dX9_free_1 (by decide) ?_
  refine lv_aload_n hx hb dX9_free_2 rfl (lv_at hl 0 rfl) ?_
  refine m_get1 F hK S dX9_free_3 ?_
  refine lv_iconst (v := 0) hx hb dX9_free_6 (by decide) ?_
  obtain ⟨v1, e2, h⟩ := bd1_inv h
  refine m_iald F hK S e2 dX9_free_7 ?_
  refine lv_iconst (v := 1) hx hb dX9_free_8 (by decide) ?_
  refine lv_isub hx hb dX9_free_9 ?_
  obtain ⟨v4, g5, e3, h⟩ := bd2_inv h
  refine call_m_number hE F hK S e3 hl.1 (Nat.le_of_ble_eq_true rfl) ⟨Nat.le_of_ble_eq_true rfl, Nat.le_of_ble_eq_true rfl⟩ ⟨Nat.zero_le _, Nat.zero_le _⟩ dX9_free_10 (fun H locs S => ?_)
  refine lv_istore_n (lv' := [(2, .int v4), (0, .ref (mad E 0)), (1, .int x1)]) hx hb dX9_free_13 rfl hl (by decide) rfl (fun ls hl => ?_)
  refine lv_aload_n hx hb dX9_free_14 rfl (lv_at hl 1 rfl) ?_
  refine lv_iconst (v := 0) hx hb dX9_free_15 (by decide) ?_
  refine lv_aload_n hx hb dX9_free_16 rfl (lv_at hl 1 rfl) ?_
  refine m_get1 F hK S dX9_free_17 ?_
  refine lv_iconst (v := 1) hx hb dX9_free_20 (by decide) ?_
  obtain ⟨v6, e7, h⟩ := bd1_inv h
  refine m_iald F hK S e7 dX9_free_21 ?_
  refine lv_iconst (v := 1) hx hb dX9_free_22 (by decide) ?_
  refine lv_isub hx hb dX9_free_23 ?_
  obtain ⟨g9, e8, h⟩ := bd1_inv h
  refine call_m_look hE F hK S e8 hl.1 (Nat.le_of_ble_eq_true rfl) ⟨Nat.le_of_ble_eq_true rfl, Nat.le_of_ble_eq_true rfl⟩ ⟨Nat.zero_le _, Nat.zero_le _⟩ dX9_free_24 (fun H locs S => ?_)
  refine lv_aload_n hx hb dX9_free_27 rfl (lv_at hl 1 rfl) ?_
  refine lv_iload_n hx hb dX9_free_28 rfl (lv_at hl 0 rfl) ?_
  refine lv_aload_n hx hb dX9_free_29 rfl (lv_at hl 1 rfl) ?_
  refine m_get29 F hK S dX9_free_30 ?_
  obtain ⟨v11, e10, h⟩ := bd1_inv h
  refine call_m_cellAt hE F hK S e10 hl.1 (Nat.le_of_ble_eq_true rfl) ⟨Nat.le_of_ble_eq_true rfl, Nat.le_of_ble_eq_true rfl⟩ ⟨Nat.zero_le _, Nat.zero_le _⟩ dX9_free_33 (fun H locs S => ?_)
  refine lv_istore_n (lv' := [(3, .int v11), (2, .int v4), (0, .ref (mad E 0)), (1, .int x1)]) hx hb dX9_free_36 rfl hl (by decide) rfl (fun ls hl => ?_)
  refine lv_aload_n hx hb dX9_free_37 rfl (lv_at hl 2 rfl) ?_
  refine m_get30 F hK S dX9_free_38 ?_
  obtain ⟨g21, hB, h⟩ := bd1_inv h
  have hJ63 : ∀ (H : Heap) (locs : List Loc) (ls : Array Slot), gS (mA E) s.heap (mP E g21) H locs → lv_has ls 4 [(0, .ref (mad E 0)), (3, .int v11)] → W p l e rm_m_free s m args below meth c H locs 0 0 (MQ below (gQi r (mP E gZ) (mA E)) args s 0 0 (mA E)) (F0 m 63 ls []) := by
    intro H locs ls S hl
    refine lv_aload_n hx hb dX9_free_63 rfl (lv_at hl 0 rfl) ?_
    refine m_get30 F hK S dX9_free_64 ?_
    obtain ⟨g25, hB, h⟩ := bd1_inv h
    have hJ74 : ∀ (H : Heap) (locs : List Loc) (ls : Array Slot), gS (mA E) s.heap (mP E g25) H locs → lv_has ls 4 [(0, .ref (mad E 0)), (3, .int v11)] → W p l e rm_m_free s m args below meth c H locs 0 0 (MQ below (gQi r (mP E gZ) (mA E)) args s 0 0 (mA E)) (F0 m 74 ls []) := by
      intro H locs ls S hl
      refine lv_aload_n hx hb dX9_free_74 rfl (lv_at hl 0 rfl) ?_
      refine m_get30 F hK S dX9_free_75 ?_
      obtain ⟨v27, hB, h⟩ := bd1_inv h
      have hJ86 : ∀ (H : Heap) (locs : List Loc) (ls : Array Slot), gS (mA E) s.heap (mP E g25) H locs → lv_has ls 4 [] → W p l e rm_m_free s m args below meth c H locs 0 0 (MQ below (gQi r (mP E gZ) (mA E)) args s 0 0 (mA E)) (F0 m 86 ls [.int v27]) := by
        intro H locs ls S hl
        cases h
        exact g_iret F hr hlk S rfl dX9_free_86
      clear h
      have h := hB
      clear hB
      refine lv_if_ne (tgt := 85) hx hb dX9_free_78 (by decide) (fun c26 => ?_) (fun c26 => ?_)
      · rw [if_neg c26] at h
        refine lv_iconst (v := 0) hx hb dX9_free_85 (by decide) ?_
        cases h
        exact hJ86 _ _ _ S (lv_sub hl [] rfl)
      · rw [if_pos c26] at h
        refine lv_iload_n hx hb dX9_free_81 rfl (lv_at hl 1 rfl) ?_
        refine lv_goto (tgt := 86) hx hb dX9_free_82 (by decide) ?_
        cases h
        exact hJ86 _ _ _ S (lv_sub hl [] rfl)
    clear h
    have h := hB
    clear hB
    refine lv_if_ne (tgt := 74) hx hb dX9_free_67 (by decide) (fun c22 => ?_) (fun c22 => ?_)
    · rw [if_neg c22] at h
      cases h
      exact hJ74 _ _ _ S (lv_sub hl [0, 1] rfl)
    · rw [if_pos c22] at h
      refine lv_aload_n hx hb dX9_free_70 rfl (lv_at hl 0 rfl) ?_
      obtain ⟨g24, e23, h⟩ := bd1_inv h
      refine call_m_next hE F hK S e23 hl.1 (Nat.le_of_ble_eq_true rfl) ⟨Nat.le_of_ble_eq_true rfl, Nat.le_of_ble_eq_true rfl⟩ ⟨Nat.zero_le _, Nat.zero_le _⟩ dX9_free_71 (fun H locs S => ?_)
      cases h
      exact hJ74 _ _ _ S (lv_sub hl [0, 1] rfl)
  clear h
  have h := hB
  clear hB
  refine lv_if_ne (tgt := 63) hx hb dX9_free_41 (by decide) (fun c12 => ?_) (fun c12 => ?_)
  · rw [if_neg c12] at h
    cases h
    exact hJ63 _ _ _ S (lv_sub hl [2, 0] rfl)
  · rw [if_pos c12] at h
    refine lv_aload_n hx hb dX9_free_44 rfl (lv_at hl 2 rfl) ?_
    refine lv_iload_n hx hb dX9_free_45 rfl (lv_at hl 0 rfl) ?_
    refine lv_iconst (v := 0) hx hb dX9_free_46 (by decide) ?_
    obtain ⟨v14, e13, h⟩ := bd1_inv h
    refine call_m_of hE F hK S e13 hl.1 (Nat.le_of_ble_eq_true rfl) ⟨Nat.le_of_ble_eq_true rfl, Nat.le_of_ble_eq_true rfl⟩ ⟨Nat.zero_le _, Nat.zero_le _⟩ dX9_free_47 (fun H locs S => ?_)
    refine lv_if_ne (tgt := 58) hx hb dX9_free_50 (by decide) (fun c15 => ?_) (fun c15 => ?_)
    · rw [if_neg c15] at h
      refine lv_aload_n hx hb dX9_free_58 rfl (lv_at hl 2 rfl) ?_
      refine lv_iconst (v := 3) hx hb dX9_free_59 (by decide) ?_
      obtain ⟨g17, e16, h⟩ := bd1_inv h
      refine call_m_wrong hE F hK S e16 hl.1 (Nat.le_of_ble_eq_true rfl) ⟨Nat.le_of_ble_eq_true rfl, Nat.le_of_ble_eq_true rfl⟩ ⟨Nat.zero_le _, Nat.zero_le _⟩ dX9_free_60 (fun H locs S => ?_)
      cases h
      exact hJ63 _ _ _ S (lv_sub hl [2, 0] rfl)
    · rw [if_pos c15] at h
      refine lv_iload_n hx hb dX9_free_53 rfl (lv_at hl 0 rfl) ?_
      refine lv_iload_n hx hb dX9_free_54 rfl (lv_at hl 3 rfl) ?_
      refine lv_icmp_ne (tgt := 63) hx hb dX9_free_55 (by decide) (fun c18 => ?_) (fun c18 => ?_)
      · rw [if_neg c18] at h
        cases h
        exact hJ63 _ _ _ S (lv_sub hl [2, 0] rfl)
      · rw [if_pos c18] at h
        refine lv_aload_n hx hb dX9_free_58 rfl (lv_at hl 2 rfl) ?_
        refine lv_iconst (v := 3) hx hb dX9_free_59 (by decide) ?_
        obtain ⟨g20, e19, h⟩ := bd1_inv h
        refine call_m_wrong hE F hK S e19 hl.1 (Nat.le_of_ble_eq_true rfl) ⟨Nat.le_of_ble_eq_true rfl, Nat.le_of_ble_eq_true rfl⟩ ⟨Nat.zero_le _, Nat.zero_le _⟩ dX9_free_60 (fun H locs S => ?_)
        cases h
        exact hJ63 _ _ _ S (lv_sub hl [2, 0] rfl)
theorem call_m_free {p : Program} {l : Launch} {e : Env} {s : State} {m : MethodId} {args : Array Value} {below : List Frame} {meth : Method} {c : Code} {R : Room} {H : Heap} {locs : List Loc} {cells slots pc nL : Nat} {Q : State → Prop} {ls : Array Slot} {rest : List Value} {cc : ByteArray} {E : mEnv} (hE : mInj E) {g : mS} {x1 : Int32} {r : Int32} {gZ : mS} (F : CallFix p m c cc nL s args lw_all RX9) (hK : mK E s) (S : gS (mA E) s.heap (mP E g) H locs) (h : fm_free g x1 = some (r, gZ)) (hls : ls.size = nL) (hW : (rest.map fun v => v.category).sum ≤ 8) (hR : rm_m_free.frames + 1 ≤ R.frames ∧ 8 + (4 + 11) + rm_m_free.locals ≤ R.locals) (hf : cells ≤ R.cells ∧ slots ≤ R.slots) (hdg : decode cc pc = .ok (.invokevirtual 287, 3))
    (kk : ∀ (H1 : Heap) (locs1 : List Loc), gS (mA E) s.heap (mP E gZ) H1 locs1 → W p l e R s m args below meth c H1 locs1 cells slots Q (F0 m (pc + 3) ls (.int r :: rest))) : W p l e R s m args below meth c H locs cells slots Q (F0 m pc ls (.int x1 :: .ref (mad E 0) :: rest)) :=
  g_ki (g_runV F hK (mKm E) S (met_m_free l E hE g x1 r gZ h) (cwV 1 F.2.2.2.2 (lw_V q2168 q2170 qs86 q121 q2171) rfl rfl rfl (by decide +kernel) hR) (m_recv hK S) rfl hls rfl hW hdg hf) S kk
abbrev rm_m_layAt : Room := { frames := 8, cells := 0, slots := 0, locals := 186 }
def fm_layAt (g : mS) (x1 : Int32) (x2 : Int32) (x3 : Int32) (x4 : Int32) : Option (mS) :=
  if (g 0 30) = 0 then
    bd1 (fm_lay g (irm x1 10) (x1 / 10) x2 x3 x4) fun g3 =>
    bd2 (fm_openAll g3) fun v5 g6 =>
    some g6
  else
    some g
set_option maxHeartbeats 4000000 in
set_option maxRecDepth 100000 in
theorem met_m_layAt (l : Launch) (E : mEnv) (hE : mInj E) (g : mS) (x1 : Int32) (x2 : Int32) (x3 : Int32) (x4 : Int32) (gZ : mS) (h : fm_layAt g x1 x2 x3 x4 = some gZ) : Met l yX9_layAt (ws_ yX9_layAt cX9_layAt 5 (none)) rm_m_layAt (va_Pc [.ref (mad E 0), .int x1, .int x2, .int x3, .int x4] (gPre (mK E) (mP E g))) (gQv (mP E gZ) (mA E)) 0 0 (mA E) := by
  refine g_met (own := RX9) (by decide) rfl (Nat.le_of_ble_eq_true rfl) ?_
  intro p e s m args below meth c ls F hr hlk hK S hl
  have hx := F.1
  have hb := F.2.1
  have hl : lv_has ls 5 [(0, .ref (mad E 0)), (1, .int x1), (2, .int x2), (3, .int x3), (4, .int x4)] := hl
  unfold fm_layAt at h
  refine lv_aload_n hx hb dX9_layAt_0 rfl (lv_at hl 0 rfl) ?_
  refine m_get30 F hK S dX9_layAt_1 ?_
  refine lv_if_ne (tgt := 28) hx hb dX9_layAt_4 (by decide) (fun c1 => ?_) (fun c1 => ?_)
  · rw [if_neg c1] at h
    cases h
    exact g_vret F hr hlk S dX9_layAt_28
  · rw [if_pos c1] at h
    refine lv_aload_n hx hb dX9_layAt_7 rfl (lv_at hl 0 rfl) ?_
    refine lv_iload_n hx hb dX9_layAt_8 rfl (lv_at hl 1 rfl) ?_
    refine lv_bipush (v := 10) hx hb dX9_layAt_9 (by decide) ?_
    refine lv_irem hx hb dX9_layAt_11 (by decide) ?_
    refine lv_iload_n hx hb dX9_layAt_12 rfl (lv_at hl 1 rfl) ?_
    refine lv_bipush (v := 10) hx hb dX9_layAt_13 (by decide) ?_
    refine lv_idiv hx hb dX9_layAt_15 (by decide) ?_
    refine lv_iload_n hx hb dX9_layAt_16 rfl (lv_at hl 2 rfl) ?_
    refine lv_iload_n hx hb dX9_layAt_17 rfl (lv_at hl 3 rfl) ?_
    refine lv_iload hx hb dX9_layAt_18 (lv_at hl 4 rfl) ?_
    obtain ⟨g3, e2, h⟩ := bd1_inv h
    refine call_m_lay hE F hK S e2 hl.1 (Nat.le_of_ble_eq_true rfl) ⟨Nat.le_of_ble_eq_true rfl, Nat.le_of_ble_eq_true rfl⟩ ⟨Nat.zero_le _, Nat.zero_le _⟩ dX9_layAt_20 (fun H locs S => ?_)
    refine lv_aload_n hx hb dX9_layAt_23 rfl (lv_at hl 0 rfl) ?_
    obtain ⟨v5, g6, e4, h⟩ := bd2_inv h
    refine call_m_openAll hE F hK S e4 hl.1 (Nat.le_of_ble_eq_true rfl) ⟨Nat.le_of_ble_eq_true rfl, Nat.le_of_ble_eq_true rfl⟩ ⟨Nat.zero_le _, Nat.zero_le _⟩ dX9_layAt_24 (fun H locs S => ?_)
    refine lv_pop hx hb dX9_layAt_27 rfl ?_
    cases h
    exact g_vret F hr hlk S dX9_layAt_28
theorem call_m_layAt {p : Program} {l : Launch} {e : Env} {s : State} {m : MethodId} {args : Array Value} {below : List Frame} {meth : Method} {c : Code} {R : Room} {H : Heap} {locs : List Loc} {cells slots pc nL : Nat} {Q : State → Prop} {ls : Array Slot} {rest : List Value} {cc : ByteArray} {E : mEnv} (hE : mInj E) {g : mS} {x1 : Int32} {x2 : Int32} {x3 : Int32} {x4 : Int32} {gZ : mS} (F : CallFix p m c cc nL s args lw_all RX9) (hK : mK E s) (S : gS (mA E) s.heap (mP E g) H locs) (h : fm_layAt g x1 x2 x3 x4 = some gZ) (hls : ls.size = nL) (hW : (rest.map fun v => v.category).sum ≤ 8) (hR : rm_m_layAt.frames + 1 ≤ R.frames ∧ 8 + (5 + 11) + rm_m_layAt.locals ≤ R.locals) (hf : cells ≤ R.cells ∧ slots ≤ R.slots) (hdg : decode cc pc = .ok (.invokevirtual 290, 3))
    (kk : ∀ (H1 : Heap) (locs1 : List Loc), gS (mA E) s.heap (mP E gZ) H1 locs1 → W p l e R s m args below meth c H1 locs1 cells slots Q (F0 m (pc + 3) ls (rest))) : W p l e R s m args below meth c H locs cells slots Q (F0 m pc ls (.int x4 :: .int x3 :: .int x2 :: .int x1 :: .ref (mad E 0) :: rest)) :=
  g_kv (g_runV F hK (mKm E) S (met_m_layAt l E hE g x1 x2 x3 x4 gZ h) (cwV 4 F.2.2.2.2 (lw_V q2172 q2174 qs87 q121 q2175) rfl rfl rfl (by decide +kernel) hR) (m_recv hK S) rfl hls rfl hW hdg hf) S kk
abbrev rm_m_doorStatement : Room := { frames := 9, cells := 0, slots := 0, locals := 210 }
def fm_doorStatement (g : mS)  : Option (mS) :=
  bd1 (fm_count g 4) fun v2 =>
  if v2 = 8 then
    bd1 (fm_wrong g 4) fun g17 =>
    some g17
  else
    bd1 (fm_next g) fun g5 =>
    bd2 (fm_free g5 (-1)) fun v7 g8 =>
    bd2 (fm_number g8 1 2) fun v10 g11 =>
    bd1 (fm_semicolon g11) fun g13 =>
    bd1 (fm_layAt g13 v7 4 (-1) v10) fun g15 =>
    some g15
set_option maxHeartbeats 4000000 in
set_option maxRecDepth 100000 in
theorem met_m_doorStatement (l : Launch) (E : mEnv) (hE : mInj E) (g : mS)  (gZ : mS) (h : fm_doorStatement g = some gZ) : Met l yX9_doorStatement (ws_ yX9_doorStatement cX9_doorStatement 3 (none)) rm_m_doorStatement (va_Pc [.ref (mad E 0)] (gPre (mK E) (mP E g))) (gQv (mP E gZ) (mA E)) 0 0 (mA E) := by
  refine g_met (own := RX9) (by decide) rfl (Nat.le_of_ble_eq_true rfl) ?_
  intro p e s m args below meth c ls F hr hlk hK S hl
  have hx := F.1
  have hb := F.2.1
  have hl : lv_has ls 3 [(0, .ref (mad E 0))] := hl
  unfold fm_doorStatement at h
  refine lv_aload_n hx hb dX9_doorStatement_0 rfl (lv_at hl 0 rfl) ?_
  refine lv_iconst (v := 4) hx hb dX9_doorStatement_1 (by decide) ?_
  obtain ⟨v2, e1, h⟩ := bd1_inv h
  refine call_m_count hE F hK S e1 hl.1 (Nat.le_of_ble_eq_true rfl) ⟨Nat.le_of_ble_eq_true rfl, Nat.le_of_ble_eq_true rfl⟩ ⟨Nat.zero_le _, Nat.zero_le _⟩ dX9_doorStatement_2 (fun H locs S => ?_)
  refine lv_bipush (v := 8) hx hb dX9_doorStatement_5 (by decide) ?_
  refine lv_icmp_ne (tgt := 16) hx hb dX9_doorStatement_7 (by decide) (fun c3 => ?_) (fun c3 => ?_)
  · rw [if_neg c3] at h
    refine lv_aload_n hx hb dX9_doorStatement_16 rfl (lv_at hl 0 rfl) ?_
    obtain ⟨g5, e4, h⟩ := bd1_inv h
    refine call_m_next hE F hK S e4 hl.1 (Nat.le_of_ble_eq_true rfl) ⟨Nat.le_of_ble_eq_true rfl, Nat.le_of_ble_eq_true rfl⟩ ⟨Nat.zero_le _, Nat.zero_le _⟩ dX9_doorStatement_17 (fun H locs S => ?_)
    refine lv_aload_n hx hb dX9_doorStatement_20 rfl (lv_at hl 0 rfl) ?_
    refine lv_iconst (v := (-1)) hx hb dX9_doorStatement_21 (by decide) ?_
    obtain ⟨v7, g8, e6, h⟩ := bd2_inv h
    refine call_m_free hE F hK S e6 hl.1 (Nat.le_of_ble_eq_true rfl) ⟨Nat.le_of_ble_eq_true rfl, Nat.le_of_ble_eq_true rfl⟩ ⟨Nat.zero_le _, Nat.zero_le _⟩ dX9_doorStatement_22 (fun H locs S => ?_)
    refine lv_istore_n (lv' := [(1, .int v7), (0, .ref (mad E 0))]) hx hb dX9_doorStatement_25 rfl hl (by decide) rfl (fun ls hl => ?_)
    refine lv_aload_n hx hb dX9_doorStatement_26 rfl (lv_at hl 1 rfl) ?_
    refine lv_iconst (v := 1) hx hb dX9_doorStatement_27 (by decide) ?_
    refine lv_iconst (v := 2) hx hb dX9_doorStatement_28 (by decide) ?_
    obtain ⟨v10, g11, e9, h⟩ := bd2_inv h
    refine call_m_number hE F hK S e9 hl.1 (Nat.le_of_ble_eq_true rfl) ⟨Nat.le_of_ble_eq_true rfl, Nat.le_of_ble_eq_true rfl⟩ ⟨Nat.zero_le _, Nat.zero_le _⟩ dX9_doorStatement_29 (fun H locs S => ?_)
    refine lv_istore_n (lv' := [(2, .int v10), (1, .int v7), (0, .ref (mad E 0))]) hx hb dX9_doorStatement_32 rfl hl (by decide) rfl (fun ls hl => ?_)
    refine lv_aload_n hx hb dX9_doorStatement_33 rfl (lv_at hl 2 rfl) ?_
    obtain ⟨g13, e12, h⟩ := bd1_inv h
    refine call_m_semicolon hE F hK S e12 hl.1 (Nat.le_of_ble_eq_true rfl) ⟨Nat.le_of_ble_eq_true rfl, Nat.le_of_ble_eq_true rfl⟩ ⟨Nat.zero_le _, Nat.zero_le _⟩ dX9_doorStatement_34 (fun H locs S => ?_)
    refine lv_aload_n hx hb dX9_doorStatement_37 rfl (lv_at hl 2 rfl) ?_
    refine lv_iload_n hx hb dX9_doorStatement_38 rfl (lv_at hl 1 rfl) ?_
    refine lv_iconst (v := 4) hx hb dX9_doorStatement_39 (by decide) ?_
    refine lv_iconst (v := (-1)) hx hb dX9_doorStatement_40 (by decide) ?_
    refine lv_iload_n hx hb dX9_doorStatement_41 rfl (lv_at hl 0 rfl) ?_
    obtain ⟨g15, e14, h⟩ := bd1_inv h
    refine call_m_layAt hE F hK S e14 hl.1 (Nat.le_of_ble_eq_true rfl) ⟨Nat.le_of_ble_eq_true rfl, Nat.le_of_ble_eq_true rfl⟩ ⟨Nat.zero_le _, Nat.zero_le _⟩ dX9_doorStatement_42 (fun H locs S => ?_)
    cases h
    exact g_vret F hr hlk S dX9_doorStatement_45
  · rw [if_pos c3] at h
    refine lv_aload_n hx hb dX9_doorStatement_10 rfl (lv_at hl 0 rfl) ?_
    refine lv_iconst (v := 4) hx hb dX9_doorStatement_11 (by decide) ?_
    obtain ⟨g17, e16, h⟩ := bd1_inv h
    refine call_m_wrong hE F hK S e16 hl.1 (Nat.le_of_ble_eq_true rfl) ⟨Nat.le_of_ble_eq_true rfl, Nat.le_of_ble_eq_true rfl⟩ ⟨Nat.zero_le _, Nat.zero_le _⟩ dX9_doorStatement_12 (fun H locs S => ?_)
    cases h
    exact g_vret F hr hlk S dX9_doorStatement_15
theorem call_m_doorStatement {p : Program} {l : Launch} {e : Env} {s : State} {m : MethodId} {args : Array Value} {below : List Frame} {meth : Method} {c : Code} {R : Room} {H : Heap} {locs : List Loc} {cells slots pc nL : Nat} {Q : State → Prop} {ls : Array Slot} {rest : List Value} {cc : ByteArray} {E : mEnv} (hE : mInj E) {g : mS} {gZ : mS} (F : CallFix p m c cc nL s args lw_all RX9) (hK : mK E s) (S : gS (mA E) s.heap (mP E g) H locs) (h : fm_doorStatement g = some gZ) (hls : ls.size = nL) (hW : (rest.map fun v => v.category).sum ≤ 8) (hR : rm_m_doorStatement.frames + 1 ≤ R.frames ∧ 8 + (3 + 11) + rm_m_doorStatement.locals ≤ R.locals) (hf : cells ≤ R.cells ∧ slots ≤ R.slots) (hdg : decode cc pc = .ok (.invokevirtual 302, 3))
    (kk : ∀ (H1 : Heap) (locs1 : List Loc), gS (mA E) s.heap (mP E gZ) H1 locs1 → W p l e R s m args below meth c H1 locs1 cells slots Q (F0 m (pc + 3) ls (rest))) : W p l e R s m args below meth c H locs cells slots Q (F0 m pc ls (.ref (mad E 0) :: rest)) :=
  g_kv (g_runV F hK (mKm E) S (met_m_doorStatement l E hE g  gZ h) (cwV 0 F.2.2.2.2 (lw_V q2186 q2188 qs89 q121 q2189) rfl rfl rfl (by decide +kernel) hR) (m_recv hK S) rfl hls rfl hW hdg hf) S kk
abbrev rm_m_portalStatement : Room := { frames := 9, cells := 0, slots := 0, locals := 210 }
def fm_portalStatement (g : mS)  : Option (mS) :=
  bd1 (fm_count g 6) fun v2 =>
  if v2 = 8 then
    bd1 (fm_wrong g 4) fun g18 =>
    some g18
  else
    bd1 (fm_next g) fun g5 =>
    bd2 (fm_free g5 (-1)) fun v7 g8 =>
    bd2 (fm_free g8 v7) fun v10 g11 =>
    bd1 (fm_semicolon g11) fun g13 =>
    if (g13 0 30) = 0 then
      bd1 (fm_layPair g13 (irm v7 10) (v7 / 10) (irm v10 10) (v10 / 10)) fun g16 =>
      some g16
    else
      some g13
set_option maxHeartbeats 4000000 in
set_option maxRecDepth 100000 in
theorem met_m_portalStatement (l : Launch) (E : mEnv) (hE : mInj E) (g : mS)  (gZ : mS) (h : fm_portalStatement g = some gZ) : Met l yX9_portalStatement (ws_ yX9_portalStatement cX9_portalStatement 3 (none)) rm_m_portalStatement (va_Pc [.ref (mad E 0)] (gPre (mK E) (mP E g))) (gQv (mP E gZ) (mA E)) 0 0 (mA E) := by
  refine g_met (own := RX9) (by decide) rfl (Nat.le_of_ble_eq_true rfl) ?_
  intro p e s m args below meth c ls F hr hlk hK S hl
  have hx := F.1
  have hb := F.2.1
  have hl : lv_has ls 3 [(0, .ref (mad E 0))] := hl
  unfold fm_portalStatement at h
  refine lv_aload_n hx hb dX9_portalStatement_0 rfl (lv_at hl 0 rfl) ?_
  refine lv_bipush (v := 6) hx hb dX9_portalStatement_1 (by decide) ?_
  obtain ⟨v2, e1, h⟩ := bd1_inv h
  refine call_m_count hE F hK S e1 hl.1 (Nat.le_of_ble_eq_true rfl) ⟨Nat.le_of_ble_eq_true rfl, Nat.le_of_ble_eq_true rfl⟩ ⟨Nat.zero_le _, Nat.zero_le _⟩ dX9_portalStatement_3 (fun H locs S => ?_)
  refine lv_bipush (v := 8) hx hb dX9_portalStatement_6 (by decide) ?_
  refine lv_icmp_ne (tgt := 17) hx hb dX9_portalStatement_8 (by decide) (fun c3 => ?_) (fun c3 => ?_)
  · rw [if_neg c3] at h
    refine lv_aload_n hx hb dX9_portalStatement_17 rfl (lv_at hl 0 rfl) ?_
    obtain ⟨g5, e4, h⟩ := bd1_inv h
    refine call_m_next hE F hK S e4 hl.1 (Nat.le_of_ble_eq_true rfl) ⟨Nat.le_of_ble_eq_true rfl, Nat.le_of_ble_eq_true rfl⟩ ⟨Nat.zero_le _, Nat.zero_le _⟩ dX9_portalStatement_18 (fun H locs S => ?_)
    refine lv_aload_n hx hb dX9_portalStatement_21 rfl (lv_at hl 0 rfl) ?_
    refine lv_iconst (v := (-1)) hx hb dX9_portalStatement_22 (by decide) ?_
    obtain ⟨v7, g8, e6, h⟩ := bd2_inv h
    refine call_m_free hE F hK S e6 hl.1 (Nat.le_of_ble_eq_true rfl) ⟨Nat.le_of_ble_eq_true rfl, Nat.le_of_ble_eq_true rfl⟩ ⟨Nat.zero_le _, Nat.zero_le _⟩ dX9_portalStatement_23 (fun H locs S => ?_)
    refine lv_istore_n (lv' := [(1, .int v7), (0, .ref (mad E 0))]) hx hb dX9_portalStatement_26 rfl hl (by decide) rfl (fun ls hl => ?_)
    refine lv_aload_n hx hb dX9_portalStatement_27 rfl (lv_at hl 1 rfl) ?_
    refine lv_iload_n hx hb dX9_portalStatement_28 rfl (lv_at hl 0 rfl) ?_
    obtain ⟨v10, g11, e9, h⟩ := bd2_inv h
    refine call_m_free hE F hK S e9 hl.1 (Nat.le_of_ble_eq_true rfl) ⟨Nat.le_of_ble_eq_true rfl, Nat.le_of_ble_eq_true rfl⟩ ⟨Nat.zero_le _, Nat.zero_le _⟩ dX9_portalStatement_29 (fun H locs S => ?_)
    refine lv_istore_n (lv' := [(2, .int v10), (1, .int v7), (0, .ref (mad E 0))]) hx hb dX9_portalStatement_32 rfl hl (by decide) rfl (fun ls hl => ?_)
    refine lv_aload_n hx hb dX9_portalStatement_33 rfl (lv_at hl 2 rfl) ?_
    obtain ⟨g13, e12, h⟩ := bd1_inv h
    refine call_m_semicolon hE F hK S e12 hl.1 (Nat.le_of_ble_eq_true rfl) ⟨Nat.le_of_ble_eq_true rfl, Nat.le_of_ble_eq_true rfl⟩ ⟨Nat.zero_le _, Nat.zero_le _⟩ dX9_portalStatement_34 (fun H locs S => ?_)
    refine lv_aload_n hx hb dX9_portalStatement_37 rfl (lv_at hl 2 rfl) ?_
    refine m_get30 F hK S dX9_portalStatement_38 ?_
    refine lv_if_ne (tgt := 64) hx hb dX9_portalStatement_41 (by decide) (fun c14 => ?_) (fun c14 => ?_)
    · rw [if_neg c14] at h
      cases h
      exact g_vret F hr hlk S dX9_portalStatement_64
    · rw [if_pos c14] at h
      refine lv_aload_n hx hb dX9_portalStatement_44 rfl (lv_at hl 2 rfl) ?_
      refine lv_iload_n hx hb dX9_portalStatement_45 rfl (lv_at hl 1 rfl) ?_
      refine lv_bipush (v := 10) hx hb dX9_portalStatement_46 (by decide) ?_
      refine lv_irem hx hb dX9_portalStatement_48 (by decide) ?_
      refine lv_iload_n hx hb dX9_portalStatement_49 rfl (lv_at hl 1 rfl) ?_
      refine lv_bipush (v := 10) hx hb dX9_portalStatement_50 (by decide) ?_
      refine lv_idiv hx hb dX9_portalStatement_52 (by decide) ?_
      refine lv_iload_n hx hb dX9_portalStatement_53 rfl (lv_at hl 0 rfl) ?_
      refine lv_bipush (v := 10) hx hb dX9_portalStatement_54 (by decide) ?_
      refine lv_irem hx hb dX9_portalStatement_56 (by decide) ?_
      refine lv_iload_n hx hb dX9_portalStatement_57 rfl (lv_at hl 0 rfl) ?_
      refine lv_bipush (v := 10) hx hb dX9_portalStatement_58 (by decide) ?_
      refine lv_idiv hx hb dX9_portalStatement_60 (by decide) ?_
      obtain ⟨g16, e15, h⟩ := bd1_inv h
      refine call_m_layPair hE F hK S e15 hl.1 (Nat.le_of_ble_eq_true rfl) ⟨Nat.le_of_ble_eq_true rfl, Nat.le_of_ble_eq_true rfl⟩ ⟨Nat.zero_le _, Nat.zero_le _⟩ dX9_portalStatement_61 (fun H locs S => ?_)
      cases h
      exact g_vret F hr hlk S dX9_portalStatement_64
  · rw [if_pos c3] at h
    refine lv_aload_n hx hb dX9_portalStatement_11 rfl (lv_at hl 0 rfl) ?_
    refine lv_iconst (v := 4) hx hb dX9_portalStatement_12 (by decide) ?_
    obtain ⟨g18, e17, h⟩ := bd1_inv h
    refine call_m_wrong hE F hK S e17 hl.1 (Nat.le_of_ble_eq_true rfl) ⟨Nat.le_of_ble_eq_true rfl, Nat.le_of_ble_eq_true rfl⟩ ⟨Nat.zero_le _, Nat.zero_le _⟩ dX9_portalStatement_13 (fun H locs S => ?_)
    cases h
    exact g_vret F hr hlk S dX9_portalStatement_16
theorem call_m_portalStatement {p : Program} {l : Launch} {e : Env} {s : State} {m : MethodId} {args : Array Value} {below : List Frame} {meth : Method} {c : Code} {R : Room} {H : Heap} {locs : List Loc} {cells slots pc nL : Nat} {Q : State → Prop} {ls : Array Slot} {rest : List Value} {cc : ByteArray} {E : mEnv} (hE : mInj E) {g : mS} {gZ : mS} (F : CallFix p m c cc nL s args lw_all RX9) (hK : mK E s) (S : gS (mA E) s.heap (mP E g) H locs) (h : fm_portalStatement g = some gZ) (hls : ls.size = nL) (hW : (rest.map fun v => v.category).sum ≤ 8) (hR : rm_m_portalStatement.frames + 1 ≤ R.frames ∧ 8 + (3 + 11) + rm_m_portalStatement.locals ≤ R.locals) (hf : cells ≤ R.cells ∧ slots ≤ R.slots) (hdg : decode cc pc = .ok (.invokevirtual 309, 3))
    (kk : ∀ (H1 : Heap) (locs1 : List Loc), gS (mA E) s.heap (mP E gZ) H1 locs1 → W p l e R s m args below meth c H1 locs1 cells slots Q (F0 m (pc + 3) ls (rest))) : W p l e R s m args below meth c H locs cells slots Q (F0 m pc ls (.ref (mad E 0) :: rest)) :=
  g_kv (g_runV F hK (mKm E) S (met_m_portalStatement l E hE g  gZ h) (cwV 0 F.2.2.2.2 (lw_V q2192 q2194 qs90 q121 q2195) rfl rfl rfl (by decide +kernel) hR) (m_recv hK S) rfl hls rfl hW hdg hf) S kk
abbrev rm_m_type : Room := { frames := 0, cells := 0, slots := 0, locals := 0 }
def Lm_type_1 : Nat → mS → Int32 → Int32 → Option (mS)
  | 0, _, _, _ => none
  | n + 1, g, y1, y2 =>
    if y2 < 0 then
      some g
    else
      bd1 (wrI g 11 (g 0 13) ((ush y1 y2) &&& 255)) fun g2 =>
      bd1 (wrF g2 13 ((g2 0 13) + 1)) fun g4 =>
      Lm_type_1 n g4 y1 (y2 + (-8))
def fm_type (g : mS) (x1 : Int32) : Option (mS) :=
  bd1 (Lm_type_1 FUEL g x1 24) fun g7 =>
  some g7
set_option maxHeartbeats 4000000 in
set_option maxRecDepth 100000 in
theorem loop_m_type_1 {p : Program} {l : Launch} {e : Env} {s : State} {m : MethodId} {args : Array Value} {below : List Frame} {meth : Method} {c : Code} (E : mEnv) (hE : mInj E) (F : CallFix p m c cX9_type 3 s args lw_all RX9) (hr : meth.sig.returnType = none) (hlk : meth.locks = false) (hK : mK E s) {Q : State → Prop} : ∀ (n : Nat) (g : mS) (y1 : Int32) (y2 : Int32) (o : mS), Lm_type_1 n g y1 y2 = some o → ∀ (H : Heap) (locs : List Loc) (ls : Array Slot), gS (mA E) s.heap (mP E g) H locs → lv_has ls 3 [(0, .ref (mad E 0)), (1, .int y1), (2, .int y2)] → (∀  (gx : mS) (H : Heap) (locs : List Loc) (ls : Array Slot), o = gx → gS (mA E) s.heap (mP E gx) H locs → lv_has ls 3 [] → W p l e rm_m_type s m args below meth c H locs 0 0 Q (F0 m 39 ls [])) → W p l e rm_m_type s m args below meth c H locs 0 0 Q (F0 m 3 ls []) := by
  have hx := F.1
  have hb := F.2.1
  intro n
  induction n with
  | zero =>
    intro g y1 y2 o h
    rw [Lm_type_1] at h
    cases h
  | succ n ih =>
    intro g y1 y2 o h H locs ls S hl kx
    rw [Lm_type_1] at h
    refine lv_iload_n hx hb dX9_type_3 rfl (lv_at hl 2 rfl) ?_
    refine lv_if_lt (tgt := 39) hx hb dX9_type_4 (by decide) (fun c1 => ?_) (fun c1 => ?_)
    · rw [if_pos c1] at h
      cases h
      exact kx _ _ _ _ rfl S (lv_sub hl [] rfl)
    · rw [if_neg c1] at h
      refine lv_aload_n hx hb dX9_type_7 rfl (lv_at hl 0 rfl) ?_
      refine m_get12 F hK S dX9_type_8 ?_
      refine lv_aload_n hx hb dX9_type_11 rfl (lv_at hl 0 rfl) ?_
      refine m_get13 F hK S dX9_type_12 ?_
      refine lv_iload_n hx hb dX9_type_15 rfl (lv_at hl 1 rfl) ?_
      refine lv_iload_n hx hb dX9_type_16 rfl (lv_at hl 2 rfl) ?_
      refine lv_iushr hx hb dX9_type_17 rfl ?_
      refine lv_sipush (v := 255) hx hb dX9_type_18 (by decide) ?_
      refine lv_iand hx hb dX9_type_21 ?_
      obtain ⟨g2, e3, h⟩ := bd1_inv h
      refine m_iast hE F hK S e3 dX9_type_22 (fun H locs S => ?_)
      refine lv_aload_n hx hb dX9_type_23 rfl (lv_at hl 0 rfl) ?_
      refine lv_dup hx hb dX9_type_24 rfl ?_
      refine m_get13 F hK S dX9_type_25 ?_
      refine lv_iconst (v := 1) hx hb dX9_type_28 (by decide) ?_
      refine lv_iadd hx hb dX9_type_29 ?_
      obtain ⟨g4, e5, h⟩ := bd1_inv h
      refine m_put13 hE F hK S e5 dX9_type_30 (fun H locs S => ?_)
      refine lv_iinc (v := (y2 + (-8))) (lv' := [(2, .int (y2 + (-8))), (0, .ref (mad E 0)), (1, .int y1)]) hx hb dX9_type_33 hl (k := 2) rfl rfl (by decide) rfl (fun ls hl => ?_)
      refine lv_goto (tgt := 3) hx hb dX9_type_36 (by decide) ?_
      exact ih _ _ _ _ h _ _ _ S (lv_sub hl [1, 2, 0] rfl) kx
set_option maxHeartbeats 4000000 in
set_option maxRecDepth 100000 in
theorem met_m_type (l : Launch) (E : mEnv) (hE : mInj E) (g : mS) (x1 : Int32) (gZ : mS) (h : fm_type g x1 = some gZ) : Met l yX9_type (ws_ yX9_type cX9_type 3 (none)) rm_m_type (va_Pc [.ref (mad E 0), .int x1] (gPre (mK E) (mP E g))) (gQv (mP E gZ) (mA E)) 0 0 (mA E) := by
  refine g_met (own := RX9) (by decide) rfl (Nat.le_of_ble_eq_true rfl) ?_
  intro p e s m args below meth c ls F hr hlk hK S hl
  have hx := F.1
  have hb := F.2.1
  have hl : lv_has ls 3 [(0, .ref (mad E 0)), (1, .int x1)] := hl
  unfold fm_type at h
  refine lv_bipush (v := 24) hx hb dX9_type_0 (by decide) ?_
  refine lv_istore_n (lv' := [(2, .int 24), (0, .ref (mad E 0)), (1, .int x1)]) hx hb dX9_type_2 rfl hl (by decide) rfl (fun ls hl => ?_)
  obtain ⟨g7, e6, h⟩ := bd1_inv h
  refine loop_m_type_1 E hE F hr hlk hK _ _ _ _ _ e6 _ _ _ S (lv_sub hl [1, 2, 0] rfl) (fun g7z H locs ls o S hl => ?_)
  cases o
  cases h
  exact g_vret F hr hlk S dX9_type_39
theorem call_m_type {p : Program} {l : Launch} {e : Env} {s : State} {m : MethodId} {args : Array Value} {below : List Frame} {meth : Method} {c : Code} {R : Room} {H : Heap} {locs : List Loc} {cells slots pc nL : Nat} {Q : State → Prop} {ls : Array Slot} {rest : List Value} {cc : ByteArray} {E : mEnv} (hE : mInj E) {g : mS} {x1 : Int32} {gZ : mS} (F : CallFix p m c cc nL s args lw_all RX9) (hK : mK E s) (S : gS (mA E) s.heap (mP E g) H locs) (h : fm_type g x1 = some gZ) (hls : ls.size = nL) (hW : (rest.map fun v => v.category).sum ≤ 8) (hR : rm_m_type.frames + 1 ≤ R.frames ∧ 8 + (3 + 11) + rm_m_type.locals ≤ R.locals) (hf : cells ≤ R.cells ∧ slots ≤ R.slots) (hdg : decode cc pc = .ok (.invokevirtual 321, 3))
    (kk : ∀ (H1 : Heap) (locs1 : List Loc), gS (mA E) s.heap (mP E gZ) H1 locs1 → W p l e R s m args below meth c H1 locs1 cells slots Q (F0 m (pc + 3) ls (rest))) : W p l e R s m args below meth c H locs cells slots Q (F0 m pc ls (.int x1 :: .ref (mad E 0) :: rest)) :=
  g_kv (g_runV F hK (mKm E) S (met_m_type l E hE g x1 gZ h) (cwV 1 F.2.2.2.2 (lw_V q2202 q2204 qs91 q121 q2205) rfl rfl rfl (by decide +kernel) hR) (m_recv hK S) rfl hls rfl hW hdg hf) S kk
abbrev rm_m_append : Room := { frames := 1, cells := 0, slots := 0, locals := 22 }
def fm_append (g : mS) (x1 : Int32) (x2 : Int32) (x3 : Int32) (x4 : Int32) (x5 : Int32) : Option (Int32 × mS) :=
  bd1 (wrF g 0 0) fun g1 =>
  if ((g1 0 13) + 20) ≤ 600 then
    bd1 (fm_type g1 x1) fun g5 =>
    bd1 (fm_type g5 x2) fun g7 =>
    bd1 (fm_type g7 x3) fun g9 =>
    bd1 (fm_type g9 x4) fun g11 =>
    bd1 (fm_type g11 x5) fun g13 =>
    some ((g13 0 13), g13)
  else
    some ((-20), g1)
set_option maxHeartbeats 4000000 in
set_option maxRecDepth 100000 in
theorem met_m_append (l : Launch) (E : mEnv) (hE : mInj E) (g : mS) (x1 : Int32) (x2 : Int32) (x3 : Int32) (x4 : Int32) (x5 : Int32) (r : Int32) (gZ : mS) (h : fm_append g x1 x2 x3 x4 x5 = some (r, gZ)) : Met l yX9_append (ws_ yX9_append cX9_append 6 (some .int)) rm_m_append (va_Pc [.ref (mad E 0), .int x1, .int x2, .int x3, .int x4, .int x5] (gPre (mK E) (mP E g))) (gQi r (mP E gZ) (mA E)) 0 0 (mA E) := by
  refine g_met (own := RX9) (by decide) rfl (Nat.le_of_ble_eq_true rfl) ?_
  intro p e s m args below meth c ls F hr hlk hK S hl
  have hx := F.1
  have hb := F.2.1
  have hl : lv_has ls 6 [(0, .ref (mad E 0)), (1, .int x1), (2, .int x2), (3, .int x3), (4, .int x4), (5, .int x5)] := hl
  unfold fm_append at h
  refine lv_aload_n hx hb dX9_append_0 rfl (lv_at hl 0 rfl) ?_
  refine lv_iconst (v := 0) hx hb dX9_append_1 (by decide) ?_
  obtain ⟨g1, e2, h⟩ := bd1_inv h
  refine m_put0 hE F hK S e2 dX9_append_2 (fun H locs S => ?_)
  refine lv_aload_n hx hb dX9_append_5 rfl (lv_at hl 0 rfl) ?_
  refine m_get13 F hK S dX9_append_6 ?_
  refine lv_bipush (v := 20) hx hb dX9_append_9 (by decide) ?_
  refine lv_iadd hx hb dX9_append_11 ?_
  refine lv_sipush (v := 600) hx hb dX9_append_12 (by decide) ?_
  refine lv_icmp_le (tgt := 21) hx hb dX9_append_15 (by decide) (fun c3 => ?_) (fun c3 => ?_)
  · rw [if_pos c3] at h
    refine lv_aload_n hx hb dX9_append_21 rfl (lv_at hl 0 rfl) ?_
    refine lv_iload_n hx hb dX9_append_22 rfl (lv_at hl 1 rfl) ?_
    obtain ⟨g5, e4, h⟩ := bd1_inv h
    refine call_m_type hE F hK S e4 hl.1 (Nat.le_of_ble_eq_true rfl) ⟨Nat.le_of_ble_eq_true rfl, Nat.le_of_ble_eq_true rfl⟩ ⟨Nat.zero_le _, Nat.zero_le _⟩ dX9_append_23 (fun H locs S => ?_)
    refine lv_aload_n hx hb dX9_append_26 rfl (lv_at hl 0 rfl) ?_
    refine lv_iload_n hx hb dX9_append_27 rfl (lv_at hl 2 rfl) ?_
    obtain ⟨g7, e6, h⟩ := bd1_inv h
    refine call_m_type hE F hK S e6 hl.1 (Nat.le_of_ble_eq_true rfl) ⟨Nat.le_of_ble_eq_true rfl, Nat.le_of_ble_eq_true rfl⟩ ⟨Nat.zero_le _, Nat.zero_le _⟩ dX9_append_28 (fun H locs S => ?_)
    refine lv_aload_n hx hb dX9_append_31 rfl (lv_at hl 0 rfl) ?_
    refine lv_iload_n hx hb dX9_append_32 rfl (lv_at hl 3 rfl) ?_
    obtain ⟨g9, e8, h⟩ := bd1_inv h
    refine call_m_type hE F hK S e8 hl.1 (Nat.le_of_ble_eq_true rfl) ⟨Nat.le_of_ble_eq_true rfl, Nat.le_of_ble_eq_true rfl⟩ ⟨Nat.zero_le _, Nat.zero_le _⟩ dX9_append_33 (fun H locs S => ?_)
    refine lv_aload_n hx hb dX9_append_36 rfl (lv_at hl 0 rfl) ?_
    refine lv_iload hx hb dX9_append_37 (lv_at hl 4 rfl) ?_
    obtain ⟨g11, e10, h⟩ := bd1_inv h
    refine call_m_type hE F hK S e10 hl.1 (Nat.le_of_ble_eq_true rfl) ⟨Nat.le_of_ble_eq_true rfl, Nat.le_of_ble_eq_true rfl⟩ ⟨Nat.zero_le _, Nat.zero_le _⟩ dX9_append_39 (fun H locs S => ?_)
    refine lv_aload_n hx hb dX9_append_42 rfl (lv_at hl 0 rfl) ?_
    refine lv_iload hx hb dX9_append_43 (lv_at hl 5 rfl) ?_
    obtain ⟨g13, e12, h⟩ := bd1_inv h
    refine call_m_type hE F hK S e12 hl.1 (Nat.le_of_ble_eq_true rfl) ⟨Nat.le_of_ble_eq_true rfl, Nat.le_of_ble_eq_true rfl⟩ ⟨Nat.zero_le _, Nat.zero_le _⟩ dX9_append_45 (fun H locs S => ?_)
    refine lv_aload_n hx hb dX9_append_48 rfl (lv_at hl 0 rfl) ?_
    refine m_get13 F hK S dX9_append_49 ?_
    cases h
    exact g_iret F hr hlk S rfl dX9_append_52
  · rw [if_neg c3] at h
    refine lv_bipush (v := (-20)) hx hb dX9_append_18 (by decide) ?_
    cases h
    exact g_iret F hr hlk S rfl dX9_append_20
abbrev rm_m_truncate : Room := { frames := 1, cells := 0, slots := 0, locals := 24 }
def fm_truncate (g : mS) (x1 : Int32) : Option (Int32 × mS) :=
  bd1 (wrF g 0 0) fun g1 =>
  bd2 (fm_bad g1 x1 0 (g1 0 13) 1) fun v4 g5 =>
  if v4 = 0 then
    bd1 (wrF g5 13 x1) fun g7 =>
    some ((g7 0 13), g7)
  else
    some (0, g5)
set_option maxHeartbeats 4000000 in
set_option maxRecDepth 100000 in
theorem met_m_truncate (l : Launch) (E : mEnv) (hE : mInj E) (g : mS) (x1 : Int32) (r : Int32) (gZ : mS) (h : fm_truncate g x1 = some (r, gZ)) : Met l yX9_truncate (ws_ yX9_truncate cX9_truncate 2 (some .int)) rm_m_truncate (va_Pc [.ref (mad E 0), .int x1] (gPre (mK E) (mP E g))) (gQi r (mP E gZ) (mA E)) 0 0 (mA E) := by
  refine g_met (own := RX9) (by decide) rfl (Nat.le_of_ble_eq_true rfl) ?_
  intro p e s m args below meth c ls F hr hlk hK S hl
  have hx := F.1
  have hb := F.2.1
  have hl : lv_has ls 2 [(0, .ref (mad E 0)), (1, .int x1)] := hl
  unfold fm_truncate at h
  refine lv_aload_n hx hb dX9_truncate_0 rfl (lv_at hl 0 rfl) ?_
  refine lv_iconst (v := 0) hx hb dX9_truncate_1 (by decide) ?_
  obtain ⟨g1, e2, h⟩ := bd1_inv h
  refine m_put0 hE F hK S e2 dX9_truncate_2 (fun H locs S => ?_)
  refine lv_aload_n hx hb dX9_truncate_5 rfl (lv_at hl 0 rfl) ?_
  refine lv_iload_n hx hb dX9_truncate_6 rfl (lv_at hl 1 rfl) ?_
  refine lv_iconst (v := 0) hx hb dX9_truncate_7 (by decide) ?_
  refine lv_aload_n hx hb dX9_truncate_8 rfl (lv_at hl 0 rfl) ?_
  refine m_get13 F hK S dX9_truncate_9 ?_
  refine lv_iconst (v := 1) hx hb dX9_truncate_12 (by decide) ?_
  obtain ⟨v4, g5, e3, h⟩ := bd2_inv h
  refine call_m_bad hE F hK S e3 hl.1 (Nat.le_of_ble_eq_true rfl) ⟨Nat.le_of_ble_eq_true rfl, Nat.le_of_ble_eq_true rfl⟩ ⟨Nat.zero_le _, Nat.zero_le _⟩ dX9_truncate_13 (fun H locs S => ?_)
  refine lv_if_eq (tgt := 21) hx hb dX9_truncate_16 (by decide) (fun c6 => ?_) (fun c6 => ?_)
  · rw [if_pos c6] at h
    refine lv_aload_n hx hb dX9_truncate_21 rfl (lv_at hl 0 rfl) ?_
    refine lv_iload_n hx hb dX9_truncate_22 rfl (lv_at hl 1 rfl) ?_
    obtain ⟨g7, e8, h⟩ := bd1_inv h
    refine m_put13 hE F hK S e8 dX9_truncate_23 (fun H locs S => ?_)
    refine lv_aload_n hx hb dX9_truncate_26 rfl (lv_at hl 0 rfl) ?_
    refine m_get13 F hK S dX9_truncate_27 ?_
    cases h
    exact g_iret F hr hlk S rfl dX9_truncate_30
  · rw [if_neg c6] at h
    refine lv_iconst (v := 0) hx hb dX9_truncate_19 (by decide) ?_
    cases h
    exact g_iret F hr hlk S rfl dX9_truncate_20
abbrev rm_m_winner : Room := { frames := 7, cells := 0, slots := 0, locals := 151 }
def fm_winner (g : mS)  : Option (Int32) :=
  bd1 (fm_isOver g) fun v2 =>
  if v2 = 0 then
    some 0
  else
    bd1 (fm_hasAll g 1) fun v5 =>
    if v5 = 0 then
      bd1 (fm_hasAll g 1) fun v8 =>
      if v8 = 0 then
        bd1 (fm_hasAll g 2) fun v16 =>
        if v16 = 0 then
          bd1 (fm_points g 1) fun v19 =>
          bd1 (fm_points g 2) fun v21 =>
          bd1 ((
            if v19 = v21 then
              some 0
            else
              bd1 (fm_points g 1) fun v24 =>
              bd1 (fm_points g 2) fun v26 =>
              if v24 ≤ v26 then
                some 2
              else
                some 1) : Option (Int32)) fun v28 =>
          some v28
        else
          bd1 (fm_hasAll g 1) fun v31 =>
          bd1 ((
            if v31 = 0 then
              some 2
            else
              some 1) : Option (Int32)) fun v33 =>
          some v33
      else
        bd1 (fm_hasAll g 1) fun v11 =>
        bd1 ((
          if v11 = 0 then
            some 2
          else
            some 1) : Option (Int32)) fun v13 =>
        some v13
    else
      bd1 (fm_hasAll g 2) fun v36 =>
      if v36 = 0 then
        bd1 (fm_hasAll g 1) fun v39 =>
        if v39 = 0 then
          bd1 (fm_hasAll g 2) fun v47 =>
          if v47 = 0 then
            bd1 (fm_points g 1) fun v50 =>
            bd1 (fm_points g 2) fun v52 =>
            bd1 ((
              if v50 = v52 then
                some 0
              else
                bd1 (fm_points g 1) fun v55 =>
                bd1 (fm_points g 2) fun v57 =>
                if v55 ≤ v57 then
                  some 2
                else
                  some 1) : Option (Int32)) fun v59 =>
            some v59
          else
            bd1 (fm_hasAll g 1) fun v62 =>
            bd1 ((
              if v62 = 0 then
                some 2
              else
                some 1) : Option (Int32)) fun v64 =>
            some v64
        else
          bd1 (fm_hasAll g 1) fun v42 =>
          bd1 ((
            if v42 = 0 then
              some 2
            else
              some 1) : Option (Int32)) fun v44 =>
          some v44
      else
        bd1 (rdI g 1 4) fun v66 =>
        bd1 ((
          if v66 = 0 then
            some 1
          else
            bd1 (rdI g 1 5) fun v69 =>
            some (3 - v69)) : Option (Int32)) fun v71 =>
        some v71
set_option maxHeartbeats 4000000 in
set_option maxRecDepth 100000 in
theorem met_m_winner (l : Launch) (E : mEnv) (hE : mInj E) (g : mS)  (r : Int32) (h : fm_winner g = some r) : Met l yX9_winner (ws_ yX9_winner cX9_winner 1 (some .int)) rm_m_winner (va_Pc [.ref (mad E 0)] (gPre (mK E) (mP E g))) (gQi r (mP E g) (mA E)) 0 0 (mA E) := by
  refine g_met (own := RX9) (by decide) rfl (Nat.le_of_ble_eq_true rfl) ?_
  intro p e s m args below meth c ls F hr hlk hK S hl
  have hx := F.1
  have hb := F.2.1
  have hl : lv_has ls 1 [(0, .ref (mad E 0))] := hl
  unfold fm_winner at h
  refine lv_aload_n hx hb dX9_winner_0 rfl (lv_at hl 0 rfl) ?_
  obtain ⟨v2, e1, h⟩ := bd1_inv h
  refine call_m_isOver hE F hK S e1 hl.1 (Nat.le_of_ble_eq_true rfl) ⟨Nat.le_of_ble_eq_true rfl, Nat.le_of_ble_eq_true rfl⟩ ⟨Nat.zero_le _, Nat.zero_le _⟩ dX9_winner_1 (fun H locs S => ?_)
  refine lv_if_ne (tgt := 9) hx hb dX9_winner_4 (by decide) (fun c3 => ?_) (fun c3 => ?_)
  · rw [if_neg c3] at h
    refine lv_aload_n hx hb dX9_winner_9 rfl (lv_at hl 0 rfl) ?_
    refine lv_iconst (v := 1) hx hb dX9_winner_10 (by decide) ?_
    obtain ⟨v5, e4, h⟩ := bd1_inv h
    refine call_m_hasAll hE F hK S e4 hl.1 (Nat.le_of_ble_eq_true rfl) ⟨Nat.le_of_ble_eq_true rfl, Nat.le_of_ble_eq_true rfl⟩ ⟨Nat.zero_le _, Nat.zero_le _⟩ dX9_winner_11 (fun H locs S => ?_)
    refine lv_if_eq (tgt := 47) hx hb dX9_winner_14 (by decide) (fun c6 => ?_) (fun c6 => ?_)
    · rw [if_pos c6] at h
      refine lv_aload_n hx hb dX9_winner_47 rfl (lv_at hl 0 rfl) ?_
      refine lv_iconst (v := 1) hx hb dX9_winner_48 (by decide) ?_
      obtain ⟨v8, e7, h⟩ := bd1_inv h
      refine call_m_hasAll hE F hK S e7 hl.1 (Nat.le_of_ble_eq_true rfl) ⟨Nat.le_of_ble_eq_true rfl, Nat.le_of_ble_eq_true rfl⟩ ⟨Nat.zero_le _, Nat.zero_le _⟩ dX9_winner_49 (fun H locs S => ?_)
      refine lv_if_ne (tgt := 63) hx hb dX9_winner_52 (by decide) (fun c9 => ?_) (fun c9 => ?_)
      · rw [if_neg c9] at h
        refine lv_aload_n hx hb dX9_winner_63 rfl (lv_at hl 0 rfl) ?_
        refine lv_iconst (v := 1) hx hb dX9_winner_64 (by decide) ?_
        obtain ⟨v11, e10, h⟩ := bd1_inv h
        refine call_m_hasAll hE F hK S e10 hl.1 (Nat.le_of_ble_eq_true rfl) ⟨Nat.le_of_ble_eq_true rfl, Nat.le_of_ble_eq_true rfl⟩ ⟨Nat.zero_le _, Nat.zero_le _⟩ dX9_winner_65 (fun H locs S => ?_)
        obtain ⟨v13, hB, h⟩ := bd1_inv h
        have hJ76 : ∀ (H : Heap) (locs : List Loc) (ls : Array Slot), gS (mA E) s.heap (mP E g) H locs → lv_has ls 1 [] → W p l e rm_m_winner s m args below meth c H locs 0 0 (MQ below (gQi r (mP E g) (mA E)) args s 0 0 (mA E)) (F0 m 76 ls [.int v13]) := by
          intro H locs ls S hl
          cases h
          exact g_iret F hr hlk S rfl dX9_winner_76
        clear h
        have h := hB
        clear hB
        refine lv_if_eq (tgt := 75) hx hb dX9_winner_68 (by decide) (fun c12 => ?_) (fun c12 => ?_)
        · rw [if_pos c12] at h
          refine lv_iconst (v := 2) hx hb dX9_winner_75 (by decide) ?_
          cases h
          exact hJ76 _ _ _ S (lv_sub hl [] rfl)
        · rw [if_neg c12] at h
          refine lv_iconst (v := 1) hx hb dX9_winner_71 (by decide) ?_
          refine lv_goto (tgt := 76) hx hb dX9_winner_72 (by decide) ?_
          cases h
          exact hJ76 _ _ _ S (lv_sub hl [] rfl)
      · rw [if_pos c9] at h
        refine lv_aload_n hx hb dX9_winner_55 rfl (lv_at hl 0 rfl) ?_
        refine lv_iconst (v := 2) hx hb dX9_winner_56 (by decide) ?_
        obtain ⟨v16, e15, h⟩ := bd1_inv h
        refine call_m_hasAll hE F hK S e15 hl.1 (Nat.le_of_ble_eq_true rfl) ⟨Nat.le_of_ble_eq_true rfl, Nat.le_of_ble_eq_true rfl⟩ ⟨Nat.zero_le _, Nat.zero_le _⟩ dX9_winner_57 (fun H locs S => ?_)
        refine lv_if_eq (tgt := 77) hx hb dX9_winner_60 (by decide) (fun c17 => ?_) (fun c17 => ?_)
        · rw [if_pos c17] at h
          refine lv_aload_n hx hb dX9_winner_77 rfl (lv_at hl 0 rfl) ?_
          refine lv_iconst (v := 1) hx hb dX9_winner_78 (by decide) ?_
          obtain ⟨v19, e18, h⟩ := bd1_inv h
          refine call_m_points hE F hK S e18 hl.1 (Nat.le_of_ble_eq_true rfl) ⟨Nat.le_of_ble_eq_true rfl, Nat.le_of_ble_eq_true rfl⟩ ⟨Nat.zero_le _, Nat.zero_le _⟩ dX9_winner_79 (fun H locs S => ?_)
          refine lv_aload_n hx hb dX9_winner_82 rfl (lv_at hl 0 rfl) ?_
          refine lv_iconst (v := 2) hx hb dX9_winner_83 (by decide) ?_
          obtain ⟨v21, e20, h⟩ := bd1_inv h
          refine call_m_points hE F hK S e20 hl.1 (Nat.le_of_ble_eq_true rfl) ⟨Nat.le_of_ble_eq_true rfl, Nat.le_of_ble_eq_true rfl⟩ ⟨Nat.zero_le _, Nat.zero_le _⟩ dX9_winner_84 (fun H locs S => ?_)
          obtain ⟨v28, hB, h⟩ := bd1_inv h
          have hJ112 : ∀ (H : Heap) (locs : List Loc) (ls : Array Slot), gS (mA E) s.heap (mP E g) H locs → lv_has ls 1 [] → W p l e rm_m_winner s m args below meth c H locs 0 0 (MQ below (gQi r (mP E g) (mA E)) args s 0 0 (mA E)) (F0 m 112 ls [.int v28]) := by
            intro H locs ls S hl
            cases h
            exact g_iret F hr hlk S rfl dX9_winner_112
          clear h
          have h := hB
          clear hB
          refine lv_icmp_ne (tgt := 94) hx hb dX9_winner_87 (by decide) (fun c22 => ?_) (fun c22 => ?_)
          · rw [if_neg c22] at h
            refine lv_aload_n hx hb dX9_winner_94 rfl (lv_at hl 0 rfl) ?_
            refine lv_iconst (v := 1) hx hb dX9_winner_95 (by decide) ?_
            obtain ⟨v24, e23, h⟩ := bd1_inv h
            refine call_m_points hE F hK S e23 hl.1 (Nat.le_of_ble_eq_true rfl) ⟨Nat.le_of_ble_eq_true rfl, Nat.le_of_ble_eq_true rfl⟩ ⟨Nat.zero_le _, Nat.zero_le _⟩ dX9_winner_96 (fun H locs S => ?_)
            refine lv_aload_n hx hb dX9_winner_99 rfl (lv_at hl 0 rfl) ?_
            refine lv_iconst (v := 2) hx hb dX9_winner_100 (by decide) ?_
            obtain ⟨v26, e25, h⟩ := bd1_inv h
            refine call_m_points hE F hK S e25 hl.1 (Nat.le_of_ble_eq_true rfl) ⟨Nat.le_of_ble_eq_true rfl, Nat.le_of_ble_eq_true rfl⟩ ⟨Nat.zero_le _, Nat.zero_le _⟩ dX9_winner_101 (fun H locs S => ?_)
            refine lv_icmp_le (tgt := 111) hx hb dX9_winner_104 (by decide) (fun c27 => ?_) (fun c27 => ?_)
            · rw [if_pos c27] at h
              refine lv_iconst (v := 2) hx hb dX9_winner_111 (by decide) ?_
              cases h
              exact hJ112 _ _ _ S (lv_sub hl [] rfl)
            · rw [if_neg c27] at h
              refine lv_iconst (v := 1) hx hb dX9_winner_107 (by decide) ?_
              refine lv_goto (tgt := 112) hx hb dX9_winner_108 (by decide) ?_
              cases h
              exact hJ112 _ _ _ S (lv_sub hl [] rfl)
          · rw [if_pos c22] at h
            refine lv_iconst (v := 0) hx hb dX9_winner_90 (by decide) ?_
            refine lv_goto (tgt := 112) hx hb dX9_winner_91 (by decide) ?_
            cases h
            exact hJ112 _ _ _ S (lv_sub hl [] rfl)
        · rw [if_neg c17] at h
          refine lv_aload_n hx hb dX9_winner_63 rfl (lv_at hl 0 rfl) ?_
          refine lv_iconst (v := 1) hx hb dX9_winner_64 (by decide) ?_
          obtain ⟨v31, e30, h⟩ := bd1_inv h
          refine call_m_hasAll hE F hK S e30 hl.1 (Nat.le_of_ble_eq_true rfl) ⟨Nat.le_of_ble_eq_true rfl, Nat.le_of_ble_eq_true rfl⟩ ⟨Nat.zero_le _, Nat.zero_le _⟩ dX9_winner_65 (fun H locs S => ?_)
          obtain ⟨v33, hB, h⟩ := bd1_inv h
          have hJ76 : ∀ (H : Heap) (locs : List Loc) (ls : Array Slot), gS (mA E) s.heap (mP E g) H locs → lv_has ls 1 [] → W p l e rm_m_winner s m args below meth c H locs 0 0 (MQ below (gQi r (mP E g) (mA E)) args s 0 0 (mA E)) (F0 m 76 ls [.int v33]) := by
            intro H locs ls S hl
            cases h
            exact g_iret F hr hlk S rfl dX9_winner_76
          clear h
          have h := hB
          clear hB
          refine lv_if_eq (tgt := 75) hx hb dX9_winner_68 (by decide) (fun c32 => ?_) (fun c32 => ?_)
          · rw [if_pos c32] at h
            refine lv_iconst (v := 2) hx hb dX9_winner_75 (by decide) ?_
            cases h
            exact hJ76 _ _ _ S (lv_sub hl [] rfl)
          · rw [if_neg c32] at h
            refine lv_iconst (v := 1) hx hb dX9_winner_71 (by decide) ?_
            refine lv_goto (tgt := 76) hx hb dX9_winner_72 (by decide) ?_
            cases h
            exact hJ76 _ _ _ S (lv_sub hl [] rfl)
    · rw [if_neg c6] at h
      refine lv_aload_n hx hb dX9_winner_17 rfl (lv_at hl 0 rfl) ?_
      refine lv_iconst (v := 2) hx hb dX9_winner_18 (by decide) ?_
      obtain ⟨v36, e35, h⟩ := bd1_inv h
      refine call_m_hasAll hE F hK S e35 hl.1 (Nat.le_of_ble_eq_true rfl) ⟨Nat.le_of_ble_eq_true rfl, Nat.le_of_ble_eq_true rfl⟩ ⟨Nat.zero_le _, Nat.zero_le _⟩ dX9_winner_19 (fun H locs S => ?_)
      refine lv_if_eq (tgt := 47) hx hb dX9_winner_22 (by decide) (fun c37 => ?_) (fun c37 => ?_)
      · rw [if_pos c37] at h
        refine lv_aload_n hx hb dX9_winner_47 rfl (lv_at hl 0 rfl) ?_
        refine lv_iconst (v := 1) hx hb dX9_winner_48 (by decide) ?_
        obtain ⟨v39, e38, h⟩ := bd1_inv h
        refine call_m_hasAll hE F hK S e38 hl.1 (Nat.le_of_ble_eq_true rfl) ⟨Nat.le_of_ble_eq_true rfl, Nat.le_of_ble_eq_true rfl⟩ ⟨Nat.zero_le _, Nat.zero_le _⟩ dX9_winner_49 (fun H locs S => ?_)
        refine lv_if_ne (tgt := 63) hx hb dX9_winner_52 (by decide) (fun c40 => ?_) (fun c40 => ?_)
        · rw [if_neg c40] at h
          refine lv_aload_n hx hb dX9_winner_63 rfl (lv_at hl 0 rfl) ?_
          refine lv_iconst (v := 1) hx hb dX9_winner_64 (by decide) ?_
          obtain ⟨v42, e41, h⟩ := bd1_inv h
          refine call_m_hasAll hE F hK S e41 hl.1 (Nat.le_of_ble_eq_true rfl) ⟨Nat.le_of_ble_eq_true rfl, Nat.le_of_ble_eq_true rfl⟩ ⟨Nat.zero_le _, Nat.zero_le _⟩ dX9_winner_65 (fun H locs S => ?_)
          obtain ⟨v44, hB, h⟩ := bd1_inv h
          have hJ76 : ∀ (H : Heap) (locs : List Loc) (ls : Array Slot), gS (mA E) s.heap (mP E g) H locs → lv_has ls 1 [] → W p l e rm_m_winner s m args below meth c H locs 0 0 (MQ below (gQi r (mP E g) (mA E)) args s 0 0 (mA E)) (F0 m 76 ls [.int v44]) := by
            intro H locs ls S hl
            cases h
            exact g_iret F hr hlk S rfl dX9_winner_76
          clear h
          have h := hB
          clear hB
          refine lv_if_eq (tgt := 75) hx hb dX9_winner_68 (by decide) (fun c43 => ?_) (fun c43 => ?_)
          · rw [if_pos c43] at h
            refine lv_iconst (v := 2) hx hb dX9_winner_75 (by decide) ?_
            cases h
            exact hJ76 _ _ _ S (lv_sub hl [] rfl)
          · rw [if_neg c43] at h
            refine lv_iconst (v := 1) hx hb dX9_winner_71 (by decide) ?_
            refine lv_goto (tgt := 76) hx hb dX9_winner_72 (by decide) ?_
            cases h
            exact hJ76 _ _ _ S (lv_sub hl [] rfl)
        · rw [if_pos c40] at h
          refine lv_aload_n hx hb dX9_winner_55 rfl (lv_at hl 0 rfl) ?_
          refine lv_iconst (v := 2) hx hb dX9_winner_56 (by decide) ?_
          obtain ⟨v47, e46, h⟩ := bd1_inv h
          refine call_m_hasAll hE F hK S e46 hl.1 (Nat.le_of_ble_eq_true rfl) ⟨Nat.le_of_ble_eq_true rfl, Nat.le_of_ble_eq_true rfl⟩ ⟨Nat.zero_le _, Nat.zero_le _⟩ dX9_winner_57 (fun H locs S => ?_)
          refine lv_if_eq (tgt := 77) hx hb dX9_winner_60 (by decide) (fun c48 => ?_) (fun c48 => ?_)
          · rw [if_pos c48] at h
            refine lv_aload_n hx hb dX9_winner_77 rfl (lv_at hl 0 rfl) ?_
            refine lv_iconst (v := 1) hx hb dX9_winner_78 (by decide) ?_
            obtain ⟨v50, e49, h⟩ := bd1_inv h
            refine call_m_points hE F hK S e49 hl.1 (Nat.le_of_ble_eq_true rfl) ⟨Nat.le_of_ble_eq_true rfl, Nat.le_of_ble_eq_true rfl⟩ ⟨Nat.zero_le _, Nat.zero_le _⟩ dX9_winner_79 (fun H locs S => ?_)
            refine lv_aload_n hx hb dX9_winner_82 rfl (lv_at hl 0 rfl) ?_
            refine lv_iconst (v := 2) hx hb dX9_winner_83 (by decide) ?_
            obtain ⟨v52, e51, h⟩ := bd1_inv h
            refine call_m_points hE F hK S e51 hl.1 (Nat.le_of_ble_eq_true rfl) ⟨Nat.le_of_ble_eq_true rfl, Nat.le_of_ble_eq_true rfl⟩ ⟨Nat.zero_le _, Nat.zero_le _⟩ dX9_winner_84 (fun H locs S => ?_)
            obtain ⟨v59, hB, h⟩ := bd1_inv h
            have hJ112 : ∀ (H : Heap) (locs : List Loc) (ls : Array Slot), gS (mA E) s.heap (mP E g) H locs → lv_has ls 1 [] → W p l e rm_m_winner s m args below meth c H locs 0 0 (MQ below (gQi r (mP E g) (mA E)) args s 0 0 (mA E)) (F0 m 112 ls [.int v59]) := by
              intro H locs ls S hl
              cases h
              exact g_iret F hr hlk S rfl dX9_winner_112
            clear h
            have h := hB
            clear hB
            refine lv_icmp_ne (tgt := 94) hx hb dX9_winner_87 (by decide) (fun c53 => ?_) (fun c53 => ?_)
            · rw [if_neg c53] at h
              refine lv_aload_n hx hb dX9_winner_94 rfl (lv_at hl 0 rfl) ?_
              refine lv_iconst (v := 1) hx hb dX9_winner_95 (by decide) ?_
              obtain ⟨v55, e54, h⟩ := bd1_inv h
              refine call_m_points hE F hK S e54 hl.1 (Nat.le_of_ble_eq_true rfl) ⟨Nat.le_of_ble_eq_true rfl, Nat.le_of_ble_eq_true rfl⟩ ⟨Nat.zero_le _, Nat.zero_le _⟩ dX9_winner_96 (fun H locs S => ?_)
              refine lv_aload_n hx hb dX9_winner_99 rfl (lv_at hl 0 rfl) ?_
              refine lv_iconst (v := 2) hx hb dX9_winner_100 (by decide) ?_
              obtain ⟨v57, e56, h⟩ := bd1_inv h
              refine call_m_points hE F hK S e56 hl.1 (Nat.le_of_ble_eq_true rfl) ⟨Nat.le_of_ble_eq_true rfl, Nat.le_of_ble_eq_true rfl⟩ ⟨Nat.zero_le _, Nat.zero_le _⟩ dX9_winner_101 (fun H locs S => ?_)
              refine lv_icmp_le (tgt := 111) hx hb dX9_winner_104 (by decide) (fun c58 => ?_) (fun c58 => ?_)
              · rw [if_pos c58] at h
                refine lv_iconst (v := 2) hx hb dX9_winner_111 (by decide) ?_
                cases h
                exact hJ112 _ _ _ S (lv_sub hl [] rfl)
              · rw [if_neg c58] at h
                refine lv_iconst (v := 1) hx hb dX9_winner_107 (by decide) ?_
                refine lv_goto (tgt := 112) hx hb dX9_winner_108 (by decide) ?_
                cases h
                exact hJ112 _ _ _ S (lv_sub hl [] rfl)
            · rw [if_pos c53] at h
              refine lv_iconst (v := 0) hx hb dX9_winner_90 (by decide) ?_
              refine lv_goto (tgt := 112) hx hb dX9_winner_91 (by decide) ?_
              cases h
              exact hJ112 _ _ _ S (lv_sub hl [] rfl)
          · rw [if_neg c48] at h
            refine lv_aload_n hx hb dX9_winner_63 rfl (lv_at hl 0 rfl) ?_
            refine lv_iconst (v := 1) hx hb dX9_winner_64 (by decide) ?_
            obtain ⟨v62, e61, h⟩ := bd1_inv h
            refine call_m_hasAll hE F hK S e61 hl.1 (Nat.le_of_ble_eq_true rfl) ⟨Nat.le_of_ble_eq_true rfl, Nat.le_of_ble_eq_true rfl⟩ ⟨Nat.zero_le _, Nat.zero_le _⟩ dX9_winner_65 (fun H locs S => ?_)
            obtain ⟨v64, hB, h⟩ := bd1_inv h
            have hJ76 : ∀ (H : Heap) (locs : List Loc) (ls : Array Slot), gS (mA E) s.heap (mP E g) H locs → lv_has ls 1 [] → W p l e rm_m_winner s m args below meth c H locs 0 0 (MQ below (gQi r (mP E g) (mA E)) args s 0 0 (mA E)) (F0 m 76 ls [.int v64]) := by
              intro H locs ls S hl
              cases h
              exact g_iret F hr hlk S rfl dX9_winner_76
            clear h
            have h := hB
            clear hB
            refine lv_if_eq (tgt := 75) hx hb dX9_winner_68 (by decide) (fun c63 => ?_) (fun c63 => ?_)
            · rw [if_pos c63] at h
              refine lv_iconst (v := 2) hx hb dX9_winner_75 (by decide) ?_
              cases h
              exact hJ76 _ _ _ S (lv_sub hl [] rfl)
            · rw [if_neg c63] at h
              refine lv_iconst (v := 1) hx hb dX9_winner_71 (by decide) ?_
              refine lv_goto (tgt := 76) hx hb dX9_winner_72 (by decide) ?_
              cases h
              exact hJ76 _ _ _ S (lv_sub hl [] rfl)
      · rw [if_neg c37] at h
        refine lv_aload_n hx hb dX9_winner_25 rfl (lv_at hl 0 rfl) ?_
        refine m_get1 F hK S dX9_winner_26 ?_
        refine lv_iconst (v := 4) hx hb dX9_winner_29 (by decide) ?_
        obtain ⟨v66, e67, h⟩ := bd1_inv h
        refine m_iald F hK S e67 dX9_winner_30 ?_
        obtain ⟨v71, hB, h⟩ := bd1_inv h
        have hJ46 : ∀ (H : Heap) (locs : List Loc) (ls : Array Slot), gS (mA E) s.heap (mP E g) H locs → lv_has ls 1 [] → W p l e rm_m_winner s m args below meth c H locs 0 0 (MQ below (gQi r (mP E g) (mA E)) args s 0 0 (mA E)) (F0 m 46 ls [.int v71]) := by
          intro H locs ls S hl
          cases h
          exact g_iret F hr hlk S rfl dX9_winner_46
        clear h
        have h := hB
        clear hB
        refine lv_if_ne (tgt := 38) hx hb dX9_winner_31 (by decide) (fun c68 => ?_) (fun c68 => ?_)
        · rw [if_neg c68] at h
          refine lv_iconst (v := 3) hx hb dX9_winner_38 (by decide) ?_
          refine lv_aload_n hx hb dX9_winner_39 rfl (lv_at hl 0 rfl) ?_
          refine m_get1 F hK S dX9_winner_40 ?_
          refine lv_iconst (v := 5) hx hb dX9_winner_43 (by decide) ?_
          obtain ⟨v69, e70, h⟩ := bd1_inv h
          refine m_iald F hK S e70 dX9_winner_44 ?_
          refine lv_isub hx hb dX9_winner_45 ?_
          cases h
          exact hJ46 _ _ _ S (lv_sub hl [] rfl)
        · rw [if_pos c68] at h
          refine lv_iconst (v := 1) hx hb dX9_winner_34 (by decide) ?_
          refine lv_goto (tgt := 46) hx hb dX9_winner_35 (by decide) ?_
          cases h
          exact hJ46 _ _ _ S (lv_sub hl [] rfl)
  · rw [if_pos c3] at h
    refine lv_iconst (v := 0) hx hb dX9_winner_7 (by decide) ?_
    cases h
    exact g_iret F hr hlk S rfl dX9_winner_8
theorem call_m_winner {p : Program} {l : Launch} {e : Env} {s : State} {m : MethodId} {args : Array Value} {below : List Frame} {meth : Method} {c : Code} {R : Room} {H : Heap} {locs : List Loc} {cells slots pc nL : Nat} {Q : State → Prop} {ls : Array Slot} {rest : List Value} {cc : ByteArray} {E : mEnv} (hE : mInj E) {g : mS} {r : Int32} (F : CallFix p m c cc nL s args lw_all RX9) (hK : mK E s) (S : gS (mA E) s.heap (mP E g) H locs) (h : fm_winner g = some r) (hls : ls.size = nL) (hW : (rest.map fun v => v.category).sum ≤ 8) (hR : rm_m_winner.frames + 1 ≤ R.frames ∧ 8 + (1 + 11) + rm_m_winner.locals ≤ R.locals) (hf : cells ≤ R.cells ∧ slots ≤ R.slots) (hdg : decode cc pc = .ok (.invokevirtual 324, 3))
    (kk : ∀ (H1 : Heap) (locs1 : List Loc), gS (mA E) s.heap (mP E g) H1 locs1 → W p l e R s m args below meth c H1 locs1 cells slots Q (F0 m (pc + 3) ls (.int r :: rest))) : W p l e R s m args below meth c H locs cells slots Q (F0 m pc ls (.ref (mad E 0) :: rest)) :=
  g_ki (g_runV F hK (mKm E) S (met_m_winner l E hE g  r h) (cwV 0 F.2.2.2.2 (lw_V q2214 q2216 qs92 q121 q2217) rfl rfl rfl (by decide +kernel) hR) (m_recv hK S) rfl hls rfl hW hdg hf) S kk
abbrev rm_m_board : Room := { frames := 8, cells := 0, slots := 0, locals := 171 }
def fm_board (g : mS) (x1 : Int32) : Option (Int32 × mS) :=
  bd1 (wrF g 0 0) fun g1 =>
  bd2 (fm_bad g1 x1 0 15 1) fun v4 g5 =>
  if v4 = 0 then
    if x1 = 0 then
      bd1 (rdI g5 1 0) fun v8 =>
      some (v8, g5)
    else
    if x1 = 1 then
      bd1 (rdI g5 1 1) fun v11 =>
      some (v11, g5)
    else
    if x1 = 2 then
      bd1 (fm_count g5 2) fun v15 =>
      some (v15, g5)
    else
    if x1 = 3 then
      bd1 (fm_count g5 4) fun v18 =>
      some (v18, g5)
    else
    if x1 = 4 then
      bd1 (fm_count g5 6) fun v21 =>
      some ((v21 / 2), g5)
    else
    if x1 = 5 then
      bd1 (fm_count g5 0) fun v24 =>
      some (v24, g5)
    else
    if x1 = 6 then
      bd1 (rdI g5 1 2) fun v26 =>
      some (v26, g5)
    else
    if x1 = 7 then
      bd1 (rdI g5 1 3) fun v29 =>
      some (v29, g5)
    else
    if x1 = 8 then
      bd1 (rdI g5 1 4) fun v32 =>
      some (v32, g5)
    else
    if x1 = 9 then
      bd1 (rdI g5 1 5) fun v35 =>
      some (v35, g5)
    else
    if x1 = 10 then
      bd1 (fm_isOver g5) fun v39 =>
      bd1 ((
        if v39 = 0 then
          some 0
        else
          some 1) : Option (Int32)) fun v41 =>
      some (v41, g5)
    else
    if x1 = 11 then
      bd1 (fm_winner g5) fun v45 =>
      some (v45, g5)
    else
    if x1 = 12 then
      bd1 (fm_points g5 1) fun v48 =>
      some (v48, g5)
    else
    if x1 = 13 then
      bd1 (fm_points g5 2) fun v51 =>
      some (v51, g5)
    else
    if x1 = 14 then
      some ((g5 0 3), g5)
    else
      some ((g5 0 13), g5)
  else
    some (0, g5)
set_option maxHeartbeats 4000000 in
set_option maxRecDepth 100000 in
theorem met_m_board (l : Launch) (E : mEnv) (hE : mInj E) (g : mS) (x1 : Int32) (r : Int32) (gZ : mS) (h : fm_board g x1 = some (r, gZ)) : Met l yX9_board (ws_ yX9_board cX9_board 2 (some .int)) rm_m_board (va_Pc [.ref (mad E 0), .int x1] (gPre (mK E) (mP E g))) (gQi r (mP E gZ) (mA E)) 0 0 (mA E) := by
  refine g_met (own := RX9) (by decide) rfl (Nat.le_of_ble_eq_true rfl) ?_
  intro p e s m args below meth c ls F hr hlk hK S hl
  have hx := F.1
  have hb := F.2.1
  have hl : lv_has ls 2 [(0, .ref (mad E 0)), (1, .int x1)] := hl
  unfold fm_board at h
  refine lv_aload_n hx hb dX9_board_0 rfl (lv_at hl 0 rfl) ?_
  refine lv_iconst (v := 0) hx hb dX9_board_1 (by decide) ?_
  obtain ⟨g1, e2, h⟩ := bd1_inv h
  refine m_put0 hE F hK S e2 dX9_board_2 (fun H locs S => ?_)
  refine lv_aload_n hx hb dX9_board_5 rfl (lv_at hl 0 rfl) ?_
  refine lv_iload_n hx hb dX9_board_6 rfl (lv_at hl 1 rfl) ?_
  refine lv_iconst (v := 0) hx hb dX9_board_7 (by decide) ?_
  refine lv_bipush (v := 15) hx hb dX9_board_8 (by decide) ?_
  refine lv_iconst (v := 1) hx hb dX9_board_10 (by decide) ?_
  obtain ⟨v4, g5, e3, h⟩ := bd2_inv h
  refine call_m_bad hE F hK S e3 hl.1 (Nat.le_of_ble_eq_true rfl) ⟨Nat.le_of_ble_eq_true rfl, Nat.le_of_ble_eq_true rfl⟩ ⟨Nat.zero_le _, Nat.zero_le _⟩ dX9_board_11 (fun H locs S => ?_)
  refine lv_if_eq (tgt := 19) hx hb dX9_board_14 (by decide) (fun c6 => ?_) (fun c6 => ?_)
  · rw [if_pos c6] at h
    refine lv_iload_n hx hb dX9_board_19 rfl (lv_at hl 1 rfl) ?_
    by_cases c7 : x1 = 0
    · rw [if_pos c7] at h
      refine lv_tableIn (tgt := 96) (off := 76) hx hb dX9_board_20 (by rw [c7]; decide) (by rw [c7]; decide) (by rw [c7]; rfl) (by decide) ?_
      refine lv_aload_n hx hb dX9_board_96 rfl (lv_at hl 0 rfl) ?_
      refine m_get1 F hK S dX9_board_97 ?_
      refine lv_iconst (v := 0) hx hb dX9_board_100 (by decide) ?_
      obtain ⟨v8, e9, h⟩ := bd1_inv h
      refine m_iald F hK S e9 dX9_board_101 ?_
      cases h
      exact g_iret F hr hlk S rfl dX9_board_102
    rw [if_neg c7] at h
    by_cases c10 : x1 = 1
    · rw [if_pos c10] at h
      refine lv_tableIn (tgt := 103) (off := 83) hx hb dX9_board_20 (by rw [c10]; decide) (by rw [c10]; decide) (by rw [c10]; rfl) (by decide) ?_
      refine lv_aload_n hx hb dX9_board_103 rfl (lv_at hl 0 rfl) ?_
      refine m_get1 F hK S dX9_board_104 ?_
      refine lv_iconst (v := 1) hx hb dX9_board_107 (by decide) ?_
      obtain ⟨v11, e12, h⟩ := bd1_inv h
      refine m_iald F hK S e12 dX9_board_108 ?_
      cases h
      exact g_iret F hr hlk S rfl dX9_board_109
    rw [if_neg c10] at h
    by_cases c13 : x1 = 2
    · rw [if_pos c13] at h
      refine lv_tableIn (tgt := 110) (off := 90) hx hb dX9_board_20 (by rw [c13]; decide) (by rw [c13]; decide) (by rw [c13]; rfl) (by decide) ?_
      refine lv_aload_n hx hb dX9_board_110 rfl (lv_at hl 0 rfl) ?_
      refine lv_iconst (v := 2) hx hb dX9_board_111 (by decide) ?_
      obtain ⟨v15, e14, h⟩ := bd1_inv h
      refine call_m_count hE F hK S e14 hl.1 (Nat.le_of_ble_eq_true rfl) ⟨Nat.le_of_ble_eq_true rfl, Nat.le_of_ble_eq_true rfl⟩ ⟨Nat.zero_le _, Nat.zero_le _⟩ dX9_board_112 (fun H locs S => ?_)
      cases h
      exact g_iret F hr hlk S rfl dX9_board_115
    rw [if_neg c13] at h
    by_cases c16 : x1 = 3
    · rw [if_pos c16] at h
      refine lv_tableIn (tgt := 116) (off := 96) hx hb dX9_board_20 (by rw [c16]; decide) (by rw [c16]; decide) (by rw [c16]; rfl) (by decide) ?_
      refine lv_aload_n hx hb dX9_board_116 rfl (lv_at hl 0 rfl) ?_
      refine lv_iconst (v := 4) hx hb dX9_board_117 (by decide) ?_
      obtain ⟨v18, e17, h⟩ := bd1_inv h
      refine call_m_count hE F hK S e17 hl.1 (Nat.le_of_ble_eq_true rfl) ⟨Nat.le_of_ble_eq_true rfl, Nat.le_of_ble_eq_true rfl⟩ ⟨Nat.zero_le _, Nat.zero_le _⟩ dX9_board_118 (fun H locs S => ?_)
      cases h
      exact g_iret F hr hlk S rfl dX9_board_121
    rw [if_neg c16] at h
    by_cases c19 : x1 = 4
    · rw [if_pos c19] at h
      refine lv_tableIn (tgt := 122) (off := 102) hx hb dX9_board_20 (by rw [c19]; decide) (by rw [c19]; decide) (by rw [c19]; rfl) (by decide) ?_
      refine lv_aload_n hx hb dX9_board_122 rfl (lv_at hl 0 rfl) ?_
      refine lv_bipush (v := 6) hx hb dX9_board_123 (by decide) ?_
      obtain ⟨v21, e20, h⟩ := bd1_inv h
      refine call_m_count hE F hK S e20 hl.1 (Nat.le_of_ble_eq_true rfl) ⟨Nat.le_of_ble_eq_true rfl, Nat.le_of_ble_eq_true rfl⟩ ⟨Nat.zero_le _, Nat.zero_le _⟩ dX9_board_125 (fun H locs S => ?_)
      refine lv_iconst (v := 2) hx hb dX9_board_128 (by decide) ?_
      refine lv_idiv hx hb dX9_board_129 (by decide) ?_
      cases h
      exact g_iret F hr hlk S rfl dX9_board_130
    rw [if_neg c19] at h
    by_cases c22 : x1 = 5
    · rw [if_pos c22] at h
      refine lv_tableIn (tgt := 131) (off := 111) hx hb dX9_board_20 (by rw [c22]; decide) (by rw [c22]; decide) (by rw [c22]; rfl) (by decide) ?_
      refine lv_aload_n hx hb dX9_board_131 rfl (lv_at hl 0 rfl) ?_
      refine lv_iconst (v := 0) hx hb dX9_board_132 (by decide) ?_
      obtain ⟨v24, e23, h⟩ := bd1_inv h
      refine call_m_count hE F hK S e23 hl.1 (Nat.le_of_ble_eq_true rfl) ⟨Nat.le_of_ble_eq_true rfl, Nat.le_of_ble_eq_true rfl⟩ ⟨Nat.zero_le _, Nat.zero_le _⟩ dX9_board_133 (fun H locs S => ?_)
      cases h
      exact g_iret F hr hlk S rfl dX9_board_136
    rw [if_neg c22] at h
    by_cases c25 : x1 = 6
    · rw [if_pos c25] at h
      refine lv_tableIn (tgt := 137) (off := 117) hx hb dX9_board_20 (by rw [c25]; decide) (by rw [c25]; decide) (by rw [c25]; rfl) (by decide) ?_
      refine lv_aload_n hx hb dX9_board_137 rfl (lv_at hl 0 rfl) ?_
      refine m_get1 F hK S dX9_board_138 ?_
      refine lv_iconst (v := 2) hx hb dX9_board_141 (by decide) ?_
      obtain ⟨v26, e27, h⟩ := bd1_inv h
      refine m_iald F hK S e27 dX9_board_142 ?_
      cases h
      exact g_iret F hr hlk S rfl dX9_board_143
    rw [if_neg c25] at h
    by_cases c28 : x1 = 7
    · rw [if_pos c28] at h
      refine lv_tableIn (tgt := 144) (off := 124) hx hb dX9_board_20 (by rw [c28]; decide) (by rw [c28]; decide) (by rw [c28]; rfl) (by decide) ?_
      refine lv_aload_n hx hb dX9_board_144 rfl (lv_at hl 0 rfl) ?_
      refine m_get1 F hK S dX9_board_145 ?_
      refine lv_iconst (v := 3) hx hb dX9_board_148 (by decide) ?_
      obtain ⟨v29, e30, h⟩ := bd1_inv h
      refine m_iald F hK S e30 dX9_board_149 ?_
      cases h
      exact g_iret F hr hlk S rfl dX9_board_150
    rw [if_neg c28] at h
    by_cases c31 : x1 = 8
    · rw [if_pos c31] at h
      refine lv_tableIn (tgt := 151) (off := 131) hx hb dX9_board_20 (by rw [c31]; decide) (by rw [c31]; decide) (by rw [c31]; rfl) (by decide) ?_
      refine lv_aload_n hx hb dX9_board_151 rfl (lv_at hl 0 rfl) ?_
      refine m_get1 F hK S dX9_board_152 ?_
      refine lv_iconst (v := 4) hx hb dX9_board_155 (by decide) ?_
      obtain ⟨v32, e33, h⟩ := bd1_inv h
      refine m_iald F hK S e33 dX9_board_156 ?_
      cases h
      exact g_iret F hr hlk S rfl dX9_board_157
    rw [if_neg c31] at h
    by_cases c34 : x1 = 9
    · rw [if_pos c34] at h
      refine lv_tableIn (tgt := 158) (off := 138) hx hb dX9_board_20 (by rw [c34]; decide) (by rw [c34]; decide) (by rw [c34]; rfl) (by decide) ?_
      refine lv_aload_n hx hb dX9_board_158 rfl (lv_at hl 0 rfl) ?_
      refine m_get1 F hK S dX9_board_159 ?_
      refine lv_iconst (v := 5) hx hb dX9_board_162 (by decide) ?_
      obtain ⟨v35, e36, h⟩ := bd1_inv h
      refine m_iald F hK S e36 dX9_board_163 ?_
      cases h
      exact g_iret F hr hlk S rfl dX9_board_164
    rw [if_neg c34] at h
    by_cases c37 : x1 = 10
    · rw [if_pos c37] at h
      refine lv_tableIn (tgt := 165) (off := 145) hx hb dX9_board_20 (by rw [c37]; decide) (by rw [c37]; decide) (by rw [c37]; rfl) (by decide) ?_
      refine lv_aload_n hx hb dX9_board_165 rfl (lv_at hl 0 rfl) ?_
      obtain ⟨v39, e38, h⟩ := bd1_inv h
      refine call_m_isOver hE F hK S e38 hl.1 (Nat.le_of_ble_eq_true rfl) ⟨Nat.le_of_ble_eq_true rfl, Nat.le_of_ble_eq_true rfl⟩ ⟨Nat.zero_le _, Nat.zero_le _⟩ dX9_board_166 (fun H locs S => ?_)
      obtain ⟨v41, hB, h⟩ := bd1_inv h
      have hJ177 : ∀ (H : Heap) (locs : List Loc) (ls : Array Slot), gS (mA E) s.heap (mP E g5) H locs → lv_has ls 2 [] → W p l e rm_m_board s m args below meth c H locs 0 0 (MQ below (gQi r (mP E gZ) (mA E)) args s 0 0 (mA E)) (F0 m 177 ls [.int v41]) := by
        intro H locs ls S hl
        cases h
        exact g_iret F hr hlk S rfl dX9_board_177
      clear h
      have h := hB
      clear hB
      refine lv_if_eq (tgt := 176) hx hb dX9_board_169 (by decide) (fun c40 => ?_) (fun c40 => ?_)
      · rw [if_pos c40] at h
        refine lv_iconst (v := 0) hx hb dX9_board_176 (by decide) ?_
        cases h
        exact hJ177 _ _ _ S (lv_sub hl [] rfl)
      · rw [if_neg c40] at h
        refine lv_iconst (v := 1) hx hb dX9_board_172 (by decide) ?_
        refine lv_goto (tgt := 177) hx hb dX9_board_173 (by decide) ?_
        cases h
        exact hJ177 _ _ _ S (lv_sub hl [] rfl)
    rw [if_neg c37] at h
    by_cases c43 : x1 = 11
    · rw [if_pos c43] at h
      refine lv_tableIn (tgt := 178) (off := 158) hx hb dX9_board_20 (by rw [c43]; decide) (by rw [c43]; decide) (by rw [c43]; rfl) (by decide) ?_
      refine lv_aload_n hx hb dX9_board_178 rfl (lv_at hl 0 rfl) ?_
      obtain ⟨v45, e44, h⟩ := bd1_inv h
      refine call_m_winner hE F hK S e44 hl.1 (Nat.le_of_ble_eq_true rfl) ⟨Nat.le_of_ble_eq_true rfl, Nat.le_of_ble_eq_true rfl⟩ ⟨Nat.zero_le _, Nat.zero_le _⟩ dX9_board_179 (fun H locs S => ?_)
      cases h
      exact g_iret F hr hlk S rfl dX9_board_182
    rw [if_neg c43] at h
    by_cases c46 : x1 = 12
    · rw [if_pos c46] at h
      refine lv_tableIn (tgt := 183) (off := 163) hx hb dX9_board_20 (by rw [c46]; decide) (by rw [c46]; decide) (by rw [c46]; rfl) (by decide) ?_
      refine lv_aload_n hx hb dX9_board_183 rfl (lv_at hl 0 rfl) ?_
      refine lv_iconst (v := 1) hx hb dX9_board_184 (by decide) ?_
      obtain ⟨v48, e47, h⟩ := bd1_inv h
      refine call_m_points hE F hK S e47 hl.1 (Nat.le_of_ble_eq_true rfl) ⟨Nat.le_of_ble_eq_true rfl, Nat.le_of_ble_eq_true rfl⟩ ⟨Nat.zero_le _, Nat.zero_le _⟩ dX9_board_185 (fun H locs S => ?_)
      cases h
      exact g_iret F hr hlk S rfl dX9_board_188
    rw [if_neg c46] at h
    by_cases c49 : x1 = 13
    · rw [if_pos c49] at h
      refine lv_tableIn (tgt := 189) (off := 169) hx hb dX9_board_20 (by rw [c49]; decide) (by rw [c49]; decide) (by rw [c49]; rfl) (by decide) ?_
      refine lv_aload_n hx hb dX9_board_189 rfl (lv_at hl 0 rfl) ?_
      refine lv_iconst (v := 2) hx hb dX9_board_190 (by decide) ?_
      obtain ⟨v51, e50, h⟩ := bd1_inv h
      refine call_m_points hE F hK S e50 hl.1 (Nat.le_of_ble_eq_true rfl) ⟨Nat.le_of_ble_eq_true rfl, Nat.le_of_ble_eq_true rfl⟩ ⟨Nat.zero_le _, Nat.zero_le _⟩ dX9_board_191 (fun H locs S => ?_)
      cases h
      exact g_iret F hr hlk S rfl dX9_board_194
    rw [if_neg c49] at h
    by_cases c52 : x1 = 14
    · rw [if_pos c52] at h
      refine lv_tableIn (tgt := 195) (off := 175) hx hb dX9_board_20 (by rw [c52]; decide) (by rw [c52]; decide) (by rw [c52]; rfl) (by decide) ?_
      refine lv_aload_n hx hb dX9_board_195 rfl (lv_at hl 0 rfl) ?_
      refine m_get3 F hK S dX9_board_196 ?_
      cases h
      exact g_iret F hr hlk S rfl dX9_board_199
    rw [if_neg c52] at h
    refine lv_tableOut (tgt := 200) hx hb dX9_board_20 (by have t0 := lv_neT (a := 0) c7 (by decide); have t1 := lv_neT (a := 1) c10 (by decide); have t2 := lv_neT (a := 2) c13 (by decide); have t3 := lv_neT (a := 3) c16 (by decide); have t4 := lv_neT (a := 4) c19 (by decide); have t5 := lv_neT (a := 5) c22 (by decide); have t6 := lv_neT (a := 6) c25 (by decide); have t7 := lv_neT (a := 7) c28 (by decide); have t8 := lv_neT (a := 8) c31 (by decide); have t9 := lv_neT (a := 9) c34 (by decide); have t10 := lv_neT (a := 10) c37 (by decide); have t11 := lv_neT (a := 11) c43 (by decide); have t12 := lv_neT (a := 12) c46 (by decide); have t13 := lv_neT (a := 13) c49 (by decide); have t14 := lv_neT (a := 14) c52 (by decide); omega) (by decide) ?_
    refine lv_aload_n hx hb dX9_board_200 rfl (lv_at hl 0 rfl) ?_
    refine m_get13 F hK S dX9_board_201 ?_
    cases h
    exact g_iret F hr hlk S rfl dX9_board_204
  · rw [if_neg c6] at h
    refine lv_iconst (v := 0) hx hb dX9_board_17 (by decide) ?_
    cases h
    exact g_iret F hr hlk S rfl dX9_board_18
abbrev rm_m_cell : Room := { frames := 6, cells := 0, slots := 0, locals := 137 }
def fm_cell (g : mS) (x1 : Int32) (x2 : Int32) (x3 : Int32) : Option (Int32 × mS) :=
  bd1 (wrF g 0 0) fun g1 =>
  bd2 (fm_noCell g1 x1 x2) fun v4 g5 =>
  if v4 = 0 then
    bd2 (fm_bad g5 x3 0 4 2) fun v8 g9 =>
    if v8 = 0 then
      bd1 (fm_cellAt g9 x1 x2) fun v12 =>
      bd1 (fm_isMirror g9 v12) fun v14 =>
      bd1 ((
        if v14 = 0 then
          bd1 (fm_of g9 v12 0) fun v17 =>
          if v17 = 4 then
            some 1
          else
            some 0
        else
          some 1) : Option (Int32)) fun v19 =>
      if x3 = 0 then
        bd1 (fm_of g9 v12 0) fun v22 =>
        some (v22, g9)
      else
      if x3 = 1 then
        bd1 (fm_of g9 v12 1) fun v25 =>
        some (v25, g9)
      else
      if x3 = 2 then
        bd1 ((
          if v19 = 0 then
            some (-1)
          else
            bd1 (fm_of g9 v12 2) fun v29 =>
            some v29) : Option (Int32)) fun v30 =>
        some (v30, g9)
      else
      if x3 = 3 then
        bd1 ((
          if v19 = 0 then
            some (-1)
          else
            bd1 (fm_isMirror g9 v12) fun v35 =>
            bd1 ((
              if v35 = 0 then
                some 4
              else
                some 2) : Option (Int32)) fun v37 =>
            bd1 (fm_numberOf g9 v12 v37) fun v39 =>
            some v39) : Option (Int32)) fun v41 =>
        some (v41, g9)
      else
        bd1 (fm_shine g9) fun g44 =>
        bd1 (fm_litIn g44 v12) fun v46 =>
        some (v46, g44)
    else
      some (0, g9)
  else
    some (0, g5)
set_option maxHeartbeats 4000000 in
set_option maxRecDepth 100000 in
theorem met_m_cell (l : Launch) (E : mEnv) (hE : mInj E) (g : mS) (x1 : Int32) (x2 : Int32) (x3 : Int32) (r : Int32) (gZ : mS) (h : fm_cell g x1 x2 x3 = some (r, gZ)) : Met l yX9_cell (ws_ yX9_cell cX9_cell 6 (some .int)) rm_m_cell (va_Pc [.ref (mad E 0), .int x1, .int x2, .int x3] (gPre (mK E) (mP E g))) (gQi r (mP E gZ) (mA E)) 0 0 (mA E) := by
  refine g_met (own := RX9) (by decide) rfl (Nat.le_of_ble_eq_true rfl) ?_
  intro p e s m args below meth c ls F hr hlk hK S hl
  have hx := F.1
  have hb := F.2.1
  have hl : lv_has ls 6 [(0, .ref (mad E 0)), (1, .int x1), (2, .int x2), (3, .int x3)] := hl
  unfold fm_cell at h
  refine lv_aload_n hx hb dX9_cell_0 rfl (lv_at hl 0 rfl) ?_
  refine lv_iconst (v := 0) hx hb dX9_cell_1 (by decide) ?_
  obtain ⟨g1, e2, h⟩ := bd1_inv h
  refine m_put0 hE F hK S e2 dX9_cell_2 (fun H locs S => ?_)
  refine lv_aload_n hx hb dX9_cell_5 rfl (lv_at hl 0 rfl) ?_
  refine lv_iload_n hx hb dX9_cell_6 rfl (lv_at hl 1 rfl) ?_
  refine lv_iload_n hx hb dX9_cell_7 rfl (lv_at hl 2 rfl) ?_
  obtain ⟨v4, g5, e3, h⟩ := bd2_inv h
  refine call_m_noCell hE F hK S e3 hl.1 (Nat.le_of_ble_eq_true rfl) ⟨Nat.le_of_ble_eq_true rfl, Nat.le_of_ble_eq_true rfl⟩ ⟨Nat.zero_le _, Nat.zero_le _⟩ dX9_cell_8 (fun H locs S => ?_)
  refine lv_if_ne (tgt := 25) hx hb dX9_cell_11 (by decide) (fun c6 => ?_) (fun c6 => ?_)
  · rw [if_neg c6] at h
    refine lv_iconst (v := 0) hx hb dX9_cell_25 (by decide) ?_
    cases h
    exact g_iret F hr hlk S rfl dX9_cell_26
  · rw [if_pos c6] at h
    refine lv_aload_n hx hb dX9_cell_14 rfl (lv_at hl 0 rfl) ?_
    refine lv_iload_n hx hb dX9_cell_15 rfl (lv_at hl 3 rfl) ?_
    refine lv_iconst (v := 0) hx hb dX9_cell_16 (by decide) ?_
    refine lv_iconst (v := 4) hx hb dX9_cell_17 (by decide) ?_
    refine lv_iconst (v := 2) hx hb dX9_cell_18 (by decide) ?_
    obtain ⟨v8, g9, e7, h⟩ := bd2_inv h
    refine call_m_bad hE F hK S e7 hl.1 (Nat.le_of_ble_eq_true rfl) ⟨Nat.le_of_ble_eq_true rfl, Nat.le_of_ble_eq_true rfl⟩ ⟨Nat.zero_le _, Nat.zero_le _⟩ dX9_cell_19 (fun H locs S => ?_)
    refine lv_if_eq (tgt := 27) hx hb dX9_cell_22 (by decide) (fun c10 => ?_) (fun c10 => ?_)
    · rw [if_pos c10] at h
      refine lv_aload_n hx hb dX9_cell_27 rfl (lv_at hl 0 rfl) ?_
      refine lv_iload_n hx hb dX9_cell_28 rfl (lv_at hl 1 rfl) ?_
      refine lv_iload_n hx hb dX9_cell_29 rfl (lv_at hl 2 rfl) ?_
      obtain ⟨v12, e11, h⟩ := bd1_inv h
      refine call_m_cellAt hE F hK S e11 hl.1 (Nat.le_of_ble_eq_true rfl) ⟨Nat.le_of_ble_eq_true rfl, Nat.le_of_ble_eq_true rfl⟩ ⟨Nat.zero_le _, Nat.zero_le _⟩ dX9_cell_30 (fun H locs S => ?_)
      refine lv_istore (lv' := [(4, .int v12), (0, .ref (mad E 0)), (1, .int x1), (2, .int x2), (3, .int x3)]) hx hb dX9_cell_33 hl (by decide) rfl (fun ls hl => ?_)
      refine lv_aload_n hx hb dX9_cell_35 rfl (lv_at hl 1 rfl) ?_
      refine lv_iload hx hb dX9_cell_36 (lv_at hl 0 rfl) ?_
      obtain ⟨v14, e13, h⟩ := bd1_inv h
      refine call_m_isMirror hE F hK S e13 hl.1 (Nat.le_of_ble_eq_true rfl) ⟨Nat.le_of_ble_eq_true rfl, Nat.le_of_ble_eq_true rfl⟩ ⟨Nat.zero_le _, Nat.zero_le _⟩ dX9_cell_38 (fun H locs S => ?_)
      obtain ⟨v19, hB, h⟩ := bd1_inv h
      have hJ60 : ∀ (H : Heap) (locs : List Loc) (ls : Array Slot), gS (mA E) s.heap (mP E g9) H locs → lv_has ls 6 [(0, .ref (mad E 0)), (3, .int x3), (4, .int v12)] → W p l e rm_m_cell s m args below meth c H locs 0 0 (MQ below (gQi r (mP E gZ) (mA E)) args s 0 0 (mA E)) (F0 m 60 ls [.int v19]) := by
        intro H locs ls S hl
        refine lv_istore (lv' := [(5, .int v19), (0, .ref (mad E 0)), (3, .int x3), (4, .int v12)]) hx hb dX9_cell_60 hl (by decide) rfl (fun ls hl => ?_)
        refine lv_iload_n hx hb dX9_cell_62 rfl (lv_at hl 2 rfl) ?_
        by_cases c20 : x3 = 0
        · rw [if_pos c20] at h
          refine lv_tableIn (tgt := 92) (off := 29) hx hb dX9_cell_63 (by rw [c20]; decide) (by rw [c20]; decide) (by rw [c20]; rfl) (by decide) ?_
          refine lv_aload_n hx hb dX9_cell_92 rfl (lv_at hl 1 rfl) ?_
          refine lv_iload hx hb dX9_cell_93 (lv_at hl 3 rfl) ?_
          refine lv_iconst (v := 0) hx hb dX9_cell_95 (by decide) ?_
          obtain ⟨v22, e21, h⟩ := bd1_inv h
          refine call_m_of hE F hK S e21 hl.1 (Nat.le_of_ble_eq_true rfl) ⟨Nat.le_of_ble_eq_true rfl, Nat.le_of_ble_eq_true rfl⟩ ⟨Nat.zero_le _, Nat.zero_le _⟩ dX9_cell_96 (fun H locs S => ?_)
          cases h
          exact g_iret F hr hlk S rfl dX9_cell_99
        rw [if_neg c20] at h
        by_cases c23 : x3 = 1
        · rw [if_pos c23] at h
          refine lv_tableIn (tgt := 100) (off := 37) hx hb dX9_cell_63 (by rw [c23]; decide) (by rw [c23]; decide) (by rw [c23]; rfl) (by decide) ?_
          refine lv_aload_n hx hb dX9_cell_100 rfl (lv_at hl 1 rfl) ?_
          refine lv_iload hx hb dX9_cell_101 (lv_at hl 3 rfl) ?_
          refine lv_iconst (v := 1) hx hb dX9_cell_103 (by decide) ?_
          obtain ⟨v25, e24, h⟩ := bd1_inv h
          refine call_m_of hE F hK S e24 hl.1 (Nat.le_of_ble_eq_true rfl) ⟨Nat.le_of_ble_eq_true rfl, Nat.le_of_ble_eq_true rfl⟩ ⟨Nat.zero_le _, Nat.zero_le _⟩ dX9_cell_104 (fun H locs S => ?_)
          cases h
          exact g_iret F hr hlk S rfl dX9_cell_107
        rw [if_neg c23] at h
        by_cases c26 : x3 = 2
        · rw [if_pos c26] at h
          refine lv_tableIn (tgt := 108) (off := 45) hx hb dX9_cell_63 (by rw [c26]; decide) (by rw [c26]; decide) (by rw [c26]; rfl) (by decide) ?_
          refine lv_iload hx hb dX9_cell_108 (lv_at hl 0 rfl) ?_
          obtain ⟨v30, hB, h⟩ := bd1_inv h
          have hJ124 : ∀ (H : Heap) (locs : List Loc) (ls : Array Slot), gS (mA E) s.heap (mP E g9) H locs → lv_has ls 6 [] → W p l e rm_m_cell s m args below meth c H locs 0 0 (MQ below (gQi r (mP E gZ) (mA E)) args s 0 0 (mA E)) (F0 m 124 ls [.int v30]) := by
            intro H locs ls S hl
            cases h
            exact g_iret F hr hlk S rfl dX9_cell_124
          clear h
          have h := hB
          clear hB
          refine lv_if_eq (tgt := 123) hx hb dX9_cell_110 (by decide) (fun c27 => ?_) (fun c27 => ?_)
          · rw [if_pos c27] at h
            refine lv_iconst (v := (-1)) hx hb dX9_cell_123 (by decide) ?_
            cases h
            exact hJ124 _ _ _ S (lv_sub hl [] rfl)
          · rw [if_neg c27] at h
            refine lv_aload_n hx hb dX9_cell_113 rfl (lv_at hl 1 rfl) ?_
            refine lv_iload hx hb dX9_cell_114 (lv_at hl 3 rfl) ?_
            refine lv_iconst (v := 2) hx hb dX9_cell_116 (by decide) ?_
            obtain ⟨v29, e28, h⟩ := bd1_inv h
            refine call_m_of hE F hK S e28 hl.1 (Nat.le_of_ble_eq_true rfl) ⟨Nat.le_of_ble_eq_true rfl, Nat.le_of_ble_eq_true rfl⟩ ⟨Nat.zero_le _, Nat.zero_le _⟩ dX9_cell_117 (fun H locs S => ?_)
            refine lv_goto (tgt := 124) hx hb dX9_cell_120 (by decide) ?_
            cases h
            exact hJ124 _ _ _ S (lv_sub hl [] rfl)
        rw [if_neg c26] at h
        by_cases c32 : x3 = 3
        · rw [if_pos c32] at h
          refine lv_tableIn (tgt := 125) (off := 62) hx hb dX9_cell_63 (by rw [c32]; decide) (by rw [c32]; decide) (by rw [c32]; rfl) (by decide) ?_
          refine lv_iload hx hb dX9_cell_125 (lv_at hl 0 rfl) ?_
          obtain ⟨v41, hB, h⟩ := bd1_inv h
          have hJ154 : ∀ (H : Heap) (locs : List Loc) (ls : Array Slot), gS (mA E) s.heap (mP E g9) H locs → lv_has ls 6 [] → W p l e rm_m_cell s m args below meth c H locs 0 0 (MQ below (gQi r (mP E gZ) (mA E)) args s 0 0 (mA E)) (F0 m 154 ls [.int v41]) := by
            intro H locs ls S hl
            cases h
            exact g_iret F hr hlk S rfl dX9_cell_154
          clear h
          have h := hB
          clear hB
          refine lv_if_eq (tgt := 153) hx hb dX9_cell_127 (by decide) (fun c33 => ?_) (fun c33 => ?_)
          · rw [if_pos c33] at h
            refine lv_iconst (v := (-1)) hx hb dX9_cell_153 (by decide) ?_
            cases h
            exact hJ154 _ _ _ S (lv_sub hl [] rfl)
          · rw [if_neg c33] at h
            refine lv_aload_n hx hb dX9_cell_130 rfl (lv_at hl 1 rfl) ?_
            refine lv_iload hx hb dX9_cell_131 (lv_at hl 3 rfl) ?_
            refine lv_aload_n hx hb dX9_cell_133 rfl (lv_at hl 1 rfl) ?_
            refine lv_iload hx hb dX9_cell_134 (lv_at hl 3 rfl) ?_
            obtain ⟨v35, e34, h⟩ := bd1_inv h
            refine call_m_isMirror hE F hK S e34 hl.1 (Nat.le_of_ble_eq_true rfl) ⟨Nat.le_of_ble_eq_true rfl, Nat.le_of_ble_eq_true rfl⟩ ⟨Nat.zero_le _, Nat.zero_le _⟩ dX9_cell_136 (fun H locs S => ?_)
            obtain ⟨v37, hB, h⟩ := bd1_inv h
            have hJ147 : ∀ (H : Heap) (locs : List Loc) (ls : Array Slot), gS (mA E) s.heap (mP E g9) H locs → lv_has ls 6 [] → W p l e rm_m_cell s m args below meth c H locs 0 0 (MQ below (gQi r (mP E gZ) (mA E)) args s 0 0 (mA E)) (F0 m 147 ls [.int v37, .int v12, .ref (mad E 0)]) := by
              intro H locs ls S hl
              obtain ⟨v39, e38, h⟩ := bd1_inv h
              refine call_m_numberOf hE F hK S e38 hl.1 (Nat.le_of_ble_eq_true rfl) ⟨Nat.le_of_ble_eq_true rfl, Nat.le_of_ble_eq_true rfl⟩ ⟨Nat.zero_le _, Nat.zero_le _⟩ dX9_cell_147 (fun H locs S => ?_)
              refine lv_goto (tgt := 154) hx hb dX9_cell_150 (by decide) ?_
              cases h
              exact hJ154 _ _ _ S (lv_sub hl [] rfl)
            clear h
            have h := hB
            clear hB
            refine lv_if_eq (tgt := 146) hx hb dX9_cell_139 (by decide) (fun c36 => ?_) (fun c36 => ?_)
            · rw [if_pos c36] at h
              refine lv_iconst (v := 4) hx hb dX9_cell_146 (by decide) ?_
              cases h
              exact hJ147 _ _ _ S (lv_sub hl [] rfl)
            · rw [if_neg c36] at h
              refine lv_iconst (v := 2) hx hb dX9_cell_142 (by decide) ?_
              refine lv_goto (tgt := 147) hx hb dX9_cell_143 (by decide) ?_
              cases h
              exact hJ147 _ _ _ S (lv_sub hl [] rfl)
        rw [if_neg c32] at h
        refine lv_tableOut (tgt := 155) hx hb dX9_cell_63 (by have t0 := lv_neT (a := 0) c20 (by decide); have t1 := lv_neT (a := 1) c23 (by decide); have t2 := lv_neT (a := 2) c26 (by decide); have t3 := lv_neT (a := 3) c32 (by decide); omega) (by decide) ?_
        refine lv_aload_n hx hb dX9_cell_155 rfl (lv_at hl 1 rfl) ?_
        obtain ⟨g44, e43, h⟩ := bd1_inv h
        refine call_m_shine hE F hK S e43 hl.1 (Nat.le_of_ble_eq_true rfl) ⟨Nat.le_of_ble_eq_true rfl, Nat.le_of_ble_eq_true rfl⟩ ⟨Nat.zero_le _, Nat.zero_le _⟩ dX9_cell_156 (fun H locs S => ?_)
        refine lv_aload_n hx hb dX9_cell_159 rfl (lv_at hl 1 rfl) ?_
        refine lv_iload hx hb dX9_cell_160 (lv_at hl 3 rfl) ?_
        obtain ⟨v46, e45, h⟩ := bd1_inv h
        refine call_m_litIn hE F hK S e45 hl.1 (Nat.le_of_ble_eq_true rfl) ⟨Nat.le_of_ble_eq_true rfl, Nat.le_of_ble_eq_true rfl⟩ ⟨Nat.zero_le _, Nat.zero_le _⟩ dX9_cell_162 (fun H locs S => ?_)
        cases h
        exact g_iret F hr hlk S rfl dX9_cell_165
      clear h
      have h := hB
      clear hB
      refine lv_if_ne (tgt := 55) hx hb dX9_cell_41 (by decide) (fun c15 => ?_) (fun c15 => ?_)
      · rw [if_neg c15] at h
        refine lv_iconst (v := 1) hx hb dX9_cell_55 (by decide) ?_
        refine lv_goto (tgt := 60) hx hb dX9_cell_56 (by decide) ?_
        cases h
        exact hJ60 _ _ _ S (lv_sub hl [1, 4, 0] rfl)
      · rw [if_pos c15] at h
        refine lv_aload_n hx hb dX9_cell_44 rfl (lv_at hl 1 rfl) ?_
        refine lv_iload hx hb dX9_cell_45 (lv_at hl 0 rfl) ?_
        refine lv_iconst (v := 0) hx hb dX9_cell_47 (by decide) ?_
        obtain ⟨v17, e16, h⟩ := bd1_inv h
        refine call_m_of hE F hK S e16 hl.1 (Nat.le_of_ble_eq_true rfl) ⟨Nat.le_of_ble_eq_true rfl, Nat.le_of_ble_eq_true rfl⟩ ⟨Nat.zero_le _, Nat.zero_le _⟩ dX9_cell_48 (fun H locs S => ?_)
        refine lv_iconst (v := 4) hx hb dX9_cell_51 (by decide) ?_
        refine lv_icmp_ne (tgt := 59) hx hb dX9_cell_52 (by decide) (fun c18 => ?_) (fun c18 => ?_)
        · rw [if_neg c18] at h
          refine lv_iconst (v := 0) hx hb dX9_cell_59 (by decide) ?_
          cases h
          exact hJ60 _ _ _ S (lv_sub hl [1, 4, 0] rfl)
        · rw [if_pos c18] at h
          refine lv_iconst (v := 1) hx hb dX9_cell_55 (by decide) ?_
          refine lv_goto (tgt := 60) hx hb dX9_cell_56 (by decide) ?_
          cases h
          exact hJ60 _ _ _ S (lv_sub hl [1, 4, 0] rfl)
    · rw [if_neg c10] at h
      refine lv_iconst (v := 0) hx hb dX9_cell_25 (by decide) ?_
      cases h
      exact g_iret F hr hlk S rfl dX9_cell_26
