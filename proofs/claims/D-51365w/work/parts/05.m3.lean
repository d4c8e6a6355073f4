/-! THE MODEL, extracted: functions and walks (printed by gen/emit_model.py) -/
set_option maxRecDepth 100000
abbrev rm_m_ones : Room := { frames := 0, cells := 0, slots := 0, locals := 0 }
def Lm_ones_1 : Nat → mS → Int32 → Int32 → Option (Int32)
  | 0, _, _, _ => none
  | n + 1, g, y1, y2 =>
    if y2 = 0 then
      some y1
    else
      Lm_ones_1 n g (y1 + 1) (y2 &&& (y2 - 1))
def fm_ones (g : mS) (x1 : Int32) : Option (Int32) :=
  bd1 (Lm_ones_1 FUEL g 0 x1) fun v3 =>
  some v3
set_option maxHeartbeats 4000000 in
set_option maxRecDepth 100000 in
theorem loop_m_ones_1 {p : Program} {l : Launch} {e : Env} {s : State} {m : MethodId} {args : Array Value} {below : List Frame} {meth : Method} {c : Code} (E : mEnv) (hE : mInj E) (F : CallFix p m c cX9_ones 3 s args lw_all RX9) (hr : meth.sig.returnType = some .int) (hlk : meth.locks = false) (hK : mK E s) {Q : State → Prop} {g : mS} : ∀ (n : Nat) (y1 : Int32) (y2 : Int32) (o : Int32), Lm_ones_1 n g y1 y2 = some o → ∀ (H : Heap) (locs : List Loc) (ls : Array Slot), gS (mA E) s.heap (mP E g) H locs → lv_has ls 3 [(1, .int y1), (2, .int y2)] → (∀ (w1 : Int32) (H : Heap) (locs : List Loc) (ls : Array Slot), o = w1 → gS (mA E) s.heap (mP E g) H locs → lv_has ls 3 [(1, .int w1)] → W p l e rm_m_ones s m args below meth c H locs 0 0 Q (F0 m 20 ls [])) → W p l e rm_m_ones s m args below meth c H locs 0 0 Q (F0 m 4 ls []) := by
  have hx := F.1
  have hb := F.2.1
  intro n
  induction n with
  | zero =>
    intro y1 y2 o h
    rw [Lm_ones_1] at h
    cases h
  | succ n ih =>
    intro y1 y2 o h H locs ls S hl kx
    rw [Lm_ones_1] at h
    refine lv_iload_n hx hb dX9_ones_4 rfl (lv_at hl 1 rfl) ?_
    refine lv_if_eq (tgt := 20) hx hb dX9_ones_5 (by decide) (fun c1 => ?_) (fun c1 => ?_)
    · rw [if_pos c1] at h
      cases h
      exact kx _ _ _ _ rfl S (lv_sub hl [0] rfl)
    · rw [if_neg c1] at h
      refine lv_iinc (v := (y1 + 1)) (lv' := [(1, .int (y1 + 1)), (2, .int y2)]) hx hb dX9_ones_8 hl (k := 0) rfl rfl (by decide) rfl (fun ls hl => ?_)
      refine lv_iload_n hx hb dX9_ones_11 rfl (lv_at hl 1 rfl) ?_
      refine lv_iload_n hx hb dX9_ones_12 rfl (lv_at hl 1 rfl) ?_
      refine lv_iconst (v := 1) hx hb dX9_ones_13 (by decide) ?_
      refine lv_isub hx hb dX9_ones_14 ?_
      refine lv_iand hx hb dX9_ones_15 ?_
      refine lv_istore_n (lv' := [(2, .int (y2 &&& (y2 - 1))), (1, .int (y1 + 1))]) hx hb dX9_ones_16 rfl hl (by decide) rfl (fun ls hl => ?_)
      refine lv_goto (tgt := 4) hx hb dX9_ones_17 (by decide) ?_
      exact ih _ _ _ h _ _ _ S (lv_sub hl [1, 0] rfl) kx
set_option maxHeartbeats 4000000 in
set_option maxRecDepth 100000 in
theorem met_m_ones (l : Launch) (E : mEnv) (hE : mInj E) (g : mS) (x1 : Int32) (r : Int32) (h : fm_ones g x1 = some r) : Met l yX9_ones (ws_ yX9_ones cX9_ones 3 (some .int)) rm_m_ones (va_Pc [.int x1] (gPre (mK E) (mP E g))) (gQi r (mP E g) (mA E)) 0 0 (mA E) := by
  refine g_met (own := RX9) (by decide) rfl (Nat.le_of_ble_eq_true rfl) ?_
  intro p e s m args below meth c ls F hr hlk hK S hl
  have hx := F.1
  have hb := F.2.1
  have hl : lv_has ls 3 [(0, .int x1)] := hl
  unfold fm_ones at h
  refine lv_iconst (v := 0) hx hb dX9_ones_0 (by decide) ?_
  refine lv_istore_n (lv' := [(1, .int 0), (0, .int x1)]) hx hb dX9_ones_1 rfl hl (by decide) rfl (fun ls hl => ?_)
  refine lv_iload_n hx hb dX9_ones_2 rfl (lv_at hl 1 rfl) ?_
  refine lv_istore_n (lv' := [(2, .int x1), (1, .int 0), (0, .int x1)]) hx hb dX9_ones_3 rfl hl (by decide) rfl (fun ls hl => ?_)
  obtain ⟨v3, e2, h⟩ := bd1_inv h
  refine loop_m_ones_1 E hE F hr hlk hK _ _ _ _ e2 _ _ _ S (lv_sub hl [1, 0] rfl) (fun v3z H locs ls o S hl => ?_)
  cases o
  refine lv_iload_n hx hb dX9_ones_20 rfl (lv_at hl 0 rfl) ?_
  cases h
  exact g_iret F hr hlk S rfl dX9_ones_21
theorem call_m_ones {p : Program} {l : Launch} {e : Env} {s : State} {m : MethodId} {args : Array Value} {below : List Frame} {meth : Method} {c : Code} {R : Room} {H : Heap} {locs : List Loc} {cells slots pc nL : Nat} {Q : State → Prop} {ls : Array Slot} {rest : List Value} {cc : ByteArray} {E : mEnv} (hE : mInj E) {g : mS} {x1 : Int32} {r : Int32} (F : CallFix p m c cc nL s args lw_all RX9) (hK : mK E s) (S : gS (mA E) s.heap (mP E g) H locs) (h : fm_ones g x1 = some r) (hls : ls.size = nL) (hW : (rest.map fun v => v.category).sum ≤ 8) (hR : rm_m_ones.frames + 1 ≤ R.frames ∧ 8 + (3 + 11) + rm_m_ones.locals ≤ R.locals) (hf : cells ≤ R.cells ∧ slots ≤ R.slots) (hdg : decode cc pc = .ok (.invokestatic 327, 3))
    (kk : ∀ (H1 : Heap) (locs1 : List Loc), gS (mA E) s.heap (mP E g) H1 locs1 → W p l e R s m args below meth c H1 locs1 cells slots Q (F0 m (pc + 3) ls (.int r :: rest))) : W p l e R s m args below meth c H locs cells slots Q (F0 m pc ls (.int x1 :: rest)) :=
  g_ki (g_runS F hK (mKm E) S (met_m_ones l E hE g x1 r h) (va_cwS 1 F.2.2.2.2 (lw_S q2226 q2227 q121 q2228) rfl rfl rfl (by decide +kernel) hR) rfl hls rfl hW hdg hf) S kk
abbrev rm_m_mirror : Room := { frames := 8, cells := 0, slots := 0, locals := 172 }
def fm_mirror (g : mS) (x1 : Int32) (x2 : Int32) : Option (Int32 × mS) :=
  bd1 (wrF g 0 0) fun g1 =>
  bd1 (fm_count g1 2) fun v4 =>
  bd2 (fm_bad g1 x1 0 (v4 - 1) 1) fun v6 g7 =>
  if v6 = 0 then
    bd2 (fm_bad g7 x2 0 8 2) fun v10 g11 =>
    if v10 = 0 then
      bd1 (fm_cellOf g11 x1 2) fun v14 =>
      if x2 = 0 then
        some ((irm v14 10), g11)
      else
      if x2 = 1 then
        some ((v14 / 10), g11)
      else
      if x2 = 2 then
        bd1 (fm_of g11 v14 1) fun v19 =>
        some (v19, g11)
      else
      if x2 = 3 then
        bd1 (fm_of g11 v14 2) fun v22 =>
        some (v22, g11)
      else
      if x2 = 4 then
        bd1 (fm_of g11 v14 3) fun v25 =>
        some (v25, g11)
      else
      if x2 = 5 then
        bd1 (fm_of g11 v14 0) fun v28 =>
        bd1 ((
          if v28 = 3 then
            some 1
          else
            some 0) : Option (Int32)) fun v30 =>
        some (v30, g11)
      else
      if x2 = 6 then
        bd1 (fm_of g11 v14 4) fun v34 =>
        some (v34, g11)
      else
      if x2 = 7 then
        bd1 (fm_noTurn g11 v14) fun v37 =>
        bd1 ((
          if v37 = 0 then
            some 1
          else
            some 0) : Option (Int32)) fun v39 =>
        some (v39, g11)
      else
        bd1 (fm_shine g11) fun g42 =>
        bd1 (fm_litIn g42 v14) fun v44 =>
        bd1 (fm_ones g42 v44) fun v46 =>
        some (v46, g42)
    else
      some (0, g11)
  else
    some (0, g7)
set_option maxHeartbeats 4000000 in
set_option maxRecDepth 100000 in
theorem met_m_mirror (l : Launch) (E : mEnv) (hE : mInj E) (g : mS) (x1 : Int32) (x2 : Int32) (r : Int32) (gZ : mS) (h : fm_mirror g x1 x2 = some (r, gZ)) : Met l yX9_mirror (ws_ yX9_mirror cX9_mirror 4 (some .int)) rm_m_mirror (va_Pc [.ref (mad E 0), .int x1, .int x2] (gPre (mK E) (mP E g))) (gQi r (mP E gZ) (mA E)) 0 0 (mA E) := by
  refine g_met (own := RX9) (by decide) rfl (Nat.le_of_ble_eq_true rfl) ?_
  intro p e s m args below meth c ls F hr hlk hK S hl
  have hx := F.1
  have hb := F.2.1
  have hl : lv_has ls 4 [(0, .ref (mad E 0)), (1, .int x1), (2, .int x2)] := hl
  unfold fm_mirror at h
  refine lv_aload_n hx hb dX9_mirror_0 rfl (lv_at hl 0 rfl) ?_
  refine lv_iconst (v := 0) hx hb dX9_mirror_1 (by decide) ?_
  obtain ⟨g1, e2, h⟩ := bd1_inv h
  refine m_put0 hE F hK S e2 dX9_mirror_2 (fun H locs S => ?_)
  refine lv_aload_n hx hb dX9_mirror_5 rfl (lv_at hl 0 rfl) ?_
  refine lv_iload_n hx hb dX9_mirror_6 rfl (lv_at hl 1 rfl) ?_
  refine lv_iconst (v := 0) hx hb dX9_mirror_7 (by decide) ?_
  refine lv_aload_n hx hb dX9_mirror_8 rfl (lv_at hl 0 rfl) ?_
  refine lv_iconst (v := 2) hx hb dX9_mirror_9 (by decide) ?_
  obtain ⟨v4, e3, h⟩ := bd1_inv h
  refine call_m_count hE F hK S e3 hl.1 (Nat.le_of_ble_eq_true rfl) ⟨Nat.le_of_ble_eq_true rfl, Nat.le_of_ble_eq_true rfl⟩ ⟨Nat.zero_le _, Nat.zero_le _⟩ dX9_mirror_10 (fun H locs S => ?_)
  refine lv_iconst (v := 1) hx hb dX9_mirror_13 (by decide) ?_
  refine lv_isub hx hb dX9_mirror_14 ?_
  refine lv_iconst (v := 1) hx hb dX9_mirror_15 (by decide) ?_
  obtain ⟨v6, g7, e5, h⟩ := bd2_inv h
  refine call_m_bad hE F hK S e5 hl.1 (Nat.le_of_ble_eq_true rfl) ⟨Nat.le_of_ble_eq_true rfl, Nat.le_of_ble_eq_true rfl⟩ ⟨Nat.zero_le _, Nat.zero_le _⟩ dX9_mirror_16 (fun H locs S => ?_)
  refine lv_if_ne (tgt := 34) hx hb dX9_mirror_19 (by decide) (fun c8 => ?_) (fun c8 => ?_)
  · rw [if_neg c8] at h
    refine lv_iconst (v := 0) hx hb dX9_mirror_34 (by decide) ?_
    cases h
    exact g_iret F hr hlk S rfl dX9_mirror_35
  · rw [if_pos c8] at h
    refine lv_aload_n hx hb dX9_mirror_22 rfl (lv_at hl 0 rfl) ?_
    refine lv_iload_n hx hb dX9_mirror_23 rfl (lv_at hl 2 rfl) ?_
    refine lv_iconst (v := 0) hx hb dX9_mirror_24 (by decide) ?_
    refine lv_bipush (v := 8) hx hb dX9_mirror_25 (by decide) ?_
    refine lv_iconst (v := 2) hx hb dX9_mirror_27 (by decide) ?_
    obtain ⟨v10, g11, e9, h⟩ := bd2_inv h
    refine call_m_bad hE F hK S e9 hl.1 (Nat.le_of_ble_eq_true rfl) ⟨Nat.le_of_ble_eq_true rfl, Nat.le_of_ble_eq_true rfl⟩ ⟨Nat.zero_le _, Nat.zero_le _⟩ dX9_mirror_28 (fun H locs S => ?_)
    refine lv_if_eq (tgt := 36) hx hb dX9_mirror_31 (by decide) (fun c12 => ?_) (fun c12 => ?_)
    · rw [if_pos c12] at h
      refine lv_aload_n hx hb dX9_mirror_36 rfl (lv_at hl 0 rfl) ?_
      refine lv_iload_n hx hb dX9_mirror_37 rfl (lv_at hl 1 rfl) ?_
      refine lv_iconst (v := 2) hx hb dX9_mirror_38 (by decide) ?_
      obtain ⟨v14, e13, h⟩ := bd1_inv h
      refine call_m_cellOf hE F hK S e13 hl.1 (Nat.le_of_ble_eq_true rfl) ⟨Nat.le_of_ble_eq_true rfl, Nat.le_of_ble_eq_true rfl⟩ ⟨Nat.zero_le _, Nat.zero_le _⟩ dX9_mirror_39 (fun H locs S => ?_)
      refine lv_istore_n (lv' := [(3, .int v14), (0, .ref (mad E 0)), (1, .int x1), (2, .int x2)]) hx hb dX9_mirror_42 rfl hl (by decide) rfl (fun ls hl => ?_)
      refine lv_iload_n hx hb dX9_mirror_43 rfl (lv_at hl 3 rfl) ?_
      by_cases c15 : x2 = 0
      · rw [if_pos c15] at h
        refine lv_tableIn (tgt := 92) (off := 48) hx hb dX9_mirror_44 (by rw [c15]; decide) (by rw [c15]; decide) (by rw [c15]; rfl) (by decide) ?_
        refine lv_iload_n hx hb dX9_mirror_92 rfl (lv_at hl 0 rfl) ?_
        refine lv_bipush (v := 10) hx hb dX9_mirror_93 (by decide) ?_
        refine lv_irem hx hb dX9_mirror_95 (by decide) ?_
        cases h
        exact g_iret F hr hlk S rfl dX9_mirror_96
      rw [if_neg c15] at h
      by_cases c16 : x2 = 1
      · rw [if_pos c16] at h
        refine lv_tableIn (tgt := 97) (off := 53) hx hb dX9_mirror_44 (by rw [c16]; decide) (by rw [c16]; decide) (by rw [c16]; rfl) (by decide) ?_
        refine lv_iload_n hx hb dX9_mirror_97 rfl (lv_at hl 0 rfl) ?_
        refine lv_bipush (v := 10) hx hb dX9_mirror_98 (by decide) ?_
        refine lv_idiv hx hb dX9_mirror_100 (by decide) ?_
        cases h
        exact g_iret F hr hlk S rfl dX9_mirror_101
      rw [if_neg c16] at h
      by_cases c17 : x2 = 2
      · rw [if_pos c17] at h
        refine lv_tableIn (tgt := 102) (off := 58) hx hb dX9_mirror_44 (by rw [c17]; decide) (by rw [c17]; decide) (by rw [c17]; rfl) (by decide) ?_
        refine lv_aload_n hx hb dX9_mirror_102 rfl (lv_at hl 1 rfl) ?_
        refine lv_iload_n hx hb dX9_mirror_103 rfl (lv_at hl 0 rfl) ?_
        refine lv_iconst (v := 1) hx hb dX9_mirror_104 (by decide) ?_
        obtain ⟨v19, e18, h⟩ := bd1_inv h
        refine call_m_of hE F hK S e18 hl.1 (Nat.le_of_ble_eq_true rfl) ⟨Nat.le_of_ble_eq_true rfl, Nat.le_of_ble_eq_true rfl⟩ ⟨Nat.zero_le _, Nat.zero_le _⟩ dX9_mirror_105 (fun H locs S => ?_)
        cases h
        exact g_iret F hr hlk S rfl dX9_mirror_108
      rw [if_neg c17] at h
      by_cases c20 : x2 = 3
      · rw [if_pos c20] at h
        refine lv_tableIn (tgt := 109) (off := 65) hx hb dX9_mirror_44 (by rw [c20]; decide) (by rw [c20]; decide) (by rw [c20]; rfl) (by decide) ?_
        refine lv_aload_n hx hb dX9_mirror_109 rfl (lv_at hl 1 rfl) ?_
        refine lv_iload_n hx hb dX9_mirror_110 rfl (lv_at hl 0 rfl) ?_
        refine lv_iconst (v := 2) hx hb dX9_mirror_111 (by decide) ?_
        obtain ⟨v22, e21, h⟩ := bd1_inv h
        refine call_m_of hE F hK S e21 hl.1 (Nat.le_of_ble_eq_true rfl) ⟨Nat.le_of_ble_eq_true rfl, Nat.le_of_ble_eq_true rfl⟩ ⟨Nat.zero_le _, Nat.zero_le _⟩ dX9_mirror_112 (fun H locs S => ?_)
        cases h
        exact g_iret F hr hlk S rfl dX9_mirror_115
      rw [if_neg c20] at h
      by_cases c23 : x2 = 4
      · rw [if_pos c23] at h
        refine lv_tableIn (tgt := 116) (off := 72) hx hb dX9_mirror_44 (by rw [c23]; decide) (by rw [c23]; decide) (by rw [c23]; rfl) (by decide) ?_
        refine lv_aload_n hx hb dX9_mirror_116 rfl (lv_at hl 1 rfl) ?_
        refine lv_iload_n hx hb dX9_mirror_117 rfl (lv_at hl 0 rfl) ?_
        refine lv_iconst (v := 3) hx hb dX9_mirror_118 (by decide) ?_
        obtain ⟨v25, e24, h⟩ := bd1_inv h
        refine call_m_of hE F hK S e24 hl.1 (Nat.le_of_ble_eq_true rfl) ⟨Nat.le_of_ble_eq_true rfl, Nat.le_of_ble_eq_true rfl⟩ ⟨Nat.zero_le _, Nat.zero_le _⟩ dX9_mirror_119 (fun H locs S => ?_)
        cases h
        exact g_iret F hr hlk S rfl dX9_mirror_122
      rw [if_neg c23] at h
      by_cases c26 : x2 = 5
      · rw [if_pos c26] at h
        refine lv_tableIn (tgt := 123) (off := 79) hx hb dX9_mirror_44 (by rw [c26]; decide) (by rw [c26]; decide) (by rw [c26]; rfl) (by decide) ?_
        refine lv_aload_n hx hb dX9_mirror_123 rfl (lv_at hl 1 rfl) ?_
        refine lv_iload_n hx hb dX9_mirror_124 rfl (lv_at hl 0 rfl) ?_
        refine lv_iconst (v := 0) hx hb dX9_mirror_125 (by decide) ?_
        obtain ⟨v28, e27, h⟩ := bd1_inv h
        refine call_m_of hE F hK S e27 hl.1 (Nat.le_of_ble_eq_true rfl) ⟨Nat.le_of_ble_eq_true rfl, Nat.le_of_ble_eq_true rfl⟩ ⟨Nat.zero_le _, Nat.zero_le _⟩ dX9_mirror_126 (fun H locs S => ?_)
        refine lv_iconst (v := 3) hx hb dX9_mirror_129 (by decide) ?_
        obtain ⟨v30, hB, h⟩ := bd1_inv h
        have hJ138 : ∀ (H : Heap) (locs : List Loc) (ls : Array Slot), gS (mA E) s.heap (mP E g11) H locs → lv_has ls 4 [] → W p l e rm_m_mirror s m args below meth c H locs 0 0 (MQ below (gQi r (mP E gZ) (mA E)) args s 0 0 (mA E)) (F0 m 138 ls [.int v30]) := by
          intro H locs ls S hl
          cases h
          exact g_iret F hr hlk S rfl dX9_mirror_138
        clear h
        have h := hB
        clear hB
        refine lv_icmp_ne (tgt := 137) hx hb dX9_mirror_130 (by decide) (fun c29 => ?_) (fun c29 => ?_)
        · rw [if_neg c29] at h
          refine lv_iconst (v := 0) hx hb dX9_mirror_137 (by decide) ?_
          cases h
          exact hJ138 _ _ _ S (lv_sub hl [] rfl)
        · rw [if_pos c29] at h
          refine lv_iconst (v := 1) hx hb dX9_mirror_133 (by decide) ?_
          refine lv_goto (tgt := 138) hx hb dX9_mirror_134 (by decide) ?_
          cases h
          exact hJ138 _ _ _ S (lv_sub hl [] rfl)
      rw [if_neg c26] at h
      by_cases c32 : x2 = 6
      · rw [if_pos c32] at h
        refine lv_tableIn (tgt := 139) (off := 95) hx hb dX9_mirror_44 (by rw [c32]; decide) (by rw [c32]; decide) (by rw [c32]; rfl) (by decide) ?_
        refine lv_aload_n hx hb dX9_mirror_139 rfl (lv_at hl 1 rfl) ?_
        refine lv_iload_n hx hb dX9_mirror_140 rfl (lv_at hl 0 rfl) ?_
        refine lv_iconst (v := 4) hx hb dX9_mirror_141 (by decide) ?_
        obtain ⟨v34, e33, h⟩ := bd1_inv h
        refine call_m_of hE F hK S e33 hl.1 (Nat.le_of_ble_eq_true rfl) ⟨Nat.le_of_ble_eq_true rfl, Nat.le_of_ble_eq_true rfl⟩ ⟨Nat.zero_le _, Nat.zero_le _⟩ dX9_mirror_142 (fun H locs S => ?_)
        cases h
        exact g_iret F hr hlk S rfl dX9_mirror_145
      rw [if_neg c32] at h
      by_cases c35 : x2 = 7
      · rw [if_pos c35] at h
        refine lv_tableIn (tgt := 146) (off := 102) hx hb dX9_mirror_44 (by rw [c35]; decide) (by rw [c35]; decide) (by rw [c35]; rfl) (by decide) ?_
        refine lv_aload_n hx hb dX9_mirror_146 rfl (lv_at hl 1 rfl) ?_
        refine lv_iload_n hx hb dX9_mirror_147 rfl (lv_at hl 0 rfl) ?_
        obtain ⟨v37, e36, h⟩ := bd1_inv h
        refine call_m_noTurn hE F hK S e36 hl.1 (Nat.le_of_ble_eq_true rfl) ⟨Nat.le_of_ble_eq_true rfl, Nat.le_of_ble_eq_true rfl⟩ ⟨Nat.zero_le _, Nat.zero_le _⟩ dX9_mirror_148 (fun H locs S => ?_)
        obtain ⟨v39, hB, h⟩ := bd1_inv h
        have hJ159 : ∀ (H : Heap) (locs : List Loc) (ls : Array Slot), gS (mA E) s.heap (mP E g11) H locs → lv_has ls 4 [] → W p l e rm_m_mirror s m args below meth c H locs 0 0 (MQ below (gQi r (mP E gZ) (mA E)) args s 0 0 (mA E)) (F0 m 159 ls [.int v39]) := by
          intro H locs ls S hl
          cases h
          exact g_iret F hr hlk S rfl dX9_mirror_159
        clear h
        have h := hB
        clear hB
        refine lv_if_ne (tgt := 158) hx hb dX9_mirror_151 (by decide) (fun c38 => ?_) (fun c38 => ?_)
        · rw [if_neg c38] at h
          refine lv_iconst (v := 0) hx hb dX9_mirror_158 (by decide) ?_
          cases h
          exact hJ159 _ _ _ S (lv_sub hl [] rfl)
        · rw [if_pos c38] at h
          refine lv_iconst (v := 1) hx hb dX9_mirror_154 (by decide) ?_
          refine lv_goto (tgt := 159) hx hb dX9_mirror_155 (by decide) ?_
          cases h
          exact hJ159 _ _ _ S (lv_sub hl [] rfl)
      rw [if_neg c35] at h
      refine lv_tableOut (tgt := 160) hx hb dX9_mirror_44 (by have t0 := lv_neT (a := 0) c15 (by decide); have t1 := lv_neT (a := 1) c16 (by decide); have t2 := lv_neT (a := 2) c17 (by decide); have t3 := lv_neT (a := 3) c20 (by decide); have t4 := lv_neT (a := 4) c23 (by decide); have t5 := lv_neT (a := 5) c26 (by decide); have t6 := lv_neT (a := 6) c32 (by decide); have t7 := lv_neT (a := 7) c35 (by decide); omega) (by decide) ?_
      refine lv_aload_n hx hb dX9_mirror_160 rfl (lv_at hl 1 rfl) ?_
      obtain ⟨g42, e41, h⟩ := bd1_inv h
      refine call_m_shine hE F hK S e41 hl.1 (Nat.le_of_ble_eq_true rfl) ⟨Nat.le_of_ble_eq_true rfl, Nat.le_of_ble_eq_true rfl⟩ ⟨Nat.zero_le _, Nat.zero_le _⟩ dX9_mirror_161 (fun H locs S => ?_)
      refine lv_aload_n hx hb dX9_mirror_164 rfl (lv_at hl 1 rfl) ?_
      refine lv_iload_n hx hb dX9_mirror_165 rfl (lv_at hl 0 rfl) ?_
      obtain ⟨v44, e43, h⟩ := bd1_inv h
      refine call_m_litIn hE F hK S e43 hl.1 (Nat.le_of_ble_eq_true rfl) ⟨Nat.le_of_ble_eq_true rfl, Nat.le_of_ble_eq_true rfl⟩ ⟨Nat.zero_le _, Nat.zero_le _⟩ dX9_mirror_166 (fun H locs S => ?_)
      obtain ⟨v46, e45, h⟩ := bd1_inv h
      refine call_m_ones hE F hK S e45 hl.1 (Nat.le_of_ble_eq_true rfl) ⟨Nat.le_of_ble_eq_true rfl, Nat.le_of_ble_eq_true rfl⟩ ⟨Nat.zero_le _, Nat.zero_le _⟩ dX9_mirror_169 (fun H locs S => ?_)
      cases h
      exact g_iret F hr hlk S rfl dX9_mirror_172
    · rw [if_neg c12] at h
      refine lv_iconst (v := 0) hx hb dX9_mirror_34 (by decide) ?_
      cases h
      exact g_iret F hr hlk S rfl dX9_mirror_35
abbrev rm_m_noDoor : Room := { frames := 3, cells := 0, slots := 0, locals := 67 }
def fm_noDoor (g : mS) (x1 : Int32) : Option (Int32 × mS) :=
  bd1 (fm_count g 4) fun v2 =>
  bd2 (fm_bad g x1 0 (v2 - 1) 1) fun v4 g5 =>
  some ((zN v4), g5)
set_option maxHeartbeats 4000000 in
set_option maxRecDepth 100000 in
theorem met_m_noDoor (l : Launch) (E : mEnv) (hE : mInj E) (g : mS) (x1 : Int32) (r : Int32) (gZ : mS) (h : fm_noDoor g x1 = some (r, gZ)) : Met l yX9_noDoor (ws_ yX9_noDoor cX9_noDoor 2 (some .boolean)) rm_m_noDoor (va_Pc [.ref (mad E 0), .int x1] (gPre (mK E) (mP E g))) (gQi r (mP E gZ) (mA E)) 0 0 (mA E) := by
  refine g_met (own := RX9) (by decide) rfl (Nat.le_of_ble_eq_true rfl) ?_
  intro p e s m args below meth c ls F hr hlk hK S hl
  have hx := F.1
  have hb := F.2.1
  have hl : lv_has ls 2 [(0, .ref (mad E 0)), (1, .int x1)] := hl
  unfold fm_noDoor at h
  refine lv_aload_n hx hb dX9_noDoor_0 rfl (lv_at hl 0 rfl) ?_
  refine lv_iload_n hx hb dX9_noDoor_1 rfl (lv_at hl 1 rfl) ?_
  refine lv_iconst (v := 0) hx hb dX9_noDoor_2 (by decide) ?_
  refine lv_aload_n hx hb dX9_noDoor_3 rfl (lv_at hl 0 rfl) ?_
  refine lv_iconst (v := 4) hx hb dX9_noDoor_4 (by decide) ?_
  obtain ⟨v2, e1, h⟩ := bd1_inv h
  refine call_m_count hE F hK S e1 hl.1 (Nat.le_of_ble_eq_true rfl) ⟨Nat.le_of_ble_eq_true rfl, Nat.le_of_ble_eq_true rfl⟩ ⟨Nat.zero_le _, Nat.zero_le _⟩ dX9_noDoor_5 (fun H locs S => ?_)
  refine lv_iconst (v := 1) hx hb dX9_noDoor_8 (by decide) ?_
  refine lv_isub hx hb dX9_noDoor_9 ?_
  refine lv_iconst (v := 1) hx hb dX9_noDoor_10 (by decide) ?_
  obtain ⟨v4, g5, e3, h⟩ := bd2_inv h
  refine call_m_bad hE F hK S e3 hl.1 (Nat.le_of_ble_eq_true rfl) ⟨Nat.le_of_ble_eq_true rfl, Nat.le_of_ble_eq_true rfl⟩ ⟨Nat.zero_le _, Nat.zero_le _⟩ dX9_noDoor_11 (fun H locs S => ?_)
  cases h
  exact g_zret F hr hlk S rfl dX9_noDoor_14
theorem call_m_noDoor {p : Program} {l : Launch} {e : Env} {s : State} {m : MethodId} {args : Array Value} {below : List Frame} {meth : Method} {c : Code} {R : Room} {H : Heap} {locs : List Loc} {cells slots pc nL : Nat} {Q : State → Prop} {ls : Array Slot} {rest : List Value} {cc : ByteArray} {E : mEnv} (hE : mInj E) {g : mS} {x1 : Int32} {r : Int32} {gZ : mS} (F : CallFix p m c cc nL s args lw_all RX9) (hK : mK E s) (S : gS (mA E) s.heap (mP E g) H locs) (h : fm_noDoor g x1 = some (r, gZ)) (hls : ls.size = nL) (hW : (rest.map fun v => v.category).sum ≤ 8) (hR : rm_m_noDoor.frames + 1 ≤ R.frames ∧ 8 + (2 + 11) + rm_m_noDoor.locals ≤ R.locals) (hf : cells ≤ R.cells ∧ slots ≤ R.slots) (hdg : decode cc pc = .ok (.invokevirtual 330, 3))
    (kk : ∀ (H1 : Heap) (locs1 : List Loc), gS (mA E) s.heap (mP E gZ) H1 locs1 → W p l e R s m args below meth c H1 locs1 cells slots Q (F0 m (pc + 3) ls (.int r :: rest))) : W p l e R s m args below meth c H locs cells slots Q (F0 m pc ls (.int x1 :: .ref (mad E 0) :: rest)) :=
  g_ki (g_runV F hK (mKm E) S (met_m_noDoor l E hE g x1 r gZ h) (cwV 1 F.2.2.2.2 (lw_V q2233 q2235 qs93 q121 q2236) rfl rfl rfl (by decide +kernel) hR) (m_recv hK S) rfl hls rfl hW hdg hf) S kk
abbrev rm_m_door : Room := { frames := 7, cells := 0, slots := 0, locals := 160 }
def fm_door (g : mS) (x1 : Int32) (x2 : Int32) : Option (Int32 × mS) :=
  bd1 (wrF g 0 0) fun g1 =>
  bd2 (fm_noDoor g1 x1) fun v4 g5 =>
  if v4 = 0 then
    bd2 (fm_bad g5 x2 0 5 2) fun v8 g9 =>
    if v8 = 0 then
      bd1 (fm_cellOf g9 x1 4) fun v12 =>
      if x2 = 0 then
        some ((irm v12 10), g9)
      else
      if x2 = 1 then
        some ((v12 / 10), g9)
      else
      if x2 = 2 then
        bd1 (fm_of g9 v12 2) fun v17 =>
        some (v17, g9)
      else
      if x2 = 3 then
        bd1 (fm_of g9 v12 5) fun v20 =>
        bd1 ((
          if v20 = (-1) then
            some 0
          else
            some 1) : Option (Int32)) fun v22 =>
        some (v22, g9)
      else
      if x2 = 4 then
        bd2 (fm_hits g9) fun v26 g27 =>
        some (((v26 >>> (x1 &&& 31)) &&& 1), g27)
      else
        bd1 (fm_of g9 v12 5) fun v29 =>
        some (v29, g9)
    else
      some (0, g9)
  else
    some (0, g5)
set_option maxHeartbeats 4000000 in
set_option maxRecDepth 100000 in
theorem met_m_door (l : Launch) (E : mEnv) (hE : mInj E) (g : mS) (x1 : Int32) (x2 : Int32) (r : Int32) (gZ : mS) (h : fm_door g x1 x2 = some (r, gZ)) : Met l yX9_door (ws_ yX9_door cX9_door 4 (some .int)) rm_m_door (va_Pc [.ref (mad E 0), .int x1, .int x2] (gPre (mK E) (mP E g))) (gQi r (mP E gZ) (mA E)) 0 0 (mA E) := by
  refine g_met (own := RX9) (by decide) rfl (Nat.le_of_ble_eq_true rfl) ?_
  intro p e s m args below meth c ls F hr hlk hK S hl
  have hx := F.1
  have hb := F.2.1
  have hl : lv_has ls 4 [(0, .ref (mad E 0)), (1, .int x1), (2, .int x2)] := hl
  unfold fm_door at h
  refine lv_aload_n hx hb dX9_door_0 rfl (lv_at hl 0 rfl) ?_
  refine lv_iconst (v := 0) hx hb dX9_door_1 (by decide) ?_
  obtain ⟨g1, e2, h⟩ := bd1_inv h
  refine m_put0 hE F hK S e2 dX9_door_2 (fun H locs S => ?_)
  refine lv_aload_n hx hb dX9_door_5 rfl (lv_at hl 0 rfl) ?_
  refine lv_iload_n hx hb dX9_door_6 rfl (lv_at hl 1 rfl) ?_
  obtain ⟨v4, g5, e3, h⟩ := bd2_inv h
  refine call_m_noDoor hE F hK S e3 hl.1 (Nat.le_of_ble_eq_true rfl) ⟨Nat.le_of_ble_eq_true rfl, Nat.le_of_ble_eq_true rfl⟩ ⟨Nat.zero_le _, Nat.zero_le _⟩ dX9_door_7 (fun H locs S => ?_)
  refine lv_if_ne (tgt := 24) hx hb dX9_door_10 (by decide) (fun c6 => ?_) (fun c6 => ?_)
  · rw [if_neg c6] at h
    refine lv_iconst (v := 0) hx hb dX9_door_24 (by decide) ?_
    cases h
    exact g_iret F hr hlk S rfl dX9_door_25
  · rw [if_pos c6] at h
    refine lv_aload_n hx hb dX9_door_13 rfl (lv_at hl 0 rfl) ?_
    refine lv_iload_n hx hb dX9_door_14 rfl (lv_at hl 2 rfl) ?_
    refine lv_iconst (v := 0) hx hb dX9_door_15 (by decide) ?_
    refine lv_iconst (v := 5) hx hb dX9_door_16 (by decide) ?_
    refine lv_iconst (v := 2) hx hb dX9_door_17 (by decide) ?_
    obtain ⟨v8, g9, e7, h⟩ := bd2_inv h
    refine call_m_bad hE F hK S e7 hl.1 (Nat.le_of_ble_eq_true rfl) ⟨Nat.le_of_ble_eq_true rfl, Nat.le_of_ble_eq_true rfl⟩ ⟨Nat.zero_le _, Nat.zero_le _⟩ dX9_door_18 (fun H locs S => ?_)
    refine lv_if_eq (tgt := 26) hx hb dX9_door_21 (by decide) (fun c10 => ?_) (fun c10 => ?_)
    · rw [if_pos c10] at h
      refine lv_aload_n hx hb dX9_door_26 rfl (lv_at hl 0 rfl) ?_
      refine lv_iload_n hx hb dX9_door_27 rfl (lv_at hl 1 rfl) ?_
      refine lv_iconst (v := 4) hx hb dX9_door_28 (by decide) ?_
      obtain ⟨v12, e11, h⟩ := bd1_inv h
      refine call_m_cellOf hE F hK S e11 hl.1 (Nat.le_of_ble_eq_true rfl) ⟨Nat.le_of_ble_eq_true rfl, Nat.le_of_ble_eq_true rfl⟩ ⟨Nat.zero_le _, Nat.zero_le _⟩ dX9_door_29 (fun H locs S => ?_)
      refine lv_istore_n (lv' := [(3, .int v12), (0, .ref (mad E 0)), (1, .int x1), (2, .int x2)]) hx hb dX9_door_32 rfl hl (by decide) rfl (fun ls hl => ?_)
      refine lv_iload_n hx hb dX9_door_33 rfl (lv_at hl 3 rfl) ?_
      by_cases c13 : x2 = 0
      · rw [if_pos c13] at h
        refine lv_tableIn (tgt := 68) (off := 34) hx hb dX9_door_34 (by rw [c13]; decide) (by rw [c13]; decide) (by rw [c13]; rfl) (by decide) ?_
        refine lv_iload_n hx hb dX9_door_68 rfl (lv_at hl 0 rfl) ?_
        refine lv_bipush (v := 10) hx hb dX9_door_69 (by decide) ?_
        refine lv_irem hx hb dX9_door_71 (by decide) ?_
        cases h
        exact g_iret F hr hlk S rfl dX9_door_72
      rw [if_neg c13] at h
      by_cases c14 : x2 = 1
      · rw [if_pos c14] at h
        refine lv_tableIn (tgt := 73) (off := 39) hx hb dX9_door_34 (by rw [c14]; decide) (by rw [c14]; decide) (by rw [c14]; rfl) (by decide) ?_
        refine lv_iload_n hx hb dX9_door_73 rfl (lv_at hl 0 rfl) ?_
        refine lv_bipush (v := 10) hx hb dX9_door_74 (by decide) ?_
        refine lv_idiv hx hb dX9_door_76 (by decide) ?_
        cases h
        exact g_iret F hr hlk S rfl dX9_door_77
      rw [if_neg c14] at h
      by_cases c15 : x2 = 2
      · rw [if_pos c15] at h
        refine lv_tableIn (tgt := 78) (off := 44) hx hb dX9_door_34 (by rw [c15]; decide) (by rw [c15]; decide) (by rw [c15]; rfl) (by decide) ?_
        refine lv_aload_n hx hb dX9_door_78 rfl (lv_at hl 1 rfl) ?_
        refine lv_iload_n hx hb dX9_door_79 rfl (lv_at hl 0 rfl) ?_
        refine lv_iconst (v := 2) hx hb dX9_door_80 (by decide) ?_
        obtain ⟨v17, e16, h⟩ := bd1_inv h
        refine call_m_of hE F hK S e16 hl.1 (Nat.le_of_ble_eq_true rfl) ⟨Nat.le_of_ble_eq_true rfl, Nat.le_of_ble_eq_true rfl⟩ ⟨Nat.zero_le _, Nat.zero_le _⟩ dX9_door_81 (fun H locs S => ?_)
        cases h
        exact g_iret F hr hlk S rfl dX9_door_84
      rw [if_neg c15] at h
      by_cases c18 : x2 = 3
      · rw [if_pos c18] at h
        refine lv_tableIn (tgt := 85) (off := 51) hx hb dX9_door_34 (by rw [c18]; decide) (by rw [c18]; decide) (by rw [c18]; rfl) (by decide) ?_
        refine lv_aload_n hx hb dX9_door_85 rfl (lv_at hl 1 rfl) ?_
        refine lv_iload_n hx hb dX9_door_86 rfl (lv_at hl 0 rfl) ?_
        refine lv_iconst (v := 5) hx hb dX9_door_87 (by decide) ?_
        obtain ⟨v20, e19, h⟩ := bd1_inv h
        refine call_m_of hE F hK S e19 hl.1 (Nat.le_of_ble_eq_true rfl) ⟨Nat.le_of_ble_eq_true rfl, Nat.le_of_ble_eq_true rfl⟩ ⟨Nat.zero_le _, Nat.zero_le _⟩ dX9_door_88 (fun H locs S => ?_)
        refine lv_iconst (v := (-1)) hx hb dX9_door_91 (by decide) ?_
        obtain ⟨v22, hB, h⟩ := bd1_inv h
        have hJ100 : ∀ (H : Heap) (locs : List Loc) (ls : Array Slot), gS (mA E) s.heap (mP E g9) H locs → lv_has ls 4 [] → W p l e rm_m_door s m args below meth c H locs 0 0 (MQ below (gQi r (mP E gZ) (mA E)) args s 0 0 (mA E)) (F0 m 100 ls [.int v22]) := by
          intro H locs ls S hl
          cases h
          exact g_iret F hr hlk S rfl dX9_door_100
        clear h
        have h := hB
        clear hB
        refine lv_icmp_eq (tgt := 99) hx hb dX9_door_92 (by decide) (fun c21 => ?_) (fun c21 => ?_)
        · rw [if_pos c21] at h
          refine lv_iconst (v := 0) hx hb dX9_door_99 (by decide) ?_
          cases h
          exact hJ100 _ _ _ S (lv_sub hl [] rfl)
        · rw [if_neg c21] at h
          refine lv_iconst (v := 1) hx hb dX9_door_95 (by decide) ?_
          refine lv_goto (tgt := 100) hx hb dX9_door_96 (by decide) ?_
          cases h
          exact hJ100 _ _ _ S (lv_sub hl [] rfl)
      rw [if_neg c18] at h
      by_cases c24 : x2 = 4
      · rw [if_pos c24] at h
        refine lv_tableIn (tgt := 101) (off := 67) hx hb dX9_door_34 (by rw [c24]; decide) (by rw [c24]; decide) (by rw [c24]; rfl) (by decide) ?_
        refine lv_aload_n hx hb dX9_door_101 rfl (lv_at hl 1 rfl) ?_
        obtain ⟨v26, g27, e25, h⟩ := bd2_inv h
        refine call_m_hits hE F hK S e25 hl.1 (Nat.le_of_ble_eq_true rfl) ⟨Nat.le_of_ble_eq_true rfl, Nat.le_of_ble_eq_true rfl⟩ ⟨Nat.zero_le _, Nat.zero_le _⟩ dX9_door_102 (fun H locs S => ?_)
        refine lv_iload_n hx hb dX9_door_105 rfl (lv_at hl 2 rfl) ?_
        refine lv_ishr hx hb dX9_door_106 ?_
        refine lv_iconst (v := 1) hx hb dX9_door_107 (by decide) ?_
        refine lv_iand hx hb dX9_door_108 ?_
        cases h
        exact g_iret F hr hlk S rfl dX9_door_109
      rw [if_neg c24] at h
      refine lv_tableOut (tgt := 110) hx hb dX9_door_34 (by have t0 := lv_neT (a := 0) c13 (by decide); have t1 := lv_neT (a := 1) c14 (by decide); have t2 := lv_neT (a := 2) c15 (by decide); have t3 := lv_neT (a := 3) c18 (by decide); have t4 := lv_neT (a := 4) c24 (by decide); omega) (by decide) ?_
      refine lv_aload_n hx hb dX9_door_110 rfl (lv_at hl 1 rfl) ?_
      refine lv_iload_n hx hb dX9_door_111 rfl (lv_at hl 0 rfl) ?_
      refine lv_iconst (v := 5) hx hb dX9_door_112 (by decide) ?_
      obtain ⟨v29, e28, h⟩ := bd1_inv h
      refine call_m_of hE F hK S e28 hl.1 (Nat.le_of_ble_eq_true rfl) ⟨Nat.le_of_ble_eq_true rfl, Nat.le_of_ble_eq_true rfl⟩ ⟨Nat.zero_le _, Nat.zero_le _⟩ dX9_door_113 (fun H locs S => ?_)
      cases h
      exact g_iret F hr hlk S rfl dX9_door_116
    · rw [if_neg c10] at h
      refine lv_iconst (v := 0) hx hb dX9_door_24 (by decide) ?_
      cases h
      exact g_iret F hr hlk S rfl dX9_door_25
abbrev rm_m_note : Room := { frames := 0, cells := 0, slots := 0, locals := 0 }
def fm_note (g : mS) (x1 : Int32) (x2 : Int32) : Option (mS) :=
  if x1 = (-1) then
    bd1 (wrF g 25 ((g 0 25) + 1)) fun g13 =>
    some g13
  else
    bd1 (rdI g 14 x1) fun v2 =>
    if v2 = (-1) then
      bd1 (wrI g 14 x1 (g 0 24)) fun g5 =>
      bd1 (wrI g5 15 (g5 0 24) x1) fun g7 =>
      bd1 (wrI g7 16 (g7 0 24) x2) fun g9 =>
      bd1 (wrF g9 24 ((g9 0 24) + 1)) fun g11 =>
      some g11
    else
      some g
set_option maxHeartbeats 4000000 in
set_option maxRecDepth 100000 in
theorem met_m_note (l : Launch) (E : mEnv) (hE : mInj E) (g : mS) (x1 : Int32) (x2 : Int32) (gZ : mS) (h : fm_note g x1 x2 = some gZ) : Met l yX9_note (ws_ yX9_note cX9_note 3 (none)) rm_m_note (va_Pc [.ref (mad E 0), .int x1, .int x2] (gPre (mK E) (mP E g))) (gQv (mP E gZ) (mA E)) 0 0 (mA E) := by
  refine g_met (own := RX9) (by decide) rfl (Nat.le_of_ble_eq_true rfl) ?_
  intro p e s m args below meth c ls F hr hlk hK S hl
  have hx := F.1
  have hb := F.2.1
  have hl : lv_has ls 3 [(0, .ref (mad E 0)), (1, .int x1), (2, .int x2)] := hl
  unfold fm_note at h
  refine lv_iload_n hx hb dX9_note_0 rfl (lv_at hl 1 rfl) ?_
  refine lv_iconst (v := (-1)) hx hb dX9_note_1 (by decide) ?_
  refine lv_icmp_ne (tgt := 18) hx hb dX9_note_2 (by decide) (fun c1 => ?_) (fun c1 => ?_)
  · rw [if_neg c1] at h
    refine lv_aload_n hx hb dX9_note_18 rfl (lv_at hl 0 rfl) ?_
    refine m_get17 F hK S dX9_note_19 ?_
    refine lv_iload_n hx hb dX9_note_22 rfl (lv_at hl 1 rfl) ?_
    obtain ⟨v2, e3, h⟩ := bd1_inv h
    refine m_iald F hK S e3 dX9_note_23 ?_
    refine lv_iconst (v := (-1)) hx hb dX9_note_24 (by decide) ?_
    refine lv_icmp_ne (tgt := 68) hx hb dX9_note_25 (by decide) (fun c4 => ?_) (fun c4 => ?_)
    · rw [if_neg c4] at h
      cases h
      exact g_vret F hr hlk S dX9_note_68
    · rw [if_pos c4] at h
      refine lv_aload_n hx hb dX9_note_28 rfl (lv_at hl 0 rfl) ?_
      refine m_get17 F hK S dX9_note_29 ?_
      refine lv_iload_n hx hb dX9_note_32 rfl (lv_at hl 1 rfl) ?_
      refine lv_aload_n hx hb dX9_note_33 rfl (lv_at hl 0 rfl) ?_
      refine m_get24 F hK S dX9_note_34 ?_
      obtain ⟨g5, e6, h⟩ := bd1_inv h
      refine m_iast hE F hK S e6 dX9_note_37 (fun H locs S => ?_)
      refine lv_aload_n hx hb dX9_note_38 rfl (lv_at hl 0 rfl) ?_
      refine m_get18 F hK S dX9_note_39 ?_
      refine lv_aload_n hx hb dX9_note_42 rfl (lv_at hl 0 rfl) ?_
      refine m_get24 F hK S dX9_note_43 ?_
      refine lv_iload_n hx hb dX9_note_46 rfl (lv_at hl 1 rfl) ?_
      obtain ⟨g7, e8, h⟩ := bd1_inv h
      refine m_iast hE F hK S e8 dX9_note_47 (fun H locs S => ?_)
      refine lv_aload_n hx hb dX9_note_48 rfl (lv_at hl 0 rfl) ?_
      refine m_get19 F hK S dX9_note_49 ?_
      refine lv_aload_n hx hb dX9_note_52 rfl (lv_at hl 0 rfl) ?_
      refine m_get24 F hK S dX9_note_53 ?_
      refine lv_iload_n hx hb dX9_note_56 rfl (lv_at hl 2 rfl) ?_
      obtain ⟨g9, e10, h⟩ := bd1_inv h
      refine m_iast hE F hK S e10 dX9_note_57 (fun H locs S => ?_)
      refine lv_aload_n hx hb dX9_note_58 rfl (lv_at hl 0 rfl) ?_
      refine lv_dup hx hb dX9_note_59 rfl ?_
      refine m_get24 F hK S dX9_note_60 ?_
      refine lv_iconst (v := 1) hx hb dX9_note_63 (by decide) ?_
      refine lv_iadd hx hb dX9_note_64 ?_
      obtain ⟨g11, e12, h⟩ := bd1_inv h
      refine m_put24 hE F hK S e12 dX9_note_65 (fun H locs S => ?_)
      cases h
      exact g_vret F hr hlk S dX9_note_68
  · rw [if_pos c1] at h
    refine lv_aload_n hx hb dX9_note_5 rfl (lv_at hl 0 rfl) ?_
    refine lv_dup hx hb dX9_note_6 rfl ?_
    refine m_get25 F hK S dX9_note_7 ?_
    refine lv_iconst (v := 1) hx hb dX9_note_10 (by decide) ?_
    refine lv_iadd hx hb dX9_note_11 ?_
    obtain ⟨g13, e14, h⟩ := bd1_inv h
    refine m_put25 hE F hK S e14 dX9_note_12 (fun H locs S => ?_)
    refine lv_goto (tgt := 68) hx hb dX9_note_15 (by decide) ?_
    cases h
    exact g_vret F hr hlk S dX9_note_68
theorem call_m_note {p : Program} {l : Launch} {e : Env} {s : State} {m : MethodId} {args : Array Value} {below : List Frame} {meth : Method} {c : Code} {R : Room} {H : Heap} {locs : List Loc} {cells slots pc nL : Nat} {Q : State → Prop} {ls : Array Slot} {rest : List Value} {cc : ByteArray} {E : mEnv} (hE : mInj E) {g : mS} {x1 : Int32} {x2 : Int32} {gZ : mS} (F : CallFix p m c cc nL s args lw_all RX9) (hK : mK E s) (S : gS (mA E) s.heap (mP E g) H locs) (h : fm_note g x1 x2 = some gZ) (hls : ls.size = nL) (hW : (rest.map fun v => v.category).sum ≤ 8) (hR : rm_m_note.frames + 1 ≤ R.frames ∧ 8 + (3 + 11) + rm_m_note.locals ≤ R.locals) (hf : cells ≤ R.cells ∧ slots ≤ R.slots) (hdg : decode cc pc = .ok (.invokevirtual 158, 3))
    (kk : ∀ (H1 : Heap) (locs1 : List Loc), gS (mA E) s.heap (mP E gZ) H1 locs1 → W p l e R s m args below meth c H1 locs1 cells slots Q (F0 m (pc + 3) ls (rest))) : W p l e R s m args below meth c H locs cells slots Q (F0 m pc ls (.int x2 :: .int x1 :: .ref (mad E 0) :: rest)) :=
  g_kv (g_runV F hK (mKm E) S (met_m_note l E hE g x1 x2 gZ h) (cwV 2 F.2.2.2.2 (lw_V q2245 q2247 qs95 q121 q2248) rfl rfl rfl (by decide +kernel) hR) (m_recv hK S) rfl hls rfl hW hdg hf) S kk
abbrev rm_m_number_2 : Room := { frames := 6, cells := 0, slots := 0, locals := 137 }
def Lm_number_2_1 : Nat → mS → Int32 → Option (mS)
  | 0, _, _ => none
  | n + 1, g, y1 =>
    if 400 ≤ y1 then
      some g
    else
      bd1 (wrI g 14 y1 (-1)) fun g4 =>
      Lm_number_2_1 n g4 (y1 + 1)
def Lm_number_2_3 : Nat → mS → Int32 → Int32 → Int32 → Option (mS)
  | 0, _, _, _, _ => none
  | n + 1, g, y2, y3, y4 =>
    if y3 ≤ y4 then
      some g
    else
      bd1 (rdI g 18 y4) fun v27 =>
      bd1 (rdI g 16 y2) fun v29 =>
      bd1 (fm_note g v27 (v29 + 1)) fun g32 =>
      Lm_number_2_3 n g32 y2 y3 (y4 + 1)
def Lm_number_2_2 : Nat → mS → Int32 → Option (mS)
  | 0, _, _ => none
  | n + 1, g, y2 =>
    if (g 0 24) ≤ y2 then
      some g
    else
      bd1 (rdI g 15 y2) fun v21 =>
      bd2 (fm_tries g v21) fun v24 g25 =>
      bd1 (Lm_number_2_3 FUEL g25 y2 v24 0) fun g34 =>
      Lm_number_2_2 n g34 (y2 + 1)
def fm_number_2 (g : mS)  : Option (mS) :=
  bd1 (fm_shine g) fun g2 =>
  bd1 (Lm_number_2_1 FUEL g2 0) fun g7 =>
  bd1 (wrF g7 24 0) fun g8 =>
  bd1 (wrF g8 25 0) fun g10 =>
  bd1 (fm_lamp g10) fun v13 =>
  bd1 (fm_of g10 v13 1) fun v15 =>
  bd1 (fm_beside g10 v13 v15) fun v17 =>
  bd1 (fm_note g10 v17 0) fun g19 =>
  bd1 (Lm_number_2_2 FUEL g19 0) fun g37 =>
  some g37
set_option maxHeartbeats 4000000 in
set_option maxRecDepth 100000 in
theorem loop_m_number_2_1 {p : Program} {l : Launch} {e : Env} {s : State} {m : MethodId} {args : Array Value} {below : List Frame} {meth : Method} {c : Code} (E : mEnv) (hE : mInj E) (F : CallFix p m c cX9_number_2 5 s args lw_all RX9) (hr : meth.sig.returnType = none) (hlk : meth.locks = false) (hK : mK E s) {Q : State → Prop} : ∀ (n : Nat) (g : mS) (y1 : Int32) (o : mS), Lm_number_2_1 n g y1 = some o → ∀ (H : Heap) (locs : List Loc) (ls : Array Slot), gS (mA E) s.heap (mP E g) H locs → lv_has ls 5 [(0, .ref (mad E 0)), (1, .int y1)] → (∀  (gx : mS) (H : Heap) (locs : List Loc) (ls : Array Slot), o = gx → gS (mA E) s.heap (mP E gx) H locs → lv_has ls 5 [(0, .ref (mad E 0))] → W p l e rm_m_number_2 s m args below meth c H locs 0 0 Q (F0 m 26 ls [])) → W p l e rm_m_number_2 s m args below meth c H locs 0 0 Q (F0 m 6 ls []) := by
  have hx := F.1
  have hb := F.2.1
  intro n
  induction n with
  | zero =>
    intro g y1 o h
    rw [Lm_number_2_1] at h
    cases h
  | succ n ih =>
    intro g y1 o h H locs ls S hl kx
    rw [Lm_number_2_1] at h
    refine lv_iload_n hx hb dX9_number_2_6 rfl (lv_at hl 1 rfl) ?_
    refine lv_sipush (v := 400) hx hb dX9_number_2_7 (by decide) ?_
    refine lv_icmp_ge (tgt := 26) hx hb dX9_number_2_10 (by decide) (fun c3 => ?_) (fun c3 => ?_)
    · rw [if_pos c3] at h
      cases h
      exact kx _ _ _ _ rfl S (lv_sub hl [0] rfl)
    · rw [if_neg c3] at h
      refine lv_aload_n hx hb dX9_number_2_13 rfl (lv_at hl 0 rfl) ?_
      refine m_get17 F hK S dX9_number_2_14 ?_
      refine lv_iload_n hx hb dX9_number_2_17 rfl (lv_at hl 1 rfl) ?_
      refine lv_iconst (v := (-1)) hx hb dX9_number_2_18 (by decide) ?_
      obtain ⟨g4, e5, h⟩ := bd1_inv h
      refine m_iast hE F hK S e5 dX9_number_2_19 (fun H locs S => ?_)
      refine lv_iinc (v := (y1 + 1)) (lv' := [(1, .int (y1 + 1)), (0, .ref (mad E 0))]) hx hb dX9_number_2_20 hl (k := 1) rfl rfl (by decide) rfl (fun ls hl => ?_)
      refine lv_goto (tgt := 6) hx hb dX9_number_2_23 (by decide) ?_
      exact ih _ _ _ h _ _ _ S (lv_sub hl [1, 0] rfl) kx
set_option maxHeartbeats 4000000 in
set_option maxRecDepth 100000 in
theorem loop_m_number_2_3 {p : Program} {l : Launch} {e : Env} {s : State} {m : MethodId} {args : Array Value} {below : List Frame} {meth : Method} {c : Code} (E : mEnv) (hE : mInj E) (F : CallFix p m c cX9_number_2 5 s args lw_all RX9) (hr : meth.sig.returnType = none) (hlk : meth.locks = false) (hK : mK E s) {Q : State → Prop} : ∀ (n : Nat) (g : mS) (y2 : Int32) (y3 : Int32) (y4 : Int32) (o : mS), Lm_number_2_3 n g y2 y3 y4 = some o → ∀ (H : Heap) (locs : List Loc) (ls : Array Slot), gS (mA E) s.heap (mP E g) H locs → lv_has ls 5 [(0, .ref (mad E 0)), (2, .int y2), (3, .int y3), (4, .int y4)] → (∀  (gx : mS) (H : Heap) (locs : List Loc) (ls : Array Slot), o = gx → gS (mA E) s.heap (mP E gx) H locs → lv_has ls 5 [(0, .ref (mad E 0)), (2, .int y2)] → W p l e rm_m_number_2 s m args below meth c H locs 0 0 Q (F0 m 112 ls [])) → W p l e rm_m_number_2 s m args below meth c H locs 0 0 Q (F0 m 81 ls []) := by
  have hx := F.1
  have hb := F.2.1
  intro n
  induction n with
  | zero =>
    intro g y2 y3 y4 o h
    rw [Lm_number_2_3] at h
    cases h
  | succ n ih =>
    intro g y2 y3 y4 o h H locs ls S hl kx
    rw [Lm_number_2_3] at h
    refine lv_iload hx hb dX9_number_2_81 (lv_at hl 3 rfl) ?_
    refine lv_iload_n hx hb dX9_number_2_83 rfl (lv_at hl 2 rfl) ?_
    refine lv_icmp_ge (tgt := 112) hx hb dX9_number_2_84 (by decide) (fun c26 => ?_) (fun c26 => ?_)
    · rw [if_pos c26] at h
      cases h
      exact kx _ _ _ _ rfl S (lv_sub hl [0, 1] rfl)
    · rw [if_neg c26] at h
      refine lv_aload_n hx hb dX9_number_2_87 rfl (lv_at hl 0 rfl) ?_
      refine lv_aload_n hx hb dX9_number_2_88 rfl (lv_at hl 0 rfl) ?_
      refine m_get21 F hK S dX9_number_2_89 ?_
      refine lv_iload hx hb dX9_number_2_92 (lv_at hl 3 rfl) ?_
      obtain ⟨v27, e28, h⟩ := bd1_inv h
      refine m_iald F hK S e28 dX9_number_2_94 ?_
      refine lv_aload_n hx hb dX9_number_2_95 rfl (lv_at hl 0 rfl) ?_
      refine m_get19 F hK S dX9_number_2_96 ?_
      refine lv_iload_n hx hb dX9_number_2_99 rfl (lv_at hl 1 rfl) ?_
      obtain ⟨v29, e30, h⟩ := bd1_inv h
      refine m_iald F hK S e30 dX9_number_2_100 ?_
      refine lv_iconst (v := 1) hx hb dX9_number_2_101 (by decide) ?_
      refine lv_iadd hx hb dX9_number_2_102 ?_
      obtain ⟨g32, e31, h⟩ := bd1_inv h
      refine call_m_note hE F hK S e31 hl.1 (Nat.le_of_ble_eq_true rfl) ⟨Nat.le_of_ble_eq_true rfl, Nat.le_of_ble_eq_true rfl⟩ ⟨Nat.zero_le _, Nat.zero_le _⟩ dX9_number_2_103 (fun H locs S => ?_)
      refine lv_iinc (v := (y4 + 1)) (lv' := [(4, .int (y4 + 1)), (0, .ref (mad E 0)), (2, .int y2), (3, .int y3)]) hx hb dX9_number_2_106 hl (k := 3) rfl rfl (by decide) rfl (fun ls hl => ?_)
      refine lv_goto (tgt := 81) hx hb dX9_number_2_109 (by decide) ?_
      exact ih _ _ _ _ _ h _ _ _ S (lv_sub hl [1, 2, 3, 0] rfl) kx
set_option maxHeartbeats 4000000 in
set_option maxRecDepth 100000 in
theorem loop_m_number_2_2 {p : Program} {l : Launch} {e : Env} {s : State} {m : MethodId} {args : Array Value} {below : List Frame} {meth : Method} {c : Code} (E : mEnv) (hE : mInj E) (F : CallFix p m c cX9_number_2 5 s args lw_all RX9) (hr : meth.sig.returnType = none) (hlk : meth.locks = false) (hK : mK E s) {Q : State → Prop} : ∀ (n : Nat) (g : mS) (y2 : Int32) (o : mS), Lm_number_2_2 n g y2 = some o → ∀ (H : Heap) (locs : List Loc) (ls : Array Slot), gS (mA E) s.heap (mP E g) H locs → lv_has ls 5 [(0, .ref (mad E 0)), (2, .int y2)] → (∀  (gx : mS) (H : Heap) (locs : List Loc) (ls : Array Slot), o = gx → gS (mA E) s.heap (mP E gx) H locs → lv_has ls 5 [] → W p l e rm_m_number_2 s m args below meth c H locs 0 0 Q (F0 m 118 ls [])) → W p l e rm_m_number_2 s m args below meth c H locs 0 0 Q (F0 m 59 ls []) := by
  have hx := F.1
  have hb := F.2.1
  intro n
  induction n with
  | zero =>
    intro g y2 o h
    rw [Lm_number_2_2] at h
    cases h
  | succ n ih =>
    intro g y2 o h H locs ls S hl kx
    rw [Lm_number_2_2] at h
    refine lv_iload_n hx hb dX9_number_2_59 rfl (lv_at hl 1 rfl) ?_
    refine lv_aload_n hx hb dX9_number_2_60 rfl (lv_at hl 0 rfl) ?_
    refine m_get24 F hK S dX9_number_2_61 ?_
    refine lv_icmp_ge (tgt := 118) hx hb dX9_number_2_64 (by decide) (fun c20 => ?_) (fun c20 => ?_)
    · rw [if_pos c20] at h
      cases h
      exact kx _ _ _ _ rfl S (lv_sub hl [] rfl)
    · rw [if_neg c20] at h
      refine lv_aload_n hx hb dX9_number_2_67 rfl (lv_at hl 0 rfl) ?_
      refine lv_aload_n hx hb dX9_number_2_68 rfl (lv_at hl 0 rfl) ?_
      refine m_get18 F hK S dX9_number_2_69 ?_
      refine lv_iload_n hx hb dX9_number_2_72 rfl (lv_at hl 1 rfl) ?_
      obtain ⟨v21, e22, h⟩ := bd1_inv h
      refine m_iald F hK S e22 dX9_number_2_73 ?_
      obtain ⟨v24, g25, e23, h⟩ := bd2_inv h
      refine call_m_tries hE F hK S e23 hl.1 (Nat.le_of_ble_eq_true rfl) ⟨Nat.le_of_ble_eq_true rfl, Nat.le_of_ble_eq_true rfl⟩ ⟨Nat.zero_le _, Nat.zero_le _⟩ dX9_number_2_74 (fun H locs S => ?_)
      refine lv_istore_n (lv' := [(3, .int v24), (0, .ref (mad E 0)), (2, .int y2)]) hx hb dX9_number_2_77 rfl hl (by decide) rfl (fun ls hl => ?_)
      refine lv_iconst (v := 0) hx hb dX9_number_2_78 (by decide) ?_
      refine lv_istore (lv' := [(4, .int 0), (3, .int v24), (0, .ref (mad E 0)), (2, .int y2)]) hx hb dX9_number_2_79 hl (by decide) rfl (fun ls hl => ?_)
      obtain ⟨g34, e33, h⟩ := bd1_inv h
      refine loop_m_number_2_3 E hE F hr hlk hK _ _ _ _ _ _ e33 _ _ _ S (lv_sub hl [2, 3, 1, 0] rfl) (fun g34z H locs ls o S hl => ?_)
      cases o
      refine lv_iinc (v := (y2 + 1)) (lv' := [(2, .int (y2 + 1)), (0, .ref (mad E 0))]) hx hb dX9_number_2_112 hl (k := 1) rfl rfl (by decide) rfl (fun ls hl => ?_)
      refine lv_goto (tgt := 59) hx hb dX9_number_2_115 (by decide) ?_
      exact ih _ _ _ h _ _ _ S (lv_sub hl [1, 0] rfl) kx
set_option maxHeartbeats 4000000 in
set_option maxRecDepth 100000 in
theorem met_m_number_2 (l : Launch) (E : mEnv) (hE : mInj E) (g : mS)  (gZ : mS) (h : fm_number_2 g = some gZ) : Met l yX9_number_2 (ws_ yX9_number_2 cX9_number_2 5 (none)) rm_m_number_2 (va_Pc [.ref (mad E 0)] (gPre (mK E) (mP E g))) (gQv (mP E gZ) (mA E)) 0 0 (mA E) := by
  refine g_met (own := RX9) (by decide) rfl (Nat.le_of_ble_eq_true rfl) ?_
  intro p e s m args below meth c ls F hr hlk hK S hl
  have hx := F.1
  have hb := F.2.1
  have hl : lv_has ls 5 [(0, .ref (mad E 0))] := hl
  unfold fm_number_2 at h
  refine lv_aload_n hx hb dX9_number_2_0 rfl (lv_at hl 0 rfl) ?_
  obtain ⟨g2, e1, h⟩ := bd1_inv h
  refine call_m_shine hE F hK S e1 hl.1 (Nat.le_of_ble_eq_true rfl) ⟨Nat.le_of_ble_eq_true rfl, Nat.le_of_ble_eq_true rfl⟩ ⟨Nat.zero_le _, Nat.zero_le _⟩ dX9_number_2_1 (fun H locs S => ?_)
  refine lv_iconst (v := 0) hx hb dX9_number_2_4 (by decide) ?_
  refine lv_istore_n (lv' := [(1, .int 0), (0, .ref (mad E 0))]) hx hb dX9_number_2_5 rfl hl (by decide) rfl (fun ls hl => ?_)
  obtain ⟨g7, e6, h⟩ := bd1_inv h
  refine loop_m_number_2_1 E hE F hr hlk hK _ _ _ _ e6 _ _ _ S (lv_sub hl [1, 0] rfl) (fun g7z H locs ls o S hl => ?_)
  cases o
  refine lv_aload_n hx hb dX9_number_2_26 rfl (lv_at hl 0 rfl) ?_
  refine lv_iconst (v := 0) hx hb dX9_number_2_27 (by decide) ?_
  obtain ⟨g8, e9, h⟩ := bd1_inv h
  refine m_put24 hE F hK S e9 dX9_number_2_28 (fun H locs S => ?_)
  refine lv_aload_n hx hb dX9_number_2_31 rfl (lv_at hl 0 rfl) ?_
  refine lv_iconst (v := 0) hx hb dX9_number_2_32 (by decide) ?_
  obtain ⟨g10, e11, h⟩ := bd1_inv h
  refine m_put25 hE F hK S e11 dX9_number_2_33 (fun H locs S => ?_)
  refine lv_aload_n hx hb dX9_number_2_36 rfl (lv_at hl 0 rfl) ?_
  obtain ⟨v13, e12, h⟩ := bd1_inv h
  refine call_m_lamp hE F hK S e12 hl.1 (Nat.le_of_ble_eq_true rfl) ⟨Nat.le_of_ble_eq_true rfl, Nat.le_of_ble_eq_true rfl⟩ ⟨Nat.zero_le _, Nat.zero_le _⟩ dX9_number_2_37 (fun H locs S => ?_)
  refine lv_istore_n (lv' := [(1, .int v13), (0, .ref (mad E 0))]) hx hb dX9_number_2_40 rfl hl (by decide) rfl (fun ls hl => ?_)
  refine lv_aload_n hx hb dX9_number_2_41 rfl (lv_at hl 1 rfl) ?_
  refine lv_aload_n hx hb dX9_number_2_42 rfl (lv_at hl 1 rfl) ?_
  refine lv_iload_n hx hb dX9_number_2_43 rfl (lv_at hl 0 rfl) ?_
  refine lv_aload_n hx hb dX9_number_2_44 rfl (lv_at hl 1 rfl) ?_
  refine lv_iload_n hx hb dX9_number_2_45 rfl (lv_at hl 0 rfl) ?_
  refine lv_iconst (v := 1) hx hb dX9_number_2_46 (by decide) ?_
  obtain ⟨v15, e14, h⟩ := bd1_inv h
  refine call_m_of hE F hK S e14 hl.1 (Nat.le_of_ble_eq_true rfl) ⟨Nat.le_of_ble_eq_true rfl, Nat.le_of_ble_eq_true rfl⟩ ⟨Nat.zero_le _, Nat.zero_le _⟩ dX9_number_2_47 (fun H locs S => ?_)
  obtain ⟨v17, e16, h⟩ := bd1_inv h
  refine call_m_beside hE F hK S e16 hl.1 (Nat.le_of_ble_eq_true rfl) ⟨Nat.le_of_ble_eq_true rfl, Nat.le_of_ble_eq_true rfl⟩ ⟨Nat.zero_le _, Nat.zero_le _⟩ dX9_number_2_50 (fun H locs S => ?_)
  refine lv_iconst (v := 0) hx hb dX9_number_2_53 (by decide) ?_
  obtain ⟨g19, e18, h⟩ := bd1_inv h
  refine call_m_note hE F hK S e18 hl.1 (Nat.le_of_ble_eq_true rfl) ⟨Nat.le_of_ble_eq_true rfl, Nat.le_of_ble_eq_true rfl⟩ ⟨Nat.zero_le _, Nat.zero_le _⟩ dX9_number_2_54 (fun H locs S => ?_)
  refine lv_iconst (v := 0) hx hb dX9_number_2_57 (by decide) ?_
  refine lv_istore_n (lv' := [(2, .int 0), (1, .int v13), (0, .ref (mad E 0))]) hx hb dX9_number_2_58 rfl hl (by decide) rfl (fun ls hl => ?_)
  obtain ⟨g37, e36, h⟩ := bd1_inv h
  refine loop_m_number_2_2 E hE F hr hlk hK _ _ _ _ e36 _ _ _ S (lv_sub hl [2, 0] rfl) (fun g37z H locs ls o S hl => ?_)
  cases o
  cases h
  exact g_vret F hr hlk S dX9_number_2_118
theorem call_m_number_2 {p : Program} {l : Launch} {e : Env} {s : State} {m : MethodId} {args : Array Value} {below : List Frame} {meth : Method} {c : Code} {R : Room} {H : Heap} {locs : List Loc} {cells slots pc nL : Nat} {Q : State → Prop} {ls : Array Slot} {rest : List Value} {cc : ByteArray} {E : mEnv} (hE : mInj E) {g : mS} {gZ : mS} (F : CallFix p m c cc nL s args lw_all RX9) (hK : mK E s) (S : gS (mA E) s.heap (mP E g) H locs) (h : fm_number_2 g = some gZ) (hls : ls.size = nL) (hW : (rest.map fun v => v.category).sum ≤ 8) (hR : rm_m_number_2.frames + 1 ≤ R.frames ∧ 8 + (5 + 11) + rm_m_number_2.locals ≤ R.locals) (hf : cells ≤ R.cells ∧ slots ≤ R.slots) (hdg : decode cc pc = .ok (.invokevirtual 339, 3))
    (kk : ∀ (H1 : Heap) (locs1 : List Loc), gS (mA E) s.heap (mP E gZ) H1 locs1 → W p l e R s m args below meth c H1 locs1 cells slots Q (F0 m (pc + 3) ls (rest))) : W p l e R s m args below meth c H locs cells slots Q (F0 m pc ls (.ref (mad E 0) :: rest)) :=
  g_kv (g_runV F hK (mKm E) S (met_m_number_2 l E hE g  gZ h) (cwV 0 F.2.2.2.2 (lw_V q2241 q2243 qs94 q121 q2244) rfl rfl rfl (by decide +kernel) hR) (m_recv hK S) rfl hls rfl hW hdg hf) S kk
abbrev rm_m_isInRing : Room := { frames := 5, cells := 0, slots := 0, locals := 115 }
def Lm_isInRing_1 : Nat → mS → Int32 → Int32 → Option (mS)
  | 0, _, _, _ => none
  | n + 1, g, y1, y2 =>
    if 400 ≤ y2 then
      some g
    else
      bd1 (wrZ g 17 y2 0) fun g2 =>
      Lm_isInRing_1 n g2 y1 (y2 + 1)
def fm_isInRing (g : mS) (x1 : Int32) : Option (Int32 × mS) :=
  bd1 (Lm_isInRing_1 FUEL g x1 0) fun g5 =>
  bd1 (fm_spread g5 x1 17) fun g7 =>
  bd1 (rdZ g7 17 x1) fun v8 =>
  some ((zN v8), g7)
set_option maxHeartbeats 4000000 in
set_option maxRecDepth 100000 in
theorem loop_m_isInRing_1 {p : Program} {l : Launch} {e : Env} {s : State} {m : MethodId} {args : Array Value} {below : List Frame} {meth : Method} {c : Code} (E : mEnv) (hE : mInj E) (F : CallFix p m c cX9_isInRing 3 s args lw_all RX9) (hr : meth.sig.returnType = some .boolean) (hlk : meth.locks = false) (hK : mK E s) {Q : State → Prop} : ∀ (n : Nat) (g : mS) (y1 : Int32) (y2 : Int32) (o : mS), Lm_isInRing_1 n g y1 y2 = some o → ∀ (H : Heap) (locs : List Loc) (ls : Array Slot), gS (mA E) s.heap (mP E g) H locs → lv_has ls 3 [(0, .ref (mad E 0)), (1, .int y1), (2, .int y2)] → (∀  (gx : mS) (H : Heap) (locs : List Loc) (ls : Array Slot), o = gx → gS (mA E) s.heap (mP E gx) H locs → lv_has ls 3 [(0, .ref (mad E 0)), (1, .int y1)] → W p l e rm_m_isInRing s m args below meth c H locs 0 0 Q (F0 m 22 ls [])) → W p l e rm_m_isInRing s m args below meth c H locs 0 0 Q (F0 m 2 ls []) := by
  have hx := F.1
  have hb := F.2.1
  intro n
  induction n with
  | zero =>
    intro g y1 y2 o h
    rw [Lm_isInRing_1] at h
    cases h
  | succ n ih =>
    intro g y1 y2 o h H locs ls S hl kx
    rw [Lm_isInRing_1] at h
    refine lv_iload_n hx hb dX9_isInRing_2 rfl (lv_at hl 2 rfl) ?_
    refine lv_sipush (v := 400) hx hb dX9_isInRing_3 (by decide) ?_
    refine lv_icmp_ge (tgt := 22) hx hb dX9_isInRing_6 (by decide) (fun c1 => ?_) (fun c1 => ?_)
    · rw [if_pos c1] at h
      cases h
      exact kx _ _ _ _ rfl S (lv_sub hl [0, 1] rfl)
    · rw [if_neg c1] at h
      refine lv_aload_n hx hb dX9_isInRing_9 rfl (lv_at hl 0 rfl) ?_
      refine m_get20 F hK S dX9_isInRing_10 ?_
      refine lv_iload_n hx hb dX9_isInRing_13 rfl (lv_at hl 2 rfl) ?_
      refine lv_iconst (v := 0) hx hb dX9_isInRing_14 (by decide) ?_
      obtain ⟨g2, e3, h⟩ := bd1_inv h
      refine m_zast hE F hK S e3 dX9_isInRing_15 (fun H locs S => ?_)
      refine lv_iinc (v := (y2 + 1)) (lv' := [(2, .int (y2 + 1)), (0, .ref (mad E 0)), (1, .int y1)]) hx hb dX9_isInRing_16 hl (k := 2) rfl rfl (by decide) rfl (fun ls hl => ?_)
      refine lv_goto (tgt := 2) hx hb dX9_isInRing_19 (by decide) ?_
      exact ih _ _ _ _ h _ _ _ S (lv_sub hl [1, 2, 0] rfl) kx
set_option maxHeartbeats 4000000 in
set_option maxRecDepth 100000 in
theorem met_m_isInRing (l : Launch) (E : mEnv) (hE : mInj E) (g : mS) (x1 : Int32) (r : Int32) (gZ : mS) (h : fm_isInRing g x1 = some (r, gZ)) : Met l yX9_isInRing (ws_ yX9_isInRing cX9_isInRing 3 (some .boolean)) rm_m_isInRing (va_Pc [.ref (mad E 0), .int x1] (gPre (mK E) (mP E g))) (gQi r (mP E gZ) (mA E)) 0 0 (mA E) := by
  refine g_met (own := RX9) (by decide) rfl (Nat.le_of_ble_eq_true rfl) ?_
  intro p e s m args below meth c ls F hr hlk hK S hl
  have hx := F.1
  have hb := F.2.1
  have hl : lv_has ls 3 [(0, .ref (mad E 0)), (1, .int x1)] := hl
  unfold fm_isInRing at h
  refine lv_iconst (v := 0) hx hb dX9_isInRing_0 (by decide) ?_
  refine lv_istore_n (lv' := [(2, .int 0), (0, .ref (mad E 0)), (1, .int x1)]) hx hb dX9_isInRing_1 rfl hl (by decide) rfl (fun ls hl => ?_)
  obtain ⟨g5, e4, h⟩ := bd1_inv h
  refine loop_m_isInRing_1 E hE F hr hlk hK _ _ _ _ _ e4 _ _ _ S (lv_sub hl [1, 2, 0] rfl) (fun g5z H locs ls o S hl => ?_)
  cases o
  refine lv_aload_n hx hb dX9_isInRing_22 rfl (lv_at hl 0 rfl) ?_
  refine lv_iload_n hx hb dX9_isInRing_23 rfl (lv_at hl 1 rfl) ?_
  refine lv_aload_n hx hb dX9_isInRing_24 rfl (lv_at hl 0 rfl) ?_
  refine m_get20 F hK S dX9_isInRing_25 ?_
  obtain ⟨g7, e6, h⟩ := bd1_inv h
  refine call_m_spread hE F hK S e6 hl.1 (Nat.le_of_ble_eq_true rfl) ⟨Nat.le_of_ble_eq_true rfl, Nat.le_of_ble_eq_true rfl⟩ ⟨Nat.zero_le _, Nat.zero_le _⟩ dX9_isInRing_28 (fun H locs S => ?_)
  refine lv_aload_n hx hb dX9_isInRing_31 rfl (lv_at hl 0 rfl) ?_
  refine m_get20 F hK S dX9_isInRing_32 ?_
  refine lv_iload_n hx hb dX9_isInRing_35 rfl (lv_at hl 1 rfl) ?_
  obtain ⟨v8, e9, h⟩ := bd1_inv h
  refine m_zald F hK S e9 dX9_isInRing_36 ?_
  cases h
  exact g_zret F hr hlk S rfl dX9_isInRing_37
theorem call_m_isInRing {p : Program} {l : Launch} {e : Env} {s : State} {m : MethodId} {args : Array Value} {below : List Frame} {meth : Method} {c : Code} {R : Room} {H : Heap} {locs : List Loc} {cells slots pc nL : Nat} {Q : State → Prop} {ls : Array Slot} {rest : List Value} {cc : ByteArray} {E : mEnv} (hE : mInj E) {g : mS} {x1 : Int32} {r : Int32} {gZ : mS} (F : CallFix p m c cc nL s args lw_all RX9) (hK : mK E s) (S : gS (mA E) s.heap (mP E g) H locs) (h : fm_isInRing g x1 = some (r, gZ)) (hls : ls.size = nL) (hW : (rest.map fun v => v.category).sum ≤ 8) (hR : rm_m_isInRing.frames + 1 ≤ R.frames ∧ 8 + (3 + 11) + rm_m_isInRing.locals ≤ R.locals) (hf : cells ≤ R.cells ∧ slots ≤ R.slots) (hdg : decode cc pc = .ok (.invokevirtual 333, 3))
    (kk : ∀ (H1 : Heap) (locs1 : List Loc), gS (mA E) s.heap (mP E gZ) H1 locs1 → W p l e R s m args below meth c H1 locs1 cells slots Q (F0 m (pc + 3) ls (.int r :: rest))) : W p l e R s m args below meth c H locs cells slots Q (F0 m pc ls (.int x1 :: .ref (mad E 0) :: rest)) :=
  g_ki (g_runV F hK (mKm E) S (met_m_isInRing l E hE g x1 r gZ h) (cwV 1 F.2.2.2.2 (lw_V q2253 q2255 qs97 q121 q2256) rfl rfl rfl (by decide +kernel) hR) (m_recv hK S) rfl hls rfl hW hdg hf) S kk
abbrev rm_m_ringBeams : Room := { frames := 6, cells := 0, slots := 0, locals := 137 }
def Lm_ringBeams_1 : Nat → mS → Int32 → Int32 → Option (Int32 × mS)
  | 0, _, _, _ => none
  | n + 1, g, y1, y2 =>
    if (g 0 24) ≤ y2 then
      some (y1, g)
    else
      bd1 (rdI g 15 y2) fun v2 =>
      bd2 (fm_isInRing g v2) fun v5 g6 =>
      bd1 ((
        if v5 = 0 then
          some 0
        else
          some 1) : Option (Int32)) fun v8 =>
      Lm_ringBeams_1 n g6 (y1 + v8) (y2 + 1)
def fm_ringBeams (g : mS)  : Option (Int32 × mS) :=
  bd2 (Lm_ringBeams_1 FUEL g 0 0) fun v11 g12 =>
  some (v11, g12)
set_option maxHeartbeats 4000000 in
set_option maxRecDepth 100000 in
theorem loop_m_ringBeams_1 {p : Program} {l : Launch} {e : Env} {s : State} {m : MethodId} {args : Array Value} {below : List Frame} {meth : Method} {c : Code} (E : mEnv) (hE : mInj E) (F : CallFix p m c cX9_ringBeams 3 s args lw_all RX9) (hr : meth.sig.returnType = some .int) (hlk : meth.locks = false) (hK : mK E s) {Q : State → Prop} : ∀ (n : Nat) (g : mS) (y1 : Int32) (y2 : Int32) (o : Int32 × mS), Lm_ringBeams_1 n g y1 y2 = some o → ∀ (H : Heap) (locs : List Loc) (ls : Array Slot), gS (mA E) s.heap (mP E g) H locs → lv_has ls 3 [(0, .ref (mad E 0)), (1, .int y1), (2, .int y2)] → (∀ (w1 : Int32) (gx : mS) (H : Heap) (locs : List Loc) (ls : Array Slot), o = (w1, gx) → gS (mA E) s.heap (mP E gx) H locs → lv_has ls 3 [(1, .int w1)] → W p l e rm_m_ringBeams s m args below meth c H locs 0 0 Q (F0 m 39 ls [])) → W p l e rm_m_ringBeams s m args below meth c H locs 0 0 Q (F0 m 4 ls []) := by
  have hx := F.1
  have hb := F.2.1
  intro n
  induction n with
  | zero =>
    intro g y1 y2 o h
    rw [Lm_ringBeams_1] at h
    cases h
  | succ n ih =>
    intro g y1 y2 o h H locs ls S hl kx
    rw [Lm_ringBeams_1] at h
    refine lv_iload_n hx hb dX9_ringBeams_4 rfl (lv_at hl 2 rfl) ?_
    refine lv_aload_n hx hb dX9_ringBeams_5 rfl (lv_at hl 0 rfl) ?_
    refine m_get24 F hK S dX9_ringBeams_6 ?_
    refine lv_icmp_ge (tgt := 39) hx hb dX9_ringBeams_9 (by decide) (fun c1 => ?_) (fun c1 => ?_)
    · rw [if_pos c1] at h
      cases h
      exact kx _ _ _ _ _ rfl S (lv_sub hl [1] rfl)
    · rw [if_neg c1] at h
      refine lv_iload_n hx hb dX9_ringBeams_12 rfl (lv_at hl 1 rfl) ?_
      refine lv_aload_n hx hb dX9_ringBeams_13 rfl (lv_at hl 0 rfl) ?_
      refine lv_aload_n hx hb dX9_ringBeams_14 rfl (lv_at hl 0 rfl) ?_
      refine m_get18 F hK S dX9_ringBeams_15 ?_
      refine lv_iload_n hx hb dX9_ringBeams_18 rfl (lv_at hl 2 rfl) ?_
      obtain ⟨v2, e3, h⟩ := bd1_inv h
      refine m_iald F hK S e3 dX9_ringBeams_19 ?_
      obtain ⟨v5, g6, e4, h⟩ := bd2_inv h
      refine call_m_isInRing hE F hK S e4 hl.1 (Nat.le_of_ble_eq_true rfl) ⟨Nat.le_of_ble_eq_true rfl, Nat.le_of_ble_eq_true rfl⟩ ⟨Nat.zero_le _, Nat.zero_le _⟩ dX9_ringBeams_20 (fun H locs S => ?_)
      obtain ⟨v8, hB, h⟩ := bd1_inv h
      have hJ31 : ∀ (H : Heap) (locs : List Loc) (ls : Array Slot), gS (mA E) s.heap (mP E g6) H locs → lv_has ls 3 [(0, .ref (mad E 0)), (2, .int y2)] → W p l e rm_m_ringBeams s m args below meth c H locs 0 0 Q (F0 m 31 ls [.int v8, .int y1]) := by
        intro H locs ls S hl
        refine lv_iadd hx hb dX9_ringBeams_31 ?_
        refine lv_istore_n (lv' := [(1, .int (y1 + v8)), (0, .ref (mad E 0)), (2, .int y2)]) hx hb dX9_ringBeams_32 rfl hl (by decide) rfl (fun ls hl => ?_)
        refine lv_iinc (v := (y2 + 1)) (lv' := [(2, .int (y2 + 1)), (1, .int (y1 + v8)), (0, .ref (mad E 0))]) hx hb dX9_ringBeams_33 hl (k := 2) rfl rfl (by decide) rfl (fun ls hl => ?_)
        refine lv_goto (tgt := 4) hx hb dX9_ringBeams_36 (by decide) ?_
        exact ih _ _ _ _ h _ _ _ S (lv_sub hl [2, 1, 0] rfl) kx
      clear h
      have h := hB
      clear hB
      refine lv_if_eq (tgt := 30) hx hb dX9_ringBeams_23 (by decide) (fun c7 => ?_) (fun c7 => ?_)
      · rw [if_pos c7] at h
        refine lv_iconst (v := 0) hx hb dX9_ringBeams_30 (by decide) ?_
        cases h
        exact hJ31 _ _ _ S (lv_sub hl [0, 2] rfl)
      · rw [if_neg c7] at h
        refine lv_iconst (v := 1) hx hb dX9_ringBeams_26 (by decide) ?_
        refine lv_goto (tgt := 31) hx hb dX9_ringBeams_27 (by decide) ?_
        cases h
        exact hJ31 _ _ _ S (lv_sub hl [0, 2] rfl)
set_option maxHeartbeats 4000000 in
set_option maxRecDepth 100000 in
theorem met_m_ringBeams (l : Launch) (E : mEnv) (hE : mInj E) (g : mS)  (r : Int32) (gZ : mS) (h : fm_ringBeams g = some (r, gZ)) : Met l yX9_ringBeams (ws_ yX9_ringBeams cX9_ringBeams 3 (some .int)) rm_m_ringBeams (va_Pc [.ref (mad E 0)] (gPre (mK E) (mP E g))) (gQi r (mP E gZ) (mA E)) 0 0 (mA E) := by
  refine g_met (own := RX9) (by decide) rfl (Nat.le_of_ble_eq_true rfl) ?_
  intro p e s m args below meth c ls F hr hlk hK S hl
  have hx := F.1
  have hb := F.2.1
  have hl : lv_has ls 3 [(0, .ref (mad E 0))] := hl
  unfold fm_ringBeams at h
  refine lv_iconst (v := 0) hx hb dX9_ringBeams_0 (by decide) ?_
  refine lv_istore_n (lv' := [(1, .int 0), (0, .ref (mad E 0))]) hx hb dX9_ringBeams_1 rfl hl (by decide) rfl (fun ls hl => ?_)
  refine lv_iconst (v := 0) hx hb dX9_ringBeams_2 (by decide) ?_
  refine lv_istore_n (lv' := [(2, .int 0), (1, .int 0), (0, .ref (mad E 0))]) hx hb dX9_ringBeams_3 rfl hl (by decide) rfl (fun ls hl => ?_)
  obtain ⟨v11, g12, e10, h⟩ := bd2_inv h
  refine loop_m_ringBeams_1 E hE F hr hlk hK _ _ _ _ _ e10 _ _ _ S (lv_sub hl [2, 1, 0] rfl) (fun v11z g12z H locs ls o S hl => ?_)
  cases o
  refine lv_iload_n hx hb dX9_ringBeams_39 rfl (lv_at hl 0 rfl) ?_
  cases h
  exact g_iret F hr hlk S rfl dX9_ringBeams_40
theorem call_m_ringBeams {p : Program} {l : Launch} {e : Env} {s : State} {m : MethodId} {args : Array Value} {below : List Frame} {meth : Method} {c : Code} {R : Room} {H : Heap} {locs : List Loc} {cells slots pc nL : Nat} {Q : State → Prop} {ls : Array Slot} {rest : List Value} {cc : ByteArray} {E : mEnv} (hE : mInj E) {g : mS} {r : Int32} {gZ : mS} (F : CallFix p m c cc nL s args lw_all RX9) (hK : mK E s) (S : gS (mA E) s.heap (mP E g) H locs) (h : fm_ringBeams g = some (r, gZ)) (hls : ls.size = nL) (hW : (rest.map fun v => v.category).sum ≤ 8) (hR : rm_m_ringBeams.frames + 1 ≤ R.frames ∧ 8 + (3 + 11) + rm_m_ringBeams.locals ≤ R.locals) (hf : cells ≤ R.cells ∧ slots ≤ R.slots) (hdg : decode cc pc = .ok (.invokevirtual 341, 3))
    (kk : ∀ (H1 : Heap) (locs1 : List Loc), gS (mA E) s.heap (mP E gZ) H1 locs1 → W p l e R s m args below meth c H1 locs1 cells slots Q (F0 m (pc + 3) ls (.int r :: rest))) : W p l e R s m args below meth c H locs cells slots Q (F0 m pc ls (.ref (mad E 0) :: rest)) :=
  g_ki (g_runV F hK (mKm E) S (met_m_ringBeams l E hE g  r gZ h) (cwV 0 F.2.2.2.2 (lw_V q2249 q2251 qs96 q121 q2252) rfl rfl rfl (by decide +kernel) hR) (m_recv hK S) rfl hls rfl hW hdg hf) S kk
abbrev rm_m_litCells : Room := { frames := 2, cells := 0, slots := 0, locals := 43 }
def Lm_litCells_1 : Nat → mS → Int32 → Int32 → Int32 → Option (Int32)
  | 0, _, _, _, _ => none
  | n + 1, g, y1, y2, y3 =>
    if 100 ≤ y3 then
      some y2
    else
      bd1 (fm_isCell g y3) fun v3 =>
      bd1 ((
        if v3 = 0 then
          some 0
        else
          bd1 (fm_litIn g y3) fun v6 =>
          if v6 = 0 then
            some 0
          else
            if y1 = 0 then
              some 1
            else
              bd1 (fm_isMirror g y3) fun v10 =>
              if v10 = 0 then
                some 0
              else
                some 1) : Option (Int32)) fun v12 =>
      Lm_litCells_1 n g y1 (y2 + v12) (y3 + 1)
def fm_litCells (g : mS) (x1 : Int32) : Option (Int32) :=
  bd1 (Lm_litCells_1 FUEL g x1 0 0) fun v15 =>
  some v15
set_option maxHeartbeats 4000000 in
set_option maxRecDepth 100000 in
theorem loop_m_litCells_1 {p : Program} {l : Launch} {e : Env} {s : State} {m : MethodId} {args : Array Value} {below : List Frame} {meth : Method} {c : Code} (E : mEnv) (hE : mInj E) (F : CallFix p m c cX9_litCells 4 s args lw_all RX9) (hr : meth.sig.returnType = some .int) (hlk : meth.locks = false) (hK : mK E s) {Q : State → Prop} {g : mS} : ∀ (n : Nat) (y1 : Int32) (y2 : Int32) (y3 : Int32) (o : Int32), Lm_litCells_1 n g y1 y2 y3 = some o → ∀ (H : Heap) (locs : List Loc) (ls : Array Slot), gS (mA E) s.heap (mP E g) H locs → lv_has ls 4 [(0, .ref (mad E 0)), (1, .int y1), (2, .int y2), (3, .int y3)] → (∀ (w2 : Int32) (H : Heap) (locs : List Loc) (ls : Array Slot), o = w2 → gS (mA E) s.heap (mP E g) H locs → lv_has ls 4 [(2, .int w2)] → W p l e rm_m_litCells s m args below meth c H locs 0 0 Q (F0 m 52 ls [])) → W p l e rm_m_litCells s m args below meth c H locs 0 0 Q (F0 m 4 ls []) := by
  have hx := F.1
  have hb := F.2.1
  intro n
  induction n with
  | zero =>
    intro y1 y2 y3 o h
    rw [Lm_litCells_1] at h
    cases h
  | succ n ih =>
    intro y1 y2 y3 o h H locs ls S hl kx
    rw [Lm_litCells_1] at h
    refine lv_iload_n hx hb dX9_litCells_4 rfl (lv_at hl 3 rfl) ?_
    refine lv_bipush (v := 100) hx hb dX9_litCells_5 (by decide) ?_
    refine lv_icmp_ge (tgt := 52) hx hb dX9_litCells_7 (by decide) (fun c1 => ?_) (fun c1 => ?_)
    · rw [if_pos c1] at h
      cases h
      exact kx _ _ _ _ rfl S (lv_sub hl [2] rfl)
    · rw [if_neg c1] at h
      refine lv_iload_n hx hb dX9_litCells_10 rfl (lv_at hl 2 rfl) ?_
      refine lv_aload_n hx hb dX9_litCells_11 rfl (lv_at hl 0 rfl) ?_
      refine lv_iload_n hx hb dX9_litCells_12 rfl (lv_at hl 3 rfl) ?_
      obtain ⟨v3, e2, h⟩ := bd1_inv h
      refine call_m_isCell hE F hK S e2 hl.1 (Nat.le_of_ble_eq_true rfl) ⟨Nat.le_of_ble_eq_true rfl, Nat.le_of_ble_eq_true rfl⟩ ⟨Nat.zero_le _, Nat.zero_le _⟩ dX9_litCells_13 (fun H locs S => ?_)
      obtain ⟨v12, hB, h⟩ := bd1_inv h
      have hJ44 : ∀ (H : Heap) (locs : List Loc) (ls : Array Slot), gS (mA E) s.heap (mP E g) H locs → lv_has ls 4 [(0, .ref (mad E 0)), (1, .int y1), (3, .int y3)] → W p l e rm_m_litCells s m args below meth c H locs 0 0 Q (F0 m 44 ls [.int v12, .int y2]) := by
        intro H locs ls S hl
        refine lv_iadd hx hb dX9_litCells_44 ?_
        refine lv_istore_n (lv' := [(2, .int (y2 + v12)), (0, .ref (mad E 0)), (1, .int y1), (3, .int y3)]) hx hb dX9_litCells_45 rfl hl (by decide) rfl (fun ls hl => ?_)
        refine lv_iinc (v := (y3 + 1)) (lv' := [(3, .int (y3 + 1)), (2, .int (y2 + v12)), (0, .ref (mad E 0)), (1, .int y1)]) hx hb dX9_litCells_46 hl (k := 3) rfl rfl (by decide) rfl (fun ls hl => ?_)
        refine lv_goto (tgt := 4) hx hb dX9_litCells_49 (by decide) ?_
        exact ih _ _ _ _ h _ _ _ S (lv_sub hl [2, 3, 1, 0] rfl) kx
      clear h
      have h := hB
      clear hB
      refine lv_if_eq (tgt := 43) hx hb dX9_litCells_16 (by decide) (fun c4 => ?_) (fun c4 => ?_)
      · rw [if_pos c4] at h
        refine lv_iconst (v := 0) hx hb dX9_litCells_43 (by decide) ?_
        cases h
        exact hJ44 _ _ _ S (lv_sub hl [0, 1, 3] rfl)
      · rw [if_neg c4] at h
        refine lv_aload_n hx hb dX9_litCells_19 rfl (lv_at hl 0 rfl) ?_
        refine lv_iload_n hx hb dX9_litCells_20 rfl (lv_at hl 3 rfl) ?_
        obtain ⟨v6, e5, h⟩ := bd1_inv h
        refine call_m_litIn hE F hK S e5 hl.1 (Nat.le_of_ble_eq_true rfl) ⟨Nat.le_of_ble_eq_true rfl, Nat.le_of_ble_eq_true rfl⟩ ⟨Nat.zero_le _, Nat.zero_le _⟩ dX9_litCells_21 (fun H locs S => ?_)
        refine lv_if_eq (tgt := 43) hx hb dX9_litCells_24 (by decide) (fun c7 => ?_) (fun c7 => ?_)
        · rw [if_pos c7] at h
          refine lv_iconst (v := 0) hx hb dX9_litCells_43 (by decide) ?_
          cases h
          exact hJ44 _ _ _ S (lv_sub hl [0, 1, 3] rfl)
        · rw [if_neg c7] at h
          refine lv_iload_n hx hb dX9_litCells_27 rfl (lv_at hl 1 rfl) ?_
          refine lv_if_eq (tgt := 39) hx hb dX9_litCells_28 (by decide) (fun c8 => ?_) (fun c8 => ?_)
          · rw [if_pos c8] at h
            refine lv_iconst (v := 1) hx hb dX9_litCells_39 (by decide) ?_
            refine lv_goto (tgt := 44) hx hb dX9_litCells_40 (by decide) ?_
            cases h
            exact hJ44 _ _ _ S (lv_sub hl [0, 1, 3] rfl)
          · rw [if_neg c8] at h
            refine lv_aload_n hx hb dX9_litCells_31 rfl (lv_at hl 0 rfl) ?_
            refine lv_iload_n hx hb dX9_litCells_32 rfl (lv_at hl 3 rfl) ?_
            obtain ⟨v10, e9, h⟩ := bd1_inv h
            refine call_m_isMirror hE F hK S e9 hl.1 (Nat.le_of_ble_eq_true rfl) ⟨Nat.le_of_ble_eq_true rfl, Nat.le_of_ble_eq_true rfl⟩ ⟨Nat.zero_le _, Nat.zero_le _⟩ dX9_litCells_33 (fun H locs S => ?_)
            refine lv_if_eq (tgt := 43) hx hb dX9_litCells_36 (by decide) (fun c11 => ?_) (fun c11 => ?_)
            · rw [if_pos c11] at h
              refine lv_iconst (v := 0) hx hb dX9_litCells_43 (by decide) ?_
              cases h
              exact hJ44 _ _ _ S (lv_sub hl [0, 1, 3] rfl)
            · rw [if_neg c11] at h
              refine lv_iconst (v := 1) hx hb dX9_litCells_39 (by decide) ?_
              refine lv_goto (tgt := 44) hx hb dX9_litCells_40 (by decide) ?_
              cases h
              exact hJ44 _ _ _ S (lv_sub hl [0, 1, 3] rfl)
set_option maxHeartbeats 4000000 in
set_option maxRecDepth 100000 in
theorem met_m_litCells (l : Launch) (E : mEnv) (hE : mInj E) (g : mS) (x1 : Int32) (r : Int32) (h : fm_litCells g x1 = some r) : Met l yX9_litCells (ws_ yX9_litCells cX9_litCells 4 (some .int)) rm_m_litCells (va_Pc [.ref (mad E 0), .int x1] (gPre (mK E) (mP E g))) (gQi r (mP E g) (mA E)) 0 0 (mA E) := by
  refine g_met (own := RX9) (by decide) rfl (Nat.le_of_ble_eq_true rfl) ?_
  intro p e s m args below meth c ls F hr hlk hK S hl
  have hx := F.1
  have hb := F.2.1
  have hl : lv_has ls 4 [(0, .ref (mad E 0)), (1, .int x1)] := hl
  unfold fm_litCells at h
  refine lv_iconst (v := 0) hx hb dX9_litCells_0 (by decide) ?_
  refine lv_istore_n (lv' := [(2, .int 0), (0, .ref (mad E 0)), (1, .int x1)]) hx hb dX9_litCells_1 rfl hl (by decide) rfl (fun ls hl => ?_)
  refine lv_iconst (v := 0) hx hb dX9_litCells_2 (by decide) ?_
  refine lv_istore_n (lv' := [(3, .int 0), (2, .int 0), (0, .ref (mad E 0)), (1, .int x1)]) hx hb dX9_litCells_3 rfl hl (by decide) rfl (fun ls hl => ?_)
  obtain ⟨v15, e14, h⟩ := bd1_inv h
  refine loop_m_litCells_1 E hE F hr hlk hK _ _ _ _ _ e14 _ _ _ S (lv_sub hl [2, 3, 1, 0] rfl) (fun v15z H locs ls o S hl => ?_)
  cases o
  refine lv_iload_n hx hb dX9_litCells_52 rfl (lv_at hl 0 rfl) ?_
  cases h
  exact g_iret F hr hlk S rfl dX9_litCells_53
theorem call_m_litCells {p : Program} {l : Launch} {e : Env} {s : State} {m : MethodId} {args : Array Value} {below : List Frame} {meth : Method} {c : Code} {R : Room} {H : Heap} {locs : List Loc} {cells slots pc nL : Nat} {Q : State → Prop} {ls : Array Slot} {rest : List Value} {cc : ByteArray} {E : mEnv} (hE : mInj E) {g : mS} {x1 : Int32} {r : Int32} (F : CallFix p m c cc nL s args lw_all RX9) (hK : mK E s) (S : gS (mA E) s.heap (mP E g) H locs) (h : fm_litCells g x1 = some r) (hls : ls.size = nL) (hW : (rest.map fun v => v.category).sum ≤ 8) (hR : rm_m_litCells.frames + 1 ≤ R.frames ∧ 8 + (4 + 11) + rm_m_litCells.locals ≤ R.locals) (hf : cells ≤ R.cells ∧ slots ≤ R.slots) (hdg : decode cc pc = .ok (.invokevirtual 344, 3))
    (kk : ∀ (H1 : Heap) (locs1 : List Loc), gS (mA E) s.heap (mP E g) H1 locs1 → W p l e R s m args below meth c H1 locs1 cells slots Q (F0 m (pc + 3) ls (.int r :: rest))) : W p l e R s m args below meth c H locs cells slots Q (F0 m pc ls (.int x1 :: .ref (mad E 0) :: rest)) :=
  g_ki (g_runV F hK (mKm E) S (met_m_litCells l E hE g x1 r h) (cwV 1 F.2.2.2.2 (lw_V q2257 q2259 qs98 q121 q2260) rfl rfl rfl (by decide +kernel) hR) (m_recv hK S) rfl hls rfl hW hdg hf) S kk
abbrev rm_m_heldByGates : Room := { frames := 1, cells := 0, slots := 0, locals := 22 }
def Lm_heldByGates_1 : Nat → mS → Int32 → Int32 → Option (Int32)
  | 0, _, _, _ => none
  | n + 1, g, y1, y2 =>
    if (g 0 24) ≤ y2 then
      some y1
    else
      bd1 (rdI g 15 y2) fun v2 =>
      bd1 (fm_of g (v2 / 4) 0) fun v5 =>
      bd1 ((
        if v5 = 5 then
          bd1 (fm_of g (v2 / 4) 1) fun v8 =>
          bd1 (rdI g 15 y2) fun v9 =>
          if v8 = (irm v9 4) then
            some 0
          else
            some 1
        else
          some 0) : Option (Int32)) fun v12 =>
      Lm_heldByGates_1 n g (y1 + v12) (y2 + 1)
def fm_heldByGates (g : mS)  : Option (Int32) :=
  bd1 (Lm_heldByGates_1 FUEL g 0 0) fun v15 =>
  some v15
set_option maxHeartbeats 4000000 in
set_option maxRecDepth 100000 in
theorem loop_m_heldByGates_1 {p : Program} {l : Launch} {e : Env} {s : State} {m : MethodId} {args : Array Value} {below : List Frame} {meth : Method} {c : Code} (E : mEnv) (hE : mInj E) (F : CallFix p m c cX9_heldByGates 4 s args lw_all RX9) (hr : meth.sig.returnType = some .int) (hlk : meth.locks = false) (hK : mK E s) {Q : State → Prop} {g : mS} : ∀ (n : Nat) (y1 : Int32) (y2 : Int32) (o : Int32), Lm_heldByGates_1 n g y1 y2 = some o → ∀ (H : Heap) (locs : List Loc) (ls : Array Slot), gS (mA E) s.heap (mP E g) H locs → lv_has ls 4 [(0, .ref (mad E 0)), (1, .int y1), (2, .int y2)] → (∀ (w1 : Int32) (H : Heap) (locs : List Loc) (ls : Array Slot), o = w1 → gS (mA E) s.heap (mP E g) H locs → lv_has ls 4 [(1, .int w1)] → W p l e rm_m_heldByGates s m args below meth c H locs 0 0 Q (F0 m 62 ls [])) → W p l e rm_m_heldByGates s m args below meth c H locs 0 0 Q (F0 m 4 ls []) := by
  have hx := F.1
  have hb := F.2.1
  intro n
  induction n with
  | zero =>
    intro y1 y2 o h
    rw [Lm_heldByGates_1] at h
    cases h
  | succ n ih =>
    intro y1 y2 o h H locs ls S hl kx
    rw [Lm_heldByGates_1] at h
    refine lv_iload_n hx hb dX9_heldByGates_4 rfl (lv_at hl 2 rfl) ?_
    refine lv_aload_n hx hb dX9_heldByGates_5 rfl (lv_at hl 0 rfl) ?_
    refine m_get24 F hK S dX9_heldByGates_6 ?_
    refine lv_icmp_ge (tgt := 62) hx hb dX9_heldByGates_9 (by decide) (fun c1 => ?_) (fun c1 => ?_)
    · rw [if_pos c1] at h
      cases h
      exact kx _ _ _ _ rfl S (lv_sub hl [1] rfl)
    · rw [if_neg c1] at h
      refine lv_aload_n hx hb dX9_heldByGates_12 rfl (lv_at hl 0 rfl) ?_
      refine m_get18 F hK S dX9_heldByGates_13 ?_
      refine lv_iload_n hx hb dX9_heldByGates_16 rfl (lv_at hl 2 rfl) ?_
      obtain ⟨v2, e3, h⟩ := bd1_inv h
      refine m_iald F hK S e3 dX9_heldByGates_17 ?_
      refine lv_iconst (v := 4) hx hb dX9_heldByGates_18 (by decide) ?_
      refine lv_idiv hx hb dX9_heldByGates_19 (by decide) ?_
      refine lv_istore_n (lv' := [(3, .int (v2 / 4)), (0, .ref (mad E 0)), (1, .int y1), (2, .int y2)]) hx hb dX9_heldByGates_20 rfl hl (by decide) rfl (fun ls hl => ?_)
      refine lv_iload_n hx hb dX9_heldByGates_21 rfl (lv_at hl 2 rfl) ?_
      refine lv_aload_n hx hb dX9_heldByGates_22 rfl (lv_at hl 1 rfl) ?_
      refine lv_iload_n hx hb dX9_heldByGates_23 rfl (lv_at hl 0 rfl) ?_
      refine lv_iconst (v := 0) hx hb dX9_heldByGates_24 (by decide) ?_
      obtain ⟨v5, e4, h⟩ := bd1_inv h
      refine call_m_of hE F hK S e4 hl.1 (Nat.le_of_ble_eq_true rfl) ⟨Nat.le_of_ble_eq_true rfl, Nat.le_of_ble_eq_true rfl⟩ ⟨Nat.zero_le _, Nat.zero_le _⟩ dX9_heldByGates_25 (fun H locs S => ?_)
      refine lv_iconst (v := 5) hx hb dX9_heldByGates_28 (by decide) ?_
      obtain ⟨v12, hB, h⟩ := bd1_inv h
      have hJ54 : ∀ (H : Heap) (locs : List Loc) (ls : Array Slot), gS (mA E) s.heap (mP E g) H locs → lv_has ls 4 [(0, .ref (mad E 0)), (2, .int y2)] → W p l e rm_m_heldByGates s m args below meth c H locs 0 0 Q (F0 m 54 ls [.int v12, .int y1]) := by
        intro H locs ls S hl
        refine lv_iadd hx hb dX9_heldByGates_54 ?_
        refine lv_istore_n (lv' := [(1, .int (y1 + v12)), (0, .ref (mad E 0)), (2, .int y2)]) hx hb dX9_heldByGates_55 rfl hl (by decide) rfl (fun ls hl => ?_)
        refine lv_iinc (v := (y2 + 1)) (lv' := [(2, .int (y2 + 1)), (1, .int (y1 + v12)), (0, .ref (mad E 0))]) hx hb dX9_heldByGates_56 hl (k := 2) rfl rfl (by decide) rfl (fun ls hl => ?_)
        refine lv_goto (tgt := 4) hx hb dX9_heldByGates_59 (by decide) ?_
        exact ih _ _ _ h _ _ _ S (lv_sub hl [2, 1, 0] rfl) kx
      clear h
      have h := hB
      clear hB
      refine lv_icmp_ne (tgt := 53) hx hb dX9_heldByGates_29 (by decide) (fun c6 => ?_) (fun c6 => ?_)
      · rw [if_neg c6] at h
        refine lv_iconst (v := 0) hx hb dX9_heldByGates_53 (by decide) ?_
        cases h
        exact hJ54 _ _ _ S (lv_sub hl [1, 3] rfl)
      · rw [if_pos c6] at h
        refine lv_aload_n hx hb dX9_heldByGates_32 rfl (lv_at hl 1 rfl) ?_
        refine lv_iload_n hx hb dX9_heldByGates_33 rfl (lv_at hl 0 rfl) ?_
        refine lv_iconst (v := 1) hx hb dX9_heldByGates_34 (by decide) ?_
        obtain ⟨v8, e7, h⟩ := bd1_inv h
        refine call_m_of hE F hK S e7 hl.1 (Nat.le_of_ble_eq_true rfl) ⟨Nat.le_of_ble_eq_true rfl, Nat.le_of_ble_eq_true rfl⟩ ⟨Nat.zero_le _, Nat.zero_le _⟩ dX9_heldByGates_35 (fun H locs S => ?_)
        refine lv_aload_n hx hb dX9_heldByGates_38 rfl (lv_at hl 1 rfl) ?_
        refine m_get18 F hK S dX9_heldByGates_39 ?_
        refine lv_iload_n hx hb dX9_heldByGates_42 rfl (lv_at hl 3 rfl) ?_
        obtain ⟨v9, e10, h⟩ := bd1_inv h
        refine m_iald F hK S e10 dX9_heldByGates_43 ?_
        refine lv_iconst (v := 4) hx hb dX9_heldByGates_44 (by decide) ?_
        refine lv_irem hx hb dX9_heldByGates_45 (by decide) ?_
        refine lv_icmp_eq (tgt := 53) hx hb dX9_heldByGates_46 (by decide) (fun c11 => ?_) (fun c11 => ?_)
        · rw [if_pos c11] at h
          refine lv_iconst (v := 0) hx hb dX9_heldByGates_53 (by decide) ?_
          cases h
          exact hJ54 _ _ _ S (lv_sub hl [1, 3] rfl)
        · rw [if_neg c11] at h
          refine lv_iconst (v := 1) hx hb dX9_heldByGates_49 (by decide) ?_
          refine lv_goto (tgt := 54) hx hb dX9_heldByGates_50 (by decide) ?_
          cases h
          exact hJ54 _ _ _ S (lv_sub hl [1, 3] rfl)
set_option maxHeartbeats 4000000 in
set_option maxRecDepth 100000 in
theorem met_m_heldByGates (l : Launch) (E : mEnv) (hE : mInj E) (g : mS)  (r : Int32) (h : fm_heldByGates g = some r) : Met l yX9_heldByGates (ws_ yX9_heldByGates cX9_heldByGates 4 (some .int)) rm_m_heldByGates (va_Pc [.ref (mad E 0)] (gPre (mK E) (mP E g))) (gQi r (mP E g) (mA E)) 0 0 (mA E) := by
  refine g_met (own := RX9) (by decide) rfl (Nat.le_of_ble_eq_true rfl) ?_
  intro p e s m args below meth c ls F hr hlk hK S hl
  have hx := F.1
  have hb := F.2.1
  have hl : lv_has ls 4 [(0, .ref (mad E 0))] := hl
  unfold fm_heldByGates at h
  refine lv_iconst (v := 0) hx hb dX9_heldByGates_0 (by decide) ?_
  refine lv_istore_n (lv' := [(1, .int 0), (0, .ref (mad E 0))]) hx hb dX9_heldByGates_1 rfl hl (by decide) rfl (fun ls hl => ?_)
  refine lv_iconst (v := 0) hx hb dX9_heldByGates_2 (by decide) ?_
  refine lv_istore_n (lv' := [(2, .int 0), (1, .int 0), (0, .ref (mad E 0))]) hx hb dX9_heldByGates_3 rfl hl (by decide) rfl (fun ls hl => ?_)
  obtain ⟨v15, e14, h⟩ := bd1_inv h
  refine loop_m_heldByGates_1 E hE F hr hlk hK _ _ _ _ e14 _ _ _ S (lv_sub hl [2, 1, 0] rfl) (fun v15z H locs ls o S hl => ?_)
  cases o
  refine lv_iload_n hx hb dX9_heldByGates_62 rfl (lv_at hl 0 rfl) ?_
  cases h
  exact g_iret F hr hlk S rfl dX9_heldByGates_63
theorem call_m_heldByGates {p : Program} {l : Launch} {e : Env} {s : State} {m : MethodId} {args : Array Value} {below : List Frame} {meth : Method} {c : Code} {R : Room} {H : Heap} {locs : List Loc} {cells slots pc nL : Nat} {Q : State → Prop} {ls : Array Slot} {rest : List Value} {cc : ByteArray} {E : mEnv} (hE : mInj E) {g : mS} {r : Int32} (F : CallFix p m c cc nL s args lw_all RX9) (hK : mK E s) (S : gS (mA E) s.heap (mP E g) H locs) (h : fm_heldByGates g = some r) (hls : ls.size = nL) (hW : (rest.map fun v => v.category).sum ≤ 8) (hR : rm_m_heldByGates.frames + 1 ≤ R.frames ∧ 8 + (4 + 11) + rm_m_heldByGates.locals ≤ R.locals) (hf : cells ≤ R.cells ∧ slots ≤ R.slots) (hdg : decode cc pc = .ok (.invokevirtual 348, 3))
    (kk : ∀ (H1 : Heap) (locs1 : List Loc), gS (mA E) s.heap (mP E g) H1 locs1 → W p l e R s m args below meth c H1 locs1 cells slots Q (F0 m (pc + 3) ls (.int r :: rest))) : W p l e R s m args below meth c H locs cells slots Q (F0 m pc ls (.ref (mad E 0) :: rest)) :=
  g_ki (g_runV F hK (mKm E) S (met_m_heldByGates l E hE g  r h) (cwV 0 F.2.2.2.2 (lw_V q2261 q2263 qs99 q121 q2264) rfl rfl rfl (by decide +kernel) hR) (m_recv hK S) rfl hls rfl hW hdg hf) S kk
abbrev rm_m_followers : Room := { frames := 3, cells := 0, slots := 0, locals := 69 }
def Lm_followers_1 : Nat → mS → Int32 → Int32 → Int32 → Option (Int32)
  | 0, _, _, _, _ => none
  | n + 1, g, y2, y3, y4 =>
    if y2 ≤ y4 then
      some y3
    else
      bd1 (rdI g 18 y4) fun v5 =>
      bd1 ((
        if v5 = (-1) then
          some 0
        else
          some 1) : Option (Int32)) fun v8 =>
      Lm_followers_1 n g y2 (y3 + v8) (y4 + 1)
def fm_followers (g : mS) (x1 : Int32) : Option (Int32 × mS) :=
  bd2 (fm_tries g x1) fun v2 g3 =>
  bd1 (Lm_followers_1 FUEL g3 v2 0 0) fun v11 =>
  some (v11, g3)
set_option maxHeartbeats 4000000 in
set_option maxRecDepth 100000 in
theorem loop_m_followers_1 {p : Program} {l : Launch} {e : Env} {s : State} {m : MethodId} {args : Array Value} {below : List Frame} {meth : Method} {c : Code} (E : mEnv) (hE : mInj E) (F : CallFix p m c cX9_followers 5 s args lw_all RX9) (hr : meth.sig.returnType = some .int) (hlk : meth.locks = false) (hK : mK E s) {Q : State → Prop} : ∀ (n : Nat) (g : mS) (y2 : Int32) (y3 : Int32) (y4 : Int32) (o : Int32), Lm_followers_1 n g y2 y3 y4 = some o → ∀ (H : Heap) (locs : List Loc) (ls : Array Slot), gS (mA E) s.heap (mP E g) H locs → lv_has ls 5 [(0, .ref (mad E 0)), (2, .int y2), (3, .int y3), (4, .int y4)] → (∀ (w3 : Int32) (H : Heap) (locs : List Loc) (ls : Array Slot), o = w3 → gS (mA E) s.heap (mP E g) H locs → lv_has ls 5 [(3, .int w3)] → W p l e rm_m_followers s m args below meth c H locs 0 0 Q (F0 m 42 ls [])) → W p l e rm_m_followers s m args below meth c H locs 0 0 Q (F0 m 11 ls []) := by
  have hx := F.1
  have hb := F.2.1
  intro n
  induction n with
  | zero =>
    intro g y2 y3 y4 o h
    rw [Lm_followers_1] at h
    cases h
  | succ n ih =>
    intro g y2 y3 y4 o h H locs ls S hl kx
    rw [Lm_followers_1] at h
    refine lv_iload hx hb dX9_followers_11 (lv_at hl 3 rfl) ?_
    refine lv_iload_n hx hb dX9_followers_13 rfl (lv_at hl 1 rfl) ?_
    refine lv_icmp_ge (tgt := 42) hx hb dX9_followers_14 (by decide) (fun c4 => ?_) (fun c4 => ?_)
    · rw [if_pos c4] at h
      cases h
      exact kx _ _ _ _ rfl S (lv_sub hl [2] rfl)
    · rw [if_neg c4] at h
      refine lv_iload_n hx hb dX9_followers_17 rfl (lv_at hl 2 rfl) ?_
      refine lv_aload_n hx hb dX9_followers_18 rfl (lv_at hl 0 rfl) ?_
      refine m_get21 F hK S dX9_followers_19 ?_
      refine lv_iload hx hb dX9_followers_22 (lv_at hl 3 rfl) ?_
      obtain ⟨v5, e6, h⟩ := bd1_inv h
      refine m_iald F hK S e6 dX9_followers_24 ?_
      refine lv_iconst (v := (-1)) hx hb dX9_followers_25 (by decide) ?_
      obtain ⟨v8, hB, h⟩ := bd1_inv h
      have hJ34 : ∀ (H : Heap) (locs : List Loc) (ls : Array Slot), gS (mA E) s.heap (mP E g) H locs → lv_has ls 5 [(0, .ref (mad E 0)), (2, .int y2), (4, .int y4)] → W p l e rm_m_followers s m args below meth c H locs 0 0 Q (F0 m 34 ls [.int v8, .int y3]) := by
        intro H locs ls S hl
        refine lv_iadd hx hb dX9_followers_34 ?_
        refine lv_istore_n (lv' := [(3, .int (y3 + v8)), (0, .ref (mad E 0)), (2, .int y2), (4, .int y4)]) hx hb dX9_followers_35 rfl hl (by decide) rfl (fun ls hl => ?_)
        refine lv_iinc (v := (y4 + 1)) (lv' := [(4, .int (y4 + 1)), (3, .int (y3 + v8)), (0, .ref (mad E 0)), (2, .int y2)]) hx hb dX9_followers_36 hl (k := 3) rfl rfl (by decide) rfl (fun ls hl => ?_)
        refine lv_goto (tgt := 11) hx hb dX9_followers_39 (by decide) ?_
        exact ih _ _ _ _ _ h _ _ _ S (lv_sub hl [2, 3, 1, 0] rfl) kx
      clear h
      have h := hB
      clear hB
      refine lv_icmp_ne (tgt := 33) hx hb dX9_followers_26 (by decide) (fun c7 => ?_) (fun c7 => ?_)
      · rw [if_neg c7] at h
        refine lv_iconst (v := 1) hx hb dX9_followers_33 (by decide) ?_
        cases h
        exact hJ34 _ _ _ S (lv_sub hl [0, 1, 3] rfl)
      · rw [if_pos c7] at h
        refine lv_iconst (v := 0) hx hb dX9_followers_29 (by decide) ?_
        refine lv_goto (tgt := 34) hx hb dX9_followers_30 (by decide) ?_
        cases h
        exact hJ34 _ _ _ S (lv_sub hl [0, 1, 3] rfl)
set_option maxHeartbeats 4000000 in
set_option maxRecDepth 100000 in
theorem met_m_followers (l : Launch) (E : mEnv) (hE : mInj E) (g : mS) (x1 : Int32) (r : Int32) (gZ : mS) (h : fm_followers g x1 = some (r, gZ)) : Met l yX9_followers (ws_ yX9_followers cX9_followers 5 (some .int)) rm_m_followers (va_Pc [.ref (mad E 0), .int x1] (gPre (mK E) (mP E g))) (gQi r (mP E gZ) (mA E)) 0 0 (mA E) := by
  refine g_met (own := RX9) (by decide) rfl (Nat.le_of_ble_eq_true rfl) ?_
  intro p e s m args below meth c ls F hr hlk hK S hl
  have hx := F.1
  have hb := F.2.1
  have hl : lv_has ls 5 [(0, .ref (mad E 0)), (1, .int x1)] := hl
  unfold fm_followers at h
  refine lv_aload_n hx hb dX9_followers_0 rfl (lv_at hl 0 rfl) ?_
  refine lv_iload_n hx hb dX9_followers_1 rfl (lv_at hl 1 rfl) ?_
  obtain ⟨v2, g3, e1, h⟩ := bd2_inv h
  refine call_m_tries hE F hK S e1 hl.1 (Nat.le_of_ble_eq_true rfl) ⟨Nat.le_of_ble_eq_true rfl, Nat.le_of_ble_eq_true rfl⟩ ⟨Nat.zero_le _, Nat.zero_le _⟩ dX9_followers_2 (fun H locs S => ?_)
  refine lv_istore_n (lv' := [(2, .int v2), (0, .ref (mad E 0)), (1, .int x1)]) hx hb dX9_followers_5 rfl hl (by decide) rfl (fun ls hl => ?_)
  refine lv_iconst (v := 0) hx hb dX9_followers_6 (by decide) ?_
  refine lv_istore_n (lv' := [(3, .int 0), (2, .int v2), (0, .ref (mad E 0)), (1, .int x1)]) hx hb dX9_followers_7 rfl hl (by decide) rfl (fun ls hl => ?_)
  refine lv_iconst (v := 0) hx hb dX9_followers_8 (by decide) ?_
  refine lv_istore (lv' := [(4, .int 0), (3, .int 0), (2, .int v2), (0, .ref (mad E 0)), (1, .int x1)]) hx hb dX9_followers_9 hl (by decide) rfl (fun ls hl => ?_)
  obtain ⟨v11, e10, h⟩ := bd1_inv h
  refine loop_m_followers_1 E hE F hr hlk hK _ _ _ _ _ _ e10 _ _ _ S (lv_sub hl [3, 2, 1, 0] rfl) (fun v11z H locs ls o S hl => ?_)
  cases o
  refine lv_iload_n hx hb dX9_followers_42 rfl (lv_at hl 0 rfl) ?_
  cases h
  exact g_iret F hr hlk S rfl dX9_followers_43
theorem call_m_followers {p : Program} {l : Launch} {e : Env} {s : State} {m : MethodId} {args : Array Value} {below : List Frame} {meth : Method} {c : Code} {R : Room} {H : Heap} {locs : List Loc} {cells slots pc nL : Nat} {Q : State → Prop} {ls : Array Slot} {rest : List Value} {cc : ByteArray} {E : mEnv} (hE : mInj E) {g : mS} {x1 : Int32} {r : Int32} {gZ : mS} (F : CallFix p m c cc nL s args lw_all RX9) (hK : mK E s) (S : gS (mA E) s.heap (mP E g) H locs) (h : fm_followers g x1 = some (r, gZ)) (hls : ls.size = nL) (hW : (rest.map fun v => v.category).sum ≤ 8) (hR : rm_m_followers.frames + 1 ≤ R.frames ∧ 8 + (5 + 11) + rm_m_followers.locals ≤ R.locals) (hf : cells ≤ R.cells ∧ slots ≤ R.slots) (hdg : decode cc pc = .ok (.invokevirtual 336, 3))
    (kk : ∀ (H1 : Heap) (locs1 : List Loc), gS (mA E) s.heap (mP E gZ) H1 locs1 → W p l e R s m args below meth c H1 locs1 cells slots Q (F0 m (pc + 3) ls (.int r :: rest))) : W p l e R s m args below meth c H locs cells slots Q (F0 m pc ls (.int x1 :: .ref (mad E 0) :: rest)) :=
  g_ki (g_runV F hK (mKm E) S (met_m_followers l E hE g x1 r gZ h) (cwV 1 F.2.2.2.2 (lw_V q2269 q2271 qs101 q121 q2272) rfl rfl rfl (by decide +kernel) hR) (m_recv hK S) rfl hls rfl hW hdg hf) S kk
abbrev rm_m_mostFollowers : Room := { frames := 4, cells := 0, slots := 0, locals := 93 }
def Lm_mostFollowers_1 : Nat → mS → Int32 → Int32 → Option (Int32 × mS)
  | 0, _, _, _ => none
  | n + 1, g, y1, y2 =>
    if (g 0 24) ≤ y2 then
      some (y1, g)
    else
      bd1 (rdI g 15 y2) fun v2 =>
      bd2 (fm_followers g v2) fun v5 g6 =>
      bd1 ((
        if v5 ≤ y1 then
          some y1
        else
          some v5) : Option (Int32)) fun v8 =>
      Lm_mostFollowers_1 n g6 v8 (y2 + 1)
def fm_mostFollowers (g : mS)  : Option (Int32 × mS) :=
  bd2 (Lm_mostFollowers_1 FUEL g 0 0) fun v11 g12 =>
  some (v11, g12)
set_option maxHeartbeats 4000000 in
set_option maxRecDepth 100000 in
theorem loop_m_mostFollowers_1 {p : Program} {l : Launch} {e : Env} {s : State} {m : MethodId} {args : Array Value} {below : List Frame} {meth : Method} {c : Code} (E : mEnv) (hE : mInj E) (F : CallFix p m c cX9_mostFollowers 4 s args lw_all RX9) (hr : meth.sig.returnType = some .int) (hlk : meth.locks = false) (hK : mK E s) {Q : State → Prop} : ∀ (n : Nat) (g : mS) (y1 : Int32) (y2 : Int32) (o : Int32 × mS), Lm_mostFollowers_1 n g y1 y2 = some o → ∀ (H : Heap) (locs : List Loc) (ls : Array Slot), gS (mA E) s.heap (mP E g) H locs → lv_has ls 4 [(0, .ref (mad E 0)), (1, .int y1), (2, .int y2)] → (∀ (w1 : Int32) (gx : mS) (H : Heap) (locs : List Loc) (ls : Array Slot), o = (w1, gx) → gS (mA E) s.heap (mP E gx) H locs → lv_has ls 4 [(1, .int w1)] → W p l e rm_m_mostFollowers s m args below meth c H locs 0 0 Q (F0 m 40 ls [])) → W p l e rm_m_mostFollowers s m args below meth c H locs 0 0 Q (F0 m 4 ls []) := by
  have hx := F.1
  have hb := F.2.1
  intro n
  induction n with
  | zero =>
    intro g y1 y2 o h
    rw [Lm_mostFollowers_1] at h
    cases h
  | succ n ih =>
    intro g y1 y2 o h H locs ls S hl kx
    rw [Lm_mostFollowers_1] at h
    refine lv_iload_n hx hb dX9_mostFollowers_4 rfl (lv_at hl 2 rfl) ?_
    refine lv_aload_n hx hb dX9_mostFollowers_5 rfl (lv_at hl 0 rfl) ?_
    refine m_get24 F hK S dX9_mostFollowers_6 ?_
    refine lv_icmp_ge (tgt := 40) hx hb dX9_mostFollowers_9 (by decide) (fun c1 => ?_) (fun c1 => ?_)
    · rw [if_pos c1] at h
      cases h
      exact kx _ _ _ _ _ rfl S (lv_sub hl [1] rfl)
    · rw [if_neg c1] at h
      refine lv_aload_n hx hb dX9_mostFollowers_12 rfl (lv_at hl 0 rfl) ?_
      refine lv_aload_n hx hb dX9_mostFollowers_13 rfl (lv_at hl 0 rfl) ?_
      refine m_get18 F hK S dX9_mostFollowers_14 ?_
      refine lv_iload_n hx hb dX9_mostFollowers_17 rfl (lv_at hl 2 rfl) ?_
      obtain ⟨v2, e3, h⟩ := bd1_inv h
      refine m_iald F hK S e3 dX9_mostFollowers_18 ?_
      obtain ⟨v5, g6, e4, h⟩ := bd2_inv h
      refine call_m_followers hE F hK S e4 hl.1 (Nat.le_of_ble_eq_true rfl) ⟨Nat.le_of_ble_eq_true rfl, Nat.le_of_ble_eq_true rfl⟩ ⟨Nat.zero_le _, Nat.zero_le _⟩ dX9_mostFollowers_19 (fun H locs S => ?_)
      refine lv_istore_n (lv' := [(3, .int v5), (0, .ref (mad E 0)), (1, .int y1), (2, .int y2)]) hx hb dX9_mostFollowers_22 rfl hl (by decide) rfl (fun ls hl => ?_)
      refine lv_iload_n hx hb dX9_mostFollowers_23 rfl (lv_at hl 0 rfl) ?_
      refine lv_iload_n hx hb dX9_mostFollowers_24 rfl (lv_at hl 2 rfl) ?_
      obtain ⟨v8, hB, h⟩ := bd1_inv h
      have hJ33 : ∀ (H : Heap) (locs : List Loc) (ls : Array Slot), gS (mA E) s.heap (mP E g6) H locs → lv_has ls 4 [(0, .ref (mad E 0)), (2, .int y2)] → W p l e rm_m_mostFollowers s m args below meth c H locs 0 0 Q (F0 m 33 ls [.int v8]) := by
        intro H locs ls S hl
        refine lv_istore_n (lv' := [(1, .int v8), (0, .ref (mad E 0)), (2, .int y2)]) hx hb dX9_mostFollowers_33 rfl hl (by decide) rfl (fun ls hl => ?_)
        refine lv_iinc (v := (y2 + 1)) (lv' := [(2, .int (y2 + 1)), (1, .int v8), (0, .ref (mad E 0))]) hx hb dX9_mostFollowers_34 hl (k := 2) rfl rfl (by decide) rfl (fun ls hl => ?_)
        refine lv_goto (tgt := 4) hx hb dX9_mostFollowers_37 (by decide) ?_
        exact ih _ _ _ _ h _ _ _ S (lv_sub hl [2, 1, 0] rfl) kx
      clear h
      have h := hB
      clear hB
      refine lv_icmp_le (tgt := 32) hx hb dX9_mostFollowers_25 (by decide) (fun c7 => ?_) (fun c7 => ?_)
      · rw [if_pos c7] at h
        refine lv_iload_n hx hb dX9_mostFollowers_32 rfl (lv_at hl 2 rfl) ?_
        cases h
        exact hJ33 _ _ _ S (lv_sub hl [1, 3] rfl)
      · rw [if_neg c7] at h
        refine lv_iload_n hx hb dX9_mostFollowers_28 rfl (lv_at hl 0 rfl) ?_
        refine lv_goto (tgt := 33) hx hb dX9_mostFollowers_29 (by decide) ?_
        cases h
        exact hJ33 _ _ _ S (lv_sub hl [1, 3] rfl)
set_option maxHeartbeats 4000000 in
set_option maxRecDepth 100000 in
theorem met_m_mostFollowers (l : Launch) (E : mEnv) (hE : mInj E) (g : mS)  (r : Int32) (gZ : mS) (h : fm_mostFollowers g = some (r, gZ)) : Met l yX9_mostFollowers (ws_ yX9_mostFollowers cX9_mostFollowers 4 (some .int)) rm_m_mostFollowers (va_Pc [.ref (mad E 0)] (gPre (mK E) (mP E g))) (gQi r (mP E gZ) (mA E)) 0 0 (mA E) := by
  refine g_met (own := RX9) (by decide) rfl (Nat.le_of_ble_eq_true rfl) ?_
  intro p e s m args below meth c ls F hr hlk hK S hl
  have hx := F.1
  have hb := F.2.1
  have hl : lv_has ls 4 [(0, .ref (mad E 0))] := hl
  unfold fm_mostFollowers at h
  refine lv_iconst (v := 0) hx hb dX9_mostFollowers_0 (by decide) ?_
  refine lv_istore_n (lv' := [(1, .int 0), (0, .ref (mad E 0))]) hx hb dX9_mostFollowers_1 rfl hl (by decide) rfl (fun ls hl => ?_)
  refine lv_iconst (v := 0) hx hb dX9_mostFollowers_2 (by decide) ?_
  refine lv_istore_n (lv' := [(2, .int 0), (1, .int 0), (0, .ref (mad E 0))]) hx hb dX9_mostFollowers_3 rfl hl (by decide) rfl (fun ls hl => ?_)
  obtain ⟨v11, g12, e10, h⟩ := bd2_inv h
  refine loop_m_mostFollowers_1 E hE F hr hlk hK _ _ _ _ _ e10 _ _ _ S (lv_sub hl [2, 1, 0] rfl) (fun v11z g12z H locs ls o S hl => ?_)
  cases o
  refine lv_iload_n hx hb dX9_mostFollowers_40 rfl (lv_at hl 0 rfl) ?_
  cases h
  exact g_iret F hr hlk S rfl dX9_mostFollowers_41
theorem call_m_mostFollowers {p : Program} {l : Launch} {e : Env} {s : State} {m : MethodId} {args : Array Value} {below : List Frame} {meth : Method} {c : Code} {R : Room} {H : Heap} {locs : List Loc} {cells slots pc nL : Nat} {Q : State → Prop} {ls : Array Slot} {rest : List Value} {cc : ByteArray} {E : mEnv} (hE : mInj E) {g : mS} {r : Int32} {gZ : mS} (F : CallFix p m c cc nL s args lw_all RX9) (hK : mK E s) (S : gS (mA E) s.heap (mP E g) H locs) (h : fm_mostFollowers g = some (r, gZ)) (hls : ls.size = nL) (hW : (rest.map fun v => v.category).sum ≤ 8) (hR : rm_m_mostFollowers.frames + 1 ≤ R.frames ∧ 8 + (4 + 11) + rm_m_mostFollowers.locals ≤ R.locals) (hf : cells ≤ R.cells ∧ slots ≤ R.slots) (hdg : decode cc pc = .ok (.invokevirtual 351, 3))
    (kk : ∀ (H1 : Heap) (locs1 : List Loc), gS (mA E) s.heap (mP E gZ) H1 locs1 → W p l e R s m args below meth c H1 locs1 cells slots Q (F0 m (pc + 3) ls (.int r :: rest))) : W p l e R s m args below meth c H locs cells slots Q (F0 m pc ls (.ref (mad E 0) :: rest)) :=
  g_ki (g_runV F hK (mKm E) S (met_m_mostFollowers l E hE g  r gZ h) (cwV 0 F.2.2.2.2 (lw_V q2265 q2267 qs100 q121 q2268) rfl rfl rfl (by decide +kernel) hR) (m_recv hK S) rfl hls rfl hW hdg hf) S kk
abbrev rm_m_ray : Room := { frames := 7, cells := 0, slots := 0, locals := 161 }
def fm_ray (g : mS) (x1 : Int32) : Option (Int32 × mS) :=
  bd1 (wrF g 0 0) fun g1 =>
  bd2 (fm_bad g1 x1 0 7 1) fun v4 g5 =>
  if v4 = 0 then
    bd1 (fm_number_2 g5) fun g8 =>
    if x1 = 0 then
      some ((g8 0 24), g8)
    else
    if x1 = 1 then
      bd2 (fm_ringBeams g8) fun v12 g13 =>
      some (v12, g13)
    else
    if x1 = 2 then
      some ((g8 0 25), g8)
    else
    if x1 = 3 then
      bd2 (fm_hits g8) fun v17 g18 =>
      bd1 (fm_ones g18 v17) fun v20 =>
      some (v20, g18)
    else
    if x1 = 4 then
      bd1 (fm_litCells g8 0) fun v23 =>
      some (v23, g8)
    else
    if x1 = 5 then
      bd1 (fm_litCells g8 1) fun v26 =>
      some (v26, g8)
    else
    if x1 = 6 then
      bd1 (fm_heldByGates g8) fun v29 =>
      some (v29, g8)
    else
      bd2 (fm_mostFollowers g8) fun v31 g32 =>
      some (v31, g32)
  else
    some (0, g5)
set_option maxHeartbeats 4000000 in
set_option maxRecDepth 100000 in
theorem met_m_ray (l : Launch) (E : mEnv) (hE : mInj E) (g : mS) (x1 : Int32) (r : Int32) (gZ : mS) (h : fm_ray g x1 = some (r, gZ)) : Met l yX9_ray (ws_ yX9_ray cX9_ray 2 (some .int)) rm_m_ray (va_Pc [.ref (mad E 0), .int x1] (gPre (mK E) (mP E g))) (gQi r (mP E gZ) (mA E)) 0 0 (mA E) := by
  refine g_met (own := RX9) (by decide) rfl (Nat.le_of_ble_eq_true rfl) ?_
  intro p e s m args below meth c ls F hr hlk hK S hl
  have hx := F.1
  have hb := F.2.1
  have hl : lv_has ls 2 [(0, .ref (mad E 0)), (1, .int x1)] := hl
  unfold fm_ray at h
  refine lv_aload_n hx hb dX9_ray_0 rfl (lv_at hl 0 rfl) ?_
  refine lv_iconst (v := 0) hx hb dX9_ray_1 (by decide) ?_
  obtain ⟨g1, e2, h⟩ := bd1_inv h
  refine m_put0 hE F hK S e2 dX9_ray_2 (fun H locs S => ?_)
  refine lv_aload_n hx hb dX9_ray_5 rfl (lv_at hl 0 rfl) ?_
  refine lv_iload_n hx hb dX9_ray_6 rfl (lv_at hl 1 rfl) ?_
  refine lv_iconst (v := 0) hx hb dX9_ray_7 (by decide) ?_
  refine lv_bipush (v := 7) hx hb dX9_ray_8 (by decide) ?_
  refine lv_iconst (v := 1) hx hb dX9_ray_10 (by decide) ?_
  obtain ⟨v4, g5, e3, h⟩ := bd2_inv h
  refine call_m_bad hE F hK S e3 hl.1 (Nat.le_of_ble_eq_true rfl) ⟨Nat.le_of_ble_eq_true rfl, Nat.le_of_ble_eq_true rfl⟩ ⟨Nat.zero_le _, Nat.zero_le _⟩ dX9_ray_11 (fun H locs S => ?_)
  refine lv_if_eq (tgt := 19) hx hb dX9_ray_14 (by decide) (fun c6 => ?_) (fun c6 => ?_)
  · rw [if_pos c6] at h
    refine lv_aload_n hx hb dX9_ray_19 rfl (lv_at hl 0 rfl) ?_
    obtain ⟨g8, e7, h⟩ := bd1_inv h
    refine call_m_number_2 hE F hK S e7 hl.1 (Nat.le_of_ble_eq_true rfl) ⟨Nat.le_of_ble_eq_true rfl, Nat.le_of_ble_eq_true rfl⟩ ⟨Nat.zero_le _, Nat.zero_le _⟩ dX9_ray_20 (fun H locs S => ?_)
    refine lv_iload_n hx hb dX9_ray_23 rfl (lv_at hl 1 rfl) ?_
    by_cases c9 : x1 = 0
    · rw [if_pos c9] at h
      refine lv_tableIn (tgt := 68) (off := 44) hx hb dX9_ray_24 (by rw [c9]; decide) (by rw [c9]; decide) (by rw [c9]; rfl) (by decide) ?_
      refine lv_aload_n hx hb dX9_ray_68 rfl (lv_at hl 0 rfl) ?_
      refine m_get24 F hK S dX9_ray_69 ?_
      cases h
      exact g_iret F hr hlk S rfl dX9_ray_72
    rw [if_neg c9] at h
    by_cases c10 : x1 = 1
    · rw [if_pos c10] at h
      refine lv_tableIn (tgt := 73) (off := 49) hx hb dX9_ray_24 (by rw [c10]; decide) (by rw [c10]; decide) (by rw [c10]; rfl) (by decide) ?_
      refine lv_aload_n hx hb dX9_ray_73 rfl (lv_at hl 0 rfl) ?_
      obtain ⟨v12, g13, e11, h⟩ := bd2_inv h
      refine call_m_ringBeams hE F hK S e11 hl.1 (Nat.le_of_ble_eq_true rfl) ⟨Nat.le_of_ble_eq_true rfl, Nat.le_of_ble_eq_true rfl⟩ ⟨Nat.zero_le _, Nat.zero_le _⟩ dX9_ray_74 (fun H locs S => ?_)
      cases h
      exact g_iret F hr hlk S rfl dX9_ray_77
    rw [if_neg c10] at h
    by_cases c14 : x1 = 2
    · rw [if_pos c14] at h
      refine lv_tableIn (tgt := 78) (off := 54) hx hb dX9_ray_24 (by rw [c14]; decide) (by rw [c14]; decide) (by rw [c14]; rfl) (by decide) ?_
      refine lv_aload_n hx hb dX9_ray_78 rfl (lv_at hl 0 rfl) ?_
      refine m_get25 F hK S dX9_ray_79 ?_
      cases h
      exact g_iret F hr hlk S rfl dX9_ray_82
    rw [if_neg c14] at h
    by_cases c15 : x1 = 3
    · rw [if_pos c15] at h
      refine lv_tableIn (tgt := 83) (off := 59) hx hb dX9_ray_24 (by rw [c15]; decide) (by rw [c15]; decide) (by rw [c15]; rfl) (by decide) ?_
      refine lv_aload_n hx hb dX9_ray_83 rfl (lv_at hl 0 rfl) ?_
      obtain ⟨v17, g18, e16, h⟩ := bd2_inv h
      refine call_m_hits hE F hK S e16 hl.1 (Nat.le_of_ble_eq_true rfl) ⟨Nat.le_of_ble_eq_true rfl, Nat.le_of_ble_eq_true rfl⟩ ⟨Nat.zero_le _, Nat.zero_le _⟩ dX9_ray_84 (fun H locs S => ?_)
      obtain ⟨v20, e19, h⟩ := bd1_inv h
      refine call_m_ones hE F hK S e19 hl.1 (Nat.le_of_ble_eq_true rfl) ⟨Nat.le_of_ble_eq_true rfl, Nat.le_of_ble_eq_true rfl⟩ ⟨Nat.zero_le _, Nat.zero_le _⟩ dX9_ray_87 (fun H locs S => ?_)
      cases h
      exact g_iret F hr hlk S rfl dX9_ray_90
    rw [if_neg c15] at h
    by_cases c21 : x1 = 4
    · rw [if_pos c21] at h
      refine lv_tableIn (tgt := 91) (off := 67) hx hb dX9_ray_24 (by rw [c21]; decide) (by rw [c21]; decide) (by rw [c21]; rfl) (by decide) ?_
      refine lv_aload_n hx hb dX9_ray_91 rfl (lv_at hl 0 rfl) ?_
      refine lv_iconst (v := 0) hx hb dX9_ray_92 (by decide) ?_
      obtain ⟨v23, e22, h⟩ := bd1_inv h
      refine call_m_litCells hE F hK S e22 hl.1 (Nat.le_of_ble_eq_true rfl) ⟨Nat.le_of_ble_eq_true rfl, Nat.le_of_ble_eq_true rfl⟩ ⟨Nat.zero_le _, Nat.zero_le _⟩ dX9_ray_93 (fun H locs S => ?_)
      cases h
      exact g_iret F hr hlk S rfl dX9_ray_96
    rw [if_neg c21] at h
    by_cases c24 : x1 = 5
    · rw [if_pos c24] at h
      refine lv_tableIn (tgt := 97) (off := 73) hx hb dX9_ray_24 (by rw [c24]; decide) (by rw [c24]; decide) (by rw [c24]; rfl) (by decide) ?_
      refine lv_aload_n hx hb dX9_ray_97 rfl (lv_at hl 0 rfl) ?_
      refine lv_iconst (v := 1) hx hb dX9_ray_98 (by decide) ?_
      obtain ⟨v26, e25, h⟩ := bd1_inv h
      refine call_m_litCells hE F hK S e25 hl.1 (Nat.le_of_ble_eq_true rfl) ⟨Nat.le_of_ble_eq_true rfl, Nat.le_of_ble_eq_true rfl⟩ ⟨Nat.zero_le _, Nat.zero_le _⟩ dX9_ray_99 (fun H locs S => ?_)
      cases h
      exact g_iret F hr hlk S rfl dX9_ray_102
    rw [if_neg c24] at h
    by_cases c27 : x1 = 6
    · rw [if_pos c27] at h
      refine lv_tableIn (tgt := 103) (off := 79) hx hb dX9_ray_24 (by rw [c27]; decide) (by rw [c27]; decide) (by rw [c27]; rfl) (by decide) ?_
      refine lv_aload_n hx hb dX9_ray_103 rfl (lv_at hl 0 rfl) ?_
      obtain ⟨v29, e28, h⟩ := bd1_inv h
      refine call_m_heldByGates hE F hK S e28 hl.1 (Nat.le_of_ble_eq_true rfl) ⟨Nat.le_of_ble_eq_true rfl, Nat.le_of_ble_eq_true rfl⟩ ⟨Nat.zero_le _, Nat.zero_le _⟩ dX9_ray_104 (fun H locs S => ?_)
      cases h
      exact g_iret F hr hlk S rfl dX9_ray_107
    rw [if_neg c27] at h
    refine lv_tableOut (tgt := 108) hx hb dX9_ray_24 (by have t0 := lv_neT (a := 0) c9 (by decide); have t1 := lv_neT (a := 1) c10 (by decide); have t2 := lv_neT (a := 2) c14 (by decide); have t3 := lv_neT (a := 3) c15 (by decide); have t4 := lv_neT (a := 4) c21 (by decide); have t5 := lv_neT (a := 5) c24 (by decide); have t6 := lv_neT (a := 6) c27 (by decide); omega) (by decide) ?_
    refine lv_aload_n hx hb dX9_ray_108 rfl (lv_at hl 0 rfl) ?_
    obtain ⟨v31, g32, e30, h⟩ := bd2_inv h
    refine call_m_mostFollowers hE F hK S e30 hl.1 (Nat.le_of_ble_eq_true rfl) ⟨Nat.le_of_ble_eq_true rfl, Nat.le_of_ble_eq_true rfl⟩ ⟨Nat.zero_le _, Nat.zero_le _⟩ dX9_ray_109 (fun H locs S => ?_)
    cases h
    exact g_iret F hr hlk S rfl dX9_ray_112
  · rw [if_neg c6] at h
    refine lv_iconst (v := 0) hx hb dX9_ray_17 (by decide) ?_
    cases h
    exact g_iret F hr hlk S rfl dX9_ray_18
abbrev rm_m_beam : Room := { frames := 7, cells := 0, slots := 0, locals := 161 }
def fm_beam (g : mS) (x1 : Int32) (x2 : Int32) : Option (Int32 × mS) :=
  bd1 (wrF g 0 0) fun g1 =>
  bd1 (fm_number_2 g1) fun g4 =>
  bd2 (fm_bad g4 x1 0 ((g4 0 24) - 1) 1) fun v6 g7 =>
  if v6 = 0 then
    bd2 (fm_bad g7 x2 0 4 2) fun v10 g11 =>
    if v10 = 0 then
      bd1 (rdI g11 15 x1) fun v13 =>
      if x2 = 0 then
        some ((irm (v13 / 4) 10), g11)
      else
      if x2 = 1 then
        some ((v13 / 40), g11)
      else
      if x2 = 2 then
        some ((irm v13 4), g11)
      else
      if x2 = 3 then
        bd2 (fm_isInRing g11 v13) fun v20 g21 =>
        bd1 ((
          if v20 = 0 then
            some 0
          else
            some 1) : Option (Int32)) fun v23 =>
        some (v23, g21)
      else
        bd2 (fm_followers g11 v13) fun v26 g27 =>
        some (v26, g27)
    else
      some (0, g11)
  else
    some (0, g7)
set_option maxHeartbeats 4000000 in
set_option maxRecDepth 100000 in
theorem met_m_beam (l : Launch) (E : mEnv) (hE : mInj E) (g : mS) (x1 : Int32) (x2 : Int32) (r : Int32) (gZ : mS) (h : fm_beam g x1 x2 = some (r, gZ)) : Met l yX9_beam (ws_ yX9_beam cX9_beam 4 (some .int)) rm_m_beam (va_Pc [.ref (mad E 0), .int x1, .int x2] (gPre (mK E) (mP E g))) (gQi r (mP E gZ) (mA E)) 0 0 (mA E) := by
  refine g_met (own := RX9) (by decide) rfl (Nat.le_of_ble_eq_true rfl) ?_
  intro p e s m args below meth c ls F hr hlk hK S hl
  have hx := F.1
  have hb := F.2.1
  have hl : lv_has ls 4 [(0, .ref (mad E 0)), (1, .int x1), (2, .int x2)] := hl
  unfold fm_beam at h
  refine lv_aload_n hx hb dX9_beam_0 rfl (lv_at hl 0 rfl) ?_
  refine lv_iconst (v := 0) hx hb dX9_beam_1 (by decide) ?_
  obtain ⟨g1, e2, h⟩ := bd1_inv h
  refine m_put0 hE F hK S e2 dX9_beam_2 (fun H locs S => ?_)
  refine lv_aload_n hx hb dX9_beam_5 rfl (lv_at hl 0 rfl) ?_
  obtain ⟨g4, e3, h⟩ := bd1_inv h
  refine call_m_number_2 hE F hK S e3 hl.1 (Nat.le_of_ble_eq_true rfl) ⟨Nat.le_of_ble_eq_true rfl, Nat.le_of_ble_eq_true rfl⟩ ⟨Nat.zero_le _, Nat.zero_le _⟩ dX9_beam_6 (fun H locs S => ?_)
  refine lv_aload_n hx hb dX9_beam_9 rfl (lv_at hl 0 rfl) ?_
  refine lv_iload_n hx hb dX9_beam_10 rfl (lv_at hl 1 rfl) ?_
  refine lv_iconst (v := 0) hx hb dX9_beam_11 (by decide) ?_
  refine lv_aload_n hx hb dX9_beam_12 rfl (lv_at hl 0 rfl) ?_
  refine m_get24 F hK S dX9_beam_13 ?_
  refine lv_iconst (v := 1) hx hb dX9_beam_16 (by decide) ?_
  refine lv_isub hx hb dX9_beam_17 ?_
  refine lv_iconst (v := 1) hx hb dX9_beam_18 (by decide) ?_
  obtain ⟨v6, g7, e5, h⟩ := bd2_inv h
  refine call_m_bad hE F hK S e5 hl.1 (Nat.le_of_ble_eq_true rfl) ⟨Nat.le_of_ble_eq_true rfl, Nat.le_of_ble_eq_true rfl⟩ ⟨Nat.zero_le _, Nat.zero_le _⟩ dX9_beam_19 (fun H locs S => ?_)
  refine lv_if_ne (tgt := 36) hx hb dX9_beam_22 (by decide) (fun c8 => ?_) (fun c8 => ?_)
  · rw [if_neg c8] at h
    refine lv_iconst (v := 0) hx hb dX9_beam_36 (by decide) ?_
    cases h
    exact g_iret F hr hlk S rfl dX9_beam_37
  · rw [if_pos c8] at h
    refine lv_aload_n hx hb dX9_beam_25 rfl (lv_at hl 0 rfl) ?_
    refine lv_iload_n hx hb dX9_beam_26 rfl (lv_at hl 2 rfl) ?_
    refine lv_iconst (v := 0) hx hb dX9_beam_27 (by decide) ?_
    refine lv_iconst (v := 4) hx hb dX9_beam_28 (by decide) ?_
    refine lv_iconst (v := 2) hx hb dX9_beam_29 (by decide) ?_
    obtain ⟨v10, g11, e9, h⟩ := bd2_inv h
    refine call_m_bad hE F hK S e9 hl.1 (Nat.le_of_ble_eq_true rfl) ⟨Nat.le_of_ble_eq_true rfl, Nat.le_of_ble_eq_true rfl⟩ ⟨Nat.zero_le _, Nat.zero_le _⟩ dX9_beam_30 (fun H locs S => ?_)
    refine lv_if_eq (tgt := 38) hx hb dX9_beam_33 (by decide) (fun c12 => ?_) (fun c12 => ?_)
    · rw [if_pos c12] at h
      refine lv_aload_n hx hb dX9_beam_38 rfl (lv_at hl 0 rfl) ?_
      refine m_get18 F hK S dX9_beam_39 ?_
      refine lv_iload_n hx hb dX9_beam_42 rfl (lv_at hl 1 rfl) ?_
      obtain ⟨v13, e14, h⟩ := bd1_inv h
      refine m_iald F hK S e14 dX9_beam_43 ?_
      refine lv_istore_n (lv' := [(3, .int v13), (0, .ref (mad E 0)), (1, .int x1), (2, .int x2)]) hx hb dX9_beam_44 rfl hl (by decide) rfl (fun ls hl => ?_)
      refine lv_iload_n hx hb dX9_beam_45 rfl (lv_at hl 3 rfl) ?_
      by_cases c15 : x2 = 0
      · rw [if_pos c15] at h
        refine lv_tableIn (tgt := 76) (off := 30) hx hb dX9_beam_46 (by rw [c15]; decide) (by rw [c15]; decide) (by rw [c15]; rfl) (by decide) ?_
        refine lv_iload_n hx hb dX9_beam_76 rfl (lv_at hl 0 rfl) ?_
        refine lv_iconst (v := 4) hx hb dX9_beam_77 (by decide) ?_
        refine lv_idiv hx hb dX9_beam_78 (by decide) ?_
        refine lv_bipush (v := 10) hx hb dX9_beam_79 (by decide) ?_
        refine lv_irem hx hb dX9_beam_81 (by decide) ?_
        cases h
        exact g_iret F hr hlk S rfl dX9_beam_82
      rw [if_neg c15] at h
      by_cases c16 : x2 = 1
      · rw [if_pos c16] at h
        refine lv_tableIn (tgt := 83) (off := 37) hx hb dX9_beam_46 (by rw [c16]; decide) (by rw [c16]; decide) (by rw [c16]; rfl) (by decide) ?_
        refine lv_iload_n hx hb dX9_beam_83 rfl (lv_at hl 0 rfl) ?_
        refine lv_bipush (v := 40) hx hb dX9_beam_84 (by decide) ?_
        refine lv_idiv hx hb dX9_beam_86 (by decide) ?_
        cases h
        exact g_iret F hr hlk S rfl dX9_beam_87
      rw [if_neg c16] at h
      by_cases c17 : x2 = 2
      · rw [if_pos c17] at h
        refine lv_tableIn (tgt := 88) (off := 42) hx hb dX9_beam_46 (by rw [c17]; decide) (by rw [c17]; decide) (by rw [c17]; rfl) (by decide) ?_
        refine lv_iload_n hx hb dX9_beam_88 rfl (lv_at hl 0 rfl) ?_
        refine lv_iconst (v := 4) hx hb dX9_beam_89 (by decide) ?_
        refine lv_irem hx hb dX9_beam_90 (by decide) ?_
        cases h
        exact g_iret F hr hlk S rfl dX9_beam_91
      rw [if_neg c17] at h
      by_cases c18 : x2 = 3
      · rw [if_pos c18] at h
        refine lv_tableIn (tgt := 92) (off := 46) hx hb dX9_beam_46 (by rw [c18]; decide) (by rw [c18]; decide) (by rw [c18]; rfl) (by decide) ?_
        refine lv_aload_n hx hb dX9_beam_92 rfl (lv_at hl 1 rfl) ?_
        refine lv_iload_n hx hb dX9_beam_93 rfl (lv_at hl 0 rfl) ?_
        obtain ⟨v20, g21, e19, h⟩ := bd2_inv h
        refine call_m_isInRing hE F hK S e19 hl.1 (Nat.le_of_ble_eq_true rfl) ⟨Nat.le_of_ble_eq_true rfl, Nat.le_of_ble_eq_true rfl⟩ ⟨Nat.zero_le _, Nat.zero_le _⟩ dX9_beam_94 (fun H locs S => ?_)
        obtain ⟨v23, hB, h⟩ := bd1_inv h
        have hJ105 : ∀ (H : Heap) (locs : List Loc) (ls : Array Slot), gS (mA E) s.heap (mP E g21) H locs → lv_has ls 4 [] → W p l e rm_m_beam s m args below meth c H locs 0 0 (MQ below (gQi r (mP E gZ) (mA E)) args s 0 0 (mA E)) (F0 m 105 ls [.int v23]) := by
          intro H locs ls S hl
          cases h
          exact g_iret F hr hlk S rfl dX9_beam_105
        clear h
        have h := hB
        clear hB
        refine lv_if_eq (tgt := 104) hx hb dX9_beam_97 (by decide) (fun c22 => ?_) (fun c22 => ?_)
        · rw [if_pos c22] at h
          refine lv_iconst (v := 0) hx hb dX9_beam_104 (by decide) ?_
          cases h
          exact hJ105 _ _ _ S (lv_sub hl [] rfl)
        · rw [if_neg c22] at h
          refine lv_iconst (v := 1) hx hb dX9_beam_100 (by decide) ?_
          refine lv_goto (tgt := 105) hx hb dX9_beam_101 (by decide) ?_
          cases h
          exact hJ105 _ _ _ S (lv_sub hl [] rfl)
      rw [if_neg c18] at h
      refine lv_tableOut (tgt := 106) hx hb dX9_beam_46 (by have t0 := lv_neT (a := 0) c15 (by decide); have t1 := lv_neT (a := 1) c16 (by decide); have t2 := lv_neT (a := 2) c17 (by decide); have t3 := lv_neT (a := 3) c18 (by decide); omega) (by decide) ?_
      refine lv_aload_n hx hb dX9_beam_106 rfl (lv_at hl 1 rfl) ?_
      refine lv_iload_n hx hb dX9_beam_107 rfl (lv_at hl 0 rfl) ?_
      obtain ⟨v26, g27, e25, h⟩ := bd2_inv h
      refine call_m_followers hE F hK S e25 hl.1 (Nat.le_of_ble_eq_true rfl) ⟨Nat.le_of_ble_eq_true rfl, Nat.le_of_ble_eq_true rfl⟩ ⟨Nat.zero_le _, Nat.zero_le _⟩ dX9_beam_108 (fun H locs S => ?_)
      cases h
      exact g_iret F hr hlk S rfl dX9_beam_111
    · rw [if_neg c12] at h
      refine lv_iconst (v := 0) hx hb dX9_beam_36 (by decide) ?_
      cases h
      exact g_iret F hr hlk S rfl dX9_beam_37
abbrev rm_m_leastSteps : Room := { frames := 0, cells := 0, slots := 0, locals := 0 }
def Lm_leastSteps_1 : Nat → mS → Int32 → Int32 → Int32 → Option (Int32)
  | 0, _, _, _, _ => none
  | n + 1, g, y1, y2, y3 =>
    if (g 0 24) ≤ y3 then
      some y2
    else
      bd1 (rdI g 15 y3) fun v2 =>
      bd1 ((
        if (v2 / 4) = y1 then
          if y2 = (-1) then
            bd1 (rdI g 16 y3) fun v6 =>
            some v6
          else
            bd1 (rdI g 16 y3) fun v8 =>
            if y2 ≤ v8 then
              some y2
            else
              bd1 (rdI g 16 y3) fun v11 =>
              some v11
        else
          some y2) : Option (Int32)) fun v13 =>
      Lm_leastSteps_1 n g y1 v13 (y3 + 1)
def fm_leastSteps (g : mS) (x1 : Int32) : Option (Int32) :=
  bd1 (Lm_leastSteps_1 FUEL g x1 (-1) 0) fun v16 =>
  some v16
set_option maxHeartbeats 4000000 in
set_option maxRecDepth 100000 in
theorem loop_m_leastSteps_1 {p : Program} {l : Launch} {e : Env} {s : State} {m : MethodId} {args : Array Value} {below : List Frame} {meth : Method} {c : Code} (E : mEnv) (hE : mInj E) (F : CallFix p m c cX9_leastSteps 4 s args lw_all RX9) (hr : meth.sig.returnType = some .int) (hlk : meth.locks = false) (hK : mK E s) {Q : State → Prop} {g : mS} : ∀ (n : Nat) (y1 : Int32) (y2 : Int32) (y3 : Int32) (o : Int32), Lm_leastSteps_1 n g y1 y2 y3 = some o → ∀ (H : Heap) (locs : List Loc) (ls : Array Slot), gS (mA E) s.heap (mP E g) H locs → lv_has ls 4 [(0, .ref (mad E 0)), (1, .int y1), (2, .int y2), (3, .int y3)] → (∀ (w2 : Int32) (H : Heap) (locs : List Loc) (ls : Array Slot), o = w2 → gS (mA E) s.heap (mP E g) H locs → lv_has ls 4 [(2, .int w2)] → W p l e rm_m_leastSteps s m args below meth c H locs 0 0 Q (F0 m 52 ls [])) → W p l e rm_m_leastSteps s m args below meth c H locs 0 0 Q (F0 m 4 ls []) := by
  have hx := F.1
  have hb := F.2.1
  intro n
  induction n with
  | zero =>
    intro y1 y2 y3 o h
    rw [Lm_leastSteps_1] at h
    cases h
  | succ n ih =>
    intro y1 y2 y3 o h H locs ls S hl kx
    rw [Lm_leastSteps_1] at h
    refine lv_iload_n hx hb dX9_leastSteps_4 rfl (lv_at hl 3 rfl) ?_
    refine lv_aload_n hx hb dX9_leastSteps_5 rfl (lv_at hl 0 rfl) ?_
    refine m_get24 F hK S dX9_leastSteps_6 ?_
    refine lv_icmp_ge (tgt := 52) hx hb dX9_leastSteps_9 (by decide) (fun c1 => ?_) (fun c1 => ?_)
    · rw [if_pos c1] at h
      cases h
      exact kx _ _ _ _ rfl S (lv_sub hl [2] rfl)
    · rw [if_neg c1] at h
      refine lv_aload_n hx hb dX9_leastSteps_12 rfl (lv_at hl 0 rfl) ?_
      refine m_get18 F hK S dX9_leastSteps_13 ?_
      refine lv_iload_n hx hb dX9_leastSteps_16 rfl (lv_at hl 3 rfl) ?_
      obtain ⟨v2, e3, h⟩ := bd1_inv h
      refine m_iald F hK S e3 dX9_leastSteps_17 ?_
      refine lv_iconst (v := 4) hx hb dX9_leastSteps_18 (by decide) ?_
      refine lv_idiv hx hb dX9_leastSteps_19 (by decide) ?_
      refine lv_iload_n hx hb dX9_leastSteps_20 rfl (lv_at hl 1 rfl) ?_
      obtain ⟨v13, hB, h⟩ := bd1_inv h
      have hJ46 : ∀ (H : Heap) (locs : List Loc) (ls : Array Slot), gS (mA E) s.heap (mP E g) H locs → lv_has ls 4 [(0, .ref (mad E 0)), (1, .int y1), (2, .int v13), (3, .int y3)] → W p l e rm_m_leastSteps s m args below meth c H locs 0 0 Q (F0 m 46 ls []) := by
        intro H locs ls S hl
        refine lv_iinc (v := (y3 + 1)) (lv' := [(3, .int (y3 + 1)), (0, .ref (mad E 0)), (1, .int y1), (2, .int v13)]) hx hb dX9_leastSteps_46 hl (k := 3) rfl rfl (by decide) rfl (fun ls hl => ?_)
        refine lv_goto (tgt := 4) hx hb dX9_leastSteps_49 (by decide) ?_
        exact ih _ _ _ _ h _ _ _ S (lv_sub hl [1, 2, 3, 0] rfl) kx
      clear h
      have h := hB
      clear hB
      refine lv_icmp_ne (tgt := 46) hx hb dX9_leastSteps_21 (by decide) (fun c4 => ?_) (fun c4 => ?_)
      · rw [if_neg c4] at h
        cases h
        exact hJ46 _ _ _ S (lv_sub hl [0, 1, 2, 3] rfl)
      · rw [if_pos c4] at h
        refine lv_iload_n hx hb dX9_leastSteps_24 rfl (lv_at hl 2 rfl) ?_
        refine lv_iconst (v := (-1)) hx hb dX9_leastSteps_25 (by decide) ?_
        refine lv_icmp_eq (tgt := 39) hx hb dX9_leastSteps_26 (by decide) (fun c5 => ?_) (fun c5 => ?_)
        · rw [if_pos c5] at h
          refine lv_aload_n hx hb dX9_leastSteps_39 rfl (lv_at hl 0 rfl) ?_
          refine m_get19 F hK S dX9_leastSteps_40 ?_
          refine lv_iload_n hx hb dX9_leastSteps_43 rfl (lv_at hl 3 rfl) ?_
          obtain ⟨v6, e7, h⟩ := bd1_inv h
          refine m_iald F hK S e7 dX9_leastSteps_44 ?_
          refine lv_istore_n (lv' := [(2, .int v6), (0, .ref (mad E 0)), (1, .int y1), (3, .int y3)]) hx hb dX9_leastSteps_45 rfl hl (by decide) rfl (fun ls hl => ?_)
          cases h
          exact hJ46 _ _ _ S (lv_sub hl [1, 2, 0, 3] rfl)
        · rw [if_neg c5] at h
          refine lv_aload_n hx hb dX9_leastSteps_29 rfl (lv_at hl 0 rfl) ?_
          refine m_get19 F hK S dX9_leastSteps_30 ?_
          refine lv_iload_n hx hb dX9_leastSteps_33 rfl (lv_at hl 3 rfl) ?_
          obtain ⟨v8, e9, h⟩ := bd1_inv h
          refine m_iald F hK S e9 dX9_leastSteps_34 ?_
          refine lv_iload_n hx hb dX9_leastSteps_35 rfl (lv_at hl 2 rfl) ?_
          refine lv_icmp_ge (tgt := 46) hx hb dX9_leastSteps_36 (by decide) (fun c10 => ?_) (fun c10 => ?_)
          · rw [if_pos c10] at h
            cases h
            exact hJ46 _ _ _ S (lv_sub hl [0, 1, 2, 3] rfl)
          · rw [if_neg c10] at h
            refine lv_aload_n hx hb dX9_leastSteps_39 rfl (lv_at hl 0 rfl) ?_
            refine m_get19 F hK S dX9_leastSteps_40 ?_
            refine lv_iload_n hx hb dX9_leastSteps_43 rfl (lv_at hl 3 rfl) ?_
            obtain ⟨v11, e12, h⟩ := bd1_inv h
            refine m_iald F hK S e12 dX9_leastSteps_44 ?_
            refine lv_istore_n (lv' := [(2, .int v11), (0, .ref (mad E 0)), (1, .int y1), (3, .int y3)]) hx hb dX9_leastSteps_45 rfl hl (by decide) rfl (fun ls hl => ?_)
            cases h
            exact hJ46 _ _ _ S (lv_sub hl [1, 2, 0, 3] rfl)
set_option maxHeartbeats 4000000 in
set_option maxRecDepth 100000 in
theorem met_m_leastSteps (l : Launch) (E : mEnv) (hE : mInj E) (g : mS) (x1 : Int32) (r : Int32) (h : fm_leastSteps g x1 = some r) : Met l yX9_leastSteps (ws_ yX9_leastSteps cX9_leastSteps 4 (some .int)) rm_m_leastSteps (va_Pc [.ref (mad E 0), .int x1] (gPre (mK E) (mP E g))) (gQi r (mP E g) (mA E)) 0 0 (mA E) := by
  refine g_met (own := RX9) (by decide) rfl (Nat.le_of_ble_eq_true rfl) ?_
  intro p e s m args below meth c ls F hr hlk hK S hl
  have hx := F.1
  have hb := F.2.1
  have hl : lv_has ls 4 [(0, .ref (mad E 0)), (1, .int x1)] := hl
  unfold fm_leastSteps at h
  refine lv_iconst (v := (-1)) hx hb dX9_leastSteps_0 (by decide) ?_
  refine lv_istore_n (lv' := [(2, .int (-1)), (0, .ref (mad E 0)), (1, .int x1)]) hx hb dX9_leastSteps_1 rfl hl (by decide) rfl (fun ls hl => ?_)
  refine lv_iconst (v := 0) hx hb dX9_leastSteps_2 (by decide) ?_
  refine lv_istore_n (lv' := [(3, .int 0), (2, .int (-1)), (0, .ref (mad E 0)), (1, .int x1)]) hx hb dX9_leastSteps_3 rfl hl (by decide) rfl (fun ls hl => ?_)
  obtain ⟨v16, e15, h⟩ := bd1_inv h
  refine loop_m_leastSteps_1 E hE F hr hlk hK _ _ _ _ _ e15 _ _ _ S (lv_sub hl [2, 3, 1, 0] rfl) (fun v16z H locs ls o S hl => ?_)
  cases o
  refine lv_iload_n hx hb dX9_leastSteps_52 rfl (lv_at hl 0 rfl) ?_
  cases h
  exact g_iret F hr hlk S rfl dX9_leastSteps_53
theorem call_m_leastSteps {p : Program} {l : Launch} {e : Env} {s : State} {m : MethodId} {args : Array Value} {below : List Frame} {meth : Method} {c : Code} {R : Room} {H : Heap} {locs : List Loc} {cells slots pc nL : Nat} {Q : State → Prop} {ls : Array Slot} {rest : List Value} {cc : ByteArray} {E : mEnv} (hE : mInj E) {g : mS} {x1 : Int32} {r : Int32} (F : CallFix p m c cc nL s args lw_all RX9) (hK : mK E s) (S : gS (mA E) s.heap (mP E g) H locs) (h : fm_leastSteps g x1 = some r) (hls : ls.size = nL) (hW : (rest.map fun v => v.category).sum ≤ 8) (hR : rm_m_leastSteps.frames + 1 ≤ R.frames ∧ 8 + (4 + 11) + rm_m_leastSteps.locals ≤ R.locals) (hf : cells ≤ R.cells ∧ slots ≤ R.slots) (hdg : decode cc pc = .ok (.invokevirtual 354, 3))
    (kk : ∀ (H1 : Heap) (locs1 : List Loc), gS (mA E) s.heap (mP E g) H1 locs1 → W p l e R s m args below meth c H1 locs1 cells slots Q (F0 m (pc + 3) ls (.int r :: rest))) : W p l e R s m args below meth c H locs cells slots Q (F0 m pc ls (.int x1 :: .ref (mad E 0) :: rest)) :=
  g_ki (g_runV F hK (mKm E) S (met_m_leastSteps l E hE g x1 r h) (cwV 1 F.2.2.2.2 (lw_V q2281 q2283 qs102 q121 q2284) rfl rfl rfl (by decide +kernel) hR) (m_recv hK S) rfl hls rfl hW hdg hf) S kk
abbrev rm_m_stepsTo : Room := { frames := 7, cells := 0, slots := 0, locals := 161 }
def fm_stepsTo (g : mS) (x1 : Int32) : Option (Int32 × mS) :=
  bd1 (wrF g 0 0) fun g1 =>
  bd2 (fm_noDoor g1 x1) fun v4 g5 =>
  if v4 = 0 then
    bd1 (fm_number_2 g5) fun g8 =>
    bd1 (fm_cellOf g8 x1 4) fun v10 =>
    bd1 (fm_leastSteps g8 v10) fun v12 =>
    some (v12, g8)
  else
    some (0, g5)
set_option maxHeartbeats 4000000 in
set_option maxRecDepth 100000 in
theorem met_m_stepsTo (l : Launch) (E : mEnv) (hE : mInj E) (g : mS) (x1 : Int32) (r : Int32) (gZ : mS) (h : fm_stepsTo g x1 = some (r, gZ)) : Met l yX9_stepsTo (ws_ yX9_stepsTo cX9_stepsTo 2 (some .int)) rm_m_stepsTo (va_Pc [.ref (mad E 0), .int x1] (gPre (mK E) (mP E g))) (gQi r (mP E gZ) (mA E)) 0 0 (mA E) := by
  refine g_met (own := RX9) (by decide) rfl (Nat.le_of_ble_eq_true rfl) ?_
  intro p e s m args below meth c ls F hr hlk hK S hl
  have hx := F.1
  have hb := F.2.1
  have hl : lv_has ls 2 [(0, .ref (mad E 0)), (1, .int x1)] := hl
  unfold fm_stepsTo at h
  refine lv_aload_n hx hb dX9_stepsTo_0 rfl (lv_at hl 0 rfl) ?_
  refine lv_iconst (v := 0) hx hb dX9_stepsTo_1 (by decide) ?_
  obtain ⟨g1, e2, h⟩ := bd1_inv h
  refine m_put0 hE F hK S e2 dX9_stepsTo_2 (fun H locs S => ?_)
  refine lv_aload_n hx hb dX9_stepsTo_5 rfl (lv_at hl 0 rfl) ?_
  refine lv_iload_n hx hb dX9_stepsTo_6 rfl (lv_at hl 1 rfl) ?_
  obtain ⟨v4, g5, e3, h⟩ := bd2_inv h
  refine call_m_noDoor hE F hK S e3 hl.1 (Nat.le_of_ble_eq_true rfl) ⟨Nat.le_of_ble_eq_true rfl, Nat.le_of_ble_eq_true rfl⟩ ⟨Nat.zero_le _, Nat.zero_le _⟩ dX9_stepsTo_7 (fun H locs S => ?_)
  refine lv_if_eq (tgt := 15) hx hb dX9_stepsTo_10 (by decide) (fun c6 => ?_) (fun c6 => ?_)
  · rw [if_pos c6] at h
    refine lv_aload_n hx hb dX9_stepsTo_15 rfl (lv_at hl 0 rfl) ?_
    obtain ⟨g8, e7, h⟩ := bd1_inv h
    refine call_m_number_2 hE F hK S e7 hl.1 (Nat.le_of_ble_eq_true rfl) ⟨Nat.le_of_ble_eq_true rfl, Nat.le_of_ble_eq_true rfl⟩ ⟨Nat.zero_le _, Nat.zero_le _⟩ dX9_stepsTo_16 (fun H locs S => ?_)
    refine lv_aload_n hx hb dX9_stepsTo_19 rfl (lv_at hl 0 rfl) ?_
    refine lv_aload_n hx hb dX9_stepsTo_20 rfl (lv_at hl 0 rfl) ?_
    refine lv_iload_n hx hb dX9_stepsTo_21 rfl (lv_at hl 1 rfl) ?_
    refine lv_iconst (v := 4) hx hb dX9_stepsTo_22 (by decide) ?_
    obtain ⟨v10, e9, h⟩ := bd1_inv h
    refine call_m_cellOf hE F hK S e9 hl.1 (Nat.le_of_ble_eq_true rfl) ⟨Nat.le_of_ble_eq_true rfl, Nat.le_of_ble_eq_true rfl⟩ ⟨Nat.zero_le _, Nat.zero_le _⟩ dX9_stepsTo_23 (fun H locs S => ?_)
    obtain ⟨v12, e11, h⟩ := bd1_inv h
    refine call_m_leastSteps hE F hK S e11 hl.1 (Nat.le_of_ble_eq_true rfl) ⟨Nat.le_of_ble_eq_true rfl, Nat.le_of_ble_eq_true rfl⟩ ⟨Nat.zero_le _, Nat.zero_le _⟩ dX9_stepsTo_26 (fun H locs S => ?_)
    cases h
    exact g_iret F hr hlk S rfl dX9_stepsTo_29
  · rw [if_neg c6] at h
    refine lv_iconst (v := 0) hx hb dX9_stepsTo_13 (by decide) ?_
    cases h
    exact g_iret F hr hlk S rfl dX9_stepsTo_14
abbrev rm_m_whyNot : Room := { frames := 8, cells := 0, slots := 0, locals := 172 }
def fm_whyNot (g : mS) (x1 : Int32) (x2 : Int32) (x3 : Int32) : Option (Int32 × mS) :=
  bd1 (wrF g 0 0) fun g1 =>
  bd2 (fm_noCell g1 x1 x2) fun v4 g5 =>
  if v4 = 0 then
    bd2 (fm_bad g5 x3 0 1 2) fun v8 g9 =>
    if v8 = 0 then
      bd1 (fm_cellAt g9 x1 x2) fun v12 =>
      bd1 (fm_noTurn g9 v12) fun v14 =>
      if x3 = 0 then
        some (v14, g9)
      else
        if v14 = 6 then
          bd1 (fm_winner g9) fun v18 =>
          some (v18, g9)
        else
        if v14 = 7 then
          bd1 (fm_of g9 v12 0) fun v21 =>
          some (v21, g9)
        else
        if v14 = 8 then
          bd1 (fm_of g9 v12 2) fun v24 =>
          some (v24, g9)
        else
        if v14 = 9 then
          bd1 (fm_of g9 v12 3) fun v27 =>
          some (v27, g9)
        else
          some ((-1), g9)
    else
      some (0, g9)
  else
    some (0, g5)
set_option maxHeartbeats 4000000 in
set_option maxRecDepth 100000 in
theorem met_m_whyNot (l : Launch) (E : mEnv) (hE : mInj E) (g : mS) (x1 : Int32) (x2 : Int32) (x3 : Int32) (r : Int32) (gZ : mS) (h : fm_whyNot g x1 x2 x3 = some (r, gZ)) : Met l yX9_whyNot (ws_ yX9_whyNot cX9_whyNot 6 (some .int)) rm_m_whyNot (va_Pc [.ref (mad E 0), .int x1, .int x2, .int x3] (gPre (mK E) (mP E g))) (gQi r (mP E gZ) (mA E)) 0 0 (mA E) := by
  refine g_met (own := RX9) (by decide) rfl (Nat.le_of_ble_eq_true rfl) ?_
  intro p e s m args below meth c ls F hr hlk hK S hl
  have hx := F.1
  have hb := F.2.1
  have hl : lv_has ls 6 [(0, .ref (mad E 0)), (1, .int x1), (2, .int x2), (3, .int x3)] := hl
  unfold fm_whyNot at h
  refine lv_aload_n hx hb dX9_whyNot_0 rfl (lv_at hl 0 rfl) ?_
  refine lv_iconst (v := 0) hx hb dX9_whyNot_1 (by decide) ?_
  obtain ⟨g1, e2, h⟩ := bd1_inv h
  refine m_put0 hE F hK S e2 dX9_whyNot_2 (fun H locs S => ?_)
  refine lv_aload_n hx hb dX9_whyNot_5 rfl (lv_at hl 0 rfl) ?_
  refine lv_iload_n hx hb dX9_whyNot_6 rfl (lv_at hl 1 rfl) ?_
  refine lv_iload_n hx hb dX9_whyNot_7 rfl (lv_at hl 2 rfl) ?_
  obtain ⟨v4, g5, e3, h⟩ := bd2_inv h
  refine call_m_noCell hE F hK S e3 hl.1 (Nat.le_of_ble_eq_true rfl) ⟨Nat.le_of_ble_eq_true rfl, Nat.le_of_ble_eq_true rfl⟩ ⟨Nat.zero_le _, Nat.zero_le _⟩ dX9_whyNot_8 (fun H locs S => ?_)
  refine lv_if_ne (tgt := 25) hx hb dX9_whyNot_11 (by decide) (fun c6 => ?_) (fun c6 => ?_)
  · rw [if_neg c6] at h
    refine lv_iconst (v := 0) hx hb dX9_whyNot_25 (by decide) ?_
    cases h
    exact g_iret F hr hlk S rfl dX9_whyNot_26
  · rw [if_pos c6] at h
    refine lv_aload_n hx hb dX9_whyNot_14 rfl (lv_at hl 0 rfl) ?_
    refine lv_iload_n hx hb dX9_whyNot_15 rfl (lv_at hl 3 rfl) ?_
    refine lv_iconst (v := 0) hx hb dX9_whyNot_16 (by decide) ?_
    refine lv_iconst (v := 1) hx hb dX9_whyNot_17 (by decide) ?_
    refine lv_iconst (v := 2) hx hb dX9_whyNot_18 (by decide) ?_
    obtain ⟨v8, g9, e7, h⟩ := bd2_inv h
    refine call_m_bad hE F hK S e7 hl.1 (Nat.le_of_ble_eq_true rfl) ⟨Nat.le_of_ble_eq_true rfl, Nat.le_of_ble_eq_true rfl⟩ ⟨Nat.zero_le _, Nat.zero_le _⟩ dX9_whyNot_19 (fun H locs S => ?_)
    refine lv_if_eq (tgt := 27) hx hb dX9_whyNot_22 (by decide) (fun c10 => ?_) (fun c10 => ?_)
    · rw [if_pos c10] at h
      refine lv_aload_n hx hb dX9_whyNot_27 rfl (lv_at hl 0 rfl) ?_
      refine lv_iload_n hx hb dX9_whyNot_28 rfl (lv_at hl 1 rfl) ?_
      refine lv_iload_n hx hb dX9_whyNot_29 rfl (lv_at hl 2 rfl) ?_
      obtain ⟨v12, e11, h⟩ := bd1_inv h
      refine call_m_cellAt hE F hK S e11 hl.1 (Nat.le_of_ble_eq_true rfl) ⟨Nat.le_of_ble_eq_true rfl, Nat.le_of_ble_eq_true rfl⟩ ⟨Nat.zero_le _, Nat.zero_le _⟩ dX9_whyNot_30 (fun H locs S => ?_)
      refine lv_istore (lv' := [(4, .int v12), (0, .ref (mad E 0)), (1, .int x1), (2, .int x2), (3, .int x3)]) hx hb dX9_whyNot_33 hl (by decide) rfl (fun ls hl => ?_)
      refine lv_aload_n hx hb dX9_whyNot_35 rfl (lv_at hl 1 rfl) ?_
      refine lv_iload hx hb dX9_whyNot_36 (lv_at hl 0 rfl) ?_
      obtain ⟨v14, e13, h⟩ := bd1_inv h
      refine call_m_noTurn hE F hK S e13 hl.1 (Nat.le_of_ble_eq_true rfl) ⟨Nat.le_of_ble_eq_true rfl, Nat.le_of_ble_eq_true rfl⟩ ⟨Nat.zero_le _, Nat.zero_le _⟩ dX9_whyNot_38 (fun H locs S => ?_)
      refine lv_istore (lv' := [(5, .int v14), (4, .int v12), (0, .ref (mad E 0)), (1, .int x1), (2, .int x2), (3, .int x3)]) hx hb dX9_whyNot_41 hl (by decide) rfl (fun ls hl => ?_)
      refine lv_iload_n hx hb dX9_whyNot_43 rfl (lv_at hl 5 rfl) ?_
      refine lv_if_ne (tgt := 50) hx hb dX9_whyNot_44 (by decide) (fun c15 => ?_) (fun c15 => ?_)
      · rw [if_neg c15] at h
        refine lv_iload hx hb dX9_whyNot_50 (lv_at hl 0 rfl) ?_
        by_cases c16 : v14 = 6
        · rw [if_pos c16] at h
          refine lv_tableIn (tgt := 84) (off := 32) hx hb dX9_whyNot_52 (by rw [c16]; decide) (by rw [c16]; decide) (by rw [c16]; rfl) (by decide) ?_
          refine lv_aload_n hx hb dX9_whyNot_84 rfl (lv_at hl 2 rfl) ?_
          obtain ⟨v18, e17, h⟩ := bd1_inv h
          refine call_m_winner hE F hK S e17 hl.1 (Nat.le_of_ble_eq_true rfl) ⟨Nat.le_of_ble_eq_true rfl, Nat.le_of_ble_eq_true rfl⟩ ⟨Nat.zero_le _, Nat.zero_le _⟩ dX9_whyNot_85 (fun H locs S => ?_)
          cases h
          exact g_iret F hr hlk S rfl dX9_whyNot_88
        rw [if_neg c16] at h
        by_cases c19 : v14 = 7
        · rw [if_pos c19] at h
          refine lv_tableIn (tgt := 89) (off := 37) hx hb dX9_whyNot_52 (by rw [c19]; decide) (by rw [c19]; decide) (by rw [c19]; rfl) (by decide) ?_
          refine lv_aload_n hx hb dX9_whyNot_89 rfl (lv_at hl 2 rfl) ?_
          refine lv_iload hx hb dX9_whyNot_90 (lv_at hl 1 rfl) ?_
          refine lv_iconst (v := 0) hx hb dX9_whyNot_92 (by decide) ?_
          obtain ⟨v21, e20, h⟩ := bd1_inv h
          refine call_m_of hE F hK S e20 hl.1 (Nat.le_of_ble_eq_true rfl) ⟨Nat.le_of_ble_eq_true rfl, Nat.le_of_ble_eq_true rfl⟩ ⟨Nat.zero_le _, Nat.zero_le _⟩ dX9_whyNot_93 (fun H locs S => ?_)
          cases h
          exact g_iret F hr hlk S rfl dX9_whyNot_96
        rw [if_neg c19] at h
        by_cases c22 : v14 = 8
        · rw [if_pos c22] at h
          refine lv_tableIn (tgt := 97) (off := 45) hx hb dX9_whyNot_52 (by rw [c22]; decide) (by rw [c22]; decide) (by rw [c22]; rfl) (by decide) ?_
          refine lv_aload_n hx hb dX9_whyNot_97 rfl (lv_at hl 2 rfl) ?_
          refine lv_iload hx hb dX9_whyNot_98 (lv_at hl 1 rfl) ?_
          refine lv_iconst (v := 2) hx hb dX9_whyNot_100 (by decide) ?_
          obtain ⟨v24, e23, h⟩ := bd1_inv h
          refine call_m_of hE F hK S e23 hl.1 (Nat.le_of_ble_eq_true rfl) ⟨Nat.le_of_ble_eq_true rfl, Nat.le_of_ble_eq_true rfl⟩ ⟨Nat.zero_le _, Nat.zero_le _⟩ dX9_whyNot_101 (fun H locs S => ?_)
          cases h
          exact g_iret F hr hlk S rfl dX9_whyNot_104
        rw [if_neg c22] at h
        by_cases c25 : v14 = 9
        · rw [if_pos c25] at h
          refine lv_tableIn (tgt := 105) (off := 53) hx hb dX9_whyNot_52 (by rw [c25]; decide) (by rw [c25]; decide) (by rw [c25]; rfl) (by decide) ?_
          refine lv_aload_n hx hb dX9_whyNot_105 rfl (lv_at hl 2 rfl) ?_
          refine lv_iload hx hb dX9_whyNot_106 (lv_at hl 1 rfl) ?_
          refine lv_iconst (v := 3) hx hb dX9_whyNot_108 (by decide) ?_
          obtain ⟨v27, e26, h⟩ := bd1_inv h
          refine call_m_of hE F hK S e26 hl.1 (Nat.le_of_ble_eq_true rfl) ⟨Nat.le_of_ble_eq_true rfl, Nat.le_of_ble_eq_true rfl⟩ ⟨Nat.zero_le _, Nat.zero_le _⟩ dX9_whyNot_109 (fun H locs S => ?_)
          cases h
          exact g_iret F hr hlk S rfl dX9_whyNot_112
        rw [if_neg c25] at h
        refine lv_tableOut (tgt := 113) hx hb dX9_whyNot_52 (by have t0 := lv_neT (a := 6) c16 (by decide); have t1 := lv_neT (a := 7) c19 (by decide); have t2 := lv_neT (a := 8) c22 (by decide); have t3 := lv_neT (a := 9) c25 (by decide); omega) (by decide) ?_
        refine lv_iconst (v := (-1)) hx hb dX9_whyNot_113 (by decide) ?_
        cases h
        exact g_iret F hr hlk S rfl dX9_whyNot_114
      · rw [if_pos c15] at h
        refine lv_iload hx hb dX9_whyNot_47 (lv_at hl 0 rfl) ?_
        cases h
        exact g_iret F hr hlk S rfl dX9_whyNot_49
    · rw [if_neg c10] at h
      refine lv_iconst (v := 0) hx hb dX9_whyNot_25 (by decide) ?_
      cases h
      exact g_iret F hr hlk S rfl dX9_whyNot_26
abbrev rm_m_gap : Room := { frames := 7, cells := 0, slots := 0, locals := 161 }
def Lm_gap_1 : Nat → mS → Int32 → Int32 → Option (Int32)
  | 0, _, _, _ => none
  | n + 1, g, y1, y2 =>
    if 400 ≤ y2 then
      some y1
    else
      bd1 (rdZ g 13 y2) fun v6 =>
      bd1 (rdI g 14 y2) fun v8 =>
      bd1 ((
        if v8 = (-1) then
          some 0
        else
          some 1) : Option (Int32)) fun v11 =>
      bd1 ((
        if v6 = v11 then
          some 0
        else
          some 1) : Option (Int32)) fun v13 =>
      Lm_gap_1 n g (y1 + v13) (y2 + 1)
def Lm_gap_2 : Nat → mS → Int32 → Int32 → Option (Int32)
  | 0, _, _, _ => none
  | n + 1, g, y1, y2 =>
    if 100 ≤ y2 then
      some y1
    else
      bd1 (fm_isOf g y2 4) fun v20 =>
      bd1 ((
        if v20 = 0 then
          some 0
        else
          bd1 (fm_of g y2 5) fun v23 =>
          bd1 (rdI g 1 4) fun v24 =>
          if v23 ≤ v24 then
            some 0
          else
            some 1) : Option (Int32)) fun v27 =>
      bd1 (fm_of g y2 3) fun v29 =>
      bd1 (rdI g 1 2) fun v30 =>
      bd1 ((
        if v29 ≤ v30 then
          some 0
        else
          some 1) : Option (Int32)) fun v33 =>
      Lm_gap_2 n g ((y1 + v27) + v33) (y2 + 1)
def fm_gap (g : mS)  : Option (Int32 × mS) :=
  bd1 (wrF g 0 0) fun g1 =>
  bd1 (fm_number_2 g1) fun g4 =>
  bd1 (Lm_gap_1 FUEL g4 0 0) fun v17 =>
  bd1 (Lm_gap_2 FUEL g4 v17 0) fun v37 =>
  some (v37, g4)
set_option maxHeartbeats 4000000 in
set_option maxRecDepth 100000 in
theorem loop_m_gap_1 {p : Program} {l : Launch} {e : Env} {s : State} {m : MethodId} {args : Array Value} {below : List Frame} {meth : Method} {c : Code} (E : mEnv) (hE : mInj E) (F : CallFix p m c cX9_gap 3 s args lw_all RX9) (hr : meth.sig.returnType = some .int) (hlk : meth.locks = false) (hK : mK E s) {Q : State → Prop} : ∀ (n : Nat) (g : mS) (y1 : Int32) (y2 : Int32) (o : Int32), Lm_gap_1 n g y1 y2 = some o → ∀ (H : Heap) (locs : List Loc) (ls : Array Slot), gS (mA E) s.heap (mP E g) H locs → lv_has ls 3 [(0, .ref (mad E 0)), (1, .int y1), (2, .int y2)] → (∀ (w1 : Int32) (H : Heap) (locs : List Loc) (ls : Array Slot), o = w1 → gS (mA E) s.heap (mP E g) H locs → lv_has ls 3 [(0, .ref (mad E 0)), (1, .int w1)] → W p l e rm_m_gap s m args below meth c H locs 0 0 Q (F0 m 58 ls [])) → W p l e rm_m_gap s m args below meth c H locs 0 0 Q (F0 m 13 ls []) := by
  have hx := F.1
  have hb := F.2.1
  intro n
  induction n with
  | zero =>
    intro g y1 y2 o h
    rw [Lm_gap_1] at h
    cases h
  | succ n ih =>
    intro g y1 y2 o h H locs ls S hl kx
    rw [Lm_gap_1] at h
    refine lv_iload_n hx hb dX9_gap_13 rfl (lv_at hl 2 rfl) ?_
    refine lv_sipush (v := 400) hx hb dX9_gap_14 (by decide) ?_
    refine lv_icmp_ge (tgt := 58) hx hb dX9_gap_17 (by decide) (fun c5 => ?_) (fun c5 => ?_)
    · rw [if_pos c5] at h
      cases h
      exact kx _ _ _ _ rfl S (lv_sub hl [0, 1] rfl)
    · rw [if_neg c5] at h
      refine lv_iload_n hx hb dX9_gap_20 rfl (lv_at hl 1 rfl) ?_
      refine lv_aload_n hx hb dX9_gap_21 rfl (lv_at hl 0 rfl) ?_
      refine m_get16 F hK S dX9_gap_22 ?_
      refine lv_iload_n hx hb dX9_gap_25 rfl (lv_at hl 2 rfl) ?_
      obtain ⟨v6, e7, h⟩ := bd1_inv h
      refine m_zald F hK S e7 dX9_gap_26 ?_
      refine lv_aload_n hx hb dX9_gap_27 rfl (lv_at hl 0 rfl) ?_
      refine m_get17 F hK S dX9_gap_28 ?_
      refine lv_iload_n hx hb dX9_gap_31 rfl (lv_at hl 2 rfl) ?_
      obtain ⟨v8, e9, h⟩ := bd1_inv h
      refine m_iald F hK S e9 dX9_gap_32 ?_
      refine lv_iconst (v := (-1)) hx hb dX9_gap_33 (by decide) ?_
      obtain ⟨v11, hB, h⟩ := bd1_inv h
      have hJ42 : ∀ (H : Heap) (locs : List Loc) (ls : Array Slot), gS (mA E) s.heap (mP E g) H locs → lv_has ls 3 [(0, .ref (mad E 0)), (2, .int y2)] → W p l e rm_m_gap s m args below meth c H locs 0 0 Q (F0 m 42 ls [.int v11, .int v6, .int y1]) := by
        intro H locs ls S hl
        obtain ⟨v13, hB, h⟩ := bd1_inv h
        have hJ50 : ∀ (H : Heap) (locs : List Loc) (ls : Array Slot), gS (mA E) s.heap (mP E g) H locs → lv_has ls 3 [(0, .ref (mad E 0)), (2, .int y2)] → W p l e rm_m_gap s m args below meth c H locs 0 0 Q (F0 m 50 ls [.int v13, .int y1]) := by
          intro H locs ls S hl
          refine lv_iadd hx hb dX9_gap_50 ?_
          refine lv_istore_n (lv' := [(1, .int (y1 + v13)), (0, .ref (mad E 0)), (2, .int y2)]) hx hb dX9_gap_51 rfl hl (by decide) rfl (fun ls hl => ?_)
          refine lv_iinc (v := (y2 + 1)) (lv' := [(2, .int (y2 + 1)), (1, .int (y1 + v13)), (0, .ref (mad E 0))]) hx hb dX9_gap_52 hl (k := 2) rfl rfl (by decide) rfl (fun ls hl => ?_)
          refine lv_goto (tgt := 13) hx hb dX9_gap_55 (by decide) ?_
          exact ih _ _ _ _ h _ _ _ S (lv_sub hl [2, 1, 0] rfl) kx
        clear h
        have h := hB
        clear hB
        refine lv_icmp_eq (tgt := 49) hx hb dX9_gap_42 (by decide) (fun c12 => ?_) (fun c12 => ?_)
        · rw [if_pos c12] at h
          refine lv_iconst (v := 0) hx hb dX9_gap_49 (by decide) ?_
          cases h
          exact hJ50 _ _ _ S (lv_sub hl [0, 1] rfl)
        · rw [if_neg c12] at h
          refine lv_iconst (v := 1) hx hb dX9_gap_45 (by decide) ?_
          refine lv_goto (tgt := 50) hx hb dX9_gap_46 (by decide) ?_
          cases h
          exact hJ50 _ _ _ S (lv_sub hl [0, 1] rfl)
      clear h
      have h := hB
      clear hB
      refine lv_icmp_eq (tgt := 41) hx hb dX9_gap_34 (by decide) (fun c10 => ?_) (fun c10 => ?_)
      · rw [if_pos c10] at h
        refine lv_iconst (v := 0) hx hb dX9_gap_41 (by decide) ?_
        cases h
        exact hJ42 _ _ _ S (lv_sub hl [0, 2] rfl)
      · rw [if_neg c10] at h
        refine lv_iconst (v := 1) hx hb dX9_gap_37 (by decide) ?_
        refine lv_goto (tgt := 42) hx hb dX9_gap_38 (by decide) ?_
        cases h
        exact hJ42 _ _ _ S (lv_sub hl [0, 2] rfl)
set_option maxHeartbeats 4000000 in
set_option maxRecDepth 100000 in
theorem loop_m_gap_2 {p : Program} {l : Launch} {e : Env} {s : State} {m : MethodId} {args : Array Value} {below : List Frame} {meth : Method} {c : Code} (E : mEnv) (hE : mInj E) (F : CallFix p m c cX9_gap 3 s args lw_all RX9) (hr : meth.sig.returnType = some .int) (hlk : meth.locks = false) (hK : mK E s) {Q : State → Prop} : ∀ (n : Nat) (g : mS) (y1 : Int32) (y2 : Int32) (o : Int32), Lm_gap_2 n g y1 y2 = some o → ∀ (H : Heap) (locs : List Loc) (ls : Array Slot), gS (mA E) s.heap (mP E g) H locs → lv_has ls 3 [(0, .ref (mad E 0)), (1, .int y1), (2, .int y2)] → (∀ (w1 : Int32) (H : Heap) (locs : List Loc) (ls : Array Slot), o = w1 → gS (mA E) s.heap (mP E g) H locs → lv_has ls 3 [(1, .int w1)] → W p l e rm_m_gap s m args below meth c H locs 0 0 Q (F0 m 127 ls [])) → W p l e rm_m_gap s m args below meth c H locs 0 0 Q (F0 m 60 ls []) := by
  have hx := F.1
  have hb := F.2.1
  intro n
  induction n with
  | zero =>
    intro g y1 y2 o h
    rw [Lm_gap_2] at h
    cases h
  | succ n ih =>
    intro g y1 y2 o h H locs ls S hl kx
    rw [Lm_gap_2] at h
    refine lv_iload_n hx hb dX9_gap_60 rfl (lv_at hl 2 rfl) ?_
    refine lv_bipush (v := 100) hx hb dX9_gap_61 (by decide) ?_
    refine lv_icmp_ge (tgt := 127) hx hb dX9_gap_63 (by decide) (fun c18 => ?_) (fun c18 => ?_)
    · rw [if_pos c18] at h
      cases h
      exact kx _ _ _ _ rfl S (lv_sub hl [1] rfl)
    · rw [if_neg c18] at h
      refine lv_iload_n hx hb dX9_gap_66 rfl (lv_at hl 1 rfl) ?_
      refine lv_aload_n hx hb dX9_gap_67 rfl (lv_at hl 0 rfl) ?_
      refine lv_iload_n hx hb dX9_gap_68 rfl (lv_at hl 2 rfl) ?_
      refine lv_iconst (v := 4) hx hb dX9_gap_69 (by decide) ?_
      obtain ⟨v20, e19, h⟩ := bd1_inv h
      refine call_m_isOf hE F hK S e19 hl.1 (Nat.le_of_ble_eq_true rfl) ⟨Nat.le_of_ble_eq_true rfl, Nat.le_of_ble_eq_true rfl⟩ ⟨Nat.zero_le _, Nat.zero_le _⟩ dX9_gap_70 (fun H locs S => ?_)
      obtain ⟨v27, hB, h⟩ := bd1_inv h
      have hJ96 : ∀ (H : Heap) (locs : List Loc) (ls : Array Slot), gS (mA E) s.heap (mP E g) H locs → lv_has ls 3 [(0, .ref (mad E 0)), (2, .int y2)] → W p l e rm_m_gap s m args below meth c H locs 0 0 Q (F0 m 96 ls [.int v27, .int y1]) := by
        intro H locs ls S hl
        refine lv_iadd hx hb dX9_gap_96 ?_
        refine lv_istore_n (lv' := [(1, .int (y1 + v27)), (0, .ref (mad E 0)), (2, .int y2)]) hx hb dX9_gap_97 rfl hl (by decide) rfl (fun ls hl => ?_)
        refine lv_iload_n hx hb dX9_gap_98 rfl (lv_at hl 0 rfl) ?_
        refine lv_aload_n hx hb dX9_gap_99 rfl (lv_at hl 1 rfl) ?_
        refine lv_iload_n hx hb dX9_gap_100 rfl (lv_at hl 2 rfl) ?_
        refine lv_iconst (v := 3) hx hb dX9_gap_101 (by decide) ?_
        obtain ⟨v29, e28, h⟩ := bd1_inv h
        refine call_m_of hE F hK S e28 hl.1 (Nat.le_of_ble_eq_true rfl) ⟨Nat.le_of_ble_eq_true rfl, Nat.le_of_ble_eq_true rfl⟩ ⟨Nat.zero_le _, Nat.zero_le _⟩ dX9_gap_102 (fun H locs S => ?_)
        refine lv_aload_n hx hb dX9_gap_105 rfl (lv_at hl 1 rfl) ?_
        refine m_get1 F hK S dX9_gap_106 ?_
        refine lv_iconst (v := 2) hx hb dX9_gap_109 (by decide) ?_
        obtain ⟨v30, e31, h⟩ := bd1_inv h
        refine m_iald F hK S e31 dX9_gap_110 ?_
        obtain ⟨v33, hB, h⟩ := bd1_inv h
        have hJ119 : ∀ (H : Heap) (locs : List Loc) (ls : Array Slot), gS (mA E) s.heap (mP E g) H locs → lv_has ls 3 [(0, .ref (mad E 0)), (2, .int y2)] → W p l e rm_m_gap s m args below meth c H locs 0 0 Q (F0 m 119 ls [.int v33, .int (y1 + v27)]) := by
          intro H locs ls S hl
          refine lv_iadd hx hb dX9_gap_119 ?_
          refine lv_istore_n (lv' := [(1, .int ((y1 + v27) + v33)), (0, .ref (mad E 0)), (2, .int y2)]) hx hb dX9_gap_120 rfl hl (by decide) rfl (fun ls hl => ?_)
          refine lv_iinc (v := (y2 + 1)) (lv' := [(2, .int (y2 + 1)), (1, .int ((y1 + v27) + v33)), (0, .ref (mad E 0))]) hx hb dX9_gap_121 hl (k := 2) rfl rfl (by decide) rfl (fun ls hl => ?_)
          refine lv_goto (tgt := 60) hx hb dX9_gap_124 (by decide) ?_
          exact ih _ _ _ _ h _ _ _ S (lv_sub hl [2, 1, 0] rfl) kx
        clear h
        have h := hB
        clear hB
        refine lv_icmp_le (tgt := 118) hx hb dX9_gap_111 (by decide) (fun c32 => ?_) (fun c32 => ?_)
        · rw [if_pos c32] at h
          refine lv_iconst (v := 0) hx hb dX9_gap_118 (by decide) ?_
          cases h
          exact hJ119 _ _ _ S (lv_sub hl [1, 2] rfl)
        · rw [if_neg c32] at h
          refine lv_iconst (v := 1) hx hb dX9_gap_114 (by decide) ?_
          refine lv_goto (tgt := 119) hx hb dX9_gap_115 (by decide) ?_
          cases h
          exact hJ119 _ _ _ S (lv_sub hl [1, 2] rfl)
      clear h
      have h := hB
      clear hB
      refine lv_if_eq (tgt := 95) hx hb dX9_gap_73 (by decide) (fun c21 => ?_) (fun c21 => ?_)
      · rw [if_pos c21] at h
        refine lv_iconst (v := 0) hx hb dX9_gap_95 (by decide) ?_
        cases h
        exact hJ96 _ _ _ S (lv_sub hl [0, 2] rfl)
      · rw [if_neg c21] at h
        refine lv_aload_n hx hb dX9_gap_76 rfl (lv_at hl 0 rfl) ?_
        refine lv_iload_n hx hb dX9_gap_77 rfl (lv_at hl 2 rfl) ?_
        refine lv_iconst (v := 5) hx hb dX9_gap_78 (by decide) ?_
        obtain ⟨v23, e22, h⟩ := bd1_inv h
        refine call_m_of hE F hK S e22 hl.1 (Nat.le_of_ble_eq_true rfl) ⟨Nat.le_of_ble_eq_true rfl, Nat.le_of_ble_eq_true rfl⟩ ⟨Nat.zero_le _, Nat.zero_le _⟩ dX9_gap_79 (fun H locs S => ?_)
        refine lv_aload_n hx hb dX9_gap_82 rfl (lv_at hl 0 rfl) ?_
        refine m_get1 F hK S dX9_gap_83 ?_
        refine lv_iconst (v := 4) hx hb dX9_gap_86 (by decide) ?_
        obtain ⟨v24, e25, h⟩ := bd1_inv h
        refine m_iald F hK S e25 dX9_gap_87 ?_
        refine lv_icmp_le (tgt := 95) hx hb dX9_gap_88 (by decide) (fun c26 => ?_) (fun c26 => ?_)
        · rw [if_pos c26] at h
          refine lv_iconst (v := 0) hx hb dX9_gap_95 (by decide) ?_
          cases h
          exact hJ96 _ _ _ S (lv_sub hl [0, 2] rfl)
        · rw [if_neg c26] at h
          refine lv_iconst (v := 1) hx hb dX9_gap_91 (by decide) ?_
          refine lv_goto (tgt := 96) hx hb dX9_gap_92 (by decide) ?_
          cases h
          exact hJ96 _ _ _ S (lv_sub hl [0, 2] rfl)
set_option maxHeartbeats 4000000 in
set_option maxRecDepth 100000 in
theorem met_m_gap (l : Launch) (E : mEnv) (hE : mInj E) (g : mS)  (r : Int32) (gZ : mS) (h : fm_gap g = some (r, gZ)) : Met l yX9_gap (ws_ yX9_gap cX9_gap 3 (some .int)) rm_m_gap (va_Pc [.ref (mad E 0)] (gPre (mK E) (mP E g))) (gQi r (mP E gZ) (mA E)) 0 0 (mA E) := by
  refine g_met (own := RX9) (by decide) rfl (Nat.le_of_ble_eq_true rfl) ?_
  intro p e s m args below meth c ls F hr hlk hK S hl
  have hx := F.1
  have hb := F.2.1
  have hl : lv_has ls 3 [(0, .ref (mad E 0))] := hl
  unfold fm_gap at h
  refine lv_aload_n hx hb dX9_gap_0 rfl (lv_at hl 0 rfl) ?_
  refine lv_iconst (v := 0) hx hb dX9_gap_1 (by decide) ?_
  obtain ⟨g1, e2, h⟩ := bd1_inv h
  refine m_put0 hE F hK S e2 dX9_gap_2 (fun H locs S => ?_)
  refine lv_aload_n hx hb dX9_gap_5 rfl (lv_at hl 0 rfl) ?_
  obtain ⟨g4, e3, h⟩ := bd1_inv h
  refine call_m_number_2 hE F hK S e3 hl.1 (Nat.le_of_ble_eq_true rfl) ⟨Nat.le_of_ble_eq_true rfl, Nat.le_of_ble_eq_true rfl⟩ ⟨Nat.zero_le _, Nat.zero_le _⟩ dX9_gap_6 (fun H locs S => ?_)
  refine lv_iconst (v := 0) hx hb dX9_gap_9 (by decide) ?_
  refine lv_istore_n (lv' := [(1, .int 0), (0, .ref (mad E 0))]) hx hb dX9_gap_10 rfl hl (by decide) rfl (fun ls hl => ?_)
  refine lv_iconst (v := 0) hx hb dX9_gap_11 (by decide) ?_
  refine lv_istore_n (lv' := [(2, .int 0), (1, .int 0), (0, .ref (mad E 0))]) hx hb dX9_gap_12 rfl hl (by decide) rfl (fun ls hl => ?_)
  obtain ⟨v17, e16, h⟩ := bd1_inv h
  refine loop_m_gap_1 E hE F hr hlk hK _ _ _ _ _ e16 _ _ _ S (lv_sub hl [2, 1, 0] rfl) (fun v17z H locs ls o S hl => ?_)
  cases o
  refine lv_iconst (v := 0) hx hb dX9_gap_58 (by decide) ?_
  refine lv_istore_n (lv' := [(2, .int 0), (0, .ref (mad E 0)), (1, .int v17)]) hx hb dX9_gap_59 rfl hl (by decide) rfl (fun ls hl => ?_)
  obtain ⟨v37, e36, h⟩ := bd1_inv h
  refine loop_m_gap_2 E hE F hr hlk hK _ _ _ _ _ e36 _ _ _ S (lv_sub hl [1, 2, 0] rfl) (fun v37z H locs ls o S hl => ?_)
  cases o
  refine lv_iload_n hx hb dX9_gap_127 rfl (lv_at hl 0 rfl) ?_
  cases h
  exact g_iret F hr hlk S rfl dX9_gap_128
abbrev rm_m_flip : Room := { frames := 4, cells := 0, slots := 0, locals := 89 }
def fm_flip (g : mS) (x1 : Int32) : Option (mS) :=
  bd1 (fm_cellOf g x1 2) fun v2 =>
  bd1 (fm_of g v2 1) fun v4 =>
  bd1 (fm_put g v2 1 (1 - v4)) fun g6 =>
  some g6
set_option maxHeartbeats 4000000 in
set_option maxRecDepth 100000 in
theorem met_m_flip (l : Launch) (E : mEnv) (hE : mInj E) (g : mS) (x1 : Int32) (gZ : mS) (h : fm_flip g x1 = some gZ) : Met l yX9_flip (ws_ yX9_flip cX9_flip 3 (none)) rm_m_flip (va_Pc [.ref (mad E 0), .int x1] (gPre (mK E) (mP E g))) (gQv (mP E gZ) (mA E)) 0 0 (mA E) := by
  refine g_met (own := RX9) (by decide) rfl (Nat.le_of_ble_eq_true rfl) ?_
  intro p e s m args below meth c ls F hr hlk hK S hl
  have hx := F.1
  have hb := F.2.1
  have hl : lv_has ls 3 [(0, .ref (mad E 0)), (1, .int x1)] := hl
  unfold fm_flip at h
  refine lv_aload_n hx hb dX9_flip_0 rfl (lv_at hl 0 rfl) ?_
  refine lv_iload_n hx hb dX9_flip_1 rfl (lv_at hl 1 rfl) ?_
  refine lv_iconst (v := 2) hx hb dX9_flip_2 (by decide) ?_
  obtain ⟨v2, e1, h⟩ := bd1_inv h
  refine call_m_cellOf hE F hK S e1 hl.1 (Nat.le_of_ble_eq_true rfl) ⟨Nat.le_of_ble_eq_true rfl, Nat.le_of_ble_eq_true rfl⟩ ⟨Nat.zero_le _, Nat.zero_le _⟩ dX9_flip_3 (fun H locs S => ?_)
  refine lv_istore_n (lv' := [(2, .int v2), (0, .ref (mad E 0)), (1, .int x1)]) hx hb dX9_flip_6 rfl hl (by decide) rfl (fun ls hl => ?_)
  refine lv_aload_n hx hb dX9_flip_7 rfl (lv_at hl 1 rfl) ?_
  refine lv_iload_n hx hb dX9_flip_8 rfl (lv_at hl 0 rfl) ?_
  refine lv_iconst (v := 1) hx hb dX9_flip_9 (by decide) ?_
  refine lv_iconst (v := 1) hx hb dX9_flip_10 (by decide) ?_
  refine lv_aload_n hx hb dX9_flip_11 rfl (lv_at hl 1 rfl) ?_
  refine lv_iload_n hx hb dX9_flip_12 rfl (lv_at hl 0 rfl) ?_
  refine lv_iconst (v := 1) hx hb dX9_flip_13 (by decide) ?_
  obtain ⟨v4, e3, h⟩ := bd1_inv h
  refine call_m_of hE F hK S e3 hl.1 (Nat.le_of_ble_eq_true rfl) ⟨Nat.le_of_ble_eq_true rfl, Nat.le_of_ble_eq_true rfl⟩ ⟨Nat.zero_le _, Nat.zero_le _⟩ dX9_flip_14 (fun H locs S => ?_)
  refine lv_isub hx hb dX9_flip_17 ?_
  obtain ⟨g6, e5, h⟩ := bd1_inv h
  refine call_m_put hE F hK S e5 hl.1 (Nat.le_of_ble_eq_true rfl) ⟨Nat.le_of_ble_eq_true rfl, Nat.le_of_ble_eq_true rfl⟩ ⟨Nat.zero_le _, Nat.zero_le _⟩ dX9_flip_18 (fun H locs S => ?_)
  cases h
  exact g_vret F hr hlk S dX9_flip_21
theorem call_m_flip {p : Program} {l : Launch} {e : Env} {s : State} {m : MethodId} {args : Array Value} {below : List Frame} {meth : Method} {c : Code} {R : Room} {H : Heap} {locs : List Loc} {cells slots pc nL : Nat} {Q : State → Prop} {ls : Array Slot} {rest : List Value} {cc : ByteArray} {E : mEnv} (hE : mInj E) {g : mS} {x1 : Int32} {gZ : mS} (F : CallFix p m c cc nL s args lw_all RX9) (hK : mK E s) (S : gS (mA E) s.heap (mP E g) H locs) (h : fm_flip g x1 = some gZ) (hls : ls.size = nL) (hW : (rest.map fun v => v.category).sum ≤ 8) (hR : rm_m_flip.frames + 1 ≤ R.frames ∧ 8 + (3 + 11) + rm_m_flip.locals ≤ R.locals) (hf : cells ≤ R.cells ∧ slots ≤ R.slots) (hdg : decode cc pc = .ok (.invokevirtual 357, 3))
    (kk : ∀ (H1 : Heap) (locs1 : List Loc), gS (mA E) s.heap (mP E gZ) H1 locs1 → W p l e R s m args below meth c H1 locs1 cells slots Q (F0 m (pc + 3) ls (rest))) : W p l e R s m args below meth c H locs cells slots Q (F0 m pc ls (.int x1 :: .ref (mad E 0) :: rest)) :=
  g_kv (g_runV F hK (mKm E) S (met_m_flip l E hE g x1 gZ h) (cwV 1 F.2.2.2.2 (lw_V q2297 q2299 qs103 q121 q2300) rfl rfl rfl (by decide +kernel) hR) (m_recv hK S) rfl hls rfl hW hdg hf) S kk
abbrev rm_m_hitIf : Room := { frames := 7, cells := 0, slots := 0, locals := 160 }
def fm_hitIf (g : mS) (x1 : Int32) : Option (Int32 × mS) :=
  bd1 (wrF g 0 0) fun g1 =>
  bd1 (fm_count g1 2) fun v4 =>
  bd2 (fm_bad g1 x1 0 (v4 - 1) 1) fun v6 g7 =>
  if v6 = 0 then
    bd1 (fm_flip g7 x1) fun g10 =>
    bd2 (fm_hits g10) fun v12 g13 =>
    bd1 (fm_flip g13 x1) fun g15 =>
    some (v12, g15)
  else
    some (0, g7)
set_option maxHeartbeats 4000000 in
set_option maxRecDepth 100000 in
theorem met_m_hitIf (l : Launch) (E : mEnv) (hE : mInj E) (g : mS) (x1 : Int32) (r : Int32) (gZ : mS) (h : fm_hitIf g x1 = some (r, gZ)) : Met l yX9_hitIf (ws_ yX9_hitIf cX9_hitIf 3 (some .int)) rm_m_hitIf (va_Pc [.ref (mad E 0), .int x1] (gPre (mK E) (mP E g))) (gQi r (mP E gZ) (mA E)) 0 0 (mA E) := by
  refine g_met (own := RX9) (by decide) rfl (Nat.le_of_ble_eq_true rfl) ?_
  intro p e s m args below meth c ls F hr hlk hK S hl
  have hx := F.1
  have hb := F.2.1
  have hl : lv_has ls 3 [(0, .ref (mad E 0)), (1, .int x1)] := hl
  unfold fm_hitIf at h
  refine lv_aload_n hx hb dX9_hitIf_0 rfl (lv_at hl 0 rfl) ?_
  refine lv_iconst (v := 0) hx hb dX9_hitIf_1 (by decide) ?_
  obtain ⟨g1, e2, h⟩ := bd1_inv h
  refine m_put0 hE F hK S e2 dX9_hitIf_2 (fun H locs S => ?_)
  refine lv_aload_n hx hb dX9_hitIf_5 rfl (lv_at hl 0 rfl) ?_
  refine lv_iload_n hx hb dX9_hitIf_6 rfl (lv_at hl 1 rfl) ?_
  refine lv_iconst (v := 0) hx hb dX9_hitIf_7 (by decide) ?_
  refine lv_aload_n hx hb dX9_hitIf_8 rfl (lv_at hl 0 rfl) ?_
  refine lv_iconst (v := 2) hx hb dX9_hitIf_9 (by decide) ?_
  obtain ⟨v4, e3, h⟩ := bd1_inv h
  refine call_m_count hE F hK S e3 hl.1 (Nat.le_of_ble_eq_true rfl) ⟨Nat.le_of_ble_eq_true rfl, Nat.le_of_ble_eq_true rfl⟩ ⟨Nat.zero_le _, Nat.zero_le _⟩ dX9_hitIf_10 (fun H locs S => ?_)
  refine lv_iconst (v := 1) hx hb dX9_hitIf_13 (by decide) ?_
  refine lv_isub hx hb dX9_hitIf_14 ?_
  refine lv_iconst (v := 1) hx hb dX9_hitIf_15 (by decide) ?_
  obtain ⟨v6, g7, e5, h⟩ := bd2_inv h
  refine call_m_bad hE F hK S e5 hl.1 (Nat.le_of_ble_eq_true rfl) ⟨Nat.le_of_ble_eq_true rfl, Nat.le_of_ble_eq_true rfl⟩ ⟨Nat.zero_le _, Nat.zero_le _⟩ dX9_hitIf_16 (fun H locs S => ?_)
  refine lv_if_eq (tgt := 24) hx hb dX9_hitIf_19 (by decide) (fun c8 => ?_) (fun c8 => ?_)
  · rw [if_pos c8] at h
    refine lv_aload_n hx hb dX9_hitIf_24 rfl (lv_at hl 0 rfl) ?_
    refine lv_iload_n hx hb dX9_hitIf_25 rfl (lv_at hl 1 rfl) ?_
    obtain ⟨g10, e9, h⟩ := bd1_inv h
    refine call_m_flip hE F hK S e9 hl.1 (Nat.le_of_ble_eq_true rfl) ⟨Nat.le_of_ble_eq_true rfl, Nat.le_of_ble_eq_true rfl⟩ ⟨Nat.zero_le _, Nat.zero_le _⟩ dX9_hitIf_26 (fun H locs S => ?_)
    refine lv_aload_n hx hb dX9_hitIf_29 rfl (lv_at hl 0 rfl) ?_
    obtain ⟨v12, g13, e11, h⟩ := bd2_inv h
    refine call_m_hits hE F hK S e11 hl.1 (Nat.le_of_ble_eq_true rfl) ⟨Nat.le_of_ble_eq_true rfl, Nat.le_of_ble_eq_true rfl⟩ ⟨Nat.zero_le _, Nat.zero_le _⟩ dX9_hitIf_30 (fun H locs S => ?_)
    refine lv_istore_n (lv' := [(2, .int v12), (0, .ref (mad E 0)), (1, .int x1)]) hx hb dX9_hitIf_33 rfl hl (by decide) rfl (fun ls hl => ?_)
    refine lv_aload_n hx hb dX9_hitIf_34 rfl (lv_at hl 1 rfl) ?_
    refine lv_iload_n hx hb dX9_hitIf_35 rfl (lv_at hl 2 rfl) ?_
    obtain ⟨g15, e14, h⟩ := bd1_inv h
    refine call_m_flip hE F hK S e14 hl.1 (Nat.le_of_ble_eq_true rfl) ⟨Nat.le_of_ble_eq_true rfl, Nat.le_of_ble_eq_true rfl⟩ ⟨Nat.zero_le _, Nat.zero_le _⟩ dX9_hitIf_36 (fun H locs S => ?_)
    refine lv_iload_n hx hb dX9_hitIf_39 rfl (lv_at hl 0 rfl) ?_
    cases h
    exact g_iret F hr hlk S rfl dX9_hitIf_40
  · rw [if_neg c8] at h
    refine lv_iconst (v := 0) hx hb dX9_hitIf_22 (by decide) ?_
    cases h
    exact g_iret F hr hlk S rfl dX9_hitIf_23
abbrev rm_m_flipAll : Room := { frames := 5, cells := 0, slots := 0, locals := 111 }
def Lm_flipAll_1 : Nat → mS → Int32 → Int32 → Option (mS)
  | 0, _, _, _ => none
  | n + 1, g, y1, y2 =>
    if 12 ≤ y2 then
      some g
    else
      bd1 ((
        if ((y1 >>> (y2 &&& 31)) &&& 1) = 1 then
          bd1 (fm_flip g y2) fun g4 =>
          some g4
        else
          some g) : Option (mS)) fun g5 =>
      Lm_flipAll_1 n g5 y1 (y2 + 1)
def fm_flipAll (g : mS) (x1 : Int32) : Option (mS) :=
  bd1 (Lm_flipAll_1 FUEL g x1 0) fun g8 =>
  some g8
set_option maxHeartbeats 4000000 in
set_option maxRecDepth 100000 in
theorem loop_m_flipAll_1 {p : Program} {l : Launch} {e : Env} {s : State} {m : MethodId} {args : Array Value} {below : List Frame} {meth : Method} {c : Code} (E : mEnv) (hE : mInj E) (F : CallFix p m c cX9_flipAll 3 s args lw_all RX9) (hr : meth.sig.returnType = none) (hlk : meth.locks = false) (hK : mK E s) {Q : State → Prop} : ∀ (n : Nat) (g : mS) (y1 : Int32) (y2 : Int32) (o : mS), Lm_flipAll_1 n g y1 y2 = some o → ∀ (H : Heap) (locs : List Loc) (ls : Array Slot), gS (mA E) s.heap (mP E g) H locs → lv_has ls 3 [(0, .ref (mad E 0)), (1, .int y1), (2, .int y2)] → (∀  (gx : mS) (H : Heap) (locs : List Loc) (ls : Array Slot), o = gx → gS (mA E) s.heap (mP E gx) H locs → lv_has ls 3 [] → W p l e rm_m_flipAll s m args below meth c H locs 0 0 Q (F0 m 28 ls [])) → W p l e rm_m_flipAll s m args below meth c H locs 0 0 Q (F0 m 2 ls []) := by
  have hx := F.1
  have hb := F.2.1
  intro n
  induction n with
  | zero =>
    intro g y1 y2 o h
    rw [Lm_flipAll_1] at h
    cases h
  | succ n ih =>
    intro g y1 y2 o h H locs ls S hl kx
    rw [Lm_flipAll_1] at h
    refine lv_iload_n hx hb dX9_flipAll_2 rfl (lv_at hl 2 rfl) ?_
    refine lv_bipush (v := 12) hx hb dX9_flipAll_3 (by decide) ?_
    refine lv_icmp_ge (tgt := 28) hx hb dX9_flipAll_5 (by decide) (fun c1 => ?_) (fun c1 => ?_)
    · rw [if_pos c1] at h
      cases h
      exact kx _ _ _ _ rfl S (lv_sub hl [] rfl)
    · rw [if_neg c1] at h
      refine lv_iload_n hx hb dX9_flipAll_8 rfl (lv_at hl 1 rfl) ?_
      refine lv_iload_n hx hb dX9_flipAll_9 rfl (lv_at hl 2 rfl) ?_
      refine lv_ishr hx hb dX9_flipAll_10 ?_
      refine lv_iconst (v := 1) hx hb dX9_flipAll_11 (by decide) ?_
      refine lv_iand hx hb dX9_flipAll_12 ?_
      refine lv_iconst (v := 1) hx hb dX9_flipAll_13 (by decide) ?_
      obtain ⟨g5, hB, h⟩ := bd1_inv h
      have hJ22 : ∀ (H : Heap) (locs : List Loc) (ls : Array Slot), gS (mA E) s.heap (mP E g5) H locs → lv_has ls 3 [(0, .ref (mad E 0)), (1, .int y1), (2, .int y2)] → W p l e rm_m_flipAll s m args below meth c H locs 0 0 Q (F0 m 22 ls []) := by
        intro H locs ls S hl
        refine lv_iinc (v := (y2 + 1)) (lv' := [(2, .int (y2 + 1)), (0, .ref (mad E 0)), (1, .int y1)]) hx hb dX9_flipAll_22 hl (k := 2) rfl rfl (by decide) rfl (fun ls hl => ?_)
        refine lv_goto (tgt := 2) hx hb dX9_flipAll_25 (by decide) ?_
        exact ih _ _ _ _ h _ _ _ S (lv_sub hl [1, 2, 0] rfl) kx
      clear h
      have h := hB
      clear hB
      refine lv_icmp_ne (tgt := 22) hx hb dX9_flipAll_14 (by decide) (fun c2 => ?_) (fun c2 => ?_)
      · rw [if_neg c2] at h
        cases h
        exact hJ22 _ _ _ S (lv_sub hl [0, 1, 2] rfl)
      · rw [if_pos c2] at h
        refine lv_aload_n hx hb dX9_flipAll_17 rfl (lv_at hl 0 rfl) ?_
        refine lv_iload_n hx hb dX9_flipAll_18 rfl (lv_at hl 2 rfl) ?_
        obtain ⟨g4, e3, h⟩ := bd1_inv h
        refine call_m_flip hE F hK S e3 hl.1 (Nat.le_of_ble_eq_true rfl) ⟨Nat.le_of_ble_eq_true rfl, Nat.le_of_ble_eq_true rfl⟩ ⟨Nat.zero_le _, Nat.zero_le _⟩ dX9_flipAll_19 (fun H locs S => ?_)
        cases h
        exact hJ22 _ _ _ S (lv_sub hl [0, 1, 2] rfl)
set_option maxHeartbeats 4000000 in
set_option maxRecDepth 100000 in
theorem met_m_flipAll (l : Launch) (E : mEnv) (hE : mInj E) (g : mS) (x1 : Int32) (gZ : mS) (h : fm_flipAll g x1 = some gZ) : Met l yX9_flipAll (ws_ yX9_flipAll cX9_flipAll 3 (none)) rm_m_flipAll (va_Pc [.ref (mad E 0), .int x1] (gPre (mK E) (mP E g))) (gQv (mP E gZ) (mA E)) 0 0 (mA E) := by
  refine g_met (own := RX9) (by decide) rfl (Nat.le_of_ble_eq_true rfl) ?_
  intro p e s m args below meth c ls F hr hlk hK S hl
  have hx := F.1
  have hb := F.2.1
  have hl : lv_has ls 3 [(0, .ref (mad E 0)), (1, .int x1)] := hl
  unfold fm_flipAll at h
  refine lv_iconst (v := 0) hx hb dX9_flipAll_0 (by decide) ?_
  refine lv_istore_n (lv' := [(2, .int 0), (0, .ref (mad E 0)), (1, .int x1)]) hx hb dX9_flipAll_1 rfl hl (by decide) rfl (fun ls hl => ?_)
  obtain ⟨g8, e7, h⟩ := bd1_inv h
  refine loop_m_flipAll_1 E hE F hr hlk hK _ _ _ _ _ e7 _ _ _ S (lv_sub hl [1, 2, 0] rfl) (fun g8z H locs ls o S hl => ?_)
  cases o
  cases h
  exact g_vret F hr hlk S dX9_flipAll_28
theorem call_m_flipAll {p : Program} {l : Launch} {e : Env} {s : State} {m : MethodId} {args : Array Value} {below : List Frame} {meth : Method} {c : Code} {R : Room} {H : Heap} {locs : List Loc} {cells slots pc nL : Nat} {Q : State → Prop} {ls : Array Slot} {rest : List Value} {cc : ByteArray} {E : mEnv} (hE : mInj E) {g : mS} {x1 : Int32} {gZ : mS} (F : CallFix p m c cc nL s args lw_all RX9) (hK : mK E s) (S : gS (mA E) s.heap (mP E g) H locs) (h : fm_flipAll g x1 = some gZ) (hls : ls.size = nL) (hW : (rest.map fun v => v.category).sum ≤ 8) (hR : rm_m_flipAll.frames + 1 ≤ R.frames ∧ 8 + (3 + 11) + rm_m_flipAll.locals ≤ R.locals) (hf : cells ≤ R.cells ∧ slots ≤ R.slots) (hdg : decode cc pc = .ok (.invokevirtual 360, 3))
    (kk : ∀ (H1 : Heap) (locs1 : List Loc), gS (mA E) s.heap (mP E gZ) H1 locs1 → W p l e R s m args below meth c H1 locs1 cells slots Q (F0 m (pc + 3) ls (rest))) : W p l e R s m args below meth c H locs cells slots Q (F0 m pc ls (.int x1 :: .ref (mad E 0) :: rest)) :=
  g_kv (g_runV F hK (mKm E) S (met_m_flipAll l E hE g x1 gZ h) (cwV 1 F.2.2.2.2 (lw_V q2309 q2311 qs105 q121 q2312) rfl rfl rfl (by decide +kernel) hR) (m_recv hK S) rfl hls rfl hW hdg hf) S kk
abbrev rm_m_isHitWith : Room := { frames := 6, cells := 0, slots := 0, locals := 137 }
def fm_isHitWith (g : mS) (x1 : Int32) (x2 : Int32) : Option (Int32 × mS) :=
  bd1 (fm_flipAll g x1) fun g2 =>
  bd1 (fm_shine g2) fun g4 =>
  bd1 (fm_cellOf g4 x2 4) fun v6 =>
  bd1 (fm_litIn g4 v6) fun v8 =>
  bd1 ((
    if v8 = 0 then
      some 0
    else
      some 1) : Option (Int32)) fun v10 =>
  bd1 (fm_flipAll g4 x1) fun g12 =>
  some ((zN v10), g12)
set_option maxHeartbeats 4000000 in
set_option maxRecDepth 100000 in
theorem met_m_isHitWith (l : Launch) (E : mEnv) (hE : mInj E) (g : mS) (x1 : Int32) (x2 : Int32) (r : Int32) (gZ : mS) (h : fm_isHitWith g x1 x2 = some (r, gZ)) : Met l yX9_isHitWith (ws_ yX9_isHitWith cX9_isHitWith 4 (some .boolean)) rm_m_isHitWith (va_Pc [.ref (mad E 0), .int x1, .int x2] (gPre (mK E) (mP E g))) (gQi r (mP E gZ) (mA E)) 0 0 (mA E) := by
  refine g_met (own := RX9) (by decide) rfl (Nat.le_of_ble_eq_true rfl) ?_
  intro p e s m args below meth c ls F hr hlk hK S hl
  have hx := F.1
  have hb := F.2.1
  have hl : lv_has ls 4 [(0, .ref (mad E 0)), (1, .int x1), (2, .int x2)] := hl
  unfold fm_isHitWith at h
  refine lv_aload_n hx hb dX9_isHitWith_0 rfl (lv_at hl 0 rfl) ?_
  refine lv_iload_n hx hb dX9_isHitWith_1 rfl (lv_at hl 1 rfl) ?_
  obtain ⟨g2, e1, h⟩ := bd1_inv h
  refine call_m_flipAll hE F hK S e1 hl.1 (Nat.le_of_ble_eq_true rfl) ⟨Nat.le_of_ble_eq_true rfl, Nat.le_of_ble_eq_true rfl⟩ ⟨Nat.zero_le _, Nat.zero_le _⟩ dX9_isHitWith_2 (fun H locs S => ?_)
  refine lv_aload_n hx hb dX9_isHitWith_5 rfl (lv_at hl 0 rfl) ?_
  obtain ⟨g4, e3, h⟩ := bd1_inv h
  refine call_m_shine hE F hK S e3 hl.1 (Nat.le_of_ble_eq_true rfl) ⟨Nat.le_of_ble_eq_true rfl, Nat.le_of_ble_eq_true rfl⟩ ⟨Nat.zero_le _, Nat.zero_le _⟩ dX9_isHitWith_6 (fun H locs S => ?_)
  refine lv_aload_n hx hb dX9_isHitWith_9 rfl (lv_at hl 0 rfl) ?_
  refine lv_aload_n hx hb dX9_isHitWith_10 rfl (lv_at hl 0 rfl) ?_
  refine lv_iload_n hx hb dX9_isHitWith_11 rfl (lv_at hl 2 rfl) ?_
  refine lv_iconst (v := 4) hx hb dX9_isHitWith_12 (by decide) ?_
  obtain ⟨v6, e5, h⟩ := bd1_inv h
  refine call_m_cellOf hE F hK S e5 hl.1 (Nat.le_of_ble_eq_true rfl) ⟨Nat.le_of_ble_eq_true rfl, Nat.le_of_ble_eq_true rfl⟩ ⟨Nat.zero_le _, Nat.zero_le _⟩ dX9_isHitWith_13 (fun H locs S => ?_)
  obtain ⟨v8, e7, h⟩ := bd1_inv h
  refine call_m_litIn hE F hK S e7 hl.1 (Nat.le_of_ble_eq_true rfl) ⟨Nat.le_of_ble_eq_true rfl, Nat.le_of_ble_eq_true rfl⟩ ⟨Nat.zero_le _, Nat.zero_le _⟩ dX9_isHitWith_16 (fun H locs S => ?_)
  obtain ⟨v10, hB, h⟩ := bd1_inv h
  have hJ27 : ∀ (H : Heap) (locs : List Loc) (ls : Array Slot), gS (mA E) s.heap (mP E g4) H locs → lv_has ls 4 [(0, .ref (mad E 0)), (1, .int x1)] → W p l e rm_m_isHitWith s m args below meth c H locs 0 0 (MQ below (gQi r (mP E gZ) (mA E)) args s 0 0 (mA E)) (F0 m 27 ls [.int v10]) := by
    intro H locs ls S hl
    refine lv_istore_n (lv' := [(3, .int v10), (0, .ref (mad E 0)), (1, .int x1)]) hx hb dX9_isHitWith_27 rfl hl (by decide) rfl (fun ls hl => ?_)
    refine lv_aload_n hx hb dX9_isHitWith_28 rfl (lv_at hl 1 rfl) ?_
    refine lv_iload_n hx hb dX9_isHitWith_29 rfl (lv_at hl 2 rfl) ?_
    obtain ⟨g12, e11, h⟩ := bd1_inv h
    refine call_m_flipAll hE F hK S e11 hl.1 (Nat.le_of_ble_eq_true rfl) ⟨Nat.le_of_ble_eq_true rfl, Nat.le_of_ble_eq_true rfl⟩ ⟨Nat.zero_le _, Nat.zero_le _⟩ dX9_isHitWith_30 (fun H locs S => ?_)
    refine lv_iload_n hx hb dX9_isHitWith_33 rfl (lv_at hl 0 rfl) ?_
    cases h
    exact g_zret F hr hlk S rfl dX9_isHitWith_34
  clear h
  have h := hB
  clear hB
  refine lv_if_eq (tgt := 26) hx hb dX9_isHitWith_19 (by decide) (fun c9 => ?_) (fun c9 => ?_)
  · rw [if_pos c9] at h
    refine lv_iconst (v := 0) hx hb dX9_isHitWith_26 (by decide) ?_
    cases h
    exact hJ27 _ _ _ S (lv_sub hl [0, 1] rfl)
  · rw [if_neg c9] at h
    refine lv_iconst (v := 1) hx hb dX9_isHitWith_22 (by decide) ?_
    refine lv_goto (tgt := 27) hx hb dX9_isHitWith_23 (by decide) ?_
    cases h
    exact hJ27 _ _ _ S (lv_sub hl [0, 1] rfl)
theorem call_m_isHitWith {p : Program} {l : Launch} {e : Env} {s : State} {m : MethodId} {args : Array Value} {below : List Frame} {meth : Method} {c : Code} {R : Room} {H : Heap} {locs : List Loc} {cells slots pc nL : Nat} {Q : State → Prop} {ls : Array Slot} {rest : List Value} {cc : ByteArray} {E : mEnv} (hE : mInj E) {g : mS} {x1 : Int32} {x2 : Int32} {r : Int32} {gZ : mS} (F : CallFix p m c cc nL s args lw_all RX9) (hK : mK E s) (S : gS (mA E) s.heap (mP E g) H locs) (h : fm_isHitWith g x1 x2 = some (r, gZ)) (hls : ls.size = nL) (hW : (rest.map fun v => v.category).sum ≤ 8) (hR : rm_m_isHitWith.frames + 1 ≤ R.frames ∧ 8 + (4 + 11) + rm_m_isHitWith.locals ≤ R.locals) (hf : cells ≤ R.cells ∧ slots ≤ R.slots) (hdg : decode cc pc = .ok (.invokevirtual 363, 3))
    (kk : ∀ (H1 : Heap) (locs1 : List Loc), gS (mA E) s.heap (mP E gZ) H1 locs1 → W p l e R s m args below meth c H1 locs1 cells slots Q (F0 m (pc + 3) ls (.int r :: rest))) : W p l e R s m args below meth c H locs cells slots Q (F0 m pc ls (.int x2 :: .int x1 :: .ref (mad E 0) :: rest)) :=
  g_ki (g_runV F hK (mKm E) S (met_m_isHitWith l E hE g x1 x2 r gZ h) (cwV 2 F.2.2.2.2 (lw_V q2305 q2307 qs104 q121 q2308) rfl rfl rfl (by decide +kernel) hR) (m_recv hK S) rfl hls rfl hW hdg hf) S kk
abbrev rm_m_fewest : Room := { frames := 7, cells := 0, slots := 0, locals := 160 }
def Lm_fewest_1 : Nat → mS → Int32 → Int32 → Int32 → Int32 → Option (Int32 × mS)
  | 0, _, _, _, _, _ => none
  | n + 1, g, y1, y2, y3, y4 =>
    if y2 ≤ y4 then
      some (y3, g)
    else
      bd2 ((
        if y3 = (-1) then
          bd2 (fm_isHitWith g y4 y1) fun v12 g13 =>
          if v12 = 0 then
            some (y3, g13)
          else
            some (y4, g13)
        else
          bd1 (fm_ones g y4) fun v16 =>
          bd1 (fm_ones g y3) fun v18 =>
          if v18 ≤ v16 then
            some (y3, g)
          else
            bd2 (fm_isHitWith g y4 y1) fun v21 g22 =>
            if v21 = 0 then
              some (y3, g22)
            else
              some (y4, g22)) : Option (Int32 × mS)) fun v24 g25 =>
      Lm_fewest_1 n g25 y1 y2 v24 (y4 + 1)
def fm_fewest (g : mS) (x1 : Int32) : Option (Int32 × mS) :=
  bd1 (wrF g 0 0) fun g1 =>
  bd2 (fm_noDoor g1 x1) fun v4 g5 =>
  if v4 = 0 then
    bd1 (fm_count g5 2) fun v8 =>
    bd2 (Lm_fewest_1 FUEL g5 x1 (1 <<< (v8 &&& 31)) (-1) 0) fun v28 g29 =>
    some (v28, g29)
  else
    some (0, g5)
set_option maxHeartbeats 4000000 in
set_option maxRecDepth 100000 in
theorem loop_m_fewest_1 {p : Program} {l : Launch} {e : Env} {s : State} {m : MethodId} {args : Array Value} {below : List Frame} {meth : Method} {c : Code} (E : mEnv) (hE : mInj E) (F : CallFix p m c cX9_fewest 5 s args lw_all RX9) (hr : meth.sig.returnType = some .int) (hlk : meth.locks = false) (hK : mK E s) {Q : State → Prop} : ∀ (n : Nat) (g : mS) (y1 : Int32) (y2 : Int32) (y3 : Int32) (y4 : Int32) (o : Int32 × mS), Lm_fewest_1 n g y1 y2 y3 y4 = some o → ∀ (H : Heap) (locs : List Loc) (ls : Array Slot), gS (mA E) s.heap (mP E g) H locs → lv_has ls 5 [(0, .ref (mad E 0)), (1, .int y1), (2, .int y2), (3, .int y3), (4, .int y4)] → (∀ (w3 : Int32) (gx : mS) (H : Heap) (locs : List Loc) (ls : Array Slot), o = (w3, gx) → gS (mA E) s.heap (mP E gx) H locs → lv_has ls 5 [(3, .int w3)] → W p l e rm_m_fewest s m args below meth c H locs 0 0 Q (F0 m 70 ls [])) → W p l e rm_m_fewest s m args below meth c H locs 0 0 Q (F0 m 28 ls []) := by
  have hx := F.1
  have hb := F.2.1
  intro n
  induction n with
  | zero =>
    intro g y1 y2 y3 y4 o h
    rw [Lm_fewest_1] at h
    cases h
  | succ n ih =>
    intro g y1 y2 y3 y4 o h H locs ls S hl kx
    rw [Lm_fewest_1] at h
    refine lv_iload hx hb dX9_fewest_28 (lv_at hl 4 rfl) ?_
    refine lv_iload_n hx hb dX9_fewest_30 rfl (lv_at hl 2 rfl) ?_
    refine lv_icmp_ge (tgt := 70) hx hb dX9_fewest_31 (by decide) (fun c9 => ?_) (fun c9 => ?_)
    · rw [if_pos c9] at h
      cases h
      exact kx _ _ _ _ _ rfl S (lv_sub hl [3] rfl)
    · rw [if_neg c9] at h
      refine lv_iload_n hx hb dX9_fewest_34 rfl (lv_at hl 3 rfl) ?_
      refine lv_iconst (v := (-1)) hx hb dX9_fewest_35 (by decide) ?_
      obtain ⟨v24, g25, hB, h⟩ := bd2_inv h
      have hJ64 : ∀ (H : Heap) (locs : List Loc) (ls : Array Slot), gS (mA E) s.heap (mP E g25) H locs → lv_has ls 5 [(0, .ref (mad E 0)), (1, .int y1), (2, .int y2), (3, .int v24), (4, .int y4)] → W p l e rm_m_fewest s m args below meth c H locs 0 0 Q (F0 m 64 ls []) := by
        intro H locs ls S hl
        refine lv_iinc (v := (y4 + 1)) (lv' := [(4, .int (y4 + 1)), (0, .ref (mad E 0)), (1, .int y1), (2, .int y2), (3, .int v24)]) hx hb dX9_fewest_64 hl (k := 4) rfl rfl (by decide) rfl (fun ls hl => ?_)
        refine lv_goto (tgt := 28) hx hb dX9_fewest_67 (by decide) ?_
        exact ih _ _ _ _ _ _ h _ _ _ S (lv_sub hl [1, 2, 3, 4, 0] rfl) kx
      clear h
      have h := hB
      clear hB
      refine lv_icmp_eq (tgt := 51) hx hb dX9_fewest_36 (by decide) (fun c10 => ?_) (fun c10 => ?_)
      · rw [if_pos c10] at h
        refine lv_aload_n hx hb dX9_fewest_51 rfl (lv_at hl 0 rfl) ?_
        refine lv_iload hx hb dX9_fewest_52 (lv_at hl 4 rfl) ?_
        refine lv_iload_n hx hb dX9_fewest_54 rfl (lv_at hl 1 rfl) ?_
        obtain ⟨v12, g13, e11, h⟩ := bd2_inv h
        refine call_m_isHitWith hE F hK S e11 hl.1 (Nat.le_of_ble_eq_true rfl) ⟨Nat.le_of_ble_eq_true rfl, Nat.le_of_ble_eq_true rfl⟩ ⟨Nat.zero_le _, Nat.zero_le _⟩ dX9_fewest_55 (fun H locs S => ?_)
        refine lv_if_eq (tgt := 64) hx hb dX9_fewest_58 (by decide) (fun c14 => ?_) (fun c14 => ?_)
        · rw [if_pos c14] at h
          cases h
          exact hJ64 _ _ _ S (lv_sub hl [0, 1, 2, 3, 4] rfl)
        · rw [if_neg c14] at h
          refine lv_iload hx hb dX9_fewest_61 (lv_at hl 4 rfl) ?_
          refine lv_istore_n (lv' := [(3, .int y4), (0, .ref (mad E 0)), (1, .int y1), (2, .int y2), (4, .int y4)]) hx hb dX9_fewest_63 rfl hl (by decide) rfl (fun ls hl => ?_)
          cases h
          exact hJ64 _ _ _ S (lv_sub hl [1, 2, 3, 0, 4] rfl)
      · rw [if_neg c10] at h
        refine lv_iload hx hb dX9_fewest_39 (lv_at hl 4 rfl) ?_
        obtain ⟨v16, e15, h⟩ := bd1_inv h
        refine call_m_ones hE F hK S e15 hl.1 (Nat.le_of_ble_eq_true rfl) ⟨Nat.le_of_ble_eq_true rfl, Nat.le_of_ble_eq_true rfl⟩ ⟨Nat.zero_le _, Nat.zero_le _⟩ dX9_fewest_41 (fun H locs S => ?_)
        refine lv_iload_n hx hb dX9_fewest_44 rfl (lv_at hl 3 rfl) ?_
        obtain ⟨v18, e17, h⟩ := bd1_inv h
        refine call_m_ones hE F hK S e17 hl.1 (Nat.le_of_ble_eq_true rfl) ⟨Nat.le_of_ble_eq_true rfl, Nat.le_of_ble_eq_true rfl⟩ ⟨Nat.zero_le _, Nat.zero_le _⟩ dX9_fewest_45 (fun H locs S => ?_)
        refine lv_icmp_ge (tgt := 64) hx hb dX9_fewest_48 (by decide) (fun c19 => ?_) (fun c19 => ?_)
        · rw [if_pos c19] at h
          cases h
          exact hJ64 _ _ _ S (lv_sub hl [0, 1, 2, 3, 4] rfl)
        · rw [if_neg c19] at h
          refine lv_aload_n hx hb dX9_fewest_51 rfl (lv_at hl 0 rfl) ?_
          refine lv_iload hx hb dX9_fewest_52 (lv_at hl 4 rfl) ?_
          refine lv_iload_n hx hb dX9_fewest_54 rfl (lv_at hl 1 rfl) ?_
          obtain ⟨v21, g22, e20, h⟩ := bd2_inv h
          refine call_m_isHitWith hE F hK S e20 hl.1 (Nat.le_of_ble_eq_true rfl) ⟨Nat.le_of_ble_eq_true rfl, Nat.le_of_ble_eq_true rfl⟩ ⟨Nat.zero_le _, Nat.zero_le _⟩ dX9_fewest_55 (fun H locs S => ?_)
          refine lv_if_eq (tgt := 64) hx hb dX9_fewest_58 (by decide) (fun c23 => ?_) (fun c23 => ?_)
          · rw [if_pos c23] at h
            cases h
            exact hJ64 _ _ _ S (lv_sub hl [0, 1, 2, 3, 4] rfl)
          · rw [if_neg c23] at h
            refine lv_iload hx hb dX9_fewest_61 (lv_at hl 4 rfl) ?_
            refine lv_istore_n (lv' := [(3, .int y4), (0, .ref (mad E 0)), (1, .int y1), (2, .int y2), (4, .int y4)]) hx hb dX9_fewest_63 rfl hl (by decide) rfl (fun ls hl => ?_)
            cases h
            exact hJ64 _ _ _ S (lv_sub hl [1, 2, 3, 0, 4] rfl)
set_option maxHeartbeats 4000000 in
set_option maxRecDepth 100000 in
theorem met_m_fewest (l : Launch) (E : mEnv) (hE : mInj E) (g : mS) (x1 : Int32) (r : Int32) (gZ : mS) (h : fm_fewest g x1 = some (r, gZ)) : Met l yX9_fewest (ws_ yX9_fewest cX9_fewest 5 (some .int)) rm_m_fewest (va_Pc [.ref (mad E 0), .int x1] (gPre (mK E) (mP E g))) (gQi r (mP E gZ) (mA E)) 0 0 (mA E) := by
  refine g_met (own := RX9) (by decide) rfl (Nat.le_of_ble_eq_true rfl) ?_
  intro p e s m args below meth c ls F hr hlk hK S hl
  have hx := F.1
  have hb := F.2.1
  have hl : lv_has ls 5 [(0, .ref (mad E 0)), (1, .int x1)] := hl
  unfold fm_fewest at h
  refine lv_aload_n hx hb dX9_fewest_0 rfl (lv_at hl 0 rfl) ?_
  refine lv_iconst (v := 0) hx hb dX9_fewest_1 (by decide) ?_
  obtain ⟨g1, e2, h⟩ := bd1_inv h
  refine m_put0 hE F hK S e2 dX9_fewest_2 (fun H locs S => ?_)
  refine lv_aload_n hx hb dX9_fewest_5 rfl (lv_at hl 0 rfl) ?_
  refine lv_iload_n hx hb dX9_fewest_6 rfl (lv_at hl 1 rfl) ?_
  obtain ⟨v4, g5, e3, h⟩ := bd2_inv h
  refine call_m_noDoor hE F hK S e3 hl.1 (Nat.le_of_ble_eq_true rfl) ⟨Nat.le_of_ble_eq_true rfl, Nat.le_of_ble_eq_true rfl⟩ ⟨Nat.zero_le _, Nat.zero_le _⟩ dX9_fewest_7 (fun H locs S => ?_)
  refine lv_if_eq (tgt := 15) hx hb dX9_fewest_10 (by decide) (fun c6 => ?_) (fun c6 => ?_)
  · rw [if_pos c6] at h
    refine lv_iconst (v := 1) hx hb dX9_fewest_15 (by decide) ?_
    refine lv_aload_n hx hb dX9_fewest_16 rfl (lv_at hl 0 rfl) ?_
    refine lv_iconst (v := 2) hx hb dX9_fewest_17 (by decide) ?_
    obtain ⟨v8, e7, h⟩ := bd1_inv h
    refine call_m_count hE F hK S e7 hl.1 (Nat.le_of_ble_eq_true rfl) ⟨Nat.le_of_ble_eq_true rfl, Nat.le_of_ble_eq_true rfl⟩ ⟨Nat.zero_le _, Nat.zero_le _⟩ dX9_fewest_18 (fun H locs S => ?_)
    refine lv_ishl hx hb dX9_fewest_21 ?_
    refine lv_istore_n (lv' := [(2, .int (1 <<< (v8 &&& 31))), (0, .ref (mad E 0)), (1, .int x1)]) hx hb dX9_fewest_22 rfl hl (by decide) rfl (fun ls hl => ?_)
    refine lv_iconst (v := (-1)) hx hb dX9_fewest_23 (by decide) ?_
    refine lv_istore_n (lv' := [(3, .int (-1)), (2, .int (1 <<< (v8 &&& 31))), (0, .ref (mad E 0)), (1, .int x1)]) hx hb dX9_fewest_24 rfl hl (by decide) rfl (fun ls hl => ?_)
    refine lv_iconst (v := 0) hx hb dX9_fewest_25 (by decide) ?_
    refine lv_istore (lv' := [(4, .int 0), (3, .int (-1)), (2, .int (1 <<< (v8 &&& 31))), (0, .ref (mad E 0)), (1, .int x1)]) hx hb dX9_fewest_26 hl (by decide) rfl (fun ls hl => ?_)
    obtain ⟨v28, g29, e27, h⟩ := bd2_inv h
    refine loop_m_fewest_1 E hE F hr hlk hK _ _ _ _ _ _ _ e27 _ _ _ S (lv_sub hl [3, 4, 2, 1, 0] rfl) (fun v28z g29z H locs ls o S hl => ?_)
    cases o
    refine lv_iload_n hx hb dX9_fewest_70 rfl (lv_at hl 0 rfl) ?_
    cases h
    exact g_iret F hr hlk S rfl dX9_fewest_71
  · rw [if_neg c6] at h
    refine lv_iconst (v := 0) hx hb dX9_fewest_13 (by decide) ?_
    cases h
    exact g_iret F hr hlk S rfl dX9_fewest_14
abbrev rm_m_settings : Room := { frames := 7, cells := 0, slots := 0, locals := 160 }
def Lm_settings_1 : Nat → mS → Int32 → Int32 → Int32 → Int32 → Option (Int32 × mS)
  | 0, _, _, _, _, _ => none
  | n + 1, g, y1, y2, y3, y4 =>
    if y2 ≤ y4 then
      some (y3, g)
    else
      bd2 (fm_isHitWith g y4 y1) fun v11 g12 =>
      bd1 ((
        if v11 = 0 then
          some 0
        else
          some 1) : Option (Int32)) fun v14 =>
      Lm_settings_1 n g12 y1 y2 (y3 + v14) (y4 + 1)
def fm_settings (g : mS) (x1 : Int32) : Option (Int32 × mS) :=
  bd1 (wrF g 0 0) fun g1 =>
  bd2 (fm_noDoor g1 x1) fun v4 g5 =>
  if v4 = 0 then
    bd1 (fm_count g5 2) fun v8 =>
    bd2 (Lm_settings_1 FUEL g5 x1 (1 <<< (v8 &&& 31)) 0 0) fun v17 g18 =>
    some (v17, g18)
  else
    some (0, g5)
set_option maxHeartbeats 4000000 in
set_option maxRecDepth 100000 in
theorem loop_m_settings_1 {p : Program} {l : Launch} {e : Env} {s : State} {m : MethodId} {args : Array Value} {below : List Frame} {meth : Method} {c : Code} (E : mEnv) (hE : mInj E) (F : CallFix p m c cX9_settings 5 s args lw_all RX9) (hr : meth.sig.returnType = some .int) (hlk : meth.locks = false) (hK : mK E s) {Q : State → Prop} : ∀ (n : Nat) (g : mS) (y1 : Int32) (y2 : Int32) (y3 : Int32) (y4 : Int32) (o : Int32 × mS), Lm_settings_1 n g y1 y2 y3 y4 = some o → ∀ (H : Heap) (locs : List Loc) (ls : Array Slot), gS (mA E) s.heap (mP E g) H locs → lv_has ls 5 [(0, .ref (mad E 0)), (1, .int y1), (2, .int y2), (3, .int y3), (4, .int y4)] → (∀ (w3 : Int32) (gx : mS) (H : Heap) (locs : List Loc) (ls : Array Slot), o = (w3, gx) → gS (mA E) s.heap (mP E gx) H locs → lv_has ls 5 [(3, .int w3)] → W p l e rm_m_settings s m args below meth c H locs 0 0 Q (F0 m 58 ls [])) → W p l e rm_m_settings s m args below meth c H locs 0 0 Q (F0 m 28 ls []) := by
  have hx := F.1
  have hb := F.2.1
  intro n
  induction n with
  | zero =>
    intro g y1 y2 y3 y4 o h
    rw [Lm_settings_1] at h
    cases h
  | succ n ih =>
    intro g y1 y2 y3 y4 o h H locs ls S hl kx
    rw [Lm_settings_1] at h
    refine lv_iload hx hb dX9_settings_28 (lv_at hl 4 rfl) ?_
    refine lv_iload_n hx hb dX9_settings_30 rfl (lv_at hl 2 rfl) ?_
    refine lv_icmp_ge (tgt := 58) hx hb dX9_settings_31 (by decide) (fun c9 => ?_) (fun c9 => ?_)
    · rw [if_pos c9] at h
      cases h
      exact kx _ _ _ _ _ rfl S (lv_sub hl [3] rfl)
    · rw [if_neg c9] at h
      refine lv_iload_n hx hb dX9_settings_34 rfl (lv_at hl 3 rfl) ?_
      refine lv_aload_n hx hb dX9_settings_35 rfl (lv_at hl 0 rfl) ?_
      refine lv_iload hx hb dX9_settings_36 (lv_at hl 4 rfl) ?_
      refine lv_iload_n hx hb dX9_settings_38 rfl (lv_at hl 1 rfl) ?_
      obtain ⟨v11, g12, e10, h⟩ := bd2_inv h
      refine call_m_isHitWith hE F hK S e10 hl.1 (Nat.le_of_ble_eq_true rfl) ⟨Nat.le_of_ble_eq_true rfl, Nat.le_of_ble_eq_true rfl⟩ ⟨Nat.zero_le _, Nat.zero_le _⟩ dX9_settings_39 (fun H locs S => ?_)
      obtain ⟨v14, hB, h⟩ := bd1_inv h
      have hJ50 : ∀ (H : Heap) (locs : List Loc) (ls : Array Slot), gS (mA E) s.heap (mP E g12) H locs → lv_has ls 5 [(0, .ref (mad E 0)), (1, .int y1), (2, .int y2), (4, .int y4)] → W p l e rm_m_settings s m args below meth c H locs 0 0 Q (F0 m 50 ls [.int v14, .int y3]) := by
        intro H locs ls S hl
        refine lv_iadd hx hb dX9_settings_50 ?_
        refine lv_istore_n (lv' := [(3, .int (y3 + v14)), (0, .ref (mad E 0)), (1, .int y1), (2, .int y2), (4, .int y4)]) hx hb dX9_settings_51 rfl hl (by decide) rfl (fun ls hl => ?_)
        refine lv_iinc (v := (y4 + 1)) (lv' := [(4, .int (y4 + 1)), (3, .int (y3 + v14)), (0, .ref (mad E 0)), (1, .int y1), (2, .int y2)]) hx hb dX9_settings_52 hl (k := 4) rfl rfl (by decide) rfl (fun ls hl => ?_)
        refine lv_goto (tgt := 28) hx hb dX9_settings_55 (by decide) ?_
        exact ih _ _ _ _ _ _ h _ _ _ S (lv_sub hl [2, 3, 4, 1, 0] rfl) kx
      clear h
      have h := hB
      clear hB
      refine lv_if_eq (tgt := 49) hx hb dX9_settings_42 (by decide) (fun c13 => ?_) (fun c13 => ?_)
      · rw [if_pos c13] at h
        refine lv_iconst (v := 0) hx hb dX9_settings_49 (by decide) ?_
        cases h
        exact hJ50 _ _ _ S (lv_sub hl [0, 1, 2, 4] rfl)
      · rw [if_neg c13] at h
        refine lv_iconst (v := 1) hx hb dX9_settings_45 (by decide) ?_
        refine lv_goto (tgt := 50) hx hb dX9_settings_46 (by decide) ?_
        cases h
        exact hJ50 _ _ _ S (lv_sub hl [0, 1, 2, 4] rfl)
set_option maxHeartbeats 4000000 in
set_option maxRecDepth 100000 in
theorem met_m_settings (l : Launch) (E : mEnv) (hE : mInj E) (g : mS) (x1 : Int32) (r : Int32) (gZ : mS) (h : fm_settings g x1 = some (r, gZ)) : Met l yX9_settings (ws_ yX9_settings cX9_settings 5 (some .int)) rm_m_settings (va_Pc [.ref (mad E 0), .int x1] (gPre (mK E) (mP E g))) (gQi r (mP E gZ) (mA E)) 0 0 (mA E) := by
  refine g_met (own := RX9) (by decide) rfl (Nat.le_of_ble_eq_true rfl) ?_
  intro p e s m args below meth c ls F hr hlk hK S hl
  have hx := F.1
  have hb := F.2.1
  have hl : lv_has ls 5 [(0, .ref (mad E 0)), (1, .int x1)] := hl
  unfold fm_settings at h
  refine lv_aload_n hx hb dX9_settings_0 rfl (lv_at hl 0 rfl) ?_
  refine lv_iconst (v := 0) hx hb dX9_settings_1 (by decide) ?_
  obtain ⟨g1, e2, h⟩ := bd1_inv h
  refine m_put0 hE F hK S e2 dX9_settings_2 (fun H locs S => ?_)
  refine lv_aload_n hx hb dX9_settings_5 rfl (lv_at hl 0 rfl) ?_
  refine lv_iload_n hx hb dX9_settings_6 rfl (lv_at hl 1 rfl) ?_
  obtain ⟨v4, g5, e3, h⟩ := bd2_inv h
  refine call_m_noDoor hE F hK S e3 hl.1 (Nat.le_of_ble_eq_true rfl) ⟨Nat.le_of_ble_eq_true rfl, Nat.le_of_ble_eq_true rfl⟩ ⟨Nat.zero_le _, Nat.zero_le _⟩ dX9_settings_7 (fun H locs S => ?_)
  refine lv_if_eq (tgt := 15) hx hb dX9_settings_10 (by decide) (fun c6 => ?_) (fun c6 => ?_)
  · rw [if_pos c6] at h
    refine lv_iconst (v := 1) hx hb dX9_settings_15 (by decide) ?_
    refine lv_aload_n hx hb dX9_settings_16 rfl (lv_at hl 0 rfl) ?_
    refine lv_iconst (v := 2) hx hb dX9_settings_17 (by decide) ?_
    obtain ⟨v8, e7, h⟩ := bd1_inv h
    refine call_m_count hE F hK S e7 hl.1 (Nat.le_of_ble_eq_true rfl) ⟨Nat.le_of_ble_eq_true rfl, Nat.le_of_ble_eq_true rfl⟩ ⟨Nat.zero_le _, Nat.zero_le _⟩ dX9_settings_18 (fun H locs S => ?_)
    refine lv_ishl hx hb dX9_settings_21 ?_
    refine lv_istore_n (lv' := [(2, .int (1 <<< (v8 &&& 31))), (0, .ref (mad E 0)), (1, .int x1)]) hx hb dX9_settings_22 rfl hl (by decide) rfl (fun ls hl => ?_)
    refine lv_iconst (v := 0) hx hb dX9_settings_23 (by decide) ?_
    refine lv_istore_n (lv' := [(3, .int 0), (2, .int (1 <<< (v8 &&& 31))), (0, .ref (mad E 0)), (1, .int x1)]) hx hb dX9_settings_24 rfl hl (by decide) rfl (fun ls hl => ?_)
    refine lv_iconst (v := 0) hx hb dX9_settings_25 (by decide) ?_
    refine lv_istore (lv' := [(4, .int 0), (3, .int 0), (2, .int (1 <<< (v8 &&& 31))), (0, .ref (mad E 0)), (1, .int x1)]) hx hb dX9_settings_26 hl (by decide) rfl (fun ls hl => ?_)
    obtain ⟨v17, g18, e16, h⟩ := bd2_inv h
    refine loop_m_settings_1 E hE F hr hlk hK _ _ _ _ _ _ _ e16 _ _ _ S (lv_sub hl [3, 4, 2, 1, 0] rfl) (fun v17z g18z H locs ls o S hl => ?_)
    cases o
    refine lv_iload_n hx hb dX9_settings_58 rfl (lv_at hl 0 rfl) ?_
    cases h
    exact g_iret F hr hlk S rfl dX9_settings_59
  · rw [if_neg c6] at h
    refine lv_iconst (v := 0) hx hb dX9_settings_13 (by decide) ?_
    cases h
    exact g_iret F hr hlk S rfl dX9_settings_14
abbrev rm_m_enter : Room := { frames := 1, cells := 0, slots := 0, locals := 22 }
def fm_enter (g : mS) (x1 : Int32) : Option (mS) :=
  bd1 (rdR g 7 x1) fun v1 =>
  bd1 (fm_copy g 1 v1) fun g4 =>
  bd1 (wrI g4 8 x1 (-100)) fun g5 =>
  bd1 (wrI g5 9 x1 0) fun g7 =>
  bd1 (wrZ g7 10 x1 0) fun g9 =>
  some g9
set_option maxHeartbeats 4000000 in
set_option maxRecDepth 100000 in
theorem met_m_enter (l : Launch) (E : mEnv) (hE : mInj E) (g : mS) (x1 : Int32) (gZ : mS) (h : fm_enter g x1 = some gZ) : Met l yX9_enter (ws_ yX9_enter cX9_enter 2 (none)) rm_m_enter (va_Pc [.ref (mad E 0), .int x1] (gPre (mK E) (mP E g))) (gQv (mP E gZ) (mA E)) 0 0 (mA E) := by
  refine g_met (own := RX9) (by decide) rfl (Nat.le_of_ble_eq_true rfl) ?_
  intro p e s m args below meth c ls F hr hlk hK S hl
  have hx := F.1
  have hb := F.2.1
  have hl : lv_has ls 2 [(0, .ref (mad E 0)), (1, .int x1)] := hl
  unfold fm_enter at h
  refine lv_aload_n hx hb dX9_enter_0 rfl (lv_at hl 0 rfl) ?_
  refine m_get1 F hK S dX9_enter_1 ?_
  refine lv_aload_n hx hb dX9_enter_4 rfl (lv_at hl 0 rfl) ?_
  refine m_get8 F hK S dX9_enter_5 ?_
  refine lv_iload_n hx hb dX9_enter_8 rfl (lv_at hl 1 rfl) ?_
  obtain ⟨v1, e2, h⟩ := bd1_inv h
  refine m_aald F hK S e2 dX9_enter_9 ?_
  obtain ⟨g4, e3, h⟩ := bd1_inv h
  refine call_m_copy hE F hK S e3 hl.1 (Nat.le_of_ble_eq_true rfl) ⟨Nat.le_of_ble_eq_true rfl, Nat.le_of_ble_eq_true rfl⟩ ⟨Nat.zero_le _, Nat.zero_le _⟩ dX9_enter_10 (fun H locs S => ?_)
  refine lv_aload_n hx hb dX9_enter_13 rfl (lv_at hl 0 rfl) ?_
  refine m_get9 F hK S dX9_enter_14 ?_
  refine lv_iload_n hx hb dX9_enter_17 rfl (lv_at hl 1 rfl) ?_
  refine lv_bipush (v := (-100)) hx hb dX9_enter_18 (by decide) ?_
  obtain ⟨g5, e6, h⟩ := bd1_inv h
  refine m_iast hE F hK S e6 dX9_enter_20 (fun H locs S => ?_)
  refine lv_aload_n hx hb dX9_enter_21 rfl (lv_at hl 0 rfl) ?_
  refine m_get10 F hK S dX9_enter_22 ?_
  refine lv_iload_n hx hb dX9_enter_25 rfl (lv_at hl 1 rfl) ?_
  refine lv_iconst (v := 0) hx hb dX9_enter_26 (by decide) ?_
  obtain ⟨g7, e8, h⟩ := bd1_inv h
  refine m_iast hE F hK S e8 dX9_enter_27 (fun H locs S => ?_)
  refine lv_aload_n hx hb dX9_enter_28 rfl (lv_at hl 0 rfl) ?_
  refine m_get11 F hK S dX9_enter_29 ?_
  refine lv_iload_n hx hb dX9_enter_32 rfl (lv_at hl 1 rfl) ?_
  refine lv_iconst (v := 0) hx hb dX9_enter_33 (by decide) ?_
  obtain ⟨g9, e10, h⟩ := bd1_inv h
  refine m_zast hE F hK S e10 dX9_enter_34 (fun H locs S => ?_)
  cases h
  exact g_vret F hr hlk S dX9_enter_35
theorem call_m_enter {p : Program} {l : Launch} {e : Env} {s : State} {m : MethodId} {args : Array Value} {below : List Frame} {meth : Method} {c : Code} {R : Room} {H : Heap} {locs : List Loc} {cells slots pc nL : Nat} {Q : State → Prop} {ls : Array Slot} {rest : List Value} {cc : ByteArray} {E : mEnv} (hE : mInj E) {g : mS} {x1 : Int32} {gZ : mS} (F : CallFix p m c cc nL s args lw_all RX9) (hK : mK E s) (S : gS (mA E) s.heap (mP E g) H locs) (h : fm_enter g x1 = some gZ) (hls : ls.size = nL) (hW : (rest.map fun v => v.category).sum ≤ 8) (hR : rm_m_enter.frames + 1 ≤ R.frames ∧ 8 + (2 + 11) + rm_m_enter.locals ≤ R.locals) (hf : cells ≤ R.cells ∧ slots ≤ R.slots) (hdg : decode cc pc = .ok (.invokevirtual 366, 3))
    (kk : ∀ (H1 : Heap) (locs1 : List Loc), gS (mA E) s.heap (mP E gZ) H1 locs1 → W p l e R s m args below meth c H1 locs1 cells slots Q (F0 m (pc + 3) ls (rest))) : W p l e R s m args below meth c H locs cells slots Q (F0 m pc ls (.int x1 :: .ref (mad E 0) :: rest)) :=
  g_kv (g_runV F hK (mKm E) S (met_m_enter l E hE g x1 gZ h) (cwV 1 F.2.2.2.2 (lw_V q2325 q2327 qs107 q121 q2328) rfl rfl rfl (by decide +kernel) hR) (m_recv hK S) rfl hls rfl hW hdg hf) S kk
abbrev rm_m_tryNext : Room := { frames := 9, cells := 0, slots := 0, locals := 208 }
def Lm_tryNext_1 : Nat → mS → Int32 → Int32 → Option ((Int32 × mS) ⊕ mS)
  | 0, _, _, _ => none
  | n + 1, g, y1, y2 =>
    bd1 (rdI g 9 y1) fun v3 =>
    if y2 ≤ v3 then
      some (.inr g)
    else
      bd1 (rdI g 9 y1) fun v6 =>
      bd1 (fm_cellOf g v6 2) fun v9 =>
      bd1 (rdI g 9 y1) fun v10 =>
      bd1 (wrI g 9 y1 (v10 + 1)) fun g12 =>
      bd1 (fm_noTurn g12 v9) fun v15 =>
      if v15 = 0 then
        bd1 (wrZ g12 10 y1 1) fun g17 =>
        bd2 (fm_move g17 v9) fun v20 g21 =>
        some (.inl (1, g21))
      else
        Lm_tryNext_1 n g12 y1 y2
def fm_tryNext (g : mS) (x1 : Int32) : Option (Int32 × mS) :=
  bd1 (fm_count g 2) fun v2 =>
  bs1 (Lm_tryNext_1 FUEL g x1 v2) some fun g23 =>
  bd1 (rdZ g23 10 x1) fun v24 =>
  if v24 = 0 then
    bd1 (wrZ g23 10 x1 1) fun g27 =>
    bd2 (fm_move g27 (-1)) fun v30 g31 =>
    some (1, g31)
  else
    some (0, g23)
set_option maxHeartbeats 4000000 in
set_option maxRecDepth 100000 in
theorem loop_m_tryNext_1 {p : Program} {l : Launch} {e : Env} {s : State} {m : MethodId} {args : Array Value} {below : List Frame} {meth : Method} {c : Code} (E : mEnv) (hE : mInj E) (F : CallFix p m c cX9_tryNext 4 s args lw_all RX9) (hr : meth.sig.returnType = some .boolean) (hlk : meth.locks = false) (hK : mK E s) {r0 : Int32} {g0 : mS} : ∀ (n : Nat) (g : mS) (y1 : Int32) (y2 : Int32) (o : (Int32 × mS) ⊕ mS), Lm_tryNext_1 n g y1 y2 = some o → ∀ (H : Heap) (locs : List Loc) (ls : Array Slot), gS (mA E) s.heap (mP E g) H locs → lv_has ls 4 [(0, .ref (mad E 0)), (1, .int y1), (2, .int y2)] → (∀ rz, o = .inl rz → rz = (r0, g0)) → (∀  (gx : mS) (H : Heap) (locs : List Loc) (ls : Array Slot), o = .inr gx → gS (mA E) s.heap (mP E gx) H locs → lv_has ls 4 [(0, .ref (mad E 0)), (1, .int y1)] → W p l e rm_m_tryNext s m args below meth c H locs 0 0 (MQ below (gQi r0 (mP E g0) (mA E)) args s 0 0 (mA E)) (F0 m 64 ls [])) → W p l e rm_m_tryNext s m args below meth c H locs 0 0 (MQ below (gQi r0 (mP E g0) (mA E)) args s 0 0 (mA E)) (F0 m 6 ls []) := by
  have hx := F.1
  have hb := F.2.1
  intro n
  induction n with
  | zero =>
    intro g y1 y2 o h
    rw [Lm_tryNext_1] at h
    cases h
  | succ n ih =>
    intro g y1 y2 o h H locs ls S hl kr kx
    rw [Lm_tryNext_1] at h
    refine lv_aload_n hx hb dX9_tryNext_6 rfl (lv_at hl 0 rfl) ?_
    refine m_get10 F hK S dX9_tryNext_7 ?_
    refine lv_iload_n hx hb dX9_tryNext_10 rfl (lv_at hl 1 rfl) ?_
    obtain ⟨v3, e4, h⟩ := bd1_inv h
    refine m_iald F hK S e4 dX9_tryNext_11 ?_
    refine lv_iload_n hx hb dX9_tryNext_12 rfl (lv_at hl 2 rfl) ?_
    refine lv_icmp_ge (tgt := 64) hx hb dX9_tryNext_13 (by decide) (fun c5 => ?_) (fun c5 => ?_)
    · rw [if_pos c5] at h
      cases h
      exact kx _ _ _ _ rfl S (lv_sub hl [0, 1] rfl)
    · rw [if_neg c5] at h
      refine lv_aload_n hx hb dX9_tryNext_16 rfl (lv_at hl 0 rfl) ?_
      refine lv_aload_n hx hb dX9_tryNext_17 rfl (lv_at hl 0 rfl) ?_
      refine m_get10 F hK S dX9_tryNext_18 ?_
      refine lv_iload_n hx hb dX9_tryNext_21 rfl (lv_at hl 1 rfl) ?_
      obtain ⟨v6, e7, h⟩ := bd1_inv h
      refine m_iald F hK S e7 dX9_tryNext_22 ?_
      refine lv_iconst (v := 2) hx hb dX9_tryNext_23 (by decide) ?_
      obtain ⟨v9, e8, h⟩ := bd1_inv h
      refine call_m_cellOf hE F hK S e8 hl.1 (Nat.le_of_ble_eq_true rfl) ⟨Nat.le_of_ble_eq_true rfl, Nat.le_of_ble_eq_true rfl⟩ ⟨Nat.zero_le _, Nat.zero_le _⟩ dX9_tryNext_24 (fun H locs S => ?_)
      refine lv_istore_n (lv' := [(3, .int v9), (0, .ref (mad E 0)), (1, .int y1), (2, .int y2)]) hx hb dX9_tryNext_27 rfl hl (by decide) rfl (fun ls hl => ?_)
      refine lv_aload_n hx hb dX9_tryNext_28 rfl (lv_at hl 1 rfl) ?_
      refine m_get10 F hK S dX9_tryNext_29 ?_
      refine lv_iload_n hx hb dX9_tryNext_32 rfl (lv_at hl 2 rfl) ?_
      refine lv_dup2_11 hx hb dX9_tryNext_33 rfl rfl ?_
      obtain ⟨v10, e11, h⟩ := bd1_inv h
      refine m_iald F hK S e11 dX9_tryNext_34 ?_
      refine lv_iconst (v := 1) hx hb dX9_tryNext_35 (by decide) ?_
      refine lv_iadd hx hb dX9_tryNext_36 ?_
      obtain ⟨g12, e13, h⟩ := bd1_inv h
      refine m_iast hE F hK S e13 dX9_tryNext_37 (fun H locs S => ?_)
      refine lv_aload_n hx hb dX9_tryNext_38 rfl (lv_at hl 1 rfl) ?_
      refine lv_iload_n hx hb dX9_tryNext_39 rfl (lv_at hl 0 rfl) ?_
      obtain ⟨v15, e14, h⟩ := bd1_inv h
      refine call_m_noTurn hE F hK S e14 hl.1 (Nat.le_of_ble_eq_true rfl) ⟨Nat.le_of_ble_eq_true rfl, Nat.le_of_ble_eq_true rfl⟩ ⟨Nat.zero_le _, Nat.zero_le _⟩ dX9_tryNext_40 (fun H locs S => ?_)
      refine lv_if_ne (tgt := 61) hx hb dX9_tryNext_43 (by decide) (fun c16 => ?_) (fun c16 => ?_)
      · rw [if_neg c16] at h
        refine lv_goto (tgt := 6) hx hb dX9_tryNext_61 (by decide) ?_
        exact ih _ _ _ _ h _ _ _ S (lv_sub hl [1, 2, 3] rfl) kr kx
      · rw [if_pos c16] at h
        refine lv_aload_n hx hb dX9_tryNext_46 rfl (lv_at hl 1 rfl) ?_
        refine m_get11 F hK S dX9_tryNext_47 ?_
        refine lv_iload_n hx hb dX9_tryNext_50 rfl (lv_at hl 2 rfl) ?_
        refine lv_iconst (v := 1) hx hb dX9_tryNext_51 (by decide) ?_
        obtain ⟨g17, e18, h⟩ := bd1_inv h
        refine m_zast hE F hK S e18 dX9_tryNext_52 (fun H locs S => ?_)
        refine lv_aload_n hx hb dX9_tryNext_53 rfl (lv_at hl 1 rfl) ?_
        refine lv_iload_n hx hb dX9_tryNext_54 rfl (lv_at hl 0 rfl) ?_
        obtain ⟨v20, g21, e19, h⟩ := bd2_inv h
        refine call_m_move hE F hK S e19 hl.1 (Nat.le_of_ble_eq_true rfl) ⟨Nat.le_of_ble_eq_true rfl, Nat.le_of_ble_eq_true rfl⟩ ⟨Nat.zero_le _, Nat.zero_le _⟩ dX9_tryNext_55 (fun H locs S => ?_)
        refine lv_pop hx hb dX9_tryNext_58 rfl ?_
        refine lv_iconst (v := 1) hx hb dX9_tryNext_59 (by decide) ?_
        have hq := kr _ (Option.some.inj h).symm
        obtain ⟨hq1, hq2⟩ := Prod.mk.inj hq
        subst hq2
        subst hq1
        exact g_zret F hr hlk S zN_1 dX9_tryNext_60
set_option maxHeartbeats 4000000 in
set_option maxRecDepth 100000 in
theorem met_m_tryNext (l : Launch) (E : mEnv) (hE : mInj E) (g : mS) (x1 : Int32) (r : Int32) (gZ : mS) (h : fm_tryNext g x1 = some (r, gZ)) : Met l yX9_tryNext (ws_ yX9_tryNext cX9_tryNext 4 (some .boolean)) rm_m_tryNext (va_Pc [.ref (mad E 0), .int x1] (gPre (mK E) (mP E g))) (gQi r (mP E gZ) (mA E)) 0 0 (mA E) := by
  refine g_met (own := RX9) (by decide) rfl (Nat.le_of_ble_eq_true rfl) ?_
  intro p e s m args below meth c ls F hr hlk hK S hl
  have hx := F.1
  have hb := F.2.1
  have hl : lv_has ls 4 [(0, .ref (mad E 0)), (1, .int x1)] := hl
  unfold fm_tryNext at h
  refine lv_aload_n hx hb dX9_tryNext_0 rfl (lv_at hl 0 rfl) ?_
  refine lv_iconst (v := 2) hx hb dX9_tryNext_1 (by decide) ?_
  obtain ⟨v2, e1, h⟩ := bd1_inv h
  refine call_m_count hE F hK S e1 hl.1 (Nat.le_of_ble_eq_true rfl) ⟨Nat.le_of_ble_eq_true rfl, Nat.le_of_ble_eq_true rfl⟩ ⟨Nat.zero_le _, Nat.zero_le _⟩ dX9_tryNext_2 (fun H locs S => ?_)
  refine lv_istore_n (lv' := [(2, .int v2), (0, .ref (mad E 0)), (1, .int x1)]) hx hb dX9_tryNext_5 rfl hl (by decide) rfl (fun ls hl => ?_)
  rcases bs1_inv h with ⟨r32, e22, h⟩ | ⟨g23, e22, h⟩
  · exact loop_m_tryNext_1 E hE F hr hlk hK _ _ _ _ _ e22 _ _ _ S (lv_sub hl [1, 2, 0] rfl) (fun rz o => by cases o; exact Option.some.inj h) (fun g23z H locs ls o S hl => by cases o)
  · refine loop_m_tryNext_1 E hE F hr hlk hK _ _ _ _ _ e22 _ _ _ S (lv_sub hl [1, 2, 0] rfl) (fun rz o => by cases o) (fun g23z H locs ls o S hl => ?_)
    cases o
    refine lv_aload_n hx hb dX9_tryNext_64 rfl (lv_at hl 0 rfl) ?_
    refine m_get11 F hK S dX9_tryNext_65 ?_
    refine lv_iload_n hx hb dX9_tryNext_68 rfl (lv_at hl 1 rfl) ?_
    obtain ⟨v24, e25, h⟩ := bd1_inv h
    refine m_zald F hK S e25 dX9_tryNext_69 ?_
    refine lv_if_ne (tgt := 88) hx hb dX9_tryNext_70 (by decide) (fun c26 => ?_) (fun c26 => ?_)
    · rw [if_neg c26] at h
      refine lv_iconst (v := 0) hx hb dX9_tryNext_88 (by decide) ?_
      cases h
      exact g_zret F hr hlk S zN_0 dX9_tryNext_89
    · rw [if_pos c26] at h
      refine lv_aload_n hx hb dX9_tryNext_73 rfl (lv_at hl 0 rfl) ?_
      refine m_get11 F hK S dX9_tryNext_74 ?_
      refine lv_iload_n hx hb dX9_tryNext_77 rfl (lv_at hl 1 rfl) ?_
      refine lv_iconst (v := 1) hx hb dX9_tryNext_78 (by decide) ?_
      obtain ⟨g27, e28, h⟩ := bd1_inv h
      refine m_zast hE F hK S e28 dX9_tryNext_79 (fun H locs S => ?_)
      refine lv_aload_n hx hb dX9_tryNext_80 rfl (lv_at hl 0 rfl) ?_
      refine lv_iconst (v := (-1)) hx hb dX9_tryNext_81 (by decide) ?_
      obtain ⟨v30, g31, e29, h⟩ := bd2_inv h
      refine call_m_move hE F hK S e29 hl.1 (Nat.le_of_ble_eq_true rfl) ⟨Nat.le_of_ble_eq_true rfl, Nat.le_of_ble_eq_true rfl⟩ ⟨Nat.zero_le _, Nat.zero_le _⟩ dX9_tryNext_82 (fun H locs S => ?_)
      refine lv_pop hx hb dX9_tryNext_85 rfl ?_
      refine lv_iconst (v := 1) hx hb dX9_tryNext_86 (by decide) ?_
      cases h
      exact g_zret F hr hlk S zN_1 dX9_tryNext_87
theorem call_m_tryNext {p : Program} {l : Launch} {e : Env} {s : State} {m : MethodId} {args : Array Value} {below : List Frame} {meth : Method} {c : Code} {R : Room} {H : Heap} {locs : List Loc} {cells slots pc nL : Nat} {Q : State → Prop} {ls : Array Slot} {rest : List Value} {cc : ByteArray} {E : mEnv} (hE : mInj E) {g : mS} {x1 : Int32} {r : Int32} {gZ : mS} (F : CallFix p m c cc nL s args lw_all RX9) (hK : mK E s) (S : gS (mA E) s.heap (mP E g) H locs) (h : fm_tryNext g x1 = some (r, gZ)) (hls : ls.size = nL) (hW : (rest.map fun v => v.category).sum ≤ 8) (hR : rm_m_tryNext.frames + 1 ≤ R.frames ∧ 8 + (4 + 11) + rm_m_tryNext.locals ≤ R.locals) (hf : cells ≤ R.cells ∧ slots ≤ R.slots) (hdg : decode cc pc = .ok (.invokevirtual 369, 3))
    (kk : ∀ (H1 : Heap) (locs1 : List Loc), gS (mA E) s.heap (mP E gZ) H1 locs1 → W p l e R s m args below meth c H1 locs1 cells slots Q (F0 m (pc + 3) ls (.int r :: rest))) : W p l e R s m args below meth c H locs cells slots Q (F0 m pc ls (.int x1 :: .ref (mad E 0) :: rest)) :=
  g_ki (g_runV F hK (mKm E) S (met_m_tryNext l E hE g x1 r gZ h) (cwV 1 F.2.2.2.2 (lw_V q2329 q2331 qs108 q121 q2332) rfl rfl rfl (by decide +kernel) hR) (m_recv hK S) rfl hls rfl hW hdg hf) S kk
abbrev rm_m_worthOf : Room := { frames := 10, cells := 0, slots := 0, locals := 231 }
def Lm_worthOf_1 : Nat → mS → Int32 → Int32 → Option (Int32 × mS)
  | 0, _, _, _ => none
  | n + 1, g, y1, y2 =>
    bd1 (fm_isOver g) fun v4 =>
    bd1 ((
      if v4 = 0 then
        if y2 = y1 then
          some 1
        else
          some 0
      else
        some 1) : Option (Int32)) fun v7 =>
    if v7 = 0 then
      bd2 (fm_tryNext g y2) fun v37 g38 =>
      if v37 = 0 then
        bd1 ((
          if v7 = 0 then
            bd1 (rdI g38 8 y2) fun v41 =>
            some v41
          else
            bd1 (rdI g38 1 5) fun v43 =>
            bd1 (fm_points g38 v43) fun v46 =>
            bd1 (rdI g38 1 5) fun v47 =>
            bd1 (fm_points g38 (3 - v47)) fun v50 =>
            some (v46 - v50)) : Option (Int32)) fun v51 =>
        if y2 = 0 then
          some (v51, g38)
        else
          bd1 (rdR g38 7 (y2 + (-1))) fun v53 =>
          bd1 (fm_copy g38 v53 1) fun g56 =>
          bd1 (rdI g56 8 (y2 + (-1))) fun v57 =>
          bd1 ((
            if (-v51) ≤ v57 then
              bd1 (rdI g56 8 (y2 + (-1))) fun v60 =>
              some v60
            else
              some (-v51)) : Option (Int32)) fun v62 =>
          bd1 (wrI g56 8 (y2 + (-1)) v62) fun g63 =>
          Lm_worthOf_1 n g63 y1 (y2 + (-1))
      else
        bd1 (fm_enter g38 (y2 + 1)) fun g68 =>
        Lm_worthOf_1 n g68 y1 (y2 + 1)
    else
      bd1 ((
        if v7 = 0 then
          bd1 (rdI g 8 y2) fun v10 =>
          some v10
        else
          bd1 (rdI g 1 5) fun v12 =>
          bd1 (fm_points g v12) fun v15 =>
          bd1 (rdI g 1 5) fun v16 =>
          bd1 (fm_points g (3 - v16)) fun v19 =>
          some (v15 - v19)) : Option (Int32)) fun v20 =>
      if y2 = 0 then
        some (v20, g)
      else
        bd1 (rdR g 7 (y2 + (-1))) fun v22 =>
        bd1 (fm_copy g v22 1) fun g25 =>
        bd1 (rdI g25 8 (y2 + (-1))) fun v26 =>
        bd1 ((
          if (-v20) ≤ v26 then
            bd1 (rdI g25 8 (y2 + (-1))) fun v29 =>
            some v29
          else
            some (-v20)) : Option (Int32)) fun v31 =>
        bd1 (wrI g25 8 (y2 + (-1)) v31) fun g32 =>
        Lm_worthOf_1 n g32 y1 (y2 + (-1))
def fm_worthOf (g : mS) (x1 : Int32) : Option (Int32 × mS) :=
  bd1 (fm_enter g 0) fun g2 =>
  bd2 (Lm_worthOf_1 FUEL g2 x1 0) fun v71 g72 =>
  some (v71, g72)
set_option maxHeartbeats 4000000 in
set_option maxRecDepth 100000 in
theorem loop_m_worthOf_1 {p : Program} {l : Launch} {e : Env} {s : State} {m : MethodId} {args : Array Value} {below : List Frame} {meth : Method} {c : Code} (E : mEnv) (hE : mInj E) (F : CallFix p m c cX9_worthOf 5 s args lw_all RX9) (hr : meth.sig.returnType = some .int) (hlk : meth.locks = false) (hK : mK E s) {Q : State → Prop} : ∀ (n : Nat) (g : mS) (y1 : Int32) (y2 : Int32) (o : Int32 × mS), Lm_worthOf_1 n g y1 y2 = some o → ∀ (H : Heap) (locs : List Loc) (ls : Array Slot), gS (mA E) s.heap (mP E g) H locs → lv_has ls 5 [(0, .ref (mad E 0)), (1, .int y1), (2, .int y2)] → (∀ (w4 : Int32) (gx : mS) (H : Heap) (locs : List Loc) (ls : Array Slot), o = (w4, gx) → gS (mA E) s.heap (mP E gx) H locs → lv_has ls 5 [(4, .int w4)] → W p l e rm_m_worthOf s m args below meth c H locs 0 0 Q (F0 m 90 ls [])) → W p l e rm_m_worthOf s m args below meth c H locs 0 0 Q (F0 m 7 ls []) := by
  have hx := F.1
  have hb := F.2.1
  intro n
  induction n with
  | zero =>
    intro g y1 y2 o h
    rw [Lm_worthOf_1] at h
    cases h
  | succ n ih =>
    intro g y1 y2 o h H locs ls S hl kx
    rw [Lm_worthOf_1] at h
    refine lv_aload_n hx hb dX9_worthOf_7 rfl (lv_at hl 0 rfl) ?_
    obtain ⟨v4, e3, h⟩ := bd1_inv h
    refine call_m_isOver hE F hK S e3 hl.1 (Nat.le_of_ble_eq_true rfl) ⟨Nat.le_of_ble_eq_true rfl, Nat.le_of_ble_eq_true rfl⟩ ⟨Nat.zero_le _, Nat.zero_le _⟩ dX9_worthOf_8 (fun H locs S => ?_)
    obtain ⟨v7, hB, h⟩ := bd1_inv h
    have hJ24 : ∀ (H : Heap) (locs : List Loc) (ls : Array Slot), gS (mA E) s.heap (mP E g) H locs → lv_has ls 5 [(0, .ref (mad E 0)), (1, .int y1), (2, .int y2)] → W p l e rm_m_worthOf s m args below meth c H locs 0 0 Q (F0 m 24 ls [.int v7]) := by
      intro H locs ls S hl
      refine lv_istore_n (lv' := [(3, .int v7), (0, .ref (mad E 0)), (1, .int y1), (2, .int y2)]) hx hb dX9_worthOf_24 rfl hl (by decide) rfl (fun ls hl => ?_)
      refine lv_iload_n hx hb dX9_worthOf_25 rfl (lv_at hl 0 rfl) ?_
      refine lv_if_ne (tgt := 48) hx hb dX9_worthOf_26 (by decide) (fun c8 => ?_) (fun c8 => ?_)
      · rw [if_neg c8] at h
        refine lv_iload_n hx hb dX9_worthOf_48 rfl (lv_at hl 0 rfl) ?_
        obtain ⟨v20, hB, h⟩ := bd1_inv h
        have hJ84 : ∀ (H : Heap) (locs : List Loc) (ls : Array Slot), gS (mA E) s.heap (mP E g) H locs → lv_has ls 5 [(0, .ref (mad E 0)), (1, .int y1), (2, .int y2)] → W p l e rm_m_worthOf s m args below meth c H locs 0 0 Q (F0 m 84 ls [.int v20]) := by
          intro H locs ls S hl
          refine lv_istore (lv' := [(4, .int v20), (0, .ref (mad E 0)), (1, .int y1), (2, .int y2)]) hx hb dX9_worthOf_84 hl (by decide) rfl (fun ls hl => ?_)
          refine lv_iload_n hx hb dX9_worthOf_86 rfl (lv_at hl 3 rfl) ?_
          refine lv_if_ne (tgt := 93) hx hb dX9_worthOf_87 (by decide) (fun c21 => ?_) (fun c21 => ?_)
          · rw [if_neg c21] at h
            refine lv_iinc (v := (y2 + (-1))) (lv' := [(2, .int (y2 + (-1))), (4, .int v20), (0, .ref (mad E 0)), (1, .int y1)]) hx hb dX9_worthOf_93 hl (k := 3) rfl rfl (by decide) rfl (fun ls hl => ?_)
            refine lv_aload_n hx hb dX9_worthOf_96 rfl (lv_at hl 2 rfl) ?_
            refine m_get8 F hK S dX9_worthOf_97 ?_
            refine lv_iload_n hx hb dX9_worthOf_100 rfl (lv_at hl 0 rfl) ?_
            obtain ⟨v22, e23, h⟩ := bd1_inv h
            refine m_aald F hK S e23 dX9_worthOf_101 ?_
            refine lv_aload_n hx hb dX9_worthOf_102 rfl (lv_at hl 2 rfl) ?_
            refine m_get1 F hK S dX9_worthOf_103 ?_
            obtain ⟨g25, e24, h⟩ := bd1_inv h
            refine call_m_copy hE F hK S e24 hl.1 (Nat.le_of_ble_eq_true rfl) ⟨Nat.le_of_ble_eq_true rfl, Nat.le_of_ble_eq_true rfl⟩ ⟨Nat.zero_le _, Nat.zero_le _⟩ dX9_worthOf_106 (fun H locs S => ?_)
            refine lv_aload_n hx hb dX9_worthOf_109 rfl (lv_at hl 2 rfl) ?_
            refine m_get9 F hK S dX9_worthOf_110 ?_
            refine lv_iload_n hx hb dX9_worthOf_113 rfl (lv_at hl 0 rfl) ?_
            refine lv_iload hx hb dX9_worthOf_114 (lv_at hl 1 rfl) ?_
            refine lv_ineg hx hb dX9_worthOf_116 ?_
            refine lv_aload_n hx hb dX9_worthOf_117 rfl (lv_at hl 2 rfl) ?_
            refine m_get9 F hK S dX9_worthOf_118 ?_
            refine lv_iload_n hx hb dX9_worthOf_121 rfl (lv_at hl 0 rfl) ?_
            obtain ⟨v26, e27, h⟩ := bd1_inv h
            refine m_iald F hK S e27 dX9_worthOf_122 ?_
            obtain ⟨v31, hB, h⟩ := bd1_inv h
            have hJ138 : ∀ (H : Heap) (locs : List Loc) (ls : Array Slot), gS (mA E) s.heap (mP E g25) H locs → lv_has ls 5 [(0, .ref (mad E 0)), (1, .int y1), (2, .int (y2 + (-1)))] → W p l e rm_m_worthOf s m args below meth c H locs 0 0 Q (F0 m 138 ls [.int v31, .int (y2 + (-1)), .ref (mad E 8)]) := by
              intro H locs ls S hl
              obtain ⟨g32, e33, h⟩ := bd1_inv h
              refine m_iast hE F hK S e33 dX9_worthOf_138 (fun H locs S => ?_)
              refine lv_goto (tgt := 7) hx hb dX9_worthOf_139 (by decide) ?_
              exact ih _ _ _ _ h _ _ _ S (lv_sub hl [0, 1, 2] rfl) kx
            clear h
            have h := hB
            clear hB
            refine lv_icmp_le (tgt := 132) hx hb dX9_worthOf_123 (by decide) (fun c28 => ?_) (fun c28 => ?_)
            · rw [if_pos c28] at h
              refine lv_aload_n hx hb dX9_worthOf_132 rfl (lv_at hl 2 rfl) ?_
              refine m_get9 F hK S dX9_worthOf_133 ?_
              refine lv_iload_n hx hb dX9_worthOf_136 rfl (lv_at hl 0 rfl) ?_
              obtain ⟨v29, e30, h⟩ := bd1_inv h
              refine m_iald F hK S e30 dX9_worthOf_137 ?_
              cases h
              exact hJ138 _ _ _ S (lv_sub hl [2, 3, 0] rfl)
            · rw [if_neg c28] at h
              refine lv_iload hx hb dX9_worthOf_126 (lv_at hl 1 rfl) ?_
              refine lv_ineg hx hb dX9_worthOf_128 ?_
              refine lv_goto (tgt := 138) hx hb dX9_worthOf_129 (by decide) ?_
              cases h
              exact hJ138 _ _ _ S (lv_sub hl [2, 3, 0] rfl)
          · rw [if_pos c21] at h
            cases h
            exact kx _ _ _ _ _ rfl S (lv_sub hl [0] rfl)
        clear h
        have h := hB
        clear hB
        refine lv_if_eq (tgt := 78) hx hb dX9_worthOf_49 (by decide) (fun c9 => ?_) (fun c9 => ?_)
        · rw [if_pos c9] at h
          refine lv_aload_n hx hb dX9_worthOf_78 rfl (lv_at hl 1 rfl) ?_
          refine m_get9 F hK S dX9_worthOf_79 ?_
          refine lv_iload_n hx hb dX9_worthOf_82 rfl (lv_at hl 3 rfl) ?_
          obtain ⟨v10, e11, h⟩ := bd1_inv h
          refine m_iald F hK S e11 dX9_worthOf_83 ?_
          cases h
          exact hJ84 _ _ _ S (lv_sub hl [1, 2, 3] rfl)
        · rw [if_neg c9] at h
          refine lv_aload_n hx hb dX9_worthOf_52 rfl (lv_at hl 1 rfl) ?_
          refine lv_aload_n hx hb dX9_worthOf_53 rfl (lv_at hl 1 rfl) ?_
          refine m_get1 F hK S dX9_worthOf_54 ?_
          refine lv_iconst (v := 5) hx hb dX9_worthOf_57 (by decide) ?_
          obtain ⟨v12, e13, h⟩ := bd1_inv h
          refine m_iald F hK S e13 dX9_worthOf_58 ?_
          obtain ⟨v15, e14, h⟩ := bd1_inv h
          refine call_m_points hE F hK S e14 hl.1 (Nat.le_of_ble_eq_true rfl) ⟨Nat.le_of_ble_eq_true rfl, Nat.le_of_ble_eq_true rfl⟩ ⟨Nat.zero_le _, Nat.zero_le _⟩ dX9_worthOf_59 (fun H locs S => ?_)
          refine lv_aload_n hx hb dX9_worthOf_62 rfl (lv_at hl 1 rfl) ?_
          refine lv_iconst (v := 3) hx hb dX9_worthOf_63 (by decide) ?_
          refine lv_aload_n hx hb dX9_worthOf_64 rfl (lv_at hl 1 rfl) ?_
          refine m_get1 F hK S dX9_worthOf_65 ?_
          refine lv_iconst (v := 5) hx hb dX9_worthOf_68 (by decide) ?_
          obtain ⟨v16, e17, h⟩ := bd1_inv h
          refine m_iald F hK S e17 dX9_worthOf_69 ?_
          refine lv_isub hx hb dX9_worthOf_70 ?_
          obtain ⟨v19, e18, h⟩ := bd1_inv h
          refine call_m_points hE F hK S e18 hl.1 (Nat.le_of_ble_eq_true rfl) ⟨Nat.le_of_ble_eq_true rfl, Nat.le_of_ble_eq_true rfl⟩ ⟨Nat.zero_le _, Nat.zero_le _⟩ dX9_worthOf_71 (fun H locs S => ?_)
          refine lv_isub hx hb dX9_worthOf_74 ?_
          refine lv_goto (tgt := 84) hx hb dX9_worthOf_75 (by decide) ?_
          cases h
          exact hJ84 _ _ _ S (lv_sub hl [1, 2, 3] rfl)
      · rw [if_pos c8] at h
        refine lv_aload_n hx hb dX9_worthOf_29 rfl (lv_at hl 1 rfl) ?_
        refine lv_iload_n hx hb dX9_worthOf_30 rfl (lv_at hl 3 rfl) ?_
        obtain ⟨v37, g38, e36, h⟩ := bd2_inv h
        refine call_m_tryNext hE F hK S e36 hl.1 (Nat.le_of_ble_eq_true rfl) ⟨Nat.le_of_ble_eq_true rfl, Nat.le_of_ble_eq_true rfl⟩ ⟨Nat.zero_le _, Nat.zero_le _⟩ dX9_worthOf_31 (fun H locs S => ?_)
        refine lv_if_eq (tgt := 48) hx hb dX9_worthOf_34 (by decide) (fun c39 => ?_) (fun c39 => ?_)
        · rw [if_pos c39] at h
          refine lv_iload_n hx hb dX9_worthOf_48 rfl (lv_at hl 0 rfl) ?_
          obtain ⟨v51, hB, h⟩ := bd1_inv h
          have hJ84 : ∀ (H : Heap) (locs : List Loc) (ls : Array Slot), gS (mA E) s.heap (mP E g38) H locs → lv_has ls 5 [(0, .ref (mad E 0)), (1, .int y1), (2, .int y2)] → W p l e rm_m_worthOf s m args below meth c H locs 0 0 Q (F0 m 84 ls [.int v51]) := by
            intro H locs ls S hl
            refine lv_istore (lv' := [(4, .int v51), (0, .ref (mad E 0)), (1, .int y1), (2, .int y2)]) hx hb dX9_worthOf_84 hl (by decide) rfl (fun ls hl => ?_)
            refine lv_iload_n hx hb dX9_worthOf_86 rfl (lv_at hl 3 rfl) ?_
            refine lv_if_ne (tgt := 93) hx hb dX9_worthOf_87 (by decide) (fun c52 => ?_) (fun c52 => ?_)
            · rw [if_neg c52] at h
              refine lv_iinc (v := (y2 + (-1))) (lv' := [(2, .int (y2 + (-1))), (4, .int v51), (0, .ref (mad E 0)), (1, .int y1)]) hx hb dX9_worthOf_93 hl (k := 3) rfl rfl (by decide) rfl (fun ls hl => ?_)
              refine lv_aload_n hx hb dX9_worthOf_96 rfl (lv_at hl 2 rfl) ?_
              refine m_get8 F hK S dX9_worthOf_97 ?_
              refine lv_iload_n hx hb dX9_worthOf_100 rfl (lv_at hl 0 rfl) ?_
              obtain ⟨v53, e54, h⟩ := bd1_inv h
              refine m_aald F hK S e54 dX9_worthOf_101 ?_
              refine lv_aload_n hx hb dX9_worthOf_102 rfl (lv_at hl 2 rfl) ?_
              refine m_get1 F hK S dX9_worthOf_103 ?_
              obtain ⟨g56, e55, h⟩ := bd1_inv h
              refine call_m_copy hE F hK S e55 hl.1 (Nat.le_of_ble_eq_true rfl) ⟨Nat.le_of_ble_eq_true rfl, Nat.le_of_ble_eq_true rfl⟩ ⟨Nat.zero_le _, Nat.zero_le _⟩ dX9_worthOf_106 (fun H locs S => ?_)
              refine lv_aload_n hx hb dX9_worthOf_109 rfl (lv_at hl 2 rfl) ?_
              refine m_get9 F hK S dX9_worthOf_110 ?_
              refine lv_iload_n hx hb dX9_worthOf_113 rfl (lv_at hl 0 rfl) ?_
              refine lv_iload hx hb dX9_worthOf_114 (lv_at hl 1 rfl) ?_
              refine lv_ineg hx hb dX9_worthOf_116 ?_
              refine lv_aload_n hx hb dX9_worthOf_117 rfl (lv_at hl 2 rfl) ?_
              refine m_get9 F hK S dX9_worthOf_118 ?_
              refine lv_iload_n hx hb dX9_worthOf_121 rfl (lv_at hl 0 rfl) ?_
              obtain ⟨v57, e58, h⟩ := bd1_inv h
              refine m_iald F hK S e58 dX9_worthOf_122 ?_
              obtain ⟨v62, hB, h⟩ := bd1_inv h
              have hJ138 : ∀ (H : Heap) (locs : List Loc) (ls : Array Slot), gS (mA E) s.heap (mP E g56) H locs → lv_has ls 5 [(0, .ref (mad E 0)), (1, .int y1), (2, .int (y2 + (-1)))] → W p l e rm_m_worthOf s m args below meth c H locs 0 0 Q (F0 m 138 ls [.int v62, .int (y2 + (-1)), .ref (mad E 8)]) := by
                intro H locs ls S hl
                obtain ⟨g63, e64, h⟩ := bd1_inv h
                refine m_iast hE F hK S e64 dX9_worthOf_138 (fun H locs S => ?_)
                refine lv_goto (tgt := 7) hx hb dX9_worthOf_139 (by decide) ?_
                exact ih _ _ _ _ h _ _ _ S (lv_sub hl [0, 1, 2] rfl) kx
              clear h
              have h := hB
              clear hB
              refine lv_icmp_le (tgt := 132) hx hb dX9_worthOf_123 (by decide) (fun c59 => ?_) (fun c59 => ?_)
              · rw [if_pos c59] at h
                refine lv_aload_n hx hb dX9_worthOf_132 rfl (lv_at hl 2 rfl) ?_
                refine m_get9 F hK S dX9_worthOf_133 ?_
                refine lv_iload_n hx hb dX9_worthOf_136 rfl (lv_at hl 0 rfl) ?_
                obtain ⟨v60, e61, h⟩ := bd1_inv h
                refine m_iald F hK S e61 dX9_worthOf_137 ?_
                cases h
                exact hJ138 _ _ _ S (lv_sub hl [2, 3, 0] rfl)
              · rw [if_neg c59] at h
                refine lv_iload hx hb dX9_worthOf_126 (lv_at hl 1 rfl) ?_
                refine lv_ineg hx hb dX9_worthOf_128 ?_
                refine lv_goto (tgt := 138) hx hb dX9_worthOf_129 (by decide) ?_
                cases h
                exact hJ138 _ _ _ S (lv_sub hl [2, 3, 0] rfl)
            · rw [if_pos c52] at h
              cases h
              exact kx _ _ _ _ _ rfl S (lv_sub hl [0] rfl)
          clear h
          have h := hB
          clear hB
          refine lv_if_eq (tgt := 78) hx hb dX9_worthOf_49 (by decide) (fun c40 => ?_) (fun c40 => ?_)
          · rw [if_pos c40] at h
            refine lv_aload_n hx hb dX9_worthOf_78 rfl (lv_at hl 1 rfl) ?_
            refine m_get9 F hK S dX9_worthOf_79 ?_
            refine lv_iload_n hx hb dX9_worthOf_82 rfl (lv_at hl 3 rfl) ?_
            obtain ⟨v41, e42, h⟩ := bd1_inv h
            refine m_iald F hK S e42 dX9_worthOf_83 ?_
            cases h
            exact hJ84 _ _ _ S (lv_sub hl [1, 2, 3] rfl)
          · rw [if_neg c40] at h
            refine lv_aload_n hx hb dX9_worthOf_52 rfl (lv_at hl 1 rfl) ?_
            refine lv_aload_n hx hb dX9_worthOf_53 rfl (lv_at hl 1 rfl) ?_
            refine m_get1 F hK S dX9_worthOf_54 ?_
            refine lv_iconst (v := 5) hx hb dX9_worthOf_57 (by decide) ?_
            obtain ⟨v43, e44, h⟩ := bd1_inv h
            refine m_iald F hK S e44 dX9_worthOf_58 ?_
            obtain ⟨v46, e45, h⟩ := bd1_inv h
            refine call_m_points hE F hK S e45 hl.1 (Nat.le_of_ble_eq_true rfl) ⟨Nat.le_of_ble_eq_true rfl, Nat.le_of_ble_eq_true rfl⟩ ⟨Nat.zero_le _, Nat.zero_le _⟩ dX9_worthOf_59 (fun H locs S => ?_)
            refine lv_aload_n hx hb dX9_worthOf_62 rfl (lv_at hl 1 rfl) ?_
            refine lv_iconst (v := 3) hx hb dX9_worthOf_63 (by decide) ?_
            refine lv_aload_n hx hb dX9_worthOf_64 rfl (lv_at hl 1 rfl) ?_
            refine m_get1 F hK S dX9_worthOf_65 ?_
            refine lv_iconst (v := 5) hx hb dX9_worthOf_68 (by decide) ?_
            obtain ⟨v47, e48, h⟩ := bd1_inv h
            refine m_iald F hK S e48 dX9_worthOf_69 ?_
            refine lv_isub hx hb dX9_worthOf_70 ?_
            obtain ⟨v50, e49, h⟩ := bd1_inv h
            refine call_m_points hE F hK S e49 hl.1 (Nat.le_of_ble_eq_true rfl) ⟨Nat.le_of_ble_eq_true rfl, Nat.le_of_ble_eq_true rfl⟩ ⟨Nat.zero_le _, Nat.zero_le _⟩ dX9_worthOf_71 (fun H locs S => ?_)
            refine lv_isub hx hb dX9_worthOf_74 ?_
            refine lv_goto (tgt := 84) hx hb dX9_worthOf_75 (by decide) ?_
            cases h
            exact hJ84 _ _ _ S (lv_sub hl [1, 2, 3] rfl)
        · rw [if_neg c39] at h
          refine lv_iinc (v := (y2 + 1)) (lv' := [(2, .int (y2 + 1)), (3, .int v7), (0, .ref (mad E 0)), (1, .int y1)]) hx hb dX9_worthOf_37 hl (k := 3) rfl rfl (by decide) rfl (fun ls hl => ?_)
          refine lv_aload_n hx hb dX9_worthOf_40 rfl (lv_at hl 2 rfl) ?_
          refine lv_iload_n hx hb dX9_worthOf_41 rfl (lv_at hl 0 rfl) ?_
          obtain ⟨g68, e67, h⟩ := bd1_inv h
          refine call_m_enter hE F hK S e67 hl.1 (Nat.le_of_ble_eq_true rfl) ⟨Nat.le_of_ble_eq_true rfl, Nat.le_of_ble_eq_true rfl⟩ ⟨Nat.zero_le _, Nat.zero_le _⟩ dX9_worthOf_42 (fun H locs S => ?_)
          refine lv_goto (tgt := 139) hx hb dX9_worthOf_45 (by decide) ?_
          refine lv_goto (tgt := 7) hx hb dX9_worthOf_139 (by decide) ?_
          exact ih _ _ _ _ h _ _ _ S (lv_sub hl [2, 3, 0] rfl) kx
    clear h
    have h := hB
    clear hB
    refine lv_if_ne (tgt := 19) hx hb dX9_worthOf_11 (by decide) (fun c5 => ?_) (fun c5 => ?_)
    · rw [if_neg c5] at h
      refine lv_iconst (v := 1) hx hb dX9_worthOf_19 (by decide) ?_
      refine lv_goto (tgt := 24) hx hb dX9_worthOf_20 (by decide) ?_
      cases h
      exact hJ24 _ _ _ S (lv_sub hl [0, 1, 2] rfl)
    · rw [if_pos c5] at h
      refine lv_iload_n hx hb dX9_worthOf_14 rfl (lv_at hl 2 rfl) ?_
      refine lv_iload_n hx hb dX9_worthOf_15 rfl (lv_at hl 1 rfl) ?_
      refine lv_icmp_ne (tgt := 23) hx hb dX9_worthOf_16 (by decide) (fun c6 => ?_) (fun c6 => ?_)
      · rw [if_neg c6] at h
        refine lv_iconst (v := 0) hx hb dX9_worthOf_23 (by decide) ?_
        cases h
        exact hJ24 _ _ _ S (lv_sub hl [0, 1, 2] rfl)
      · rw [if_pos c6] at h
        refine lv_iconst (v := 1) hx hb dX9_worthOf_19 (by decide) ?_
        refine lv_goto (tgt := 24) hx hb dX9_worthOf_20 (by decide) ?_
        cases h
        exact hJ24 _ _ _ S (lv_sub hl [0, 1, 2] rfl)
set_option maxHeartbeats 4000000 in
set_option maxRecDepth 100000 in
theorem met_m_worthOf (l : Launch) (E : mEnv) (hE : mInj E) (g : mS) (x1 : Int32) (r : Int32) (gZ : mS) (h : fm_worthOf g x1 = some (r, gZ)) : Met l yX9_worthOf (ws_ yX9_worthOf cX9_worthOf 5 (some .int)) rm_m_worthOf (va_Pc [.ref (mad E 0), .int x1] (gPre (mK E) (mP E g))) (gQi r (mP E gZ) (mA E)) 0 0 (mA E) := by
  refine g_met (own := RX9) (by decide) rfl (Nat.le_of_ble_eq_true rfl) ?_
  intro p e s m args below meth c ls F hr hlk hK S hl
  have hx := F.1
  have hb := F.2.1
  have hl : lv_has ls 5 [(0, .ref (mad E 0)), (1, .int x1)] := hl
  unfold fm_worthOf at h
  refine lv_iconst (v := 0) hx hb dX9_worthOf_0 (by decide) ?_
  refine lv_istore_n (lv' := [(2, .int 0), (0, .ref (mad E 0)), (1, .int x1)]) hx hb dX9_worthOf_1 rfl hl (by decide) rfl (fun ls hl => ?_)
  refine lv_aload_n hx hb dX9_worthOf_2 rfl (lv_at hl 1 rfl) ?_
  refine lv_iconst (v := 0) hx hb dX9_worthOf_3 (by decide) ?_
  obtain ⟨g2, e1, h⟩ := bd1_inv h
  refine call_m_enter hE F hK S e1 hl.1 (Nat.le_of_ble_eq_true rfl) ⟨Nat.le_of_ble_eq_true rfl, Nat.le_of_ble_eq_true rfl⟩ ⟨Nat.zero_le _, Nat.zero_le _⟩ dX9_worthOf_4 (fun H locs S => ?_)
  obtain ⟨v71, g72, e70, h⟩ := bd2_inv h
  refine loop_m_worthOf_1 E hE F hr hlk hK _ _ _ _ _ e70 _ _ _ S (lv_sub hl [1, 2, 0] rfl) (fun v71z g72z H locs ls o S hl => ?_)
  cases o
  refine lv_iload hx hb dX9_worthOf_90 (lv_at hl 0 rfl) ?_
  cases h
  exact g_iret F hr hlk S rfl dX9_worthOf_92
theorem call_m_worthOf {p : Program} {l : Launch} {e : Env} {s : State} {m : MethodId} {args : Array Value} {below : List Frame} {meth : Method} {c : Code} {R : Room} {H : Heap} {locs : List Loc} {cells slots pc nL : Nat} {Q : State → Prop} {ls : Array Slot} {rest : List Value} {cc : ByteArray} {E : mEnv} (hE : mInj E) {g : mS} {x1 : Int32} {r : Int32} {gZ : mS} (F : CallFix p m c cc nL s args lw_all RX9) (hK : mK E s) (S : gS (mA E) s.heap (mP E g) H locs) (h : fm_worthOf g x1 = some (r, gZ)) (hls : ls.size = nL) (hW : (rest.map fun v => v.category).sum ≤ 8) (hR : rm_m_worthOf.frames + 1 ≤ R.frames ∧ 8 + (5 + 11) + rm_m_worthOf.locals ≤ R.locals) (hf : cells ≤ R.cells ∧ slots ≤ R.slots) (hdg : decode cc pc = .ok (.invokevirtual 372, 3))
    (kk : ∀ (H1 : Heap) (locs1 : List Loc), gS (mA E) s.heap (mP E gZ) H1 locs1 → W p l e R s m args below meth c H1 locs1 cells slots Q (F0 m (pc + 3) ls (.int r :: rest))) : W p l e R s m args below meth c H locs cells slots Q (F0 m pc ls (.int x1 :: .ref (mad E 0) :: rest)) :=
  g_ki (g_runV F hK (mKm E) S (met_m_worthOf l E hE g x1 r gZ h) (cwV 1 F.2.2.2.2 (lw_V q2321 q2323 qs106 q121 q2324) rfl rfl rfl (by decide +kernel) hR) (m_recv hK S) rfl hls rfl hW hdg hf) S kk
abbrev rm_m_worth : Room := { frames := 11, cells := 0, slots := 0, locals := 255 }
def fm_worth (g : mS) (x1 : Int32) : Option (Int32 × mS) :=
  bd1 (wrF g 0 0) fun g1 =>
  bd2 (fm_bad g1 x1 0 3 1) fun v4 g5 =>
  bd2 ((
    if v4 = 0 then
      bd2 (fm_worthOf g5 x1) fun v8 g9 =>
      some (v8, g9)
    else
      some (0, g5)) : Option (Int32 × mS)) fun v10 g11 =>
  some (v10, g11)
set_option maxHeartbeats 4000000 in
set_option maxRecDepth 100000 in
theorem met_m_worth (l : Launch) (E : mEnv) (hE : mInj E) (g : mS) (x1 : Int32) (r : Int32) (gZ : mS) (h : fm_worth g x1 = some (r, gZ)) : Met l yX9_worth (ws_ yX9_worth cX9_worth 2 (some .int)) rm_m_worth (va_Pc [.ref (mad E 0), .int x1] (gPre (mK E) (mP E g))) (gQi r (mP E gZ) (mA E)) 0 0 (mA E) := by
  refine g_met (own := RX9) (by decide) rfl (Nat.le_of_ble_eq_true rfl) ?_
  intro p e s m args below meth c ls F hr hlk hK S hl
  have hx := F.1
  have hb := F.2.1
  have hl : lv_has ls 2 [(0, .ref (mad E 0)), (1, .int x1)] := hl
  unfold fm_worth at h
  refine lv_aload_n hx hb dX9_worth_0 rfl (lv_at hl 0 rfl) ?_
  refine lv_iconst (v := 0) hx hb dX9_worth_1 (by decide) ?_
  obtain ⟨g1, e2, h⟩ := bd1_inv h
  refine m_put0 hE F hK S e2 dX9_worth_2 (fun H locs S => ?_)
  refine lv_aload_n hx hb dX9_worth_5 rfl (lv_at hl 0 rfl) ?_
  refine lv_iload_n hx hb dX9_worth_6 rfl (lv_at hl 1 rfl) ?_
  refine lv_iconst (v := 0) hx hb dX9_worth_7 (by decide) ?_
  refine lv_iconst (v := 3) hx hb dX9_worth_8 (by decide) ?_
  refine lv_iconst (v := 1) hx hb dX9_worth_9 (by decide) ?_
  obtain ⟨v4, g5, e3, h⟩ := bd2_inv h
  refine call_m_bad hE F hK S e3 hl.1 (Nat.le_of_ble_eq_true rfl) ⟨Nat.le_of_ble_eq_true rfl, Nat.le_of_ble_eq_true rfl⟩ ⟨Nat.zero_le _, Nat.zero_le _⟩ dX9_worth_10 (fun H locs S => ?_)
  obtain ⟨v10, g11, hB, h⟩ := bd2_inv h
  have hJ25 : ∀ (H : Heap) (locs : List Loc) (ls : Array Slot), gS (mA E) s.heap (mP E g11) H locs → lv_has ls 2 [] → W p l e rm_m_worth s m args below meth c H locs 0 0 (MQ below (gQi r (mP E gZ) (mA E)) args s 0 0 (mA E)) (F0 m 25 ls [.int v10]) := by
    intro H locs ls S hl
    cases h
    exact g_iret F hr hlk S rfl dX9_worth_25
  clear h
  have h := hB
  clear hB
  refine lv_if_eq (tgt := 20) hx hb dX9_worth_13 (by decide) (fun c6 => ?_) (fun c6 => ?_)
  · rw [if_pos c6] at h
    refine lv_aload_n hx hb dX9_worth_20 rfl (lv_at hl 0 rfl) ?_
    refine lv_iload_n hx hb dX9_worth_21 rfl (lv_at hl 1 rfl) ?_
    obtain ⟨v8, g9, e7, h⟩ := bd2_inv h
    refine call_m_worthOf hE F hK S e7 hl.1 (Nat.le_of_ble_eq_true rfl) ⟨Nat.le_of_ble_eq_true rfl, Nat.le_of_ble_eq_true rfl⟩ ⟨Nat.zero_le _, Nat.zero_le _⟩ dX9_worth_22 (fun H locs S => ?_)
    cases h
    exact hJ25 _ _ _ S (lv_sub hl [] rfl)
  · rw [if_neg c6] at h
    refine lv_iconst (v := 0) hx hb dX9_worth_16 (by decide) ?_
    refine lv_goto (tgt := 25) hx hb dX9_worth_17 (by decide) ?_
    cases h
    exact hJ25 _ _ _ S (lv_sub hl [] rfl)
abbrev rm_m_best : Room := { frames := 11, cells := 0, slots := 0, locals := 255 }
def Lm_best_1 : Nat → mS → Int32 → Int32 → Int32 → Int32 → Int32 → Option (Int32 × mS)
  | 0, _, _, _, _, _, _ => none
  | n + 1, g, y1, y2, y3, y4, y5 =>
    if y4 ≤ y5 then
      some (y2, g)
    else
      bd1 (fm_cellOf g y5 2) fun v13 =>
      bd1 (fm_noTurn g v13) fun v15 =>
      bd3 ((
        if v15 = 0 then
          bd2 (fm_move g v13) fun v18 g19 =>
          bd2 (fm_worthOf g19 (y1 - 1)) fun v21 g22 =>
          bd1 (fm_copy g22 6 1) fun g24 =>
          if y2 = (-1) then
            some (y5, v21, g24)
          else
            if y3 ≤ v21 then
              some (y2, y3, g24)
            else
              some (y5, v21, g24)
        else
          some (y2, y3, g)) : Option (Int32 × Int32 × mS)) fun v27 v28 g29 =>
      Lm_best_1 n g29 y1 v27 v28 y4 (y5 + 1)
def fm_best (g : mS) (x1 : Int32) : Option (Int32 × mS) :=
  bd1 (wrF g 0 0) fun g1 =>
  bd2 (fm_bad g1 x1 1 3 1) fun v4 g5 =>
  if v4 = 0 then
    bd1 (fm_count g5 2) fun v8 =>
    bd1 (fm_copy g5 1 6) fun g10 =>
    bd2 (Lm_best_1 FUEL g10 x1 (-1) 0 v8 0) fun v32 g33 =>
    some (v32, g33)
  else
    some (0, g5)
set_option maxHeartbeats 4000000 in
set_option maxRecDepth 100000 in
theorem loop_m_best_1 {p : Program} {l : Launch} {e : Env} {s : State} {m : MethodId} {args : Array Value} {below : List Frame} {meth : Method} {c : Code} (E : mEnv) (hE : mInj E) (F : CallFix p m c cX9_best 8 s args lw_all RX9) (hr : meth.sig.returnType = some .int) (hlk : meth.locks = false) (hK : mK E s) {Q : State → Prop} : ∀ (n : Nat) (g : mS) (y1 : Int32) (y2 : Int32) (y3 : Int32) (y4 : Int32) (y5 : Int32) (o : Int32 × mS), Lm_best_1 n g y1 y2 y3 y4 y5 = some o → ∀ (H : Heap) (locs : List Loc) (ls : Array Slot), gS (mA E) s.heap (mP E g) H locs → lv_has ls 8 [(0, .ref (mad E 0)), (1, .int y1), (2, .int y2), (3, .int y3), (4, .int y4), (5, .int y5)] → (∀ (w2 : Int32) (gx : mS) (H : Heap) (locs : List Loc) (ls : Array Slot), o = (w2, gx) → gS (mA E) s.heap (mP E gx) H locs → lv_has ls 8 [(2, .int w2)] → W p l e rm_m_best s m args below meth c H locs 0 0 Q (F0 m 118 ls [])) → W p l e rm_m_best s m args below meth c H locs 0 0 Q (F0 m 43 ls []) := by
  have hx := F.1
  have hb := F.2.1
  intro n
  induction n with
  | zero =>
    intro g y1 y2 y3 y4 y5 o h
    rw [Lm_best_1] at h
    cases h
  | succ n ih =>
    intro g y1 y2 y3 y4 y5 o h H locs ls S hl kx
    rw [Lm_best_1] at h
    refine lv_iload hx hb dX9_best_43 (lv_at hl 5 rfl) ?_
    refine lv_iload hx hb dX9_best_45 (lv_at hl 4 rfl) ?_
    refine lv_icmp_ge (tgt := 118) hx hb dX9_best_47 (by decide) (fun c11 => ?_) (fun c11 => ?_)
    · rw [if_pos c11] at h
      cases h
      exact kx _ _ _ _ _ rfl S (lv_sub hl [2] rfl)
    · rw [if_neg c11] at h
      refine lv_aload_n hx hb dX9_best_50 rfl (lv_at hl 0 rfl) ?_
      refine lv_iload hx hb dX9_best_51 (lv_at hl 5 rfl) ?_
      refine lv_iconst (v := 2) hx hb dX9_best_53 (by decide) ?_
      obtain ⟨v13, e12, h⟩ := bd1_inv h
      refine call_m_cellOf hE F hK S e12 hl.1 (Nat.le_of_ble_eq_true rfl) ⟨Nat.le_of_ble_eq_true rfl, Nat.le_of_ble_eq_true rfl⟩ ⟨Nat.zero_le _, Nat.zero_le _⟩ dX9_best_54 (fun H locs S => ?_)
      refine lv_istore (lv' := [(6, .int v13), (0, .ref (mad E 0)), (1, .int y1), (2, .int y2), (3, .int y3), (4, .int y4), (5, .int y5)]) hx hb dX9_best_57 hl (by decide) rfl (fun ls hl => ?_)
      refine lv_aload_n hx hb dX9_best_59 rfl (lv_at hl 1 rfl) ?_
      refine lv_iload hx hb dX9_best_60 (lv_at hl 0 rfl) ?_
      obtain ⟨v15, e14, h⟩ := bd1_inv h
      refine call_m_noTurn hE F hK S e14 hl.1 (Nat.le_of_ble_eq_true rfl) ⟨Nat.le_of_ble_eq_true rfl, Nat.le_of_ble_eq_true rfl⟩ ⟨Nat.zero_le _, Nat.zero_le _⟩ dX9_best_62 (fun H locs S => ?_)
      obtain ⟨v27, v28, g29, hB, h⟩ := bd3_inv h
      have hJ112 : ∀ (H : Heap) (locs : List Loc) (ls : Array Slot), gS (mA E) s.heap (mP E g29) H locs → lv_has ls 8 [(0, .ref (mad E 0)), (1, .int y1), (2, .int v27), (3, .int v28), (4, .int y4), (5, .int y5)] → W p l e rm_m_best s m args below meth c H locs 0 0 Q (F0 m 112 ls []) := by
        intro H locs ls S hl
        refine lv_iinc (v := (y5 + 1)) (lv' := [(5, .int (y5 + 1)), (0, .ref (mad E 0)), (1, .int y1), (2, .int v27), (3, .int v28), (4, .int y4)]) hx hb dX9_best_112 hl (k := 5) rfl rfl (by decide) rfl (fun ls hl => ?_)
        refine lv_goto (tgt := 43) hx hb dX9_best_115 (by decide) ?_
        exact ih _ _ _ _ _ _ _ h _ _ _ S (lv_sub hl [1, 2, 3, 4, 5, 0] rfl) kx
      clear h
      have h := hB
      clear hB
      refine lv_if_ne (tgt := 112) hx hb dX9_best_65 (by decide) (fun c16 => ?_) (fun c16 => ?_)
      · rw [if_neg c16] at h
        cases h
        exact hJ112 _ _ _ S (lv_sub hl [1, 2, 3, 4, 5, 6] rfl)
      · rw [if_pos c16] at h
        refine lv_aload_n hx hb dX9_best_68 rfl (lv_at hl 1 rfl) ?_
        refine lv_iload hx hb dX9_best_69 (lv_at hl 0 rfl) ?_
        obtain ⟨v18, g19, e17, h⟩ := bd2_inv h
        refine call_m_move hE F hK S e17 hl.1 (Nat.le_of_ble_eq_true rfl) ⟨Nat.le_of_ble_eq_true rfl, Nat.le_of_ble_eq_true rfl⟩ ⟨Nat.zero_le _, Nat.zero_le _⟩ dX9_best_71 (fun H locs S => ?_)
        refine lv_pop hx hb dX9_best_74 rfl ?_
        refine lv_aload_n hx hb dX9_best_75 rfl (lv_at hl 1 rfl) ?_
        refine lv_iload_n hx hb dX9_best_76 rfl (lv_at hl 2 rfl) ?_
        refine lv_iconst (v := 1) hx hb dX9_best_77 (by decide) ?_
        refine lv_isub hx hb dX9_best_78 ?_
        obtain ⟨v21, g22, e20, h⟩ := bd2_inv h
        refine call_m_worthOf hE F hK S e20 hl.1 (Nat.le_of_ble_eq_true rfl) ⟨Nat.le_of_ble_eq_true rfl, Nat.le_of_ble_eq_true rfl⟩ ⟨Nat.zero_le _, Nat.zero_le _⟩ dX9_best_79 (fun H locs S => ?_)
        refine lv_istore (lv' := [(7, .int v21), (6, .int v13), (0, .ref (mad E 0)), (1, .int y1), (2, .int y2), (3, .int y3), (4, .int y4), (5, .int y5)]) hx hb dX9_best_82 hl (by decide) rfl (fun ls hl => ?_)
        refine lv_aload_n hx hb dX9_best_84 rfl (lv_at hl 2 rfl) ?_
        refine m_get7 F hK S dX9_best_85 ?_
        refine lv_aload_n hx hb dX9_best_88 rfl (lv_at hl 2 rfl) ?_
        refine m_get1 F hK S dX9_best_89 ?_
        obtain ⟨g24, e23, h⟩ := bd1_inv h
        refine call_m_copy hE F hK S e23 hl.1 (Nat.le_of_ble_eq_true rfl) ⟨Nat.le_of_ble_eq_true rfl, Nat.le_of_ble_eq_true rfl⟩ ⟨Nat.zero_le _, Nat.zero_le _⟩ dX9_best_92 (fun H locs S => ?_)
        refine lv_iload_n hx hb dX9_best_95 rfl (lv_at hl 4 rfl) ?_
        refine lv_iconst (v := (-1)) hx hb dX9_best_96 (by decide) ?_
        refine lv_icmp_eq (tgt := 106) hx hb dX9_best_97 (by decide) (fun c25 => ?_) (fun c25 => ?_)
        · rw [if_pos c25] at h
          refine lv_iload hx hb dX9_best_106 (lv_at hl 7 rfl) ?_
          refine lv_istore_n (lv' := [(2, .int y5), (7, .int v21), (6, .int v13), (0, .ref (mad E 0)), (1, .int y1), (3, .int y3), (4, .int y4), (5, .int y5)]) hx hb dX9_best_108 rfl hl (by decide) rfl (fun ls hl => ?_)
          refine lv_iload hx hb dX9_best_109 (lv_at hl 1 rfl) ?_
          refine lv_istore_n (lv' := [(3, .int v21), (2, .int y5), (7, .int v21), (6, .int v13), (0, .ref (mad E 0)), (1, .int y1), (4, .int y4), (5, .int y5)]) hx hb dX9_best_111 rfl hl (by decide) rfl (fun ls hl => ?_)
          cases h
          exact hJ112 _ _ _ S (lv_sub hl [4, 5, 1, 0, 6, 7] rfl)
        · rw [if_neg c25] at h
          refine lv_iload hx hb dX9_best_100 (lv_at hl 0 rfl) ?_
          refine lv_iload_n hx hb dX9_best_102 rfl (lv_at hl 5 rfl) ?_
          refine lv_icmp_ge (tgt := 112) hx hb dX9_best_103 (by decide) (fun c26 => ?_) (fun c26 => ?_)
          · rw [if_pos c26] at h
            cases h
            exact hJ112 _ _ _ S (lv_sub hl [2, 3, 4, 5, 6, 7] rfl)
          · rw [if_neg c26] at h
            refine lv_iload hx hb dX9_best_106 (lv_at hl 7 rfl) ?_
            refine lv_istore_n (lv' := [(2, .int y5), (7, .int v21), (6, .int v13), (0, .ref (mad E 0)), (1, .int y1), (3, .int y3), (4, .int y4), (5, .int y5)]) hx hb dX9_best_108 rfl hl (by decide) rfl (fun ls hl => ?_)
            refine lv_iload hx hb dX9_best_109 (lv_at hl 1 rfl) ?_
            refine lv_istore_n (lv' := [(3, .int v21), (2, .int y5), (7, .int v21), (6, .int v13), (0, .ref (mad E 0)), (1, .int y1), (4, .int y4), (5, .int y5)]) hx hb dX9_best_111 rfl hl (by decide) rfl (fun ls hl => ?_)
            cases h
            exact hJ112 _ _ _ S (lv_sub hl [4, 5, 1, 0, 6, 7] rfl)
set_option maxHeartbeats 4000000 in
set_option maxRecDepth 100000 in
theorem met_m_best (l : Launch) (E : mEnv) (hE : mInj E) (g : mS) (x1 : Int32) (r : Int32) (gZ : mS) (h : fm_best g x1 = some (r, gZ)) : Met l yX9_best (ws_ yX9_best cX9_best 8 (some .int)) rm_m_best (va_Pc [.ref (mad E 0), .int x1] (gPre (mK E) (mP E g))) (gQi r (mP E gZ) (mA E)) 0 0 (mA E) := by
  refine g_met (own := RX9) (by decide) rfl (Nat.le_of_ble_eq_true rfl) ?_
  intro p e s m args below meth c ls F hr hlk hK S hl
  have hx := F.1
  have hb := F.2.1
  have hl : lv_has ls 8 [(0, .ref (mad E 0)), (1, .int x1)] := hl
  unfold fm_best at h
  refine lv_aload_n hx hb dX9_best_0 rfl (lv_at hl 0 rfl) ?_
  refine lv_iconst (v := 0) hx hb dX9_best_1 (by decide) ?_
  obtain ⟨g1, e2, h⟩ := bd1_inv h
  refine m_put0 hE F hK S e2 dX9_best_2 (fun H locs S => ?_)
  refine lv_aload_n hx hb dX9_best_5 rfl (lv_at hl 0 rfl) ?_
  refine lv_iload_n hx hb dX9_best_6 rfl (lv_at hl 1 rfl) ?_
  refine lv_iconst (v := 1) hx hb dX9_best_7 (by decide) ?_
  refine lv_iconst (v := 3) hx hb dX9_best_8 (by decide) ?_
  refine lv_iconst (v := 1) hx hb dX9_best_9 (by decide) ?_
  obtain ⟨v4, g5, e3, h⟩ := bd2_inv h
  refine call_m_bad hE F hK S e3 hl.1 (Nat.le_of_ble_eq_true rfl) ⟨Nat.le_of_ble_eq_true rfl, Nat.le_of_ble_eq_true rfl⟩ ⟨Nat.zero_le _, Nat.zero_le _⟩ dX9_best_10 (fun H locs S => ?_)
  refine lv_if_eq (tgt := 18) hx hb dX9_best_13 (by decide) (fun c6 => ?_) (fun c6 => ?_)
  · rw [if_pos c6] at h
    refine lv_iconst (v := (-1)) hx hb dX9_best_18 (by decide) ?_
    refine lv_istore_n (lv' := [(2, .int (-1)), (0, .ref (mad E 0)), (1, .int x1)]) hx hb dX9_best_19 rfl hl (by decide) rfl (fun ls hl => ?_)
    refine lv_iconst (v := 0) hx hb dX9_best_20 (by decide) ?_
    refine lv_istore_n (lv' := [(3, .int 0), (2, .int (-1)), (0, .ref (mad E 0)), (1, .int x1)]) hx hb dX9_best_21 rfl hl (by decide) rfl (fun ls hl => ?_)
    refine lv_aload_n hx hb dX9_best_22 rfl (lv_at hl 2 rfl) ?_
    refine lv_iconst (v := 2) hx hb dX9_best_23 (by decide) ?_
    obtain ⟨v8, e7, h⟩ := bd1_inv h
    refine call_m_count hE F hK S e7 hl.1 (Nat.le_of_ble_eq_true rfl) ⟨Nat.le_of_ble_eq_true rfl, Nat.le_of_ble_eq_true rfl⟩ ⟨Nat.zero_le _, Nat.zero_le _⟩ dX9_best_24 (fun H locs S => ?_)
    refine lv_istore (lv' := [(4, .int v8), (3, .int 0), (2, .int (-1)), (0, .ref (mad E 0)), (1, .int x1)]) hx hb dX9_best_27 hl (by decide) rfl (fun ls hl => ?_)
    refine lv_aload_n hx hb dX9_best_29 rfl (lv_at hl 3 rfl) ?_
    refine m_get1 F hK S dX9_best_30 ?_
    refine lv_aload_n hx hb dX9_best_33 rfl (lv_at hl 3 rfl) ?_
    refine m_get7 F hK S dX9_best_34 ?_
    obtain ⟨g10, e9, h⟩ := bd1_inv h
    refine call_m_copy hE F hK S e9 hl.1 (Nat.le_of_ble_eq_true rfl) ⟨Nat.le_of_ble_eq_true rfl, Nat.le_of_ble_eq_true rfl⟩ ⟨Nat.zero_le _, Nat.zero_le _⟩ dX9_best_37 (fun H locs S => ?_)
    refine lv_iconst (v := 0) hx hb dX9_best_40 (by decide) ?_
    refine lv_istore (lv' := [(5, .int 0), (4, .int v8), (3, .int 0), (2, .int (-1)), (0, .ref (mad E 0)), (1, .int x1)]) hx hb dX9_best_41 hl (by decide) rfl (fun ls hl => ?_)
    obtain ⟨v32, g33, e31, h⟩ := bd2_inv h
    refine loop_m_best_1 E hE F hr hlk hK _ _ _ _ _ _ _ _ e31 _ _ _ S (lv_sub hl [4, 5, 3, 2, 1, 0] rfl) (fun v32z g33z H locs ls o S hl => ?_)
    cases o
    refine lv_iload_n hx hb dX9_best_118 rfl (lv_at hl 0 rfl) ?_
    cases h
    exact g_iret F hr hlk S rfl dX9_best_119
  · rw [if_neg c6] at h
    refine lv_iconst (v := 0) hx hb dX9_best_16 (by decide) ?_
    cases h
    exact g_iret F hr hlk S rfl dX9_best_17
abbrev rm_m_litShare : Room := { frames := 6, cells := 0, slots := 0, locals := 137 }
def fm_litShare (g : mS)  : Option (UInt32 × mS) :=
  bd1 (wrF g 0 0) fun g1 =>
  bd1 (fm_shine g1) fun g4 =>
  bd1 (fm_litCells g4 0) fun v6 =>
  bd1 (rdI g4 1 0) fun v7 =>
  bd1 (rdI g4 1 1) fun v9 =>
  bd1 (ck32 (FP.fdiv (FP.i2f v6) (FP.i2f (v7 * v9)))) fun v11 =>
  some (v11, g4)
set_option maxHeartbeats 4000000 in
set_option maxRecDepth 100000 in
theorem met_m_litShare (l : Launch) (E : mEnv) (hE : mInj E) (g : mS)  (r : UInt32) (gZ : mS) (h : fm_litShare g = some (r, gZ)) : Met l yX9_litShare (ws_ yX9_litShare cX9_litShare 1 (some .float)) rm_m_litShare (va_Pc [.ref (mad E 0)] (gPre (mK E) (mP E g))) (gQf r (mP E gZ) (mA E)) 0 0 (mA E) := by
  refine g_met (own := RX9) (by decide) rfl (Nat.le_of_ble_eq_true rfl) ?_
  intro p e s m args below meth c ls F hr hlk hK S hl
  have hx := F.1
  have hb := F.2.1
  have hl : lv_has ls 1 [(0, .ref (mad E 0))] := hl
  unfold fm_litShare at h
  refine lv_aload_n hx hb dX9_litShare_0 rfl (lv_at hl 0 rfl) ?_
  refine lv_iconst (v := 0) hx hb dX9_litShare_1 (by decide) ?_
  obtain ⟨g1, e2, h⟩ := bd1_inv h
  refine m_put0 hE F hK S e2 dX9_litShare_2 (fun H locs S => ?_)
  refine lv_aload_n hx hb dX9_litShare_5 rfl (lv_at hl 0 rfl) ?_
  obtain ⟨g4, e3, h⟩ := bd1_inv h
  refine call_m_shine hE F hK S e3 hl.1 (Nat.le_of_ble_eq_true rfl) ⟨Nat.le_of_ble_eq_true rfl, Nat.le_of_ble_eq_true rfl⟩ ⟨Nat.zero_le _, Nat.zero_le _⟩ dX9_litShare_6 (fun H locs S => ?_)
  refine lv_aload_n hx hb dX9_litShare_9 rfl (lv_at hl 0 rfl) ?_
  refine lv_iconst (v := 0) hx hb dX9_litShare_10 (by decide) ?_
  obtain ⟨v6, e5, h⟩ := bd1_inv h
  refine call_m_litCells hE F hK S e5 hl.1 (Nat.le_of_ble_eq_true rfl) ⟨Nat.le_of_ble_eq_true rfl, Nat.le_of_ble_eq_true rfl⟩ ⟨Nat.zero_le _, Nat.zero_le _⟩ dX9_litShare_11 (fun H locs S => ?_)
  refine lv_i2f hx hb dX9_litShare_14 ?_
  refine lv_aload_n hx hb dX9_litShare_15 rfl (lv_at hl 0 rfl) ?_
  refine m_get1 F hK S dX9_litShare_16 ?_
  refine lv_iconst (v := 0) hx hb dX9_litShare_19 (by decide) ?_
  obtain ⟨v7, e8, h⟩ := bd1_inv h
  refine m_iald F hK S e8 dX9_litShare_20 ?_
  refine lv_aload_n hx hb dX9_litShare_21 rfl (lv_at hl 0 rfl) ?_
  refine m_get1 F hK S dX9_litShare_22 ?_
  refine lv_iconst (v := 1) hx hb dX9_litShare_25 (by decide) ?_
  obtain ⟨v9, e10, h⟩ := bd1_inv h
  refine m_iald F hK S e10 dX9_litShare_26 ?_
  refine lv_imul hx hb dX9_litShare_27 ?_
  refine lv_i2f hx hb dX9_litShare_28 ?_
  obtain ⟨v11, e12, h⟩ := bd1_inv h
  obtain ⟨e12f, rfl⟩ := ck32_inv e12
  refine lv_fdiv hx hb dX9_litShare_29 e12f ?_
  cases h
  exact g_fret F hr hlk S rfl dX9_litShare_30
abbrev rm_m_meanSteps : Room := { frames := 7, cells := 0, slots := 0, locals := 161 }
def Lm_meanSteps_1 : Nat → mS → Int32 → Int32 → Int32 → Int32 → Option (Int32 × Int32)
  | 0, _, _, _, _, _ => none
  | n + 1, g, y1, y2, y3, y4 =>
    if y3 ≤ y4 then
      some (y1, y2)
    else
      bd1 (fm_cellOf g y4 4) fun v9 =>
      bd1 (fm_leastSteps g v9) fun v11 =>
      bd1 ((
        if v11 = (-1) then
          some 0
        else
          some v11) : Option (Int32)) fun v13 =>
      bd1 ((
        if v11 = (-1) then
          some 0
        else
          some 1) : Option (Int32)) fun v15 =>
      Lm_meanSteps_1 n g (y1 + v13) (y2 + v15) y3 (y4 + 1)
def fm_meanSteps (g : mS)  : Option (UInt64 × mS) :=
  bd1 (wrF g 0 0) fun g1 =>
  bd1 (fm_number_2 g1) fun g4 =>
  bd1 (fm_count g4 4) fun v6 =>
  bd2 (Lm_meanSteps_1 FUEL g4 0 0 v6 0) fun v19 v20 =>
  bd1 ((
    if v20 = 0 then
      some FP.dconst0
    else
      bd1 (ck64 (FP.ddiv (FP.i2d v19) (FP.i2d v20))) fun v22 =>
      some v22) : Option (UInt64)) fun v24 =>
  some (v24, g4)
set_option maxHeartbeats 4000000 in
set_option maxRecDepth 100000 in
theorem loop_m_meanSteps_1 {p : Program} {l : Launch} {e : Env} {s : State} {m : MethodId} {args : Array Value} {below : List Frame} {meth : Method} {c : Code} (E : mEnv) (hE : mInj E) (F : CallFix p m c cX9_meanSteps 6 s args lw_all RX9) (hr : meth.sig.returnType = some .double) (hlk : meth.locks = false) (hK : mK E s) {Q : State → Prop} : ∀ (n : Nat) (g : mS) (y1 : Int32) (y2 : Int32) (y3 : Int32) (y4 : Int32) (o : Int32 × Int32), Lm_meanSteps_1 n g y1 y2 y3 y4 = some o → ∀ (H : Heap) (locs : List Loc) (ls : Array Slot), gS (mA E) s.heap (mP E g) H locs → lv_has ls 6 [(0, .ref (mad E 0)), (1, .int y1), (2, .int y2), (3, .int y3), (4, .int y4)] → (∀ (w1 : Int32) (w2 : Int32) (H : Heap) (locs : List Loc) (ls : Array Slot), o = (w1, w2) → gS (mA E) s.heap (mP E g) H locs → lv_has ls 6 [(1, .int w1), (2, .int w2)] → W p l e rm_m_meanSteps s m args below meth c H locs 0 0 Q (F0 m 76 ls [])) → W p l e rm_m_meanSteps s m args below meth c H locs 0 0 Q (F0 m 22 ls []) := by
  have hx := F.1
  have hb := F.2.1
  intro n
  induction n with
  | zero =>
    intro g y1 y2 y3 y4 o h
    rw [Lm_meanSteps_1] at h
    cases h
  | succ n ih =>
    intro g y1 y2 y3 y4 o h H locs ls S hl kx
    rw [Lm_meanSteps_1] at h
    refine lv_iload hx hb dX9_meanSteps_22 (lv_at hl 4 rfl) ?_
    refine lv_iload_n hx hb dX9_meanSteps_24 rfl (lv_at hl 3 rfl) ?_
    refine lv_icmp_ge (tgt := 76) hx hb dX9_meanSteps_25 (by decide) (fun c7 => ?_) (fun c7 => ?_)
    · rw [if_pos c7] at h
      cases h
      exact kx _ _ _ _ _ rfl S (lv_sub hl [1, 2] rfl)
    · rw [if_neg c7] at h
      refine lv_aload_n hx hb dX9_meanSteps_28 rfl (lv_at hl 0 rfl) ?_
      refine lv_aload_n hx hb dX9_meanSteps_29 rfl (lv_at hl 0 rfl) ?_
      refine lv_iload hx hb dX9_meanSteps_30 (lv_at hl 4 rfl) ?_
      refine lv_iconst (v := 4) hx hb dX9_meanSteps_32 (by decide) ?_
      obtain ⟨v9, e8, h⟩ := bd1_inv h
      refine call_m_cellOf hE F hK S e8 hl.1 (Nat.le_of_ble_eq_true rfl) ⟨Nat.le_of_ble_eq_true rfl, Nat.le_of_ble_eq_true rfl⟩ ⟨Nat.zero_le _, Nat.zero_le _⟩ dX9_meanSteps_33 (fun H locs S => ?_)
      obtain ⟨v11, e10, h⟩ := bd1_inv h
      refine call_m_leastSteps hE F hK S e10 hl.1 (Nat.le_of_ble_eq_true rfl) ⟨Nat.le_of_ble_eq_true rfl, Nat.le_of_ble_eq_true rfl⟩ ⟨Nat.zero_le _, Nat.zero_le _⟩ dX9_meanSteps_36 (fun H locs S => ?_)
      refine lv_istore (lv' := [(5, .int v11), (0, .ref (mad E 0)), (1, .int y1), (2, .int y2), (3, .int y3), (4, .int y4)]) hx hb dX9_meanSteps_39 hl (by decide) rfl (fun ls hl => ?_)
      refine lv_iload_n hx hb dX9_meanSteps_41 rfl (lv_at hl 2 rfl) ?_
      refine lv_iload hx hb dX9_meanSteps_42 (lv_at hl 0 rfl) ?_
      refine lv_iconst (v := (-1)) hx hb dX9_meanSteps_44 (by decide) ?_
      obtain ⟨v13, hB, h⟩ := bd1_inv h
      have hJ54 : ∀ (H : Heap) (locs : List Loc) (ls : Array Slot), gS (mA E) s.heap (mP E g) H locs → lv_has ls 6 [(0, .ref (mad E 0)), (2, .int y2), (3, .int y3), (4, .int y4), (5, .int v11)] → W p l e rm_m_meanSteps s m args below meth c H locs 0 0 Q (F0 m 54 ls [.int v13, .int y1]) := by
        intro H locs ls S hl
        refine lv_iadd hx hb dX9_meanSteps_54 ?_
        refine lv_istore_n (lv' := [(1, .int (y1 + v13)), (0, .ref (mad E 0)), (2, .int y2), (3, .int y3), (4, .int y4), (5, .int v11)]) hx hb dX9_meanSteps_55 rfl hl (by decide) rfl (fun ls hl => ?_)
        refine lv_iload_n hx hb dX9_meanSteps_56 rfl (lv_at hl 2 rfl) ?_
        refine lv_iload hx hb dX9_meanSteps_57 (lv_at hl 5 rfl) ?_
        refine lv_iconst (v := (-1)) hx hb dX9_meanSteps_59 (by decide) ?_
        obtain ⟨v15, hB, h⟩ := bd1_inv h
        have hJ68 : ∀ (H : Heap) (locs : List Loc) (ls : Array Slot), gS (mA E) s.heap (mP E g) H locs → lv_has ls 6 [(0, .ref (mad E 0)), (1, .int (y1 + v13)), (3, .int y3), (4, .int y4)] → W p l e rm_m_meanSteps s m args below meth c H locs 0 0 Q (F0 m 68 ls [.int v15, .int y2]) := by
          intro H locs ls S hl
          refine lv_iadd hx hb dX9_meanSteps_68 ?_
          refine lv_istore_n (lv' := [(2, .int (y2 + v15)), (0, .ref (mad E 0)), (1, .int (y1 + v13)), (3, .int y3), (4, .int y4)]) hx hb dX9_meanSteps_69 rfl hl (by decide) rfl (fun ls hl => ?_)
          refine lv_iinc (v := (y4 + 1)) (lv' := [(4, .int (y4 + 1)), (2, .int (y2 + v15)), (0, .ref (mad E 0)), (1, .int (y1 + v13)), (3, .int y3)]) hx hb dX9_meanSteps_70 hl (k := 4) rfl rfl (by decide) rfl (fun ls hl => ?_)
          refine lv_goto (tgt := 22) hx hb dX9_meanSteps_73 (by decide) ?_
          exact ih _ _ _ _ _ _ h _ _ _ S (lv_sub hl [2, 3, 1, 4, 0] rfl) kx
        clear h
        have h := hB
        clear hB
        refine lv_icmp_ne (tgt := 67) hx hb dX9_meanSteps_60 (by decide) (fun c14 => ?_) (fun c14 => ?_)
        · rw [if_neg c14] at h
          refine lv_iconst (v := 1) hx hb dX9_meanSteps_67 (by decide) ?_
          cases h
          exact hJ68 _ _ _ S (lv_sub hl [1, 0, 3, 4] rfl)
        · rw [if_pos c14] at h
          refine lv_iconst (v := 0) hx hb dX9_meanSteps_63 (by decide) ?_
          refine lv_goto (tgt := 68) hx hb dX9_meanSteps_64 (by decide) ?_
          cases h
          exact hJ68 _ _ _ S (lv_sub hl [1, 0, 3, 4] rfl)
      clear h
      have h := hB
      clear hB
      refine lv_icmp_ne (tgt := 52) hx hb dX9_meanSteps_45 (by decide) (fun c12 => ?_) (fun c12 => ?_)
      · rw [if_neg c12] at h
        refine lv_iload hx hb dX9_meanSteps_52 (lv_at hl 0 rfl) ?_
        cases h
        exact hJ54 _ _ _ S (lv_sub hl [1, 3, 4, 5, 0] rfl)
      · rw [if_pos c12] at h
        refine lv_iconst (v := 0) hx hb dX9_meanSteps_48 (by decide) ?_
        refine lv_goto (tgt := 54) hx hb dX9_meanSteps_49 (by decide) ?_
        cases h
        exact hJ54 _ _ _ S (lv_sub hl [1, 3, 4, 5, 0] rfl)
set_option maxHeartbeats 4000000 in
set_option maxRecDepth 100000 in
theorem met_m_meanSteps (l : Launch) (E : mEnv) (hE : mInj E) (g : mS)  (r : UInt64) (gZ : mS) (h : fm_meanSteps g = some (r, gZ)) : Met l yX9_meanSteps (ws_ yX9_meanSteps cX9_meanSteps 6 (some .double)) rm_m_meanSteps (va_Pc [.ref (mad E 0)] (gPre (mK E) (mP E g))) (gQd r (mP E gZ) (mA E)) 0 0 (mA E) := by
  refine g_met (own := RX9) (by decide) rfl (Nat.le_of_ble_eq_true rfl) ?_
  intro p e s m args below meth c ls F hr hlk hK S hl
  have hx := F.1
  have hb := F.2.1
  have hl : lv_has ls 6 [(0, .ref (mad E 0))] := hl
  unfold fm_meanSteps at h
  refine lv_aload_n hx hb dX9_meanSteps_0 rfl (lv_at hl 0 rfl) ?_
  refine lv_iconst (v := 0) hx hb dX9_meanSteps_1 (by decide) ?_
  obtain ⟨g1, e2, h⟩ := bd1_inv h
  refine m_put0 hE F hK S e2 dX9_meanSteps_2 (fun H locs S => ?_)
  refine lv_aload_n hx hb dX9_meanSteps_5 rfl (lv_at hl 0 rfl) ?_
  obtain ⟨g4, e3, h⟩ := bd1_inv h
  refine call_m_number_2 hE F hK S e3 hl.1 (Nat.le_of_ble_eq_true rfl) ⟨Nat.le_of_ble_eq_true rfl, Nat.le_of_ble_eq_true rfl⟩ ⟨Nat.zero_le _, Nat.zero_le _⟩ dX9_meanSteps_6 (fun H locs S => ?_)
  refine lv_iconst (v := 0) hx hb dX9_meanSteps_9 (by decide) ?_
  refine lv_istore_n (lv' := [(1, .int 0), (0, .ref (mad E 0))]) hx hb dX9_meanSteps_10 rfl hl (by decide) rfl (fun ls hl => ?_)
  refine lv_iconst (v := 0) hx hb dX9_meanSteps_11 (by decide) ?_
  refine lv_istore_n (lv' := [(2, .int 0), (1, .int 0), (0, .ref (mad E 0))]) hx hb dX9_meanSteps_12 rfl hl (by decide) rfl (fun ls hl => ?_)
  refine lv_aload_n hx hb dX9_meanSteps_13 rfl (lv_at hl 2 rfl) ?_
  refine lv_iconst (v := 4) hx hb dX9_meanSteps_14 (by decide) ?_
  obtain ⟨v6, e5, h⟩ := bd1_inv h
  refine call_m_count hE F hK S e5 hl.1 (Nat.le_of_ble_eq_true rfl) ⟨Nat.le_of_ble_eq_true rfl, Nat.le_of_ble_eq_true rfl⟩ ⟨Nat.zero_le _, Nat.zero_le _⟩ dX9_meanSteps_15 (fun H locs S => ?_)
  refine lv_istore_n (lv' := [(3, .int v6), (2, .int 0), (1, .int 0), (0, .ref (mad E 0))]) hx hb dX9_meanSteps_18 rfl hl (by decide) rfl (fun ls hl => ?_)
  refine lv_iconst (v := 0) hx hb dX9_meanSteps_19 (by decide) ?_
  refine lv_istore (lv' := [(4, .int 0), (3, .int v6), (2, .int 0), (1, .int 0), (0, .ref (mad E 0))]) hx hb dX9_meanSteps_20 hl (by decide) rfl (fun ls hl => ?_)
  obtain ⟨v19, v20, e18, h⟩ := bd2_inv h
  refine loop_m_meanSteps_1 E hE F hr hlk hK _ _ _ _ _ _ _ e18 _ _ _ S (lv_sub hl [4, 3, 2, 1, 0] rfl) (fun v19z v20z H locs ls o S hl => ?_)
  cases o
  refine lv_iload_n hx hb dX9_meanSteps_76 rfl (lv_at hl 1 rfl) ?_
  obtain ⟨v24, hB, h⟩ := bd1_inv h
  have hJ89 : ∀ (H : Heap) (locs : List Loc) (ls : Array Slot), gS (mA E) s.heap (mP E g4) H locs → lv_has ls 6 [] → W p l e rm_m_meanSteps s m args below meth c H locs 0 0 (MQ below (gQd r (mP E gZ) (mA E)) args s 0 0 (mA E)) (F0 m 89 ls [.double v24]) := by
    intro H locs ls S hl
    cases h
    exact g_dret F hr hlk S rfl dX9_meanSteps_89
  clear h
  have h := hB
  clear hB
  refine lv_if_ne (tgt := 84) hx hb dX9_meanSteps_77 (by decide) (fun c21 => ?_) (fun c21 => ?_)
  · rw [if_neg c21] at h
    refine lv_iload_n hx hb dX9_meanSteps_84 rfl (lv_at hl 0 rfl) ?_
    refine lv_i2d hx hb dX9_meanSteps_85 ?_
    refine lv_iload_n hx hb dX9_meanSteps_86 rfl (lv_at hl 1 rfl) ?_
    refine lv_i2d hx hb dX9_meanSteps_87 ?_
    obtain ⟨v22, e23, h⟩ := bd1_inv h
    obtain ⟨e23f, rfl⟩ := ck64_inv e23
    refine lv_ddiv hx hb dX9_meanSteps_88 e23f ?_
    cases h
    exact hJ89 _ _ _ S (lv_sub hl [] rfl)
  · rw [if_pos c21] at h
    refine lv_dconst0 hx hb dX9_meanSteps_80 ?_
    refine lv_goto (tgt := 89) hx hb dX9_meanSteps_81 (by decide) ?_
    cases h
    exact hJ89 _ _ _ S (lv_sub hl [] rfl)
abbrev rm_m_direction : Room := { frames := 0, cells := 0, slots := 0, locals := 0 }
def fm_direction (g : mS) (x1 : Int32) : Option (Int32) :=
  bd1 ((
    if x1 = 0 then
      some 117
    else
      if x1 = 1 then
        some 114
      else
        if x1 = 2 then
          some 100
        else
          some 108) : Option (Int32)) fun v4 =>
  some v4
set_option maxHeartbeats 4000000 in
set_option maxRecDepth 100000 in
theorem met_m_direction (l : Launch) (E : mEnv) (hE : mInj E) (g : mS) (x1 : Int32) (r : Int32) (h : fm_direction g x1 = some r) : Met l yX9_direction (ws_ yX9_direction cX9_direction 1 (some .int)) rm_m_direction (va_Pc [.int x1] (gPre (mK E) (mP E g))) (gQi r (mP E g) (mA E)) 0 0 (mA E) := by
  refine g_met (own := RX9) (by decide) rfl (Nat.le_of_ble_eq_true rfl) ?_
  intro p e s m args below meth c ls F hr hlk hK S hl
  have hx := F.1
  have hb := F.2.1
  have hl : lv_has ls 1 [(0, .int x1)] := hl
  unfold fm_direction at h
  refine lv_iload_n hx hb dX9_direction_0 rfl (lv_at hl 0 rfl) ?_
  obtain ⟨v4, hB, h⟩ := bd1_inv h
  have hJ31 : ∀ (H : Heap) (locs : List Loc) (ls : Array Slot), gS (mA E) s.heap (mP E g) H locs → lv_has ls 1 [] → W p l e rm_m_direction s m args below meth c H locs 0 0 (MQ below (gQi r (mP E g) (mA E)) args s 0 0 (mA E)) (F0 m 31 ls [.int v4]) := by
    intro H locs ls S hl
    cases h
    exact g_iret F hr hlk S rfl dX9_direction_31
  clear h
  have h := hB
  clear hB
  refine lv_if_ne (tgt := 9) hx hb dX9_direction_1 (by decide) (fun c1 => ?_) (fun c1 => ?_)
  · rw [if_neg c1] at h
    refine lv_iload_n hx hb dX9_direction_9 rfl (lv_at hl 0 rfl) ?_
    refine lv_iconst (v := 1) hx hb dX9_direction_10 (by decide) ?_
    refine lv_icmp_ne (tgt := 19) hx hb dX9_direction_11 (by decide) (fun c2 => ?_) (fun c2 => ?_)
    · rw [if_neg c2] at h
      refine lv_iload_n hx hb dX9_direction_19 rfl (lv_at hl 0 rfl) ?_
      refine lv_iconst (v := 2) hx hb dX9_direction_20 (by decide) ?_
      refine lv_icmp_ne (tgt := 29) hx hb dX9_direction_21 (by decide) (fun c3 => ?_) (fun c3 => ?_)
      · rw [if_neg c3] at h
        refine lv_bipush (v := 108) hx hb dX9_direction_29 (by decide) ?_
        cases h
        exact hJ31 _ _ _ S (lv_sub hl [] rfl)
      · rw [if_pos c3] at h
        refine lv_bipush (v := 100) hx hb dX9_direction_24 (by decide) ?_
        refine lv_goto (tgt := 31) hx hb dX9_direction_26 (by decide) ?_
        cases h
        exact hJ31 _ _ _ S (lv_sub hl [] rfl)
    · rw [if_pos c2] at h
      refine lv_bipush (v := 114) hx hb dX9_direction_14 (by decide) ?_
      refine lv_goto (tgt := 31) hx hb dX9_direction_16 (by decide) ?_
      cases h
      exact hJ31 _ _ _ S (lv_sub hl [] rfl)
  · rw [if_pos c1] at h
    refine lv_bipush (v := 117) hx hb dX9_direction_4 (by decide) ?_
    refine lv_goto (tgt := 31) hx hb dX9_direction_6 (by decide) ?_
    cases h
    exact hJ31 _ _ _ S (lv_sub hl [] rfl)
theorem call_m_direction {p : Program} {l : Launch} {e : Env} {s : State} {m : MethodId} {args : Array Value} {below : List Frame} {meth : Method} {c : Code} {R : Room} {H : Heap} {locs : List Loc} {cells slots pc nL : Nat} {Q : State → Prop} {ls : Array Slot} {rest : List Value} {cc : ByteArray} {E : mEnv} (hE : mInj E) {g : mS} {x1 : Int32} {r : Int32} (F : CallFix p m c cc nL s args lw_all RX9) (hK : mK E s) (S : gS (mA E) s.heap (mP E g) H locs) (h : fm_direction g x1 = some r) (hls : ls.size = nL) (hW : (rest.map fun v => v.category).sum ≤ 8) (hR : rm_m_direction.frames + 1 ≤ R.frames ∧ 8 + (1 + 11) + rm_m_direction.locals ≤ R.locals) (hf : cells ≤ R.cells ∧ slots ≤ R.slots) (hdg : decode cc pc = .ok (.invokestatic 375, 3))
    (kk : ∀ (H1 : Heap) (locs1 : List Loc), gS (mA E) s.heap (mP E g) H1 locs1 → W p l e R s m args below meth c H1 locs1 cells slots Q (F0 m (pc + 3) ls (.int r :: rest))) : W p l e R s m args below meth c H locs cells slots Q (F0 m pc ls (.int x1 :: rest)) :=
  g_ki (g_runS F hK (mKm E) S (met_m_direction l E hE g x1 r h) (va_cwS 1 F.2.2.2.2 (lw_S q2353 q2354 q121 q2355) rfl rfl rfl (by decide +kernel) hR) rfl hls rfl hW hdg hf) S kk
abbrev rm_m_byteOf : Room := { frames := 1, cells := 0, slots := 0, locals := 23 }
def fm_byteOf (g : mS) (x1 : Int32) : Option (Int32) :=
  bd1 (fm_of g x1 1) fun v2 =>
  bd1 (fm_of g x1 0) fun v4 =>
  if v4 = 0 then
    bd1 (fm_litIn g x1) fun v7 =>
    bd1 ((
      if v7 = 0 then
        some 46
      else
        some 43) : Option (Int32)) fun v9 =>
    some v9
  else
  if v4 = 1 then
    some 35
  else
  if v4 = 2 then
    bd1 ((
      if v2 = 0 then
        some 40
      else
        some 41) : Option (Int32)) fun v14 =>
    some v14
  else
  if v4 = 3 then
    bd1 ((
      if v2 = 0 then
        some 91
      else
        some 93) : Option (Int32)) fun v18 =>
    some v18
  else
  if v4 = 4 then
    bd1 (fm_of g x1 5) fun v22 =>
    bd1 ((
      if v22 = (-1) then
        some 68
      else
        some 79) : Option (Int32)) fun v24 =>
    some v24
  else
  if v4 = 5 then
    bd1 (fm_direction g v2) fun v28 =>
    some v28
  else
  if v4 = 6 then
    some 111
  else
    some 42
set_option maxHeartbeats 4000000 in
set_option maxRecDepth 100000 in
theorem met_m_byteOf (l : Launch) (E : mEnv) (hE : mInj E) (g : mS) (x1 : Int32) (r : Int32) (h : fm_byteOf g x1 = some r) : Met l yX9_byteOf (ws_ yX9_byteOf cX9_byteOf 3 (some .int)) rm_m_byteOf (va_Pc [.ref (mad E 0), .int x1] (gPre (mK E) (mP E g))) (gQi r (mP E g) (mA E)) 0 0 (mA E) := by
  refine g_met (own := RX9) (by decide) rfl (Nat.le_of_ble_eq_true rfl) ?_
  intro p e s m args below meth c ls F hr hlk hK S hl
  have hx := F.1
  have hb := F.2.1
  have hl : lv_has ls 3 [(0, .ref (mad E 0)), (1, .int x1)] := hl
  unfold fm_byteOf at h
  refine lv_aload_n hx hb dX9_byteOf_0 rfl (lv_at hl 0 rfl) ?_
  refine lv_iload_n hx hb dX9_byteOf_1 rfl (lv_at hl 1 rfl) ?_
  refine lv_iconst (v := 1) hx hb dX9_byteOf_2 (by decide) ?_
  obtain ⟨v2, e1, h⟩ := bd1_inv h
  refine call_m_of hE F hK S e1 hl.1 (Nat.le_of_ble_eq_true rfl) ⟨Nat.le_of_ble_eq_true rfl, Nat.le_of_ble_eq_true rfl⟩ ⟨Nat.zero_le _, Nat.zero_le _⟩ dX9_byteOf_3 (fun H locs S => ?_)
  refine lv_istore_n (lv' := [(2, .int v2), (0, .ref (mad E 0)), (1, .int x1)]) hx hb dX9_byteOf_6 rfl hl (by decide) rfl (fun ls hl => ?_)
  refine lv_aload_n hx hb dX9_byteOf_7 rfl (lv_at hl 1 rfl) ?_
  refine lv_iload_n hx hb dX9_byteOf_8 rfl (lv_at hl 2 rfl) ?_
  refine lv_iconst (v := 0) hx hb dX9_byteOf_9 (by decide) ?_
  obtain ⟨v4, e3, h⟩ := bd1_inv h
  refine call_m_of hE F hK S e3 hl.1 (Nat.le_of_ble_eq_true rfl) ⟨Nat.le_of_ble_eq_true rfl, Nat.le_of_ble_eq_true rfl⟩ ⟨Nat.zero_le _, Nat.zero_le _⟩ dX9_byteOf_10 (fun H locs S => ?_)
  by_cases c5 : v4 = 0
  · rw [if_pos c5] at h
    refine lv_tableIn (tgt := 56) (off := 43) hx hb dX9_byteOf_13 (by rw [c5]; decide) (by rw [c5]; decide) (by rw [c5]; rfl) (by decide) ?_
    refine lv_aload_n hx hb dX9_byteOf_56 rfl (lv_at hl 1 rfl) ?_
    refine lv_iload_n hx hb dX9_byteOf_57 rfl (lv_at hl 2 rfl) ?_
    obtain ⟨v7, e6, h⟩ := bd1_inv h
    refine call_m_litIn hE F hK S e6 hl.1 (Nat.le_of_ble_eq_true rfl) ⟨Nat.le_of_ble_eq_true rfl, Nat.le_of_ble_eq_true rfl⟩ ⟨Nat.zero_le _, Nat.zero_le _⟩ dX9_byteOf_58 (fun H locs S => ?_)
    obtain ⟨v9, hB, h⟩ := bd1_inv h
    have hJ71 : ∀ (H : Heap) (locs : List Loc) (ls : Array Slot), gS (mA E) s.heap (mP E g) H locs → lv_has ls 3 [] → W p l e rm_m_byteOf s m args below meth c H locs 0 0 (MQ below (gQi r (mP E g) (mA E)) args s 0 0 (mA E)) (F0 m 71 ls [.int v9]) := by
      intro H locs ls S hl
      cases h
      exact g_iret F hr hlk S rfl dX9_byteOf_71
    clear h
    have h := hB
    clear hB
    refine lv_if_eq (tgt := 69) hx hb dX9_byteOf_61 (by decide) (fun c8 => ?_) (fun c8 => ?_)
    · rw [if_pos c8] at h
      refine lv_bipush (v := 46) hx hb dX9_byteOf_69 (by decide) ?_
      cases h
      exact hJ71 _ _ _ S (lv_sub hl [] rfl)
    · rw [if_neg c8] at h
      refine lv_bipush (v := 43) hx hb dX9_byteOf_64 (by decide) ?_
      refine lv_goto (tgt := 71) hx hb dX9_byteOf_66 (by decide) ?_
      cases h
      exact hJ71 _ _ _ S (lv_sub hl [] rfl)
  rw [if_neg c5] at h
  by_cases c11 : v4 = 1
  · rw [if_pos c11] at h
    refine lv_tableIn (tgt := 72) (off := 59) hx hb dX9_byteOf_13 (by rw [c11]; decide) (by rw [c11]; decide) (by rw [c11]; rfl) (by decide) ?_
    refine lv_bipush (v := 35) hx hb dX9_byteOf_72 (by decide) ?_
    cases h
    exact g_iret F hr hlk S rfl dX9_byteOf_74
  rw [if_neg c11] at h
  by_cases c12 : v4 = 2
  · rw [if_pos c12] at h
    refine lv_tableIn (tgt := 75) (off := 62) hx hb dX9_byteOf_13 (by rw [c12]; decide) (by rw [c12]; decide) (by rw [c12]; rfl) (by decide) ?_
    refine lv_iload_n hx hb dX9_byteOf_75 rfl (lv_at hl 0 rfl) ?_
    obtain ⟨v14, hB, h⟩ := bd1_inv h
    have hJ86 : ∀ (H : Heap) (locs : List Loc) (ls : Array Slot), gS (mA E) s.heap (mP E g) H locs → lv_has ls 3 [] → W p l e rm_m_byteOf s m args below meth c H locs 0 0 (MQ below (gQi r (mP E g) (mA E)) args s 0 0 (mA E)) (F0 m 86 ls [.int v14]) := by
      intro H locs ls S hl
      cases h
      exact g_iret F hr hlk S rfl dX9_byteOf_86
    clear h
    have h := hB
    clear hB
    refine lv_if_ne (tgt := 84) hx hb dX9_byteOf_76 (by decide) (fun c13 => ?_) (fun c13 => ?_)
    · rw [if_neg c13] at h
      refine lv_bipush (v := 41) hx hb dX9_byteOf_84 (by decide) ?_
      cases h
      exact hJ86 _ _ _ S (lv_sub hl [] rfl)
    · rw [if_pos c13] at h
      refine lv_bipush (v := 40) hx hb dX9_byteOf_79 (by decide) ?_
      refine lv_goto (tgt := 86) hx hb dX9_byteOf_81 (by decide) ?_
      cases h
      exact hJ86 _ _ _ S (lv_sub hl [] rfl)
  rw [if_neg c12] at h
  by_cases c16 : v4 = 3
  · rw [if_pos c16] at h
    refine lv_tableIn (tgt := 87) (off := 74) hx hb dX9_byteOf_13 (by rw [c16]; decide) (by rw [c16]; decide) (by rw [c16]; rfl) (by decide) ?_
    refine lv_iload_n hx hb dX9_byteOf_87 rfl (lv_at hl 0 rfl) ?_
    obtain ⟨v18, hB, h⟩ := bd1_inv h
    have hJ98 : ∀ (H : Heap) (locs : List Loc) (ls : Array Slot), gS (mA E) s.heap (mP E g) H locs → lv_has ls 3 [] → W p l e rm_m_byteOf s m args below meth c H locs 0 0 (MQ below (gQi r (mP E g) (mA E)) args s 0 0 (mA E)) (F0 m 98 ls [.int v18]) := by
      intro H locs ls S hl
      cases h
      exact g_iret F hr hlk S rfl dX9_byteOf_98
    clear h
    have h := hB
    clear hB
    refine lv_if_ne (tgt := 96) hx hb dX9_byteOf_88 (by decide) (fun c17 => ?_) (fun c17 => ?_)
    · rw [if_neg c17] at h
      refine lv_bipush (v := 93) hx hb dX9_byteOf_96 (by decide) ?_
      cases h
      exact hJ98 _ _ _ S (lv_sub hl [] rfl)
    · rw [if_pos c17] at h
      refine lv_bipush (v := 91) hx hb dX9_byteOf_91 (by decide) ?_
      refine lv_goto (tgt := 98) hx hb dX9_byteOf_93 (by decide) ?_
      cases h
      exact hJ98 _ _ _ S (lv_sub hl [] rfl)
  rw [if_neg c16] at h
  by_cases c20 : v4 = 4
  · rw [if_pos c20] at h
    refine lv_tableIn (tgt := 99) (off := 86) hx hb dX9_byteOf_13 (by rw [c20]; decide) (by rw [c20]; decide) (by rw [c20]; rfl) (by decide) ?_
    refine lv_aload_n hx hb dX9_byteOf_99 rfl (lv_at hl 1 rfl) ?_
    refine lv_iload_n hx hb dX9_byteOf_100 rfl (lv_at hl 2 rfl) ?_
    refine lv_iconst (v := 5) hx hb dX9_byteOf_101 (by decide) ?_
    obtain ⟨v22, e21, h⟩ := bd1_inv h
    refine call_m_of hE F hK S e21 hl.1 (Nat.le_of_ble_eq_true rfl) ⟨Nat.le_of_ble_eq_true rfl, Nat.le_of_ble_eq_true rfl⟩ ⟨Nat.zero_le _, Nat.zero_le _⟩ dX9_byteOf_102 (fun H locs S => ?_)
    refine lv_iconst (v := (-1)) hx hb dX9_byteOf_105 (by decide) ?_
    obtain ⟨v24, hB, h⟩ := bd1_inv h
    have hJ116 : ∀ (H : Heap) (locs : List Loc) (ls : Array Slot), gS (mA E) s.heap (mP E g) H locs → lv_has ls 3 [] → W p l e rm_m_byteOf s m args below meth c H locs 0 0 (MQ below (gQi r (mP E g) (mA E)) args s 0 0 (mA E)) (F0 m 116 ls [.int v24]) := by
      intro H locs ls S hl
      cases h
      exact g_iret F hr hlk S rfl dX9_byteOf_116
    clear h
    have h := hB
    clear hB
    refine lv_icmp_ne (tgt := 114) hx hb dX9_byteOf_106 (by decide) (fun c23 => ?_) (fun c23 => ?_)
    · rw [if_neg c23] at h
      refine lv_bipush (v := 79) hx hb dX9_byteOf_114 (by decide) ?_
      cases h
      exact hJ116 _ _ _ S (lv_sub hl [] rfl)
    · rw [if_pos c23] at h
      refine lv_bipush (v := 68) hx hb dX9_byteOf_109 (by decide) ?_
      refine lv_goto (tgt := 116) hx hb dX9_byteOf_111 (by decide) ?_
      cases h
      exact hJ116 _ _ _ S (lv_sub hl [] rfl)
  rw [if_neg c20] at h
  by_cases c26 : v4 = 5
  · rw [if_pos c26] at h
    refine lv_tableIn (tgt := 117) (off := 104) hx hb dX9_byteOf_13 (by rw [c26]; decide) (by rw [c26]; decide) (by rw [c26]; rfl) (by decide) ?_
    refine lv_iload_n hx hb dX9_byteOf_117 rfl (lv_at hl 0 rfl) ?_
    obtain ⟨v28, e27, h⟩ := bd1_inv h
    refine call_m_direction hE F hK S e27 hl.1 (Nat.le_of_ble_eq_true rfl) ⟨Nat.le_of_ble_eq_true rfl, Nat.le_of_ble_eq_true rfl⟩ ⟨Nat.zero_le _, Nat.zero_le _⟩ dX9_byteOf_118 (fun H locs S => ?_)
    cases h
    exact g_iret F hr hlk S rfl dX9_byteOf_121
  rw [if_neg c26] at h
  by_cases c29 : v4 = 6
  · rw [if_pos c29] at h
    refine lv_tableIn (tgt := 122) (off := 109) hx hb dX9_byteOf_13 (by rw [c29]; decide) (by rw [c29]; decide) (by rw [c29]; rfl) (by decide) ?_
    refine lv_bipush (v := 111) hx hb dX9_byteOf_122 (by decide) ?_
    cases h
    exact g_iret F hr hlk S rfl dX9_byteOf_124
  rw [if_neg c29] at h
  refine lv_tableOut (tgt := 125) hx hb dX9_byteOf_13 (by have t0 := lv_neT (a := 0) c5 (by decide); have t1 := lv_neT (a := 1) c11 (by decide); have t2 := lv_neT (a := 2) c12 (by decide); have t3 := lv_neT (a := 3) c16 (by decide); have t4 := lv_neT (a := 4) c20 (by decide); have t5 := lv_neT (a := 5) c26 (by decide); have t6 := lv_neT (a := 6) c29 (by decide); omega) (by decide) ?_
  refine lv_bipush (v := 42) hx hb dX9_byteOf_125 (by decide) ?_
  cases h
  exact g_iret F hr hlk S rfl dX9_byteOf_127
theorem call_m_byteOf {p : Program} {l : Launch} {e : Env} {s : State} {m : MethodId} {args : Array Value} {below : List Frame} {meth : Method} {c : Code} {R : Room} {H : Heap} {locs : List Loc} {cells slots pc nL : Nat} {Q : State → Prop} {ls : Array Slot} {rest : List Value} {cc : ByteArray} {E : mEnv} (hE : mInj E) {g : mS} {x1 : Int32} {r : Int32} (F : CallFix p m c cc nL s args lw_all RX9) (hK : mK E s) (S : gS (mA E) s.heap (mP E g) H locs) (h : fm_byteOf g x1 = some r) (hls : ls.size = nL) (hW : (rest.map fun v => v.category).sum ≤ 8) (hR : rm_m_byteOf.frames + 1 ≤ R.frames ∧ 8 + (3 + 11) + rm_m_byteOf.locals ≤ R.locals) (hf : cells ≤ R.cells ∧ slots ≤ R.slots) (hdg : decode cc pc = .ok (.invokevirtual 381, 3))
    (kk : ∀ (H1 : Heap) (locs1 : List Loc), gS (mA E) s.heap (mP E g) H1 locs1 → W p l e R s m args below meth c H1 locs1 cells slots Q (F0 m (pc + 3) ls (.int r :: rest))) : W p l e R s m args below meth c H locs cells slots Q (F0 m pc ls (.int x1 :: .ref (mad E 0) :: rest)) :=
  g_ki (g_runV F hK (mKm E) S (met_m_byteOf l E hE g x1 r h) (cwV 1 F.2.2.2.2 (lw_V q2349 q2351 qs109 q121 q2352) rfl rfl rfl (by decide +kernel) hR) (m_recv hK S) rfl hls rfl hW hdg hf) S kk
abbrev rm_m_writeBoard : Room := { frames := 6, cells := 0, slots := 0, locals := 137 }
def Lm_writeBoard_2 : Nat → mS → Int32 → Int32 → Option (mS)
  | 0, _, _, _ => none
  | n + 1, g, y1, y2 =>
    bd1 (rdI g 1 0) fun v16 =>
    if v16 ≤ y2 then
      some g
    else
      bd1 (fm_cellAt g y2 y1) fun v20 =>
      bd1 (fm_byteOf g v20) fun v22 =>
      bd1 (wrB g 12 (g 0 15) v22.toInt8.toInt32) fun g23 =>
      bd1 (wrF g23 15 ((g23 0 15) + 1)) fun g25 =>
      Lm_writeBoard_2 n g25 y1 (y2 + 1)
def Lm_writeBoard_1 : Nat → mS → Int32 → Option (mS)
  | 0, _, _ => none
  | n + 1, g, y1 =>
    bd1 (rdI g 1 1) fun v7 =>
    if v7 ≤ y1 then
      some g
    else
      bd1 ((
        if y1 ≤ 0 then
          some g
        else
          bd1 (wrB g 12 (g 0 15) 47) fun g11 =>
          bd1 (wrF g11 15 ((g11 0 15) + 1)) fun g13 =>
          some g13) : Option (mS)) fun g15 =>
      bd1 (Lm_writeBoard_2 FUEL g15 y1 0) fun g28 =>
      Lm_writeBoard_1 n g28 (y1 + 1)
def fm_writeBoard (g : mS)  : Option (Int32 × mS) :=
  bd1 (wrF g 0 0) fun g1 =>
  bd1 (fm_shine g1) fun g4 =>
  bd1 (wrF g4 15 0) fun g5 =>
  bd1 (Lm_writeBoard_1 FUEL g5 0) fun g32 =>
  some ((g32 0 15), g32)
set_option maxHeartbeats 4000000 in
set_option maxRecDepth 100000 in
theorem loop_m_writeBoard_2 {p : Program} {l : Launch} {e : Env} {s : State} {m : MethodId} {args : Array Value} {below : List Frame} {meth : Method} {c : Code} (E : mEnv) (hE : mInj E) (F : CallFix p m c cX9_writeBoard 3 s args lw_all RX9) (hr : meth.sig.returnType = some .int) (hlk : meth.locks = false) (hK : mK E s) {Q : State → Prop} : ∀ (n : Nat) (g : mS) (y1 : Int32) (y2 : Int32) (o : mS), Lm_writeBoard_2 n g y1 y2 = some o → ∀ (H : Heap) (locs : List Loc) (ls : Array Slot), gS (mA E) s.heap (mP E g) H locs → lv_has ls 3 [(0, .ref (mad E 0)), (1, .int y1), (2, .int y2)] → (∀  (gx : mS) (H : Heap) (locs : List Loc) (ls : Array Slot), o = gx → gS (mA E) s.heap (mP E gx) H locs → lv_has ls 3 [(0, .ref (mad E 0)), (1, .int y1)] → W p l e rm_m_writeBoard s m args below meth c H locs 0 0 Q (F0 m 99 ls [])) → W p l e rm_m_writeBoard s m args below meth c H locs 0 0 Q (F0 m 53 ls []) := by
  have hx := F.1
  have hb := F.2.1
  intro n
  induction n with
  | zero =>
    intro g y1 y2 o h
    rw [Lm_writeBoard_2] at h
    cases h
  | succ n ih =>
    intro g y1 y2 o h H locs ls S hl kx
    rw [Lm_writeBoard_2] at h
    refine lv_iload_n hx hb dX9_writeBoard_53 rfl (lv_at hl 2 rfl) ?_
    refine lv_aload_n hx hb dX9_writeBoard_54 rfl (lv_at hl 0 rfl) ?_
    refine m_get1 F hK S dX9_writeBoard_55 ?_
    refine lv_iconst (v := 0) hx hb dX9_writeBoard_58 (by decide) ?_
    obtain ⟨v16, e17, h⟩ := bd1_inv h
    refine m_iald F hK S e17 dX9_writeBoard_59 ?_
    refine lv_icmp_ge (tgt := 99) hx hb dX9_writeBoard_60 (by decide) (fun c18 => ?_) (fun c18 => ?_)
    · rw [if_pos c18] at h
      cases h
      exact kx _ _ _ _ rfl S (lv_sub hl [0, 1] rfl)
    · rw [if_neg c18] at h
      refine lv_aload_n hx hb dX9_writeBoard_63 rfl (lv_at hl 0 rfl) ?_
      refine m_get14 F hK S dX9_writeBoard_64 ?_
      refine lv_aload_n hx hb dX9_writeBoard_67 rfl (lv_at hl 0 rfl) ?_
      refine m_get15 F hK S dX9_writeBoard_68 ?_
      refine lv_aload_n hx hb dX9_writeBoard_71 rfl (lv_at hl 0 rfl) ?_
      refine lv_aload_n hx hb dX9_writeBoard_72 rfl (lv_at hl 0 rfl) ?_
      refine lv_iload_n hx hb dX9_writeBoard_73 rfl (lv_at hl 2 rfl) ?_
      refine lv_iload_n hx hb dX9_writeBoard_74 rfl (lv_at hl 1 rfl) ?_
      obtain ⟨v20, e19, h⟩ := bd1_inv h
      refine call_m_cellAt hE F hK S e19 hl.1 (Nat.le_of_ble_eq_true rfl) ⟨Nat.le_of_ble_eq_true rfl, Nat.le_of_ble_eq_true rfl⟩ ⟨Nat.zero_le _, Nat.zero_le _⟩ dX9_writeBoard_75 (fun H locs S => ?_)
      obtain ⟨v22, e21, h⟩ := bd1_inv h
      refine call_m_byteOf hE F hK S e21 hl.1 (Nat.le_of_ble_eq_true rfl) ⟨Nat.le_of_ble_eq_true rfl, Nat.le_of_ble_eq_true rfl⟩ ⟨Nat.zero_le _, Nat.zero_le _⟩ dX9_writeBoard_78 (fun H locs S => ?_)
      refine lv_i2b hx hb dX9_writeBoard_81 rfl ?_
      obtain ⟨g23, e24, h⟩ := bd1_inv h
      refine m_bast hE F hK S e24 dX9_writeBoard_82 (fun H locs S => ?_)
      refine lv_aload_n hx hb dX9_writeBoard_83 rfl (lv_at hl 0 rfl) ?_
      refine lv_dup hx hb dX9_writeBoard_84 rfl ?_
      refine m_get15 F hK S dX9_writeBoard_85 ?_
      refine lv_iconst (v := 1) hx hb dX9_writeBoard_88 (by decide) ?_
      refine lv_iadd hx hb dX9_writeBoard_89 ?_
      obtain ⟨g25, e26, h⟩ := bd1_inv h
      refine m_put15 hE F hK S e26 dX9_writeBoard_90 (fun H locs S => ?_)
      refine lv_iinc (v := (y2 + 1)) (lv' := [(2, .int (y2 + 1)), (0, .ref (mad E 0)), (1, .int y1)]) hx hb dX9_writeBoard_93 hl (k := 2) rfl rfl (by decide) rfl (fun ls hl => ?_)
      refine lv_goto (tgt := 53) hx hb dX9_writeBoard_96 (by decide) ?_
      exact ih _ _ _ _ h _ _ _ S (lv_sub hl [1, 2, 0] rfl) kx
set_option maxHeartbeats 4000000 in
set_option maxRecDepth 100000 in
theorem loop_m_writeBoard_1 {p : Program} {l : Launch} {e : Env} {s : State} {m : MethodId} {args : Array Value} {below : List Frame} {meth : Method} {c : Code} (E : mEnv) (hE : mInj E) (F : CallFix p m c cX9_writeBoard 3 s args lw_all RX9) (hr : meth.sig.returnType = some .int) (hlk : meth.locks = false) (hK : mK E s) {Q : State → Prop} : ∀ (n : Nat) (g : mS) (y1 : Int32) (o : mS), Lm_writeBoard_1 n g y1 = some o → ∀ (H : Heap) (locs : List Loc) (ls : Array Slot), gS (mA E) s.heap (mP E g) H locs → lv_has ls 3 [(0, .ref (mad E 0)), (1, .int y1)] → (∀  (gx : mS) (H : Heap) (locs : List Loc) (ls : Array Slot), o = gx → gS (mA E) s.heap (mP E gx) H locs → lv_has ls 3 [(0, .ref (mad E 0))] → W p l e rm_m_writeBoard s m args below meth c H locs 0 0 Q (F0 m 105 ls [])) → W p l e rm_m_writeBoard s m args below meth c H locs 0 0 Q (F0 m 16 ls []) := by
  have hx := F.1
  have hb := F.2.1
  intro n
  induction n with
  | zero =>
    intro g y1 o h
    rw [Lm_writeBoard_1] at h
    cases h
  | succ n ih =>
    intro g y1 o h H locs ls S hl kx
    rw [Lm_writeBoard_1] at h
    refine lv_iload_n hx hb dX9_writeBoard_16 rfl (lv_at hl 1 rfl) ?_
    refine lv_aload_n hx hb dX9_writeBoard_17 rfl (lv_at hl 0 rfl) ?_
    refine m_get1 F hK S dX9_writeBoard_18 ?_
    refine lv_iconst (v := 1) hx hb dX9_writeBoard_21 (by decide) ?_
    obtain ⟨v7, e8, h⟩ := bd1_inv h
    refine m_iald F hK S e8 dX9_writeBoard_22 ?_
    refine lv_icmp_ge (tgt := 105) hx hb dX9_writeBoard_23 (by decide) (fun c9 => ?_) (fun c9 => ?_)
    · rw [if_pos c9] at h
      cases h
      exact kx _ _ _ _ rfl S (lv_sub hl [0] rfl)
    · rw [if_neg c9] at h
      refine lv_iload_n hx hb dX9_writeBoard_26 rfl (lv_at hl 1 rfl) ?_
      obtain ⟨g15, hB, h⟩ := bd1_inv h
      have hJ51 : ∀ (H : Heap) (locs : List Loc) (ls : Array Slot), gS (mA E) s.heap (mP E g15) H locs → lv_has ls 3 [(0, .ref (mad E 0)), (1, .int y1)] → W p l e rm_m_writeBoard s m args below meth c H locs 0 0 Q (F0 m 51 ls []) := by
        intro H locs ls S hl
        refine lv_iconst (v := 0) hx hb dX9_writeBoard_51 (by decide) ?_
        refine lv_istore_n (lv' := [(2, .int 0), (0, .ref (mad E 0)), (1, .int y1)]) hx hb dX9_writeBoard_52 rfl hl (by decide) rfl (fun ls hl => ?_)
        obtain ⟨g28, e27, h⟩ := bd1_inv h
        refine loop_m_writeBoard_2 E hE F hr hlk hK _ _ _ _ _ e27 _ _ _ S (lv_sub hl [1, 2, 0] rfl) (fun g28z H locs ls o S hl => ?_)
        cases o
        refine lv_iinc (v := (y1 + 1)) (lv' := [(1, .int (y1 + 1)), (0, .ref (mad E 0))]) hx hb dX9_writeBoard_99 hl (k := 1) rfl rfl (by decide) rfl (fun ls hl => ?_)
        refine lv_goto (tgt := 16) hx hb dX9_writeBoard_102 (by decide) ?_
        exact ih _ _ _ h _ _ _ S (lv_sub hl [1, 0] rfl) kx
      clear h
      have h := hB
      clear hB
      refine lv_if_le (tgt := 51) hx hb dX9_writeBoard_27 (by decide) (fun c10 => ?_) (fun c10 => ?_)
      · rw [if_pos c10] at h
        cases h
        exact hJ51 _ _ _ S (lv_sub hl [0, 1] rfl)
      · rw [if_neg c10] at h
        refine lv_aload_n hx hb dX9_writeBoard_30 rfl (lv_at hl 0 rfl) ?_
        refine m_get14 F hK S dX9_writeBoard_31 ?_
        refine lv_aload_n hx hb dX9_writeBoard_34 rfl (lv_at hl 0 rfl) ?_
        refine m_get15 F hK S dX9_writeBoard_35 ?_
        refine lv_bipush (v := 47) hx hb dX9_writeBoard_38 (by decide) ?_
        obtain ⟨g11, e12, h⟩ := bd1_inv h
        refine m_bast hE F hK S e12 dX9_writeBoard_40 (fun H locs S => ?_)
        refine lv_aload_n hx hb dX9_writeBoard_41 rfl (lv_at hl 0 rfl) ?_
        refine lv_dup hx hb dX9_writeBoard_42 rfl ?_
        refine m_get15 F hK S dX9_writeBoard_43 ?_
        refine lv_iconst (v := 1) hx hb dX9_writeBoard_46 (by decide) ?_
        refine lv_iadd hx hb dX9_writeBoard_47 ?_
        obtain ⟨g13, e14, h⟩ := bd1_inv h
        refine m_put15 hE F hK S e14 dX9_writeBoard_48 (fun H locs S => ?_)
        cases h
        exact hJ51 _ _ _ S (lv_sub hl [0, 1] rfl)
set_option maxHeartbeats 4000000 in
set_option maxRecDepth 100000 in
theorem met_m_writeBoard (l : Launch) (E : mEnv) (hE : mInj E) (g : mS)  (r : Int32) (gZ : mS) (h : fm_writeBoard g = some (r, gZ)) : Met l yX9_writeBoard (ws_ yX9_writeBoard cX9_writeBoard 3 (some .int)) rm_m_writeBoard (va_Pc [.ref (mad E 0)] (gPre (mK E) (mP E g))) (gQi r (mP E gZ) (mA E)) 0 0 (mA E) := by
  refine g_met (own := RX9) (by decide) rfl (Nat.le_of_ble_eq_true rfl) ?_
  intro p e s m args below meth c ls F hr hlk hK S hl
  have hx := F.1
  have hb := F.2.1
  have hl : lv_has ls 3 [(0, .ref (mad E 0))] := hl
  unfold fm_writeBoard at h
  refine lv_aload_n hx hb dX9_writeBoard_0 rfl (lv_at hl 0 rfl) ?_
  refine lv_iconst (v := 0) hx hb dX9_writeBoard_1 (by decide) ?_
  obtain ⟨g1, e2, h⟩ := bd1_inv h
  refine m_put0 hE F hK S e2 dX9_writeBoard_2 (fun H locs S => ?_)
  refine lv_aload_n hx hb dX9_writeBoard_5 rfl (lv_at hl 0 rfl) ?_
  obtain ⟨g4, e3, h⟩ := bd1_inv h
  refine call_m_shine hE F hK S e3 hl.1 (Nat.le_of_ble_eq_true rfl) ⟨Nat.le_of_ble_eq_true rfl, Nat.le_of_ble_eq_true rfl⟩ ⟨Nat.zero_le _, Nat.zero_le _⟩ dX9_writeBoard_6 (fun H locs S => ?_)
  refine lv_aload_n hx hb dX9_writeBoard_9 rfl (lv_at hl 0 rfl) ?_
  refine lv_iconst (v := 0) hx hb dX9_writeBoard_10 (by decide) ?_
  obtain ⟨g5, e6, h⟩ := bd1_inv h
  refine m_put15 hE F hK S e6 dX9_writeBoard_11 (fun H locs S => ?_)
  refine lv_iconst (v := 0) hx hb dX9_writeBoard_14 (by decide) ?_
  refine lv_istore_n (lv' := [(1, .int 0), (0, .ref (mad E 0))]) hx hb dX9_writeBoard_15 rfl hl (by decide) rfl (fun ls hl => ?_)
  obtain ⟨g32, e31, h⟩ := bd1_inv h
  refine loop_m_writeBoard_1 E hE F hr hlk hK _ _ _ _ e31 _ _ _ S (lv_sub hl [1, 0] rfl) (fun g32z H locs ls o S hl => ?_)
  cases o
  refine lv_aload_n hx hb dX9_writeBoard_105 rfl (lv_at hl 0 rfl) ?_
  refine m_get15 F hK S dX9_writeBoard_106 ?_
  cases h
  exact g_iret F hr hlk S rfl dX9_writeBoard_109
abbrev rm_m_reportByte : Room := { frames := 0, cells := 0, slots := 0, locals := 0 }
def fm_reportByte (g : mS) (x1 : Int32) : Option (Int32 × mS) :=
  bd1 (wrF g 0 0) fun g1 =>
  bd1 ((
    if x1 < 0 then
      some (-1)
    else
      if x1 < (g1 0 15) then
        bd1 (rdB g1 12 x1) fun v5 =>
        some v5
      else
        some (-1)) : Option (Int32)) fun v7 =>
  some (v7, g1)
set_option maxHeartbeats 4000000 in
set_option maxRecDepth 100000 in
theorem met_m_reportByte (l : Launch) (E : mEnv) (hE : mInj E) (g : mS) (x1 : Int32) (r : Int32) (gZ : mS) (h : fm_reportByte g x1 = some (r, gZ)) : Met l yX9_reportByte (ws_ yX9_reportByte cX9_reportByte 2 (some .int)) rm_m_reportByte (va_Pc [.ref (mad E 0), .int x1] (gPre (mK E) (mP E g))) (gQi r (mP E gZ) (mA E)) 0 0 (mA E) := by
  refine g_met (own := RX9) (by decide) rfl (Nat.le_of_ble_eq_true rfl) ?_
  intro p e s m args below meth c ls F hr hlk hK S hl
  have hx := F.1
  have hb := F.2.1
  have hl : lv_has ls 2 [(0, .ref (mad E 0)), (1, .int x1)] := hl
  unfold fm_reportByte at h
  refine lv_aload_n hx hb dX9_reportByte_0 rfl (lv_at hl 0 rfl) ?_
  refine lv_iconst (v := 0) hx hb dX9_reportByte_1 (by decide) ?_
  obtain ⟨g1, e2, h⟩ := bd1_inv h
  refine m_put0 hE F hK S e2 dX9_reportByte_2 (fun H locs S => ?_)
  refine lv_iload_n hx hb dX9_reportByte_5 rfl (lv_at hl 1 rfl) ?_
  obtain ⟨v7, hB, h⟩ := bd1_inv h
  have hJ27 : ∀ (H : Heap) (locs : List Loc) (ls : Array Slot), gS (mA E) s.heap (mP E g1) H locs → lv_has ls 2 [] → W p l e rm_m_reportByte s m args below meth c H locs 0 0 (MQ below (gQi r (mP E gZ) (mA E)) args s 0 0 (mA E)) (F0 m 27 ls [.int v7]) := by
    intro H locs ls S hl
    cases h
    exact g_iret F hr hlk S rfl dX9_reportByte_27
  clear h
  have h := hB
  clear hB
  refine lv_if_lt (tgt := 17) hx hb dX9_reportByte_6 (by decide) (fun c3 => ?_) (fun c3 => ?_)
  · rw [if_pos c3] at h
    refine lv_iconst (v := (-1)) hx hb dX9_reportByte_17 (by decide) ?_
    refine lv_goto (tgt := 27) hx hb dX9_reportByte_18 (by decide) ?_
    cases h
    exact hJ27 _ _ _ S (lv_sub hl [] rfl)
  · rw [if_neg c3] at h
    refine lv_iload_n hx hb dX9_reportByte_9 rfl (lv_at hl 1 rfl) ?_
    refine lv_aload_n hx hb dX9_reportByte_10 rfl (lv_at hl 0 rfl) ?_
    refine m_get15 F hK S dX9_reportByte_11 ?_
    refine lv_icmp_lt (tgt := 21) hx hb dX9_reportByte_14 (by decide) (fun c4 => ?_) (fun c4 => ?_)
    · rw [if_pos c4] at h
      refine lv_aload_n hx hb dX9_reportByte_21 rfl (lv_at hl 0 rfl) ?_
      refine m_get14 F hK S dX9_reportByte_22 ?_
      refine lv_iload_n hx hb dX9_reportByte_25 rfl (lv_at hl 1 rfl) ?_
      obtain ⟨v5, e6, h⟩ := bd1_inv h
      refine m_bald F hK S e6 dX9_reportByte_26 ?_
      cases h
      exact hJ27 _ _ _ S (lv_sub hl [] rfl)
    · rw [if_neg c4] at h
      refine lv_iconst (v := (-1)) hx hb dX9_reportByte_17 (by decide) ?_
      refine lv_goto (tgt := 27) hx hb dX9_reportByte_18 (by decide) ?_
      cases h
      exact hJ27 _ _ _ S (lv_sub hl [] rfl)
