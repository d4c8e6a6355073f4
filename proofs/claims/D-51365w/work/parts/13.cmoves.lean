/-! THE COMPONENT, extracted (printed by gen/emit_comp.py) -/
set_option maxRecDepth 100000
abbrev rm_c_X3_moves : Room := { frames := 8, cells := 0, slots := 0, locals := 180 }
def Lc_X3_moves_1 (J : Nat) : Nat → mS → Int32 → Int32 → Option (mS)
  | 0, _, _, _ => none
  | n + 1, g, y3, y4 =>
    if y3 ≤ y4 then
      some g
    else
      bd1 (ix100 y4) fun v2 =>
      bd1 ((
        if (isC 6 g J v2) = 0 then
          some g
        else
          bd1 (ckC 6 g J v2) fun u5 =>
          bd1 (fldC 6 g J v2 3) fun v7 =>
          bd1 (wrC 6 g J v2 3 (if 0 < (v7 - 1) then (v7 - 1) else 0)) fun g9 =>
          some g9) : Option (mS)) fun g11 =>
      Lc_X3_moves_1 J n g11 y3 (y4 + 1)
def fc_X3_moves (g : mS) (J : Nat) (x1 : Nat) : Option (Int32 × mS) :=
  bd1 (Lc_X3_moves_1 J FUEL g 100 0) fun g14 =>
  bd1 (fldC 6 g14 J x1 1) fun v15 =>
  bd1 (wrC 6 g14 J x1 1 (1 - v15)) fun g17 =>
  bd1 (wrC 6 g17 J x1 3 (g17 J 2)) fun g19 =>
  bd1 (fldC 6 g19 J x1 4) fun v21 =>
  bd1 (wrC 6 g19 J x1 4 (v21 + 1)) fun g23 =>
  bd1 (fc_X3_mover g23 J) fun v26 =>
  bd1 (wrW g23 J 5 v26) fun g27 =>
  bd1 (wrW g27 J 4 ((g27 J 4) + 1)) fun g29 =>
  bd2 (fc_X3_opens g29 J) fun v32 g33 =>
  some (v32, g33)
set_option maxHeartbeats 4000000 in
set_option maxRecDepth 100000 in
theorem loop_c_X3_moves_1 {p : Program} {l : Launch} {e : Env} {s : State} {m : MethodId} {args : Array Value} {below : List Frame} {meth : Method} {c : Code} (E : cEnv) {J : Nat} {x1 : Nat} (F : CallFix p m c cX3_moves 7 s args lw_all RX3) (hr : meth.sig.returnType = some .int) (hlk : meth.locks = false) (hK : cK E s) (hJ : okW E J) (hx1 : x1 < 100) {Q : State → Prop} : ∀ (n : Nat) (g : mS) (y3 : Int32) (y4 : Int32) (o : mS), Lc_X3_moves_1 J n g y3 y4 = some o → ∀ (H : Heap) (locs : List Loc) (ls : Array Slot), gS (wA E) s.heap (cP E g) H locs → lv_has ls 7 [(0, .ref (cad E J)), (1, .ref (coa E J x1)), (2, .ref (cca E J)), (3, .int y3), (4, .int y4)] → (∀  (gx : mS) (H : Heap) (locs : List Loc) (ls : Array Slot), o = gx → gS (wA E) s.heap (cP E gx) H locs → lv_has ls 7 [(0, .ref (cad E J)), (1, .ref (coa E J x1))] → W p l e rm_c_X3_moves s m args below meth c H locs 0 0 Q (F0 m 60 ls [])) → W p l e rm_c_X3_moves s m args below meth c H locs 0 0 Q (F0 m 11 ls []) := by
  have hx := F.1
  have hb := F.2.1
  intro n
  induction n with
  | zero =>
    intro g y3 y4 o h
    rw [Lc_X3_moves_1] at h
    cases h
  | succ n ih =>
    intro g y3 y4 o h H locs ls S hl kx
    rw [Lc_X3_moves_1] at h
    refine lv_iload hx hb dX3_moves_11 (lv_at hl 4 rfl) ?_
    refine lv_iload_n hx hb dX3_moves_13 rfl (lv_at hl 3 rfl) ?_
    refine lv_icmp_ge (tgt := 60) hx hb dX3_moves_14 (by decide) (fun c1 => ?_) (fun c1 => ?_)
    · rw [if_pos c1] at h
      cases h
      exact kx _ _ _ _ rfl S (lv_sub hl [0, 1] rfl)
    · rw [if_neg c1] at h
      refine lv_aload_n hx hb dX3_moves_17 rfl (lv_at hl 2 rfl) ?_
      refine lv_iload hx hb dX3_moves_18 (lv_at hl 4 rfl) ?_
      obtain ⟨v2, e3, h⟩ := bd1_inv h
      have hv2 := ix100_lt e3
      refine c_aald F hK S (by assumption) e3 dX3_moves_20 ?_
      refine lv_astore (lv' := [(5, .ref (coa E J v2)), (0, .ref (cad E J)), (1, .ref (coa E J x1)), (2, .ref (cca E J)), (3, .int y3), (4, .int y4)]) hx hb dX3_moves_21 hl (by decide) rfl (fun ls hl => ?_)
      refine lv_aload hx hb dX3_moves_23 (lv_at hl 0 rfl) ?_
      refine ci_X3_74 F hK S (by assumption) (by assumption) dX3_moves_25 ?_
      obtain ⟨g11, hB, h⟩ := bd1_inv h
      have hJ54 : ∀ (H : Heap) (locs : List Loc) (ls : Array Slot), gS (wA E) s.heap (cP E g11) H locs → lv_has ls 7 [(0, .ref (cad E J)), (1, .ref (coa E J x1)), (2, .ref (cca E J)), (3, .int y3), (4, .int y4)] → W p l e rm_c_X3_moves s m args below meth c H locs 0 0 Q (F0 m 54 ls []) := by
        intro H locs ls S hl
        refine lv_iinc (v := (y4 + 1)) (lv' := [(4, .int (y4 + 1)), (0, .ref (cad E J)), (1, .ref (coa E J x1)), (2, .ref (cca E J)), (3, .int y3)]) hx hb dX3_moves_54 hl (k := 4) rfl rfl (by decide) rfl (fun ls hl => ?_)
        refine lv_goto (tgt := 11) hx hb dX3_moves_57 (by decide) ?_
        exact ih _ _ _ _ h _ _ _ S (lv_sub hl [1, 2, 3, 4, 0] rfl) kx
      clear h
      have h := hB
      clear hB
      refine lv_if_eq (tgt := 54) hx hb dX3_moves_28 (by decide) (fun c4 => ?_) (fun c4 => ?_)
      · rw [if_pos c4] at h
        cases h
        exact hJ54 _ _ _ S (lv_sub hl [1, 2, 3, 4, 5] rfl)
      · rw [if_neg c4] at h
        refine lv_aload hx hb dX3_moves_31 (lv_at hl 0 rfl) ?_
        obtain ⟨u5, e6, h⟩ := bd1_inv h
        refine cc_X3_74 F hK S (by assumption) (by assumption) e6 dX3_moves_33 ?_
        refine lv_astore (lv' := [(6, .ref (coa E J v2)), (5, .ref (coa E J v2)), (0, .ref (cad E J)), (1, .ref (coa E J x1)), (2, .ref (cca E J)), (3, .int y3), (4, .int y4)]) hx hb dX3_moves_36 hl (by decide) rfl (fun ls hl => ?_)
        refine lv_aload hx hb dX3_moves_38 (lv_at hl 0 rfl) ?_
        refine lv_iconst (v := 0) hx hb dX3_moves_40 (by decide) ?_
        refine lv_aload hx hb dX3_moves_41 (lv_at hl 0 rfl) ?_
        obtain ⟨v7, e8, h⟩ := bd1_inv h
        refine cg_X3_134 F hK S (by assumption) (by assumption) e8 dX3_moves_43 ?_
        refine lv_iconst (v := 1) hx hb dX3_moves_46 (by decide) ?_
        refine lv_isub hx hb dX3_moves_47 ?_
        refine va_mmax hx hb (F.2.2.1.trans hl.1.symm) F.2.2.2.1 (F.2.2.2.2 _ q1137) (F.2.2.2.2 _ q594) (F.2.2.2.2 _ q128) (F.2.2.2.2 _ q595) (Nat.le_of_ble_eq_true rfl) (Nat.le_of_ble_eq_true rfl) (Nat.zero_le _) (Nat.zero_le _) dX3_moves_48 ?_
        obtain ⟨g9, e10, h⟩ := bd1_inv h
        refine cw_X3_134 F hK S (by assumption) (by assumption) e10 dX3_moves_51 (fun H locs S => ?_)
        cases h
        exact hJ54 _ _ _ S (lv_sub hl [2, 3, 4, 5, 6] rfl)
set_option maxHeartbeats 4000000 in
set_option maxRecDepth 100000 in
theorem met_c_X3_moves (l : Launch) (E : cEnv) (g : mS) (J : Nat) (x1 : Nat) (hJ : okW E J) (hx1 : x1 < 100) (r : Int32) (gZ : mS) (h : fc_X3_moves g J x1 = some (r, gZ)) : Met l yX3_moves (ws_ yX3_moves cX3_moves 7 (some .int)) rm_c_X3_moves (va_Pc [.ref (cad E J), .ref (coa E J x1)] (gPre (cK E) (cP E g))) (gQi r (cP E gZ) (wA E)) 0 0 (wA E) := by
  refine g_met (own := RX3) (by decide) rfl (Nat.le_of_ble_eq_true rfl) ?_
  intro p e s m args below meth c ls F hr hlk hK S hl
  have hx := F.1
  have hb := F.2.1
  have hl : lv_has ls 7 [(0, .ref (cad E J)), (1, .ref (coa E J x1))] := hl
  unfold fc_X3_moves at h
  refine lv_aload_n hx hb dX3_moves_0 rfl (lv_at hl 0 rfl) ?_
  refine cg_X3_9 F hK S (by assumption) dX3_moves_1 ?_
  refine lv_astore_n (lv' := [(2, .ref (cca E J)), (0, .ref (cad E J)), (1, .ref (coa E J x1))]) hx hb dX3_moves_4 rfl hl (by decide) rfl (fun ls hl => ?_)
  refine lv_aload_n hx hb dX3_moves_5 rfl (lv_at hl 0 rfl) ?_
  refine c_alenK F hK S (by assumption) dX3_moves_6 ?_
  refine lv_istore_n (lv' := [(3, .int 100), (2, .ref (cca E J)), (0, .ref (cad E J)), (1, .ref (coa E J x1))]) hx hb dX3_moves_7 rfl hl (by decide) rfl (fun ls hl => ?_)
  refine lv_iconst (v := 0) hx hb dX3_moves_8 (by decide) ?_
  refine lv_istore (lv' := [(4, .int 0), (3, .int 100), (2, .ref (cca E J)), (0, .ref (cad E J)), (1, .ref (coa E J x1))]) hx hb dX3_moves_9 hl (by decide) rfl (fun ls hl => ?_)
  obtain ⟨g14, e13, h⟩ := bd1_inv h
  refine loop_c_X3_moves_1 E F hr hlk hK hJ hx1 _ _ _ _ _ e13 _ _ _ S (lv_sub hl [3, 4, 2, 1, 0] rfl) (fun g14z H locs ls o S hl => ?_)
  cases o
  refine lv_aload_n hx hb dX3_moves_60 rfl (lv_at hl 1 rfl) ?_
  refine lv_ifnull hx hb dX3_moves_61 ?_
  refine lv_aload_n hx hb dX3_moves_64 rfl (lv_at hl 1 rfl) ?_
  refine lv_iconst (v := 1) hx hb dX3_moves_65 (by decide) ?_
  refine lv_aload_n hx hb dX3_moves_66 rfl (lv_at hl 1 rfl) ?_
  obtain ⟨v15, e16, h⟩ := bd1_inv h
  refine cg_X3_144 F hK S (by assumption) (by assumption) e16 dX3_moves_67 ?_
  refine lv_isub hx hb dX3_moves_70 ?_
  obtain ⟨g17, e18, h⟩ := bd1_inv h
  refine cw_X3_144 F hK S (by assumption) (by assumption) e18 dX3_moves_71 (fun H locs S => ?_)
  refine lv_aload_n hx hb dX3_moves_74 rfl (lv_at hl 1 rfl) ?_
  refine lv_aload_n hx hb dX3_moves_75 rfl (lv_at hl 0 rfl) ?_
  refine cg_X3_51 F hK S (by assumption) dX3_moves_76 ?_
  obtain ⟨g19, e20, h⟩ := bd1_inv h
  refine cw_X3_134 F hK S (by assumption) (by assumption) e20 dX3_moves_79 (fun H locs S => ?_)
  refine lv_aload_n hx hb dX3_moves_82 rfl (lv_at hl 1 rfl) ?_
  refine lv_dup hx hb dX3_moves_83 rfl ?_
  obtain ⟨v21, e22, h⟩ := bd1_inv h
  refine cg_X3_147 F hK S (by assumption) (by assumption) e22 dX3_moves_84 ?_
  refine lv_iconst (v := 1) hx hb dX3_moves_87 (by decide) ?_
  refine lv_iadd hx hb dX3_moves_88 ?_
  obtain ⟨g23, e24, h⟩ := bd1_inv h
  refine cw_X3_147 F hK S (by assumption) (by assumption) e24 dX3_moves_89 (fun H locs S => ?_)
  refine lv_aload_n hx hb dX3_moves_92 rfl (lv_at hl 0 rfl) ?_
  refine lv_aload_n hx hb dX3_moves_93 rfl (lv_at hl 0 rfl) ?_
  obtain ⟨v26, e25, h⟩ := bd1_inv h
  refine call_c_X3_mover_X3_131 (by assumption) F hK S e25 hl.1 (Nat.le_of_ble_eq_true rfl) ⟨Nat.le_of_ble_eq_true rfl, Nat.le_of_ble_eq_true rfl⟩ ⟨Nat.zero_le _, Nat.zero_le _⟩ dX3_moves_94 (fun H locs S => ?_)
  obtain ⟨g27, e28, h⟩ := bd1_inv h
  refine cw_X3_57 F hK S (by assumption) e28 dX3_moves_97 (fun H locs S => ?_)
  refine lv_aload_n hx hb dX3_moves_100 rfl (lv_at hl 0 rfl) ?_
  refine lv_dup hx hb dX3_moves_101 rfl ?_
  refine cg_X3_54 F hK S (by assumption) dX3_moves_102 ?_
  refine lv_iconst (v := 1) hx hb dX3_moves_105 (by decide) ?_
  refine lv_iadd hx hb dX3_moves_106 ?_
  obtain ⟨g29, e30, h⟩ := bd1_inv h
  refine cw_X3_54 F hK S (by assumption) e30 dX3_moves_107 (fun H locs S => ?_)
  refine lv_aload_n hx hb dX3_moves_110 rfl (lv_at hl 0 rfl) ?_
  obtain ⟨v32, g33, e31, h⟩ := bd2_inv h
  refine call_c_X3_opens_X3_150 (by assumption) F hK S e31 hl.1 (Nat.le_of_ble_eq_true rfl) ⟨Nat.le_of_ble_eq_true rfl, Nat.le_of_ble_eq_true rfl⟩ ⟨Nat.zero_le _, Nat.zero_le _⟩ dX3_moves_111 (fun H locs S => ?_)
  cases h
  exact g_iret F hr hlk S rfl dX3_moves_114
theorem call_c_X3_moves_X1_202 {p : Program} {l : Launch} {e : Env} {s : State} {m : MethodId} {args : Array Value} {below : List Frame} {meth : Method} {c : Code} {R : Room} {H : Heap} {locs : List Loc} {cells slots pc nL : Nat} {Q : State → Prop} {ls : Array Slot} {rest : List Value} {cc : ByteArray} {E : cEnv} {g : mS} {J : Nat} {x1 : Nat} {r : Int32} {gZ : mS} (hJ : okW E J) (hx1 : x1 < 100) (F : CallFix p m c cc nL s args lw_all RX1) (hK : cK E s) (S : gS (wA E) s.heap (cP E g) H locs) (h : fc_X3_moves g J x1 = some (r, gZ)) (hls : ls.size = nL) (hW : (rest.map fun v => v.category).sum ≤ 8) (hR : rm_c_X3_moves.frames + 1 ≤ R.frames ∧ 8 + (7 + 11) + rm_c_X3_moves.locals ≤ R.locals) (hf : cells ≤ R.cells ∧ slots ≤ R.slots) (hdg : decode cc pc = .ok (.invokevirtual 202, 3))
    (kk : ∀ (H1 : Heap) (locs1 : List Loc), gS (wA E) s.heap (cP E gZ) H1 locs1 → W p l e R s m args below meth c H1 locs1 cells slots Q (F0 m (pc + 3) ls (.int r :: rest))) : W p l e R s m args below meth c H locs cells slots Q (F0 m pc ls (.ref (coa E J x1) :: .ref (cad E J) :: rest)) :=
  g_ki (g_runV F hK (cKm E) S (met_c_X3_moves l E g J x1 hJ hx1 r gZ h) (cwV 1 F.2.2.2.2 (lw_V q1328 q1134 q1135 q115 q1136) rfl rfl rfl (by decide +kernel) hR) (va_recv hK.1 (va_P1 (cAt_w S.1 hJ)) (ci := 3) (q0 := 0) rfl rfl) rfl hls rfl hW hdg hf) S kk
theorem call_c_X3_moves_X10_141 {p : Program} {l : Launch} {e : Env} {s : State} {m : MethodId} {args : Array Value} {below : List Frame} {meth : Method} {c : Code} {R : Room} {H : Heap} {locs : List Loc} {cells slots pc nL : Nat} {Q : State → Prop} {ls : Array Slot} {rest : List Value} {cc : ByteArray} {E : cEnv} {g : mS} {J : Nat} {x1 : Nat} {r : Int32} {gZ : mS} (hJ : okW E J) (hx1 : x1 < 100) (F : CallFix p m c cc nL s args lw_all RX10) (hK : cK E s) (S : gS (wA E) s.heap (cP E g) H locs) (h : fc_X3_moves g J x1 = some (r, gZ)) (hls : ls.size = nL) (hW : (rest.map fun v => v.category).sum ≤ 8) (hR : rm_c_X3_moves.frames + 1 ≤ R.frames ∧ 8 + (7 + 11) + rm_c_X3_moves.locals ≤ R.locals) (hf : cells ≤ R.cells ∧ slots ≤ R.slots) (hdg : decode cc pc = .ok (.invokevirtual 141, 3))
    (kk : ∀ (H1 : Heap) (locs1 : List Loc), gS (wA E) s.heap (cP E gZ) H1 locs1 → W p l e R s m args below meth c H1 locs1 cells slots Q (F0 m (pc + 3) ls (.int r :: rest))) : W p l e R s m args below meth c H locs cells slots Q (F0 m pc ls (.ref (coa E J x1) :: .ref (cad E J) :: rest)) :=
  g_ki (g_runV F hK (cKm E) S (met_c_X3_moves l E g J x1 hJ hx1 r gZ h) (cwV 1 F.2.2.2.2 (lw_V q1133 q1134 q1135 q115 q1136) rfl rfl rfl (by decide +kernel) hR) (va_recv hK.1 (va_P1 (cAt_w S.1 hJ)) (ci := 3) (q0 := 0) rfl rfl) rfl hls rfl hW hdg hf) S kk
theorem call_c_X3_moves_X3_167 {p : Program} {l : Launch} {e : Env} {s : State} {m : MethodId} {args : Array Value} {below : List Frame} {meth : Method} {c : Code} {R : Room} {H : Heap} {locs : List Loc} {cells slots pc nL : Nat} {Q : State → Prop} {ls : Array Slot} {rest : List Value} {cc : ByteArray} {E : cEnv} {g : mS} {J : Nat} {x1 : Nat} {r : Int32} {gZ : mS} (hJ : okW E J) (hx1 : x1 < 100) (F : CallFix p m c cc nL s args lw_all RX3) (hK : cK E s) (S : gS (wA E) s.heap (cP E g) H locs) (h : fc_X3_moves g J x1 = some (r, gZ)) (hls : ls.size = nL) (hW : (rest.map fun v => v.category).sum ≤ 8) (hR : rm_c_X3_moves.frames + 1 ≤ R.frames ∧ 8 + (7 + 11) + rm_c_X3_moves.locals ≤ R.locals) (hf : cells ≤ R.cells ∧ slots ≤ R.slots) (hdg : decode cc pc = .ok (.invokevirtual 167, 3))
    (kk : ∀ (H1 : Heap) (locs1 : List Loc), gS (wA E) s.heap (cP E gZ) H1 locs1 → W p l e R s m args below meth c H1 locs1 cells slots Q (F0 m (pc + 3) ls (.int r :: rest))) : W p l e R s m args below meth c H locs cells slots Q (F0 m pc ls (.ref (coa E J x1) :: .ref (cad E J) :: rest)) :=
  g_ki (g_runV F hK (cKm E) S (met_c_X3_moves l E g J x1 hJ hx1 r gZ h) (cwV 1 F.2.2.2.2 (lw_V q1794 q1134 q1135 q115 q1136) rfl rfl rfl (by decide +kernel) hR) (va_recv hK.1 (va_P1 (cAt_w S.1 hJ)) (ci := 3) (q0 := 0) rfl rfl) rfl hls rfl hW hdg hf) S kk
abbrev rm_c_X3_movesN : Room := { frames := 8, cells := 0, slots := 0, locals := 180 }
def Lc_X3_movesN_1 (J : Nat) : Nat → mS → Int32 → Int32 → Option (mS)
  | 0, _, _, _ => none
  | n + 1, g, y3, y4 =>
    if y3 ≤ y4 then
      some g
    else
      bd1 (ix100 y4) fun v2 =>
      bd1 ((
        if (isC 6 g J v2) = 0 then
          some g
        else
          bd1 (ckC 6 g J v2) fun u5 =>
          bd1 (fldC 6 g J v2 3) fun v7 =>
          bd1 (wrC 6 g J v2 3 (if 0 < (v7 - 1) then (v7 - 1) else 0)) fun g9 =>
          some g9) : Option (mS)) fun g11 =>
      Lc_X3_movesN_1 J n g11 y3 (y4 + 1)
def fc_X3_movesN (g : mS) (J : Nat)  : Option (Int32 × mS) :=
  bd1 (Lc_X3_movesN_1 J FUEL g 100 0) fun g14 =>
  bd1 (fc_X3_mover g14 J) fun v16 =>
  bd1 (wrW g14 J 5 v16) fun g17 =>
  bd1 (wrW g17 J 4 ((g17 J 4) + 1)) fun g19 =>
  bd2 (fc_X3_opens g19 J) fun v22 g23 =>
  some (v22, g23)
set_option maxHeartbeats 4000000 in
set_option maxRecDepth 100000 in
theorem loop_c_X3_movesN_1 {p : Program} {l : Launch} {e : Env} {s : State} {m : MethodId} {args : Array Value} {below : List Frame} {meth : Method} {c : Code} (E : cEnv) {J : Nat} (F : CallFix p m c cX3_moves 7 s args lw_all RX3) (hr : meth.sig.returnType = some .int) (hlk : meth.locks = false) (hK : cK E s) (hJ : okW E J) {Q : State → Prop} : ∀ (n : Nat) (g : mS) (y3 : Int32) (y4 : Int32) (o : mS), Lc_X3_movesN_1 J n g y3 y4 = some o → ∀ (H : Heap) (locs : List Loc) (ls : Array Slot), gS (wA E) s.heap (cP E g) H locs → lv_has ls 7 [(0, .ref (cad E J)), (1, .null), (2, .ref (cca E J)), (3, .int y3), (4, .int y4)] → (∀  (gx : mS) (H : Heap) (locs : List Loc) (ls : Array Slot), o = gx → gS (wA E) s.heap (cP E gx) H locs → lv_has ls 7 [(0, .ref (cad E J)), (1, .null)] → W p l e rm_c_X3_movesN s m args below meth c H locs 0 0 Q (F0 m 60 ls [])) → W p l e rm_c_X3_movesN s m args below meth c H locs 0 0 Q (F0 m 11 ls []) := by
  have hx := F.1
  have hb := F.2.1
  intro n
  induction n with
  | zero =>
    intro g y3 y4 o h
    rw [Lc_X3_movesN_1] at h
    cases h
  | succ n ih =>
    intro g y3 y4 o h H locs ls S hl kx
    rw [Lc_X3_movesN_1] at h
    refine lv_iload hx hb dX3_moves_11 (lv_at hl 4 rfl) ?_
    refine lv_iload_n hx hb dX3_moves_13 rfl (lv_at hl 3 rfl) ?_
    refine lv_icmp_ge (tgt := 60) hx hb dX3_moves_14 (by decide) (fun c1 => ?_) (fun c1 => ?_)
    · rw [if_pos c1] at h
      cases h
      exact kx _ _ _ _ rfl S (lv_sub hl [0, 1] rfl)
    · rw [if_neg c1] at h
      refine lv_aload_n hx hb dX3_moves_17 rfl (lv_at hl 2 rfl) ?_
      refine lv_iload hx hb dX3_moves_18 (lv_at hl 4 rfl) ?_
      obtain ⟨v2, e3, h⟩ := bd1_inv h
      have hv2 := ix100_lt e3
      refine c_aald F hK S (by assumption) e3 dX3_moves_20 ?_
      refine lv_astore (lv' := [(5, .ref (coa E J v2)), (0, .ref (cad E J)), (1, .null), (2, .ref (cca E J)), (3, .int y3), (4, .int y4)]) hx hb dX3_moves_21 hl (by decide) rfl (fun ls hl => ?_)
      refine lv_aload hx hb dX3_moves_23 (lv_at hl 0 rfl) ?_
      refine ci_X3_74 F hK S (by assumption) (by assumption) dX3_moves_25 ?_
      obtain ⟨g11, hB, h⟩ := bd1_inv h
      have hJ54 : ∀ (H : Heap) (locs : List Loc) (ls : Array Slot), gS (wA E) s.heap (cP E g11) H locs → lv_has ls 7 [(0, .ref (cad E J)), (1, .null), (2, .ref (cca E J)), (3, .int y3), (4, .int y4)] → W p l e rm_c_X3_movesN s m args below meth c H locs 0 0 Q (F0 m 54 ls []) := by
        intro H locs ls S hl
        refine lv_iinc (v := (y4 + 1)) (lv' := [(4, .int (y4 + 1)), (0, .ref (cad E J)), (1, .null), (2, .ref (cca E J)), (3, .int y3)]) hx hb dX3_moves_54 hl (k := 4) rfl rfl (by decide) rfl (fun ls hl => ?_)
        refine lv_goto (tgt := 11) hx hb dX3_moves_57 (by decide) ?_
        exact ih _ _ _ _ h _ _ _ S (lv_sub hl [1, 2, 3, 4, 0] rfl) kx
      clear h
      have h := hB
      clear hB
      refine lv_if_eq (tgt := 54) hx hb dX3_moves_28 (by decide) (fun c4 => ?_) (fun c4 => ?_)
      · rw [if_pos c4] at h
        cases h
        exact hJ54 _ _ _ S (lv_sub hl [1, 2, 3, 4, 5] rfl)
      · rw [if_neg c4] at h
        refine lv_aload hx hb dX3_moves_31 (lv_at hl 0 rfl) ?_
        obtain ⟨u5, e6, h⟩ := bd1_inv h
        refine cc_X3_74 F hK S (by assumption) (by assumption) e6 dX3_moves_33 ?_
        refine lv_astore (lv' := [(6, .ref (coa E J v2)), (5, .ref (coa E J v2)), (0, .ref (cad E J)), (1, .null), (2, .ref (cca E J)), (3, .int y3), (4, .int y4)]) hx hb dX3_moves_36 hl (by decide) rfl (fun ls hl => ?_)
        refine lv_aload hx hb dX3_moves_38 (lv_at hl 0 rfl) ?_
        refine lv_iconst (v := 0) hx hb dX3_moves_40 (by decide) ?_
        refine lv_aload hx hb dX3_moves_41 (lv_at hl 0 rfl) ?_
        obtain ⟨v7, e8, h⟩ := bd1_inv h
        refine cg_X3_134 F hK S (by assumption) (by assumption) e8 dX3_moves_43 ?_
        refine lv_iconst (v := 1) hx hb dX3_moves_46 (by decide) ?_
        refine lv_isub hx hb dX3_moves_47 ?_
        refine va_mmax hx hb (F.2.2.1.trans hl.1.symm) F.2.2.2.1 (F.2.2.2.2 _ q1137) (F.2.2.2.2 _ q594) (F.2.2.2.2 _ q128) (F.2.2.2.2 _ q595) (Nat.le_of_ble_eq_true rfl) (Nat.le_of_ble_eq_true rfl) (Nat.zero_le _) (Nat.zero_le _) dX3_moves_48 ?_
        obtain ⟨g9, e10, h⟩ := bd1_inv h
        refine cw_X3_134 F hK S (by assumption) (by assumption) e10 dX3_moves_51 (fun H locs S => ?_)
        cases h
        exact hJ54 _ _ _ S (lv_sub hl [2, 3, 4, 5, 6] rfl)
set_option maxHeartbeats 4000000 in
set_option maxRecDepth 100000 in
theorem met_c_X3_movesN (l : Launch) (E : cEnv) (g : mS) (J : Nat) (hJ : okW E J) (r : Int32) (gZ : mS) (h : fc_X3_movesN g J = some (r, gZ)) : Met l yX3_moves (ws_ yX3_moves cX3_moves 7 (some .int)) rm_c_X3_movesN (va_Pc [.ref (cad E J), .null] (gPre (cK E) (cP E g))) (gQi r (cP E gZ) (wA E)) 0 0 (wA E) := by
  refine g_met (own := RX3) (by decide) rfl (Nat.le_of_ble_eq_true rfl) ?_
  intro p e s m args below meth c ls F hr hlk hK S hl
  have hx := F.1
  have hb := F.2.1
  have hl : lv_has ls 7 [(0, .ref (cad E J)), (1, .null)] := hl
  unfold fc_X3_movesN at h
  refine lv_aload_n hx hb dX3_moves_0 rfl (lv_at hl 0 rfl) ?_
  refine cg_X3_9 F hK S (by assumption) dX3_moves_1 ?_
  refine lv_astore_n (lv' := [(2, .ref (cca E J)), (0, .ref (cad E J)), (1, .null)]) hx hb dX3_moves_4 rfl hl (by decide) rfl (fun ls hl => ?_)
  refine lv_aload_n hx hb dX3_moves_5 rfl (lv_at hl 0 rfl) ?_
  refine c_alenK F hK S (by assumption) dX3_moves_6 ?_
  refine lv_istore_n (lv' := [(3, .int 100), (2, .ref (cca E J)), (0, .ref (cad E J)), (1, .null)]) hx hb dX3_moves_7 rfl hl (by decide) rfl (fun ls hl => ?_)
  refine lv_iconst (v := 0) hx hb dX3_moves_8 (by decide) ?_
  refine lv_istore (lv' := [(4, .int 0), (3, .int 100), (2, .ref (cca E J)), (0, .ref (cad E J)), (1, .null)]) hx hb dX3_moves_9 hl (by decide) rfl (fun ls hl => ?_)
  obtain ⟨g14, e13, h⟩ := bd1_inv h
  refine loop_c_X3_movesN_1 E F hr hlk hK hJ _ _ _ _ _ e13 _ _ _ S (lv_sub hl [3, 4, 2, 1, 0] rfl) (fun g14z H locs ls o S hl => ?_)
  cases o
  refine lv_aload_nN hx hb dX3_moves_60 rfl (lv_at hl 1 rfl) ?_
  refine lv_ifnullN (tgt := 92) hx hb dX3_moves_61 (by decide) ?_
  refine lv_aload_n hx hb dX3_moves_92 rfl (lv_at hl 0 rfl) ?_
  refine lv_aload_n hx hb dX3_moves_93 rfl (lv_at hl 0 rfl) ?_
  obtain ⟨v16, e15, h⟩ := bd1_inv h
  refine call_c_X3_mover_X3_131 (by assumption) F hK S e15 hl.1 (Nat.le_of_ble_eq_true rfl) ⟨Nat.le_of_ble_eq_true rfl, Nat.le_of_ble_eq_true rfl⟩ ⟨Nat.zero_le _, Nat.zero_le _⟩ dX3_moves_94 (fun H locs S => ?_)
  obtain ⟨g17, e18, h⟩ := bd1_inv h
  refine cw_X3_57 F hK S (by assumption) e18 dX3_moves_97 (fun H locs S => ?_)
  refine lv_aload_n hx hb dX3_moves_100 rfl (lv_at hl 0 rfl) ?_
  refine lv_dup hx hb dX3_moves_101 rfl ?_
  refine cg_X3_54 F hK S (by assumption) dX3_moves_102 ?_
  refine lv_iconst (v := 1) hx hb dX3_moves_105 (by decide) ?_
  refine lv_iadd hx hb dX3_moves_106 ?_
  obtain ⟨g19, e20, h⟩ := bd1_inv h
  refine cw_X3_54 F hK S (by assumption) e20 dX3_moves_107 (fun H locs S => ?_)
  refine lv_aload_n hx hb dX3_moves_110 rfl (lv_at hl 0 rfl) ?_
  obtain ⟨v22, g23, e21, h⟩ := bd2_inv h
  refine call_c_X3_opens_X3_150 (by assumption) F hK S e21 hl.1 (Nat.le_of_ble_eq_true rfl) ⟨Nat.le_of_ble_eq_true rfl, Nat.le_of_ble_eq_true rfl⟩ ⟨Nat.zero_le _, Nat.zero_le _⟩ dX3_moves_111 (fun H locs S => ?_)
  cases h
  exact g_iret F hr hlk S rfl dX3_moves_114
theorem call_c_X3_movesN_X1_202 {p : Program} {l : Launch} {e : Env} {s : State} {m : MethodId} {args : Array Value} {below : List Frame} {meth : Method} {c : Code} {R : Room} {H : Heap} {locs : List Loc} {cells slots pc nL : Nat} {Q : State → Prop} {ls : Array Slot} {rest : List Value} {cc : ByteArray} {E : cEnv} {g : mS} {J : Nat} {r : Int32} {gZ : mS} (hJ : okW E J) (F : CallFix p m c cc nL s args lw_all RX1) (hK : cK E s) (S : gS (wA E) s.heap (cP E g) H locs) (h : fc_X3_movesN g J = some (r, gZ)) (hls : ls.size = nL) (hW : (rest.map fun v => v.category).sum ≤ 8) (hR : rm_c_X3_movesN.frames + 1 ≤ R.frames ∧ 8 + (7 + 11) + rm_c_X3_movesN.locals ≤ R.locals) (hf : cells ≤ R.cells ∧ slots ≤ R.slots) (hdg : decode cc pc = .ok (.invokevirtual 202, 3))
    (kk : ∀ (H1 : Heap) (locs1 : List Loc), gS (wA E) s.heap (cP E gZ) H1 locs1 → W p l e R s m args below meth c H1 locs1 cells slots Q (F0 m (pc + 3) ls (.int r :: rest))) : W p l e R s m args below meth c H locs cells slots Q (F0 m pc ls (.null :: .ref (cad E J) :: rest)) :=
  g_ki (g_runV F hK (cKm E) S (met_c_X3_movesN l E g J hJ r gZ h) (cwV 1 F.2.2.2.2 (lw_V q1328 q1134 q1135 q115 q1136) rfl rfl rfl (by decide +kernel) hR) (va_recv hK.1 (va_P1 (cAt_w S.1 hJ)) (ci := 3) (q0 := 0) rfl rfl) rfl hls rfl hW hdg hf) S kk
theorem call_c_X3_movesN_X10_141 {p : Program} {l : Launch} {e : Env} {s : State} {m : MethodId} {args : Array Value} {below : List Frame} {meth : Method} {c : Code} {R : Room} {H : Heap} {locs : List Loc} {cells slots pc nL : Nat} {Q : State → Prop} {ls : Array Slot} {rest : List Value} {cc : ByteArray} {E : cEnv} {g : mS} {J : Nat} {r : Int32} {gZ : mS} (hJ : okW E J) (F : CallFix p m c cc nL s args lw_all RX10) (hK : cK E s) (S : gS (wA E) s.heap (cP E g) H locs) (h : fc_X3_movesN g J = some (r, gZ)) (hls : ls.size = nL) (hW : (rest.map fun v => v.category).sum ≤ 8) (hR : rm_c_X3_movesN.frames + 1 ≤ R.frames ∧ 8 + (7 + 11) + rm_c_X3_movesN.locals ≤ R.locals) (hf : cells ≤ R.cells ∧ slots ≤ R.slots) (hdg : decode cc pc = .ok (.invokevirtual 141, 3))
    (kk : ∀ (H1 : Heap) (locs1 : List Loc), gS (wA E) s.heap (cP E gZ) H1 locs1 → W p l e R s m args below meth c H1 locs1 cells slots Q (F0 m (pc + 3) ls (.int r :: rest))) : W p l e R s m args below meth c H locs cells slots Q (F0 m pc ls (.null :: .ref (cad E J) :: rest)) :=
  g_ki (g_runV F hK (cKm E) S (met_c_X3_movesN l E g J hJ r gZ h) (cwV 1 F.2.2.2.2 (lw_V q1133 q1134 q1135 q115 q1136) rfl rfl rfl (by decide +kernel) hR) (va_recv hK.1 (va_P1 (cAt_w S.1 hJ)) (ci := 3) (q0 := 0) rfl rfl) rfl hls rfl hW hdg hf) S kk
theorem call_c_X3_movesN_X3_167 {p : Program} {l : Launch} {e : Env} {s : State} {m : MethodId} {args : Array Value} {below : List Frame} {meth : Method} {c : Code} {R : Room} {H : Heap} {locs : List Loc} {cells slots pc nL : Nat} {Q : State → Prop} {ls : Array Slot} {rest : List Value} {cc : ByteArray} {E : cEnv} {g : mS} {J : Nat} {r : Int32} {gZ : mS} (hJ : okW E J) (F : CallFix p m c cc nL s args lw_all RX3) (hK : cK E s) (S : gS (wA E) s.heap (cP E g) H locs) (h : fc_X3_movesN g J = some (r, gZ)) (hls : ls.size = nL) (hW : (rest.map fun v => v.category).sum ≤ 8) (hR : rm_c_X3_movesN.frames + 1 ≤ R.frames ∧ 8 + (7 + 11) + rm_c_X3_movesN.locals ≤ R.locals) (hf : cells ≤ R.cells ∧ slots ≤ R.slots) (hdg : decode cc pc = .ok (.invokevirtual 167, 3))
    (kk : ∀ (H1 : Heap) (locs1 : List Loc), gS (wA E) s.heap (cP E gZ) H1 locs1 → W p l e R s m args below meth c H1 locs1 cells slots Q (F0 m (pc + 3) ls (.int r :: rest))) : W p l e R s m args below meth c H locs cells slots Q (F0 m pc ls (.null :: .ref (cad E J) :: rest)) :=
  g_ki (g_runV F hK (cKm E) S (met_c_X3_movesN l E g J hJ r gZ h) (cwV 1 F.2.2.2.2 (lw_V q1794 q1134 q1135 q115 q1136) rfl rfl rfl (by decide +kernel) hR) (va_recv hK.1 (va_P1 (cAt_w S.1 hJ)) (ci := 3) (q0 := 0) rfl rfl) rfl hls rfl hW hdg hf) S kk
abbrev rm_c_X3_takesBack : Room := { frames := 0, cells := 0, slots := 0, locals := 0 }
def Lc_X3_takesBack_1 (J : Nat) (rq : Nat → Int32) : Nat → mS → Int32 → Int32 → Int32 → Int32 → Option (mS)
  | 0, _, _, _, _, _ => none
  | n + 1, g, y3, y4, y6, y7 =>
    if y6 ≤ y7 then
      some g
    else
      bd1 (ix100 y7) fun v2 =>
      bd2 ((
        if (isC 6 g J v2) = 0 then
          if (isC 7 g J v2) = 0 then
            some (y4, g)
          else
            bd1 (ckC 7 g J v2) fun u6 =>
            bd1 (rdQ rq y4) fun v8 =>
            bd1 (wrC 7 g J v2 5 v8) fun g10 =>
            some ((y4 + 1), g10)
        else
          bd1 (ckC 6 g J v2) fun u12 =>
          bd1 (rdQ rq y4) fun v14 =>
          bd1 (wrC 6 g J v2 3 v14) fun g16 =>
          some ((y4 + 1), g16)) : Option (Int32 × mS)) fun v18 g19 =>
      Lc_X3_takesBack_1 J rq n g19 y3 v18 y6 (y7 + 1)
def fc_X3_takesBack (g : mS) (J : Nat) (rq : Nat → Int32) (x1 : Nat) (x3 : Int32) : Option (mS) :=
  bd1 (Lc_X3_takesBack_1 J rq FUEL g x3 0 100 0) fun g22 =>
  bd1 (fldC 6 g22 J x1 1) fun v23 =>
  bd1 (wrC 6 g22 J x1 1 (1 - v23)) fun g25 =>
  bd1 (fldC 6 g25 J x1 4) fun v27 =>
  bd1 (wrC 6 g25 J x1 4 (v27 - 1)) fun g29 =>
  bd1 (wrW g29 J 4 ((g29 J 4) - 1)) fun g31 =>
  bd1 (wrW g31 J 5 x3) fun g33 =>
  some g33
set_option maxHeartbeats 4000000 in
set_option maxRecDepth 100000 in
theorem loop_c_X3_takesBack_1 {p : Program} {l : Launch} {e : Env} {s : State} {m : MethodId} {args : Array Value} {below : List Frame} {meth : Method} {c : Code} (E : cEnv) {q0 : Nat} {J : Nat} {rq : Nat → Int32} {x1 : Nat} (F : CallFix p m c cX3_takesBack 9 s args lw_all RX3) (hr : meth.sig.returnType = none) (hlk : meth.locks = false) (hK : cK E s) (hKq : va_T .int q0 20 (fun j => .int (rq j)) (wA E) s s.heap) (hJ : okW E J) (hx1 : x1 < 100) {Q : State → Prop} : ∀ (n : Nat) (g : mS) (y3 : Int32) (y4 : Int32) (y6 : Int32) (y7 : Int32) (o : mS), Lc_X3_takesBack_1 J rq n g y3 y4 y6 y7 = some o → ∀ (H : Heap) (locs : List Loc) (ls : Array Slot), gS (wA E) s.heap (cP E g) H locs → lv_has ls 9 [(0, .ref (cad E J)), (1, .ref (coa E J x1)), (2, .ref q0), (3, .int y3), (4, .int y4), (5, .ref (cca E J)), (6, .int y6), (7, .int y7)] → (∀  (gx : mS) (H : Heap) (locs : List Loc) (ls : Array Slot), o = gx → gS (wA E) s.heap (cP E gx) H locs → lv_has ls 9 [(0, .ref (cad E J)), (1, .ref (coa E J x1)), (3, .int y3)] → W p l e rm_c_X3_takesBack s m args below meth c H locs 0 0 Q (F0 m 86 ls [])) → W p l e rm_c_X3_takesBack s m args below meth c H locs 0 0 Q (F0 m 17 ls []) := by
  have hx := F.1
  have hb := F.2.1
  intro n
  induction n with
  | zero =>
    intro g y3 y4 y6 y7 o h
    rw [Lc_X3_takesBack_1] at h
    cases h
  | succ n ih =>
    intro g y3 y4 y6 y7 o h H locs ls S hl kx
    rw [Lc_X3_takesBack_1] at h
    refine lv_iload hx hb dX3_takesBack_17 (lv_at hl 7 rfl) ?_
    refine lv_iload hx hb dX3_takesBack_19 (lv_at hl 6 rfl) ?_
    refine lv_icmp_ge (tgt := 86) hx hb dX3_takesBack_21 (by decide) (fun c1 => ?_) (fun c1 => ?_)
    · rw [if_pos c1] at h
      cases h
      exact kx _ _ _ _ rfl S (lv_sub hl [0, 1, 3] rfl)
    · rw [if_neg c1] at h
      refine lv_aload hx hb dX3_takesBack_24 (lv_at hl 5 rfl) ?_
      refine lv_iload hx hb dX3_takesBack_26 (lv_at hl 7 rfl) ?_
      obtain ⟨v2, e3, h⟩ := bd1_inv h
      have hv2 := ix100_lt e3
      refine c_aald F hK S (by assumption) e3 dX3_takesBack_28 ?_
      refine lv_astore (lv' := [(8, .ref (coa E J v2)), (0, .ref (cad E J)), (1, .ref (coa E J x1)), (2, .ref q0), (3, .int y3), (4, .int y4), (5, .ref (cca E J)), (6, .int y6), (7, .int y7)]) hx hb dX3_takesBack_29 hl (by decide) rfl (fun ls hl => ?_)
      refine lv_aload hx hb dX3_takesBack_31 (lv_at hl 0 rfl) ?_
      refine ci_X3_74 F hK S (by assumption) (by assumption) dX3_takesBack_33 ?_
      obtain ⟨v18, g19, hB, h⟩ := bd2_inv h
      have hJ80 : ∀ (H : Heap) (locs : List Loc) (ls : Array Slot), gS (wA E) s.heap (cP E g19) H locs → lv_has ls 9 [(0, .ref (cad E J)), (1, .ref (coa E J x1)), (2, .ref q0), (3, .int y3), (4, .int v18), (5, .ref (cca E J)), (6, .int y6), (7, .int y7)] → W p l e rm_c_X3_takesBack s m args below meth c H locs 0 0 Q (F0 m 80 ls []) := by
        intro H locs ls S hl
        refine lv_iinc (v := (y7 + 1)) (lv' := [(7, .int (y7 + 1)), (0, .ref (cad E J)), (1, .ref (coa E J x1)), (2, .ref q0), (3, .int y3), (4, .int v18), (5, .ref (cca E J)), (6, .int y6)]) hx hb dX3_takesBack_80 hl (k := 7) rfl rfl (by decide) rfl (fun ls hl => ?_)
        refine lv_goto (tgt := 17) hx hb dX3_takesBack_83 (by decide) ?_
        exact ih _ _ _ _ _ _ h _ _ _ S (lv_sub hl [1, 2, 3, 4, 5, 6, 7, 0] rfl) kx
      clear h
      have h := hB
      clear hB
      refine lv_if_eq (tgt := 57) hx hb dX3_takesBack_36 (by decide) (fun c4 => ?_) (fun c4 => ?_)
      · rw [if_pos c4] at h
        refine lv_aload hx hb dX3_takesBack_57 (lv_at hl 0 rfl) ?_
        refine ci_X3_76 F hK S (by assumption) (by assumption) dX3_takesBack_59 ?_
        refine lv_if_eq (tgt := 80) hx hb dX3_takesBack_62 (by decide) (fun c5 => ?_) (fun c5 => ?_)
        · rw [if_pos c5] at h
          cases h
          exact hJ80 _ _ _ S (lv_sub hl [1, 2, 3, 4, 5, 6, 7, 8] rfl)
        · rw [if_neg c5] at h
          refine lv_aload hx hb dX3_takesBack_65 (lv_at hl 0 rfl) ?_
          obtain ⟨u6, e7, h⟩ := bd1_inv h
          refine cc_X3_76 F hK S (by assumption) (by assumption) e7 dX3_takesBack_67 ?_
          refine lv_aload_n hx hb dX3_takesBack_70 rfl (lv_at hl 3 rfl) ?_
          refine lv_iload hx hb dX3_takesBack_71 (lv_at hl 5 rfl) ?_
          obtain ⟨v8, e9, h⟩ := bd1_inv h
          refine c_ialdQ F hK hKq S e9 dX3_takesBack_73 ?_
          obtain ⟨g10, e11, h⟩ := bd1_inv h
          refine cw_X3_126 F hK S (by assumption) (by assumption) e11 dX3_takesBack_74 (fun H locs S => ?_)
          refine lv_iinc (v := (y4 + 1)) (lv' := [(4, .int (y4 + 1)), (8, .ref (coa E J v2)), (0, .ref (cad E J)), (1, .ref (coa E J x1)), (2, .ref q0), (3, .int y3), (5, .ref (cca E J)), (6, .int y6), (7, .int y7)]) hx hb dX3_takesBack_77 hl (k := 5) rfl rfl (by decide) rfl (fun ls hl => ?_)
          cases h
          exact hJ80 _ _ _ S (lv_sub hl [2, 3, 4, 5, 0, 6, 7, 8] rfl)
      · rw [if_neg c4] at h
        refine lv_aload hx hb dX3_takesBack_39 (lv_at hl 0 rfl) ?_
        obtain ⟨u12, e13, h⟩ := bd1_inv h
        refine cc_X3_74 F hK S (by assumption) (by assumption) e13 dX3_takesBack_41 ?_
        refine lv_aload_n hx hb dX3_takesBack_44 rfl (lv_at hl 3 rfl) ?_
        refine lv_iload hx hb dX3_takesBack_45 (lv_at hl 5 rfl) ?_
        obtain ⟨v14, e15, h⟩ := bd1_inv h
        refine c_ialdQ F hK hKq S e15 dX3_takesBack_47 ?_
        obtain ⟨g16, e17, h⟩ := bd1_inv h
        refine cw_X3_134 F hK S (by assumption) (by assumption) e17 dX3_takesBack_48 (fun H locs S => ?_)
        refine lv_iinc (v := (y4 + 1)) (lv' := [(4, .int (y4 + 1)), (8, .ref (coa E J v2)), (0, .ref (cad E J)), (1, .ref (coa E J x1)), (2, .ref q0), (3, .int y3), (5, .ref (cca E J)), (6, .int y6), (7, .int y7)]) hx hb dX3_takesBack_51 hl (k := 5) rfl rfl (by decide) rfl (fun ls hl => ?_)
        refine lv_goto (tgt := 80) hx hb dX3_takesBack_54 (by decide) ?_
        cases h
        exact hJ80 _ _ _ S (lv_sub hl [2, 3, 4, 5, 0, 6, 7, 8] rfl)
set_option maxHeartbeats 4000000 in
set_option maxRecDepth 100000 in
theorem met_c_X3_takesBack (l : Launch) (E : cEnv) (g : mS) (q0 : Nat) (J : Nat) (rq : Nat → Int32) (x1 : Nat) (x3 : Int32) (hJ : okW E J) (hx1 : x1 < 100) (gZ : mS) (h : fc_X3_takesBack g J rq x1 x3 = some gZ) : Met l yX3_takesBack (ws_ yX3_takesBack cX3_takesBack 9 (none)) rm_c_X3_takesBack (va_Pc [.ref (cad E J), .ref (coa E J x1), .ref q0, .int x3] (gPre (cKq E q0 rq) (cP E g))) (gQv (cP E gZ) (wA E)) 0 0 (wA E) := by
  refine g_met (own := RX3) (by decide) rfl (Nat.le_of_ble_eq_true rfl) ?_
  intro p e s m args below meth c ls F hr hlk hK S hl
  have hx := F.1
  have hb := F.2.1
  have hKq := hK.2
  have hK := hK.1
  have hl : lv_has ls 9 [(0, .ref (cad E J)), (1, .ref (coa E J x1)), (2, .ref q0), (3, .int x3)] := hl
  unfold fc_X3_takesBack at h
  refine lv_iconst (v := 0) hx hb dX3_takesBack_0 (by decide) ?_
  refine lv_istore (lv' := [(4, .int 0), (0, .ref (cad E J)), (1, .ref (coa E J x1)), (2, .ref q0), (3, .int x3)]) hx hb dX3_takesBack_1 hl (by decide) rfl (fun ls hl => ?_)
  refine lv_aload_n hx hb dX3_takesBack_3 rfl (lv_at hl 1 rfl) ?_
  refine cg_X3_9 F hK S (by assumption) dX3_takesBack_4 ?_
  refine lv_astore (lv' := [(5, .ref (cca E J)), (4, .int 0), (0, .ref (cad E J)), (1, .ref (coa E J x1)), (2, .ref q0), (3, .int x3)]) hx hb dX3_takesBack_7 hl (by decide) rfl (fun ls hl => ?_)
  refine lv_aload hx hb dX3_takesBack_9 (lv_at hl 0 rfl) ?_
  refine c_alenK F hK S (by assumption) dX3_takesBack_11 ?_
  refine lv_istore (lv' := [(6, .int 100), (5, .ref (cca E J)), (4, .int 0), (0, .ref (cad E J)), (1, .ref (coa E J x1)), (2, .ref q0), (3, .int x3)]) hx hb dX3_takesBack_12 hl (by decide) rfl (fun ls hl => ?_)
  refine lv_iconst (v := 0) hx hb dX3_takesBack_14 (by decide) ?_
  refine lv_istore (lv' := [(7, .int 0), (6, .int 100), (5, .ref (cca E J)), (4, .int 0), (0, .ref (cad E J)), (1, .ref (coa E J x1)), (2, .ref q0), (3, .int x3)]) hx hb dX3_takesBack_15 hl (by decide) rfl (fun ls hl => ?_)
  obtain ⟨g22, e21, h⟩ := bd1_inv h
  refine loop_c_X3_takesBack_1 E F hr hlk hK hKq hJ hx1 _ _ _ _ _ _ _ e21 _ _ _ S (lv_sub hl [4, 5, 6, 7, 3, 2, 1, 0] rfl) (fun g22z H locs ls o S hl => ?_)
  cases o
  refine lv_aload_n hx hb dX3_takesBack_86 rfl (lv_at hl 1 rfl) ?_
  refine lv_ifnull hx hb dX3_takesBack_87 ?_
  refine lv_aload_n hx hb dX3_takesBack_90 rfl (lv_at hl 1 rfl) ?_
  refine lv_iconst (v := 1) hx hb dX3_takesBack_91 (by decide) ?_
  refine lv_aload_n hx hb dX3_takesBack_92 rfl (lv_at hl 1 rfl) ?_
  obtain ⟨v23, e24, h⟩ := bd1_inv h
  refine cg_X3_144 F hK S (by assumption) (by assumption) e24 dX3_takesBack_93 ?_
  refine lv_isub hx hb dX3_takesBack_96 ?_
  obtain ⟨g25, e26, h⟩ := bd1_inv h
  refine cw_X3_144 F hK S (by assumption) (by assumption) e26 dX3_takesBack_97 (fun H locs S => ?_)
  refine lv_aload_n hx hb dX3_takesBack_100 rfl (lv_at hl 1 rfl) ?_
  refine lv_dup hx hb dX3_takesBack_101 rfl ?_
  obtain ⟨v27, e28, h⟩ := bd1_inv h
  refine cg_X3_147 F hK S (by assumption) (by assumption) e28 dX3_takesBack_102 ?_
  refine lv_iconst (v := 1) hx hb dX3_takesBack_105 (by decide) ?_
  refine lv_isub hx hb dX3_takesBack_106 ?_
  obtain ⟨g29, e30, h⟩ := bd1_inv h
  refine cw_X3_147 F hK S (by assumption) (by assumption) e30 dX3_takesBack_107 (fun H locs S => ?_)
  refine lv_aload_n hx hb dX3_takesBack_110 rfl (lv_at hl 0 rfl) ?_
  refine lv_dup hx hb dX3_takesBack_111 rfl ?_
  refine cg_X3_54 F hK S (by assumption) dX3_takesBack_112 ?_
  refine lv_iconst (v := 1) hx hb dX3_takesBack_115 (by decide) ?_
  refine lv_isub hx hb dX3_takesBack_116 ?_
  obtain ⟨g31, e32, h⟩ := bd1_inv h
  refine cw_X3_54 F hK S (by assumption) e32 dX3_takesBack_117 (fun H locs S => ?_)
  refine lv_aload_n hx hb dX3_takesBack_120 rfl (lv_at hl 0 rfl) ?_
  refine lv_iload_n hx hb dX3_takesBack_121 rfl (lv_at hl 2 rfl) ?_
  obtain ⟨g33, e34, h⟩ := bd1_inv h
  refine cw_X3_57 F hK S (by assumption) e34 dX3_takesBack_122 (fun H locs S => ?_)
  cases h
  exact g_vret F hr hlk S dX3_takesBack_125
abbrev rm_c_X3_takesBackN : Room := { frames := 0, cells := 0, slots := 0, locals := 0 }
def Lc_X3_takesBackN_1 (J : Nat) (rq : Nat → Int32) : Nat → mS → Int32 → Int32 → Int32 → Int32 → Option (mS)
  | 0, _, _, _, _, _ => none
  | n + 1, g, y3, y4, y6, y7 =>
    if y6 ≤ y7 then
      some g
    else
      bd1 (ix100 y7) fun v2 =>
      bd2 ((
        if (isC 6 g J v2) = 0 then
          if (isC 7 g J v2) = 0 then
            some (y4, g)
          else
            bd1 (ckC 7 g J v2) fun u6 =>
            bd1 (rdQ rq y4) fun v8 =>
            bd1 (wrC 7 g J v2 5 v8) fun g10 =>
            some ((y4 + 1), g10)
        else
          bd1 (ckC 6 g J v2) fun u12 =>
          bd1 (rdQ rq y4) fun v14 =>
          bd1 (wrC 6 g J v2 3 v14) fun g16 =>
          some ((y4 + 1), g16)) : Option (Int32 × mS)) fun v18 g19 =>
      Lc_X3_takesBackN_1 J rq n g19 y3 v18 y6 (y7 + 1)
def fc_X3_takesBackN (g : mS) (J : Nat) (rq : Nat → Int32) (x3 : Int32) : Option (mS) :=
  bd1 (Lc_X3_takesBackN_1 J rq FUEL g x3 0 100 0) fun g22 =>
  bd1 (wrW g22 J 4 ((g22 J 4) - 1)) fun g23 =>
  bd1 (wrW g23 J 5 x3) fun g25 =>
  some g25
set_option maxHeartbeats 4000000 in
set_option maxRecDepth 100000 in
theorem loop_c_X3_takesBackN_1 {p : Program} {l : Launch} {e : Env} {s : State} {m : MethodId} {args : Array Value} {below : List Frame} {meth : Method} {c : Code} (E : cEnv) {q0 : Nat} {J : Nat} {rq : Nat → Int32} (F : CallFix p m c cX3_takesBack 9 s args lw_all RX3) (hr : meth.sig.returnType = none) (hlk : meth.locks = false) (hK : cK E s) (hKq : va_T .int q0 20 (fun j => .int (rq j)) (wA E) s s.heap) (hJ : okW E J) {Q : State → Prop} : ∀ (n : Nat) (g : mS) (y3 : Int32) (y4 : Int32) (y6 : Int32) (y7 : Int32) (o : mS), Lc_X3_takesBackN_1 J rq n g y3 y4 y6 y7 = some o → ∀ (H : Heap) (locs : List Loc) (ls : Array Slot), gS (wA E) s.heap (cP E g) H locs → lv_has ls 9 [(0, .ref (cad E J)), (1, .null), (2, .ref q0), (3, .int y3), (4, .int y4), (5, .ref (cca E J)), (6, .int y6), (7, .int y7)] → (∀  (gx : mS) (H : Heap) (locs : List Loc) (ls : Array Slot), o = gx → gS (wA E) s.heap (cP E gx) H locs → lv_has ls 9 [(0, .ref (cad E J)), (1, .null), (3, .int y3)] → W p l e rm_c_X3_takesBackN s m args below meth c H locs 0 0 Q (F0 m 86 ls [])) → W p l e rm_c_X3_takesBackN s m args below meth c H locs 0 0 Q (F0 m 17 ls []) := by
  have hx := F.1
  have hb := F.2.1
  intro n
  induction n with
  | zero =>
    intro g y3 y4 y6 y7 o h
    rw [Lc_X3_takesBackN_1] at h
    cases h
  | succ n ih =>
    intro g y3 y4 y6 y7 o h H locs ls S hl kx
    rw [Lc_X3_takesBackN_1] at h
    refine lv_iload hx hb dX3_takesBack_17 (lv_at hl 7 rfl) ?_
    refine lv_iload hx hb dX3_takesBack_19 (lv_at hl 6 rfl) ?_
    refine lv_icmp_ge (tgt := 86) hx hb dX3_takesBack_21 (by decide) (fun c1 => ?_) (fun c1 => ?_)
    · rw [if_pos c1] at h
      cases h
      exact kx _ _ _ _ rfl S (lv_sub hl [0, 1, 3] rfl)
    · rw [if_neg c1] at h
      refine lv_aload hx hb dX3_takesBack_24 (lv_at hl 5 rfl) ?_
      refine lv_iload hx hb dX3_takesBack_26 (lv_at hl 7 rfl) ?_
      obtain ⟨v2, e3, h⟩ := bd1_inv h
      have hv2 := ix100_lt e3
      refine c_aald F hK S (by assumption) e3 dX3_takesBack_28 ?_
      refine lv_astore (lv' := [(8, .ref (coa E J v2)), (0, .ref (cad E J)), (1, .null), (2, .ref q0), (3, .int y3), (4, .int y4), (5, .ref (cca E J)), (6, .int y6), (7, .int y7)]) hx hb dX3_takesBack_29 hl (by decide) rfl (fun ls hl => ?_)
      refine lv_aload hx hb dX3_takesBack_31 (lv_at hl 0 rfl) ?_
      refine ci_X3_74 F hK S (by assumption) (by assumption) dX3_takesBack_33 ?_
      obtain ⟨v18, g19, hB, h⟩ := bd2_inv h
      have hJ80 : ∀ (H : Heap) (locs : List Loc) (ls : Array Slot), gS (wA E) s.heap (cP E g19) H locs → lv_has ls 9 [(0, .ref (cad E J)), (1, .null), (2, .ref q0), (3, .int y3), (4, .int v18), (5, .ref (cca E J)), (6, .int y6), (7, .int y7)] → W p l e rm_c_X3_takesBackN s m args below meth c H locs 0 0 Q (F0 m 80 ls []) := by
        intro H locs ls S hl
        refine lv_iinc (v := (y7 + 1)) (lv' := [(7, .int (y7 + 1)), (0, .ref (cad E J)), (1, .null), (2, .ref q0), (3, .int y3), (4, .int v18), (5, .ref (cca E J)), (6, .int y6)]) hx hb dX3_takesBack_80 hl (k := 7) rfl rfl (by decide) rfl (fun ls hl => ?_)
        refine lv_goto (tgt := 17) hx hb dX3_takesBack_83 (by decide) ?_
        exact ih _ _ _ _ _ _ h _ _ _ S (lv_sub hl [1, 2, 3, 4, 5, 6, 7, 0] rfl) kx
      clear h
      have h := hB
      clear hB
      refine lv_if_eq (tgt := 57) hx hb dX3_takesBack_36 (by decide) (fun c4 => ?_) (fun c4 => ?_)
      · rw [if_pos c4] at h
        refine lv_aload hx hb dX3_takesBack_57 (lv_at hl 0 rfl) ?_
        refine ci_X3_76 F hK S (by assumption) (by assumption) dX3_takesBack_59 ?_
        refine lv_if_eq (tgt := 80) hx hb dX3_takesBack_62 (by decide) (fun c5 => ?_) (fun c5 => ?_)
        · rw [if_pos c5] at h
          cases h
          exact hJ80 _ _ _ S (lv_sub hl [1, 2, 3, 4, 5, 6, 7, 8] rfl)
        · rw [if_neg c5] at h
          refine lv_aload hx hb dX3_takesBack_65 (lv_at hl 0 rfl) ?_
          obtain ⟨u6, e7, h⟩ := bd1_inv h
          refine cc_X3_76 F hK S (by assumption) (by assumption) e7 dX3_takesBack_67 ?_
          refine lv_aload_n hx hb dX3_takesBack_70 rfl (lv_at hl 3 rfl) ?_
          refine lv_iload hx hb dX3_takesBack_71 (lv_at hl 5 rfl) ?_
          obtain ⟨v8, e9, h⟩ := bd1_inv h
          refine c_ialdQ F hK hKq S e9 dX3_takesBack_73 ?_
          obtain ⟨g10, e11, h⟩ := bd1_inv h
          refine cw_X3_126 F hK S (by assumption) (by assumption) e11 dX3_takesBack_74 (fun H locs S => ?_)
          refine lv_iinc (v := (y4 + 1)) (lv' := [(4, .int (y4 + 1)), (8, .ref (coa E J v2)), (0, .ref (cad E J)), (1, .null), (2, .ref q0), (3, .int y3), (5, .ref (cca E J)), (6, .int y6), (7, .int y7)]) hx hb dX3_takesBack_77 hl (k := 5) rfl rfl (by decide) rfl (fun ls hl => ?_)
          cases h
          exact hJ80 _ _ _ S (lv_sub hl [2, 3, 4, 5, 0, 6, 7, 8] rfl)
      · rw [if_neg c4] at h
        refine lv_aload hx hb dX3_takesBack_39 (lv_at hl 0 rfl) ?_
        obtain ⟨u12, e13, h⟩ := bd1_inv h
        refine cc_X3_74 F hK S (by assumption) (by assumption) e13 dX3_takesBack_41 ?_
        refine lv_aload_n hx hb dX3_takesBack_44 rfl (lv_at hl 3 rfl) ?_
        refine lv_iload hx hb dX3_takesBack_45 (lv_at hl 5 rfl) ?_
        obtain ⟨v14, e15, h⟩ := bd1_inv h
        refine c_ialdQ F hK hKq S e15 dX3_takesBack_47 ?_
        obtain ⟨g16, e17, h⟩ := bd1_inv h
        refine cw_X3_134 F hK S (by assumption) (by assumption) e17 dX3_takesBack_48 (fun H locs S => ?_)
        refine lv_iinc (v := (y4 + 1)) (lv' := [(4, .int (y4 + 1)), (8, .ref (coa E J v2)), (0, .ref (cad E J)), (1, .null), (2, .ref q0), (3, .int y3), (5, .ref (cca E J)), (6, .int y6), (7, .int y7)]) hx hb dX3_takesBack_51 hl (k := 5) rfl rfl (by decide) rfl (fun ls hl => ?_)
        refine lv_goto (tgt := 80) hx hb dX3_takesBack_54 (by decide) ?_
        cases h
        exact hJ80 _ _ _ S (lv_sub hl [2, 3, 4, 5, 0, 6, 7, 8] rfl)
set_option maxHeartbeats 4000000 in
set_option maxRecDepth 100000 in
theorem met_c_X3_takesBackN (l : Launch) (E : cEnv) (g : mS) (q0 : Nat) (J : Nat) (rq : Nat → Int32) (x3 : Int32) (hJ : okW E J) (gZ : mS) (h : fc_X3_takesBackN g J rq x3 = some gZ) : Met l yX3_takesBack (ws_ yX3_takesBack cX3_takesBack 9 (none)) rm_c_X3_takesBackN (va_Pc [.ref (cad E J), .null, .ref q0, .int x3] (gPre (cKq E q0 rq) (cP E g))) (gQv (cP E gZ) (wA E)) 0 0 (wA E) := by
  refine g_met (own := RX3) (by decide) rfl (Nat.le_of_ble_eq_true rfl) ?_
  intro p e s m args below meth c ls F hr hlk hK S hl
  have hx := F.1
  have hb := F.2.1
  have hKq := hK.2
  have hK := hK.1
  have hl : lv_has ls 9 [(0, .ref (cad E J)), (1, .null), (2, .ref q0), (3, .int x3)] := hl
  unfold fc_X3_takesBackN at h
  refine lv_iconst (v := 0) hx hb dX3_takesBack_0 (by decide) ?_
  refine lv_istore (lv' := [(4, .int 0), (0, .ref (cad E J)), (1, .null), (2, .ref q0), (3, .int x3)]) hx hb dX3_takesBack_1 hl (by decide) rfl (fun ls hl => ?_)
  refine lv_aload_n hx hb dX3_takesBack_3 rfl (lv_at hl 1 rfl) ?_
  refine cg_X3_9 F hK S (by assumption) dX3_takesBack_4 ?_
  refine lv_astore (lv' := [(5, .ref (cca E J)), (4, .int 0), (0, .ref (cad E J)), (1, .null), (2, .ref q0), (3, .int x3)]) hx hb dX3_takesBack_7 hl (by decide) rfl (fun ls hl => ?_)
  refine lv_aload hx hb dX3_takesBack_9 (lv_at hl 0 rfl) ?_
  refine c_alenK F hK S (by assumption) dX3_takesBack_11 ?_
  refine lv_istore (lv' := [(6, .int 100), (5, .ref (cca E J)), (4, .int 0), (0, .ref (cad E J)), (1, .null), (2, .ref q0), (3, .int x3)]) hx hb dX3_takesBack_12 hl (by decide) rfl (fun ls hl => ?_)
  refine lv_iconst (v := 0) hx hb dX3_takesBack_14 (by decide) ?_
  refine lv_istore (lv' := [(7, .int 0), (6, .int 100), (5, .ref (cca E J)), (4, .int 0), (0, .ref (cad E J)), (1, .null), (2, .ref q0), (3, .int x3)]) hx hb dX3_takesBack_15 hl (by decide) rfl (fun ls hl => ?_)
  obtain ⟨g22, e21, h⟩ := bd1_inv h
  refine loop_c_X3_takesBackN_1 E F hr hlk hK hKq hJ _ _ _ _ _ _ _ e21 _ _ _ S (lv_sub hl [4, 5, 6, 7, 3, 2, 1, 0] rfl) (fun g22z H locs ls o S hl => ?_)
  cases o
  refine lv_aload_nN hx hb dX3_takesBack_86 rfl (lv_at hl 1 rfl) ?_
  refine lv_ifnullN (tgt := 110) hx hb dX3_takesBack_87 (by decide) ?_
  refine lv_aload_n hx hb dX3_takesBack_110 rfl (lv_at hl 0 rfl) ?_
  refine lv_dup hx hb dX3_takesBack_111 rfl ?_
  refine cg_X3_54 F hK S (by assumption) dX3_takesBack_112 ?_
  refine lv_iconst (v := 1) hx hb dX3_takesBack_115 (by decide) ?_
  refine lv_isub hx hb dX3_takesBack_116 ?_
  obtain ⟨g23, e24, h⟩ := bd1_inv h
  refine cw_X3_54 F hK S (by assumption) e24 dX3_takesBack_117 (fun H locs S => ?_)
  refine lv_aload_n hx hb dX3_takesBack_120 rfl (lv_at hl 0 rfl) ?_
  refine lv_iload_n hx hb dX3_takesBack_121 rfl (lv_at hl 2 rfl) ?_
  obtain ⟨g25, e26, h⟩ := bd1_inv h
  refine cw_X3_57 F hK S (by assumption) e26 dX3_takesBack_122 (fun H locs S => ?_)
  cases h
  exact g_vret F hr hlk S dX3_takesBack_125
