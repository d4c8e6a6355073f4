/-! THE COMPONENT, extracted (printed by gen/emit_comp.py) -/
set_option maxRecDepth 100000
abbrev rm_c_X3_many : Room := { frames := 1, cells := 0, slots := 0, locals := 20 }
def Lc_X3_many_2 (J : Nat) : Nat → mS → Int32 → Int32 → Int32 → Int32 → Option (Int32)
  | 0, _, _, _, _, _ => none
  | n + 1, g, y1, y2, y3, y4 =>
    if (g J 0) ≤ y4 then
      some y2
    else
      bd1 (ix100 ((10 * y3) + y4)) fun v3 =>
      bd1 ((
        if (vKind g J v3) = y1 then
          some 1
        else
          some 0) : Option (Int32)) fun v6 =>
      Lc_X3_many_2 J n g y1 (y2 + v6) y3 (y4 + 1)
def Lc_X3_many_1 (J : Nat) : Nat → mS → Int32 → Int32 → Int32 → Option (Int32)
  | 0, _, _, _, _ => none
  | n + 1, g, y1, y2, y3 =>
    if (g J 1) ≤ y3 then
      some y2
    else
      bd1 (Lc_X3_many_2 J FUEL g y1 y2 y3 0) fun v9 =>
      Lc_X3_many_1 J n g y1 v9 (y3 + 1)
def fc_X3_many (g : mS) (J : Nat) (x1 : Int32) : Option (Int32) :=
  bd1 (Lc_X3_many_1 J FUEL g x1 0 0) fun v12 =>
  some v12
set_option maxHeartbeats 4000000 in
set_option maxRecDepth 100000 in
theorem loop_c_X3_many_2 {p : Program} {l : Launch} {e : Env} {s : State} {m : MethodId} {args : Array Value} {below : List Frame} {meth : Method} {c : Code} (E : cEnv) {J : Nat} (F : CallFix p m c cX3_many 5 s args lw_all RX3) (hr : meth.sig.returnType = some .int) (hlk : meth.locks = false) (hK : cK E s) (hJ : okW E J) {Q : State → Prop} {g : mS} : ∀ (n : Nat) (y1 : Int32) (y2 : Int32) (y3 : Int32) (y4 : Int32) (o : Int32), Lc_X3_many_2 J n g y1 y2 y3 y4 = some o → ∀ (H : Heap) (locs : List Loc) (ls : Array Slot), gS (wA E) s.heap (cP E g) H locs → lv_has ls 5 [(0, .ref (cad E J)), (1, .int y1), (2, .int y2), (3, .int y3), (4, .int y4)] → (∀ (w2 : Int32) (H : Heap) (locs : List Loc) (ls : Array Slot), o = w2 → gS (wA E) s.heap (cP E g) H locs → lv_has ls 5 [(0, .ref (cad E J)), (1, .int y1), (2, .int w2), (3, .int y3)] → W p l e rm_c_X3_many s m args below meth c H locs 0 0 Q (F0 m 57 ls [])) → W p l e rm_c_X3_many s m args below meth c H locs 0 0 Q (F0 m 15 ls []) := by
  have hx := F.1
  have hb := F.2.1
  intro n
  induction n with
  | zero =>
    intro y1 y2 y3 y4 o h
    rw [Lc_X3_many_2] at h
    cases h
  | succ n ih =>
    intro y1 y2 y3 y4 o h H locs ls S hl kx
    rw [Lc_X3_many_2] at h
    refine lv_iload hx hb dX3_many_15 (lv_at hl 4 rfl) ?_
    refine lv_aload_n hx hb dX3_many_17 rfl (lv_at hl 0 rfl) ?_
    refine cg_X3_38 F hK S (by assumption) dX3_many_18 ?_
    refine lv_icmp_ge (tgt := 57) hx hb dX3_many_21 (by decide) (fun c2 => ?_) (fun c2 => ?_)
    · rw [if_pos c2] at h
      cases h
      exact kx _ _ _ _ rfl S (lv_sub hl [0, 1, 2, 3] rfl)
    · rw [if_neg c2] at h
      refine lv_iload_n hx hb dX3_many_24 rfl (lv_at hl 2 rfl) ?_
      refine lv_aload_n hx hb dX3_many_25 rfl (lv_at hl 0 rfl) ?_
      refine cg_X3_9 F hK S (by assumption) dX3_many_26 ?_
      refine lv_bipush (v := 10) hx hb dX3_many_29 (by decide) ?_
      refine lv_iload_n hx hb dX3_many_31 rfl (lv_at hl 3 rfl) ?_
      refine lv_imul hx hb dX3_many_32 ?_
      refine lv_iload hx hb dX3_many_33 (lv_at hl 4 rfl) ?_
      refine lv_iadd hx hb dX3_many_35 ?_
      obtain ⟨v3, e4, h⟩ := bd1_inv h
      have hv3 := ix100_lt e4
      refine c_aald F hK S (by assumption) e4 dX3_many_36 ?_
      refine cv_kind_X3_68 F hK S (by assumption) (by assumption) hl.1 (Nat.le_of_ble_eq_true rfl) ⟨Nat.le_of_ble_eq_true rfl, Nat.le_of_ble_eq_true rfl⟩ ⟨Nat.zero_le _, Nat.zero_le _⟩ dX3_many_37 (fun H locs S => ?_)
      refine lv_iload_n hx hb dX3_many_40 rfl (lv_at hl 1 rfl) ?_
      obtain ⟨v6, hB, h⟩ := bd1_inv h
      have hJ49 : ∀ (H : Heap) (locs : List Loc) (ls : Array Slot), gS (wA E) s.heap (cP E g) H locs → lv_has ls 5 [(0, .ref (cad E J)), (1, .int y1), (3, .int y3), (4, .int y4)] → W p l e rm_c_X3_many s m args below meth c H locs 0 0 Q (F0 m 49 ls [.int v6, .int y2]) := by
        intro H locs ls S hl
        refine lv_iadd hx hb dX3_many_49 ?_
        refine lv_istore_n (lv' := [(2, .int (y2 + v6)), (0, .ref (cad E J)), (1, .int y1), (3, .int y3), (4, .int y4)]) hx hb dX3_many_50 rfl hl (by decide) rfl (fun ls hl => ?_)
        refine lv_iinc (v := (y4 + 1)) (lv' := [(4, .int (y4 + 1)), (2, .int (y2 + v6)), (0, .ref (cad E J)), (1, .int y1), (3, .int y3)]) hx hb dX3_many_51 hl (k := 4) rfl rfl (by decide) rfl (fun ls hl => ?_)
        refine lv_goto (tgt := 15) hx hb dX3_many_54 (by decide) ?_
        exact ih _ _ _ _ _ h _ _ _ S (lv_sub hl [2, 3, 1, 4, 0] rfl) kx
      clear h
      have h := hB
      clear hB
      refine lv_icmp_ne (tgt := 48) hx hb dX3_many_41 (by decide) (fun c5 => ?_) (fun c5 => ?_)
      · rw [if_neg c5] at h
        refine lv_iconst (v := 0) hx hb dX3_many_48 (by decide) ?_
        cases h
        exact hJ49 _ _ _ S (lv_sub hl [0, 1, 3, 4] rfl)
      · rw [if_pos c5] at h
        refine lv_iconst (v := 1) hx hb dX3_many_44 (by decide) ?_
        refine lv_goto (tgt := 49) hx hb dX3_many_45 (by decide) ?_
        cases h
        exact hJ49 _ _ _ S (lv_sub hl [0, 1, 3, 4] rfl)
set_option maxHeartbeats 4000000 in
set_option maxRecDepth 100000 in
theorem loop_c_X3_many_1 {p : Program} {l : Launch} {e : Env} {s : State} {m : MethodId} {args : Array Value} {below : List Frame} {meth : Method} {c : Code} (E : cEnv) {J : Nat} (F : CallFix p m c cX3_many 5 s args lw_all RX3) (hr : meth.sig.returnType = some .int) (hlk : meth.locks = false) (hK : cK E s) (hJ : okW E J) {Q : State → Prop} {g : mS} : ∀ (n : Nat) (y1 : Int32) (y2 : Int32) (y3 : Int32) (o : Int32), Lc_X3_many_1 J n g y1 y2 y3 = some o → ∀ (H : Heap) (locs : List Loc) (ls : Array Slot), gS (wA E) s.heap (cP E g) H locs → lv_has ls 5 [(0, .ref (cad E J)), (1, .int y1), (2, .int y2), (3, .int y3)] → (∀ (w2 : Int32) (H : Heap) (locs : List Loc) (ls : Array Slot), o = w2 → gS (wA E) s.heap (cP E g) H locs → lv_has ls 5 [(2, .int w2)] → W p l e rm_c_X3_many s m args below meth c H locs 0 0 Q (F0 m 63 ls [])) → W p l e rm_c_X3_many s m args below meth c H locs 0 0 Q (F0 m 4 ls []) := by
  have hx := F.1
  have hb := F.2.1
  intro n
  induction n with
  | zero =>
    intro y1 y2 y3 o h
    rw [Lc_X3_many_1] at h
    cases h
  | succ n ih =>
    intro y1 y2 y3 o h H locs ls S hl kx
    rw [Lc_X3_many_1] at h
    refine lv_iload_n hx hb dX3_many_4 rfl (lv_at hl 3 rfl) ?_
    refine lv_aload_n hx hb dX3_many_5 rfl (lv_at hl 0 rfl) ?_
    refine cg_X3_41 F hK S (by assumption) dX3_many_6 ?_
    refine lv_icmp_ge (tgt := 63) hx hb dX3_many_9 (by decide) (fun c1 => ?_) (fun c1 => ?_)
    · rw [if_pos c1] at h
      cases h
      exact kx _ _ _ _ rfl S (lv_sub hl [2] rfl)
    · rw [if_neg c1] at h
      refine lv_iconst (v := 0) hx hb dX3_many_12 (by decide) ?_
      refine lv_istore (lv' := [(4, .int 0), (0, .ref (cad E J)), (1, .int y1), (2, .int y2), (3, .int y3)]) hx hb dX3_many_13 hl (by decide) rfl (fun ls hl => ?_)
      obtain ⟨v9, e8, h⟩ := bd1_inv h
      refine loop_c_X3_many_2 E F hr hlk hK hJ _ _ _ _ _ _ e8 _ _ _ S (lv_sub hl [1, 2, 3, 4, 0] rfl) (fun v9z H locs ls o S hl => ?_)
      cases o
      refine lv_iinc (v := (y3 + 1)) (lv' := [(3, .int (y3 + 1)), (0, .ref (cad E J)), (1, .int y1), (2, .int v9)]) hx hb dX3_many_57 hl (k := 3) rfl rfl (by decide) rfl (fun ls hl => ?_)
      refine lv_goto (tgt := 4) hx hb dX3_many_60 (by decide) ?_
      exact ih _ _ _ _ h _ _ _ S (lv_sub hl [1, 2, 3, 0] rfl) kx
set_option maxHeartbeats 4000000 in
set_option maxRecDepth 100000 in
theorem met_c_X3_many (l : Launch) (E : cEnv) (g : mS) (J : Nat) (x1 : Int32) (hJ : okW E J) (r : Int32) (h : fc_X3_many g J x1 = some r) : Met l yX3_many (ws_ yX3_many cX3_many 5 (some .int)) rm_c_X3_many (va_Pc [.ref (cad E J), .int x1] (gPre (cK E) (cP E g))) (gQi r (cP E g) (wA E)) 0 0 (wA E) := by
  refine g_met (own := RX3) (by decide) rfl (Nat.le_of_ble_eq_true rfl) ?_
  intro p e s m args below meth c ls F hr hlk hK S hl
  have hx := F.1
  have hb := F.2.1
  have hl : lv_has ls 5 [(0, .ref (cad E J)), (1, .int x1)] := hl
  unfold fc_X3_many at h
  refine lv_iconst (v := 0) hx hb dX3_many_0 (by decide) ?_
  refine lv_istore_n (lv' := [(2, .int 0), (0, .ref (cad E J)), (1, .int x1)]) hx hb dX3_many_1 rfl hl (by decide) rfl (fun ls hl => ?_)
  refine lv_iconst (v := 0) hx hb dX3_many_2 (by decide) ?_
  refine lv_istore_n (lv' := [(3, .int 0), (2, .int 0), (0, .ref (cad E J)), (1, .int x1)]) hx hb dX3_many_3 rfl hl (by decide) rfl (fun ls hl => ?_)
  obtain ⟨v12, e11, h⟩ := bd1_inv h
  refine loop_c_X3_many_1 E F hr hlk hK hJ _ _ _ _ _ e11 _ _ _ S (lv_sub hl [2, 3, 1, 0] rfl) (fun v12z H locs ls o S hl => ?_)
  cases o
  refine lv_iload_n hx hb dX3_many_63 rfl (lv_at hl 0 rfl) ?_
  cases h
  exact g_iret F hr hlk S rfl dX3_many_64
theorem call_c_X3_many_X1_161 {p : Program} {l : Launch} {e : Env} {s : State} {m : MethodId} {args : Array Value} {below : List Frame} {meth : Method} {c : Code} {R : Room} {H : Heap} {locs : List Loc} {cells slots pc nL : Nat} {Q : State → Prop} {ls : Array Slot} {rest : List Value} {cc : ByteArray} {E : cEnv} {g : mS} {J : Nat} {x1 : Int32} {r : Int32} (hJ : okW E J) (F : CallFix p m c cc nL s args lw_all RX1) (hK : cK E s) (S : gS (wA E) s.heap (cP E g) H locs) (h : fc_X3_many g J x1 = some r) (hls : ls.size = nL) (hW : (rest.map fun v => v.category).sum ≤ 8) (hR : rm_c_X3_many.frames + 1 ≤ R.frames ∧ 8 + (5 + 11) + rm_c_X3_many.locals ≤ R.locals) (hf : cells ≤ R.cells ∧ slots ≤ R.slots) (hdg : decode cc pc = .ok (.invokevirtual 161, 3))
    (kk : ∀ (H1 : Heap) (locs1 : List Loc), gS (wA E) s.heap (cP E g) H1 locs1 → W p l e R s m args below meth c H1 locs1 cells slots Q (F0 m (pc + 3) ls (.int r :: rest))) : W p l e R s m args below meth c H locs cells slots Q (F0 m pc ls (.int x1 :: .ref (cad E J) :: rest)) :=
  g_ki (g_runV F hK (cKm E) S (met_c_X3_many l E g J x1 hJ r h) (cwV 1 F.2.2.2.2 (lw_V q1489 q1006 q1007 q115 q1008) rfl rfl rfl (by decide +kernel) hR) (va_recv hK.1 (va_P1 (cAt_w S.1 hJ)) (ci := 3) (q0 := 0) rfl rfl) rfl hls rfl hW hdg hf) S kk
theorem call_c_X3_many_X10_156 {p : Program} {l : Launch} {e : Env} {s : State} {m : MethodId} {args : Array Value} {below : List Frame} {meth : Method} {c : Code} {R : Room} {H : Heap} {locs : List Loc} {cells slots pc nL : Nat} {Q : State → Prop} {ls : Array Slot} {rest : List Value} {cc : ByteArray} {E : cEnv} {g : mS} {J : Nat} {x1 : Int32} {r : Int32} (hJ : okW E J) (F : CallFix p m c cc nL s args lw_all RX10) (hK : cK E s) (S : gS (wA E) s.heap (cP E g) H locs) (h : fc_X3_many g J x1 = some r) (hls : ls.size = nL) (hW : (rest.map fun v => v.category).sum ≤ 8) (hR : rm_c_X3_many.frames + 1 ≤ R.frames ∧ 8 + (5 + 11) + rm_c_X3_many.locals ≤ R.locals) (hf : cells ≤ R.cells ∧ slots ≤ R.slots) (hdg : decode cc pc = .ok (.invokevirtual 156, 3))
    (kk : ∀ (H1 : Heap) (locs1 : List Loc), gS (wA E) s.heap (cP E g) H1 locs1 → W p l e R s m args below meth c H1 locs1 cells slots Q (F0 m (pc + 3) ls (.int r :: rest))) : W p l e R s m args below meth c H locs cells slots Q (F0 m pc ls (.int x1 :: .ref (cad E J) :: rest)) :=
  g_ki (g_runV F hK (cKm E) S (met_c_X3_many l E g J x1 hJ r h) (cwV 1 F.2.2.2.2 (lw_V q1005 q1006 q1007 q115 q1008) rfl rfl rfl (by decide +kernel) hR) (va_recv hK.1 (va_P1 (cAt_w S.1 hJ)) (ci := 3) (q0 := 0) rfl rfl) rfl hls rfl hW hdg hf) S kk
abbrev rm_c_X3_mover : Room := { frames := 0, cells := 0, slots := 0, locals := 0 }
def fc_X3_mover (g : mS) (J : Nat)  : Option (Int32) :=
  some (1 + (irm (g J 4) 2))
set_option maxHeartbeats 4000000 in
set_option maxRecDepth 100000 in
theorem met_c_X3_mover (l : Launch) (E : cEnv) (g : mS) (J : Nat) (hJ : okW E J) (r : Int32) (h : fc_X3_mover g J = some r) : Met l yX3_mover (ws_ yX3_mover cX3_mover 1 (some .int)) rm_c_X3_mover (va_Pc [.ref (cad E J)] (gPre (cK E) (cP E g))) (gQi r (cP E g) (wA E)) 0 0 (wA E) := by
  refine g_met (own := RX3) (by decide) rfl (Nat.le_of_ble_eq_true rfl) ?_
  intro p e s m args below meth c ls F hr hlk hK S hl
  have hx := F.1
  have hb := F.2.1
  have hl : lv_has ls 1 [(0, .ref (cad E J))] := hl
  unfold fc_X3_mover at h
  refine lv_iconst (v := 1) hx hb dX3_mover_0 (by decide) ?_
  refine lv_aload_n hx hb dX3_mover_1 rfl (lv_at hl 0 rfl) ?_
  refine cg_X3_54 F hK S (by assumption) dX3_mover_2 ?_
  refine lv_iconst (v := 2) hx hb dX3_mover_5 (by decide) ?_
  refine lv_irem hx hb dX3_mover_6 (by decide) ?_
  refine lv_iadd hx hb dX3_mover_7 ?_
  cases h
  exact g_iret F hr hlk S rfl dX3_mover_8
theorem call_c_X3_mover_X1_228 {p : Program} {l : Launch} {e : Env} {s : State} {m : MethodId} {args : Array Value} {below : List Frame} {meth : Method} {c : Code} {R : Room} {H : Heap} {locs : List Loc} {cells slots pc nL : Nat} {Q : State → Prop} {ls : Array Slot} {rest : List Value} {cc : ByteArray} {E : cEnv} {g : mS} {J : Nat} {r : Int32} (hJ : okW E J) (F : CallFix p m c cc nL s args lw_all RX1) (hK : cK E s) (S : gS (wA E) s.heap (cP E g) H locs) (h : fc_X3_mover g J = some r) (hls : ls.size = nL) (hW : (rest.map fun v => v.category).sum ≤ 8) (hR : rm_c_X3_mover.frames + 1 ≤ R.frames ∧ 8 + (1 + 11) + rm_c_X3_mover.locals ≤ R.locals) (hf : cells ≤ R.cells ∧ slots ≤ R.slots) (hdg : decode cc pc = .ok (.invokevirtual 228, 3))
    (kk : ∀ (H1 : Heap) (locs1 : List Loc), gS (wA E) s.heap (cP E g) H1 locs1 → W p l e R s m args below meth c H1 locs1 cells slots Q (F0 m (pc + 3) ls (.int r :: rest))) : W p l e R s m args below meth c H locs cells slots Q (F0 m pc ls (.ref (cad E J) :: rest)) :=
  g_ki (g_runV F hK (cKm E) S (met_c_X3_mover l E g J hJ r h) (cwV 0 F.2.2.2.2 (lw_V q1635 q1130 q1131 q115 q1132) rfl rfl rfl (by decide +kernel) hR) (va_recv hK.1 (va_P1 (cAt_w S.1 hJ)) (ci := 3) (q0 := 0) rfl rfl) rfl hls rfl hW hdg hf) S kk
theorem call_c_X3_mover_X3_131 {p : Program} {l : Launch} {e : Env} {s : State} {m : MethodId} {args : Array Value} {below : List Frame} {meth : Method} {c : Code} {R : Room} {H : Heap} {locs : List Loc} {cells slots pc nL : Nat} {Q : State → Prop} {ls : Array Slot} {rest : List Value} {cc : ByteArray} {E : cEnv} {g : mS} {J : Nat} {r : Int32} (hJ : okW E J) (F : CallFix p m c cc nL s args lw_all RX3) (hK : cK E s) (S : gS (wA E) s.heap (cP E g) H locs) (h : fc_X3_mover g J = some r) (hls : ls.size = nL) (hW : (rest.map fun v => v.category).sum ≤ 8) (hR : rm_c_X3_mover.frames + 1 ≤ R.frames ∧ 8 + (1 + 11) + rm_c_X3_mover.locals ≤ R.locals) (hf : cells ≤ R.cells ∧ slots ≤ R.slots) (hdg : decode cc pc = .ok (.invokevirtual 131, 3))
    (kk : ∀ (H1 : Heap) (locs1 : List Loc), gS (wA E) s.heap (cP E g) H1 locs1 → W p l e R s m args below meth c H1 locs1 cells slots Q (F0 m (pc + 3) ls (.int r :: rest))) : W p l e R s m args below meth c H locs cells slots Q (F0 m pc ls (.ref (cad E J) :: rest)) :=
  g_ki (g_runV F hK (cKm E) S (met_c_X3_mover l E g J hJ r h) (cwV 0 F.2.2.2.2 (lw_V q1129 q1130 q1131 q115 q1132) rfl rfl rfl (by decide +kernel) hR) (va_recv hK.1 (va_P1 (cAt_w S.1 hJ)) (ci := 3) (q0 := 0) rfl rfl) rfl hls rfl hW hdg hf) S kk
abbrev rm_c_X3_points : Room := { frames := 1, cells := 0, slots := 0, locals := 20 }
def Lc_X3_points_1 (J : Nat) : Nat → mS → Int32 → Int32 → Int32 → Int32 → Option (Int32)
  | 0, _, _, _, _, _ => none
  | n + 1, g, y1, y2, y4, y5 =>
    if y4 ≤ y5 then
      some y2
    else
      bd1 (ix100 y5) fun v2 =>
      bd1 ((
        if (isC 7 g J v2) = 0 then
          some 0
        else
          if (vOwner g J v2) = y1 then
            bd1 (ckC 7 g J v2) fun u6 =>
            bd1 (ckC 7 g J v2) fun u8 =>
            bd1 (fc_X8_isOpen g J v2) fun v11 =>
            if v11 = 0 then
              some 0
            else
              some 1
          else
            some 0) : Option (Int32)) fun v13 =>
      Lc_X3_points_1 J n g y1 (y2 + v13) y4 (y5 + 1)
def fc_X3_points (g : mS) (J : Nat) (x1 : Int32) : Option (Int32) :=
  bd1 (Lc_X3_points_1 J FUEL g x1 0 100 0) fun v16 =>
  some v16
set_option maxHeartbeats 4000000 in
set_option maxRecDepth 100000 in
theorem loop_c_X3_points_1 {p : Program} {l : Launch} {e : Env} {s : State} {m : MethodId} {args : Array Value} {below : List Frame} {meth : Method} {c : Code} (E : cEnv) {J : Nat} (F : CallFix p m c cX3_points 7 s args lw_all RX3) (hr : meth.sig.returnType = some .int) (hlk : meth.locks = false) (hK : cK E s) (hJ : okW E J) {Q : State → Prop} {g : mS} : ∀ (n : Nat) (y1 : Int32) (y2 : Int32) (y4 : Int32) (y5 : Int32) (o : Int32), Lc_X3_points_1 J n g y1 y2 y4 y5 = some o → ∀ (H : Heap) (locs : List Loc) (ls : Array Slot), gS (wA E) s.heap (cP E g) H locs → lv_has ls 7 [(1, .int y1), (2, .int y2), (3, .ref (cca E J)), (4, .int y4), (5, .int y5)] → (∀ (w2 : Int32) (H : Heap) (locs : List Loc) (ls : Array Slot), o = w2 → gS (wA E) s.heap (cP E g) H locs → lv_has ls 7 [(2, .int w2)] → W p l e rm_c_X3_points s m args below meth c H locs 0 0 Q (F0 m 69 ls [])) → W p l e rm_c_X3_points s m args below meth c H locs 0 0 Q (F0 m 14 ls []) := by
  have hx := F.1
  have hb := F.2.1
  intro n
  induction n with
  | zero =>
    intro y1 y2 y4 y5 o h
    rw [Lc_X3_points_1] at h
    cases h
  | succ n ih =>
    intro y1 y2 y4 y5 o h H locs ls S hl kx
    rw [Lc_X3_points_1] at h
    refine lv_iload hx hb dX3_points_14 (lv_at hl 4 rfl) ?_
    refine lv_iload hx hb dX3_points_16 (lv_at hl 3 rfl) ?_
    refine lv_icmp_ge (tgt := 69) hx hb dX3_points_18 (by decide) (fun c1 => ?_) (fun c1 => ?_)
    · rw [if_pos c1] at h
      cases h
      exact kx _ _ _ _ rfl S (lv_sub hl [1] rfl)
    · rw [if_neg c1] at h
      refine lv_aload_n hx hb dX3_points_21 rfl (lv_at hl 2 rfl) ?_
      refine lv_iload hx hb dX3_points_22 (lv_at hl 4 rfl) ?_
      obtain ⟨v2, e3, h⟩ := bd1_inv h
      have hv2 := ix100_lt e3
      refine c_aald F hK S (by assumption) e3 dX3_points_24 ?_
      refine lv_astore (lv' := [(6, .ref (coa E J v2)), (1, .int y1), (2, .int y2), (3, .ref (cca E J)), (4, .int y4), (5, .int y5)]) hx hb dX3_points_25 hl (by decide) rfl (fun ls hl => ?_)
      refine lv_iload_n hx hb dX3_points_27 rfl (lv_at hl 2 rfl) ?_
      refine lv_aload hx hb dX3_points_28 (lv_at hl 0 rfl) ?_
      refine ci_X3_76 F hK S (by assumption) (by assumption) dX3_points_30 ?_
      obtain ⟨v13, hB, h⟩ := bd1_inv h
      have hJ61 : ∀ (H : Heap) (locs : List Loc) (ls : Array Slot), gS (wA E) s.heap (cP E g) H locs → lv_has ls 7 [(1, .int y1), (3, .ref (cca E J)), (4, .int y4), (5, .int y5)] → W p l e rm_c_X3_points s m args below meth c H locs 0 0 Q (F0 m 61 ls [.int v13, .int y2]) := by
        intro H locs ls S hl
        refine lv_iadd hx hb dX3_points_61 ?_
        refine lv_istore_n (lv' := [(2, .int (y2 + v13)), (1, .int y1), (3, .ref (cca E J)), (4, .int y4), (5, .int y5)]) hx hb dX3_points_62 rfl hl (by decide) rfl (fun ls hl => ?_)
        refine lv_iinc (v := (y5 + 1)) (lv' := [(5, .int (y5 + 1)), (2, .int (y2 + v13)), (1, .int y1), (3, .ref (cca E J)), (4, .int y4)]) hx hb dX3_points_63 hl (k := 4) rfl rfl (by decide) rfl (fun ls hl => ?_)
        refine lv_goto (tgt := 14) hx hb dX3_points_66 (by decide) ?_
        exact ih _ _ _ _ _ h _ _ _ S (lv_sub hl [2, 1, 3, 4, 0] rfl) kx
      clear h
      have h := hB
      clear hB
      refine lv_if_eq (tgt := 60) hx hb dX3_points_33 (by decide) (fun c4 => ?_) (fun c4 => ?_)
      · rw [if_pos c4] at h
        refine lv_iconst (v := 0) hx hb dX3_points_60 (by decide) ?_
        cases h
        exact hJ61 _ _ _ S (lv_sub hl [1, 3, 4, 5] rfl)
      · rw [if_neg c4] at h
        refine lv_aload hx hb dX3_points_36 (lv_at hl 0 rfl) ?_
        refine cv_owner_X3_90 F hK S (by assumption) (by assumption) hl.1 (Nat.le_of_ble_eq_true rfl) ⟨Nat.le_of_ble_eq_true rfl, Nat.le_of_ble_eq_true rfl⟩ ⟨Nat.zero_le _, Nat.zero_le _⟩ dX3_points_38 (fun H locs S => ?_)
        refine lv_iload_n hx hb dX3_points_41 rfl (lv_at hl 1 rfl) ?_
        refine lv_icmp_ne (tgt := 60) hx hb dX3_points_42 (by decide) (fun c5 => ?_) (fun c5 => ?_)
        · rw [if_neg c5] at h
          refine lv_iconst (v := 0) hx hb dX3_points_60 (by decide) ?_
          cases h
          exact hJ61 _ _ _ S (lv_sub hl [1, 3, 4, 5] rfl)
        · rw [if_pos c5] at h
          refine lv_aload hx hb dX3_points_45 (lv_at hl 0 rfl) ?_
          obtain ⟨u6, e7, h⟩ := bd1_inv h
          refine cc_X3_76 F hK S (by assumption) (by assumption) e7 dX3_points_47 ?_
          obtain ⟨u8, e9, h⟩ := bd1_inv h
          obtain ⟨v11, e10, h⟩ := bd1_inv h
          refine call_c_X8_isOpen_X3_93 (by assumption) (by assumption) (if_inv e9).1 F hK S e10 hl.1 (Nat.le_of_ble_eq_true rfl) ⟨Nat.le_of_ble_eq_true rfl, Nat.le_of_ble_eq_true rfl⟩ ⟨Nat.zero_le _, Nat.zero_le _⟩ dX3_points_50 (fun H locs S => ?_)
          refine lv_if_eq (tgt := 60) hx hb dX3_points_53 (by decide) (fun c12 => ?_) (fun c12 => ?_)
          · rw [if_pos c12] at h
            refine lv_iconst (v := 0) hx hb dX3_points_60 (by decide) ?_
            cases h
            exact hJ61 _ _ _ S (lv_sub hl [1, 3, 4, 5] rfl)
          · rw [if_neg c12] at h
            refine lv_iconst (v := 1) hx hb dX3_points_56 (by decide) ?_
            refine lv_goto (tgt := 61) hx hb dX3_points_57 (by decide) ?_
            cases h
            exact hJ61 _ _ _ S (lv_sub hl [1, 3, 4, 5] rfl)
set_option maxHeartbeats 4000000 in
set_option maxRecDepth 100000 in
theorem met_c_X3_points (l : Launch) (E : cEnv) (g : mS) (J : Nat) (x1 : Int32) (hJ : okW E J) (r : Int32) (h : fc_X3_points g J x1 = some r) : Met l yX3_points (ws_ yX3_points cX3_points 7 (some .int)) rm_c_X3_points (va_Pc [.ref (cad E J), .int x1] (gPre (cK E) (cP E g))) (gQi r (cP E g) (wA E)) 0 0 (wA E) := by
  refine g_met (own := RX3) (by decide) rfl (Nat.le_of_ble_eq_true rfl) ?_
  intro p e s m args below meth c ls F hr hlk hK S hl
  have hx := F.1
  have hb := F.2.1
  have hl : lv_has ls 7 [(0, .ref (cad E J)), (1, .int x1)] := hl
  unfold fc_X3_points at h
  refine lv_iconst (v := 0) hx hb dX3_points_0 (by decide) ?_
  refine lv_istore_n (lv' := [(2, .int 0), (0, .ref (cad E J)), (1, .int x1)]) hx hb dX3_points_1 rfl hl (by decide) rfl (fun ls hl => ?_)
  refine lv_aload_n hx hb dX3_points_2 rfl (lv_at hl 1 rfl) ?_
  refine cg_X3_9 F hK S (by assumption) dX3_points_3 ?_
  refine lv_astore_n (lv' := [(3, .ref (cca E J)), (2, .int 0), (0, .ref (cad E J)), (1, .int x1)]) hx hb dX3_points_6 rfl hl (by decide) rfl (fun ls hl => ?_)
  refine lv_aload_n hx hb dX3_points_7 rfl (lv_at hl 0 rfl) ?_
  refine c_alenK F hK S (by assumption) dX3_points_8 ?_
  refine lv_istore (lv' := [(4, .int 100), (3, .ref (cca E J)), (2, .int 0), (0, .ref (cad E J)), (1, .int x1)]) hx hb dX3_points_9 hl (by decide) rfl (fun ls hl => ?_)
  refine lv_iconst (v := 0) hx hb dX3_points_11 (by decide) ?_
  refine lv_istore (lv' := [(5, .int 0), (4, .int 100), (3, .ref (cca E J)), (2, .int 0), (0, .ref (cad E J)), (1, .int x1)]) hx hb dX3_points_12 hl (by decide) rfl (fun ls hl => ?_)
  obtain ⟨v16, e15, h⟩ := bd1_inv h
  refine loop_c_X3_points_1 E F hr hlk hK hJ _ _ _ _ _ _ e15 _ _ _ S (lv_sub hl [5, 3, 2, 1, 0] rfl) (fun v16z H locs ls o S hl => ?_)
  cases o
  refine lv_iload_n hx hb dX3_points_69 rfl (lv_at hl 0 rfl) ?_
  cases h
  exact g_iret F hr hlk S rfl dX3_points_70
theorem call_c_X3_points_X1_234 {p : Program} {l : Launch} {e : Env} {s : State} {m : MethodId} {args : Array Value} {below : List Frame} {meth : Method} {c : Code} {R : Room} {H : Heap} {locs : List Loc} {cells slots pc nL : Nat} {Q : State → Prop} {ls : Array Slot} {rest : List Value} {cc : ByteArray} {E : cEnv} {g : mS} {J : Nat} {x1 : Int32} {r : Int32} (hJ : okW E J) (F : CallFix p m c cc nL s args lw_all RX1) (hK : cK E s) (S : gS (wA E) s.heap (cP E g) H locs) (h : fc_X3_points g J x1 = some r) (hls : ls.size = nL) (hW : (rest.map fun v => v.category).sum ≤ 8) (hR : rm_c_X3_points.frames + 1 ≤ R.frames ∧ 8 + (7 + 11) + rm_c_X3_points.locals ≤ R.locals) (hf : cells ≤ R.cells ∧ slots ≤ R.slots) (hdg : decode cc pc = .ok (.invokevirtual 234, 3))
    (kk : ∀ (H1 : Heap) (locs1 : List Loc), gS (wA E) s.heap (cP E g) H1 locs1 → W p l e R s m args below meth c H1 locs1 cells slots Q (F0 m (pc + 3) ls (.int r :: rest))) : W p l e R s m args below meth c H locs cells slots Q (F0 m pc ls (.int x1 :: .ref (cad E J) :: rest)) :=
  g_ki (g_runV F hK (cKm E) S (met_c_X3_points l E g J x1 hJ r h) (cwV 1 F.2.2.2.2 (lw_V q1371 q1121 q1122 q115 q1123) rfl rfl rfl (by decide +kernel) hR) (va_recv hK.1 (va_P1 (cAt_w S.1 hJ)) (ci := 3) (q0 := 0) rfl rfl) rfl hls rfl hW hdg hf) S kk
theorem call_c_X3_points_X3_101 {p : Program} {l : Launch} {e : Env} {s : State} {m : MethodId} {args : Array Value} {below : List Frame} {meth : Method} {c : Code} {R : Room} {H : Heap} {locs : List Loc} {cells slots pc nL : Nat} {Q : State → Prop} {ls : Array Slot} {rest : List Value} {cc : ByteArray} {E : cEnv} {g : mS} {J : Nat} {x1 : Int32} {r : Int32} (hJ : okW E J) (F : CallFix p m c cc nL s args lw_all RX3) (hK : cK E s) (S : gS (wA E) s.heap (cP E g) H locs) (h : fc_X3_points g J x1 = some r) (hls : ls.size = nL) (hW : (rest.map fun v => v.category).sum ≤ 8) (hR : rm_c_X3_points.frames + 1 ≤ R.frames ∧ 8 + (7 + 11) + rm_c_X3_points.locals ≤ R.locals) (hf : cells ≤ R.cells ∧ slots ≤ R.slots) (hdg : decode cc pc = .ok (.invokevirtual 101, 3))
    (kk : ∀ (H1 : Heap) (locs1 : List Loc), gS (wA E) s.heap (cP E g) H1 locs1 → W p l e R s m args below meth c H1 locs1 cells slots Q (F0 m (pc + 3) ls (.int r :: rest))) : W p l e R s m args below meth c H locs cells slots Q (F0 m pc ls (.int x1 :: .ref (cad E J) :: rest)) :=
  g_ki (g_runV F hK (cKm E) S (met_c_X3_points l E g J x1 hJ r h) (cwV 1 F.2.2.2.2 (lw_V q1120 q1121 q1122 q115 q1123) rfl rfl rfl (by decide +kernel) hR) (va_recv hK.1 (va_P1 (cAt_w S.1 hJ)) (ci := 3) (q0 := 0) rfl rfl) rfl hls rfl hW hdg hf) S kk
abbrev rm_c_X3_doorsOf : Room := { frames := 1, cells := 0, slots := 0, locals := 20 }
def Lc_X3_doorsOf_1 (J : Nat) : Nat → mS → Int32 → Int32 → Int32 → Int32 → Option (Int32)
  | 0, _, _, _, _, _ => none
  | n + 1, g, y1, y2, y4, y5 =>
    if y4 ≤ y5 then
      some y2
    else
      bd1 (ix100 y5) fun v2 =>
      bd1 ((
        if (isC 7 g J v2) = 0 then
          some 0
        else
          if (vOwner g J v2) = y1 then
            some 1
          else
            some 0) : Option (Int32)) fun v6 =>
      Lc_X3_doorsOf_1 J n g y1 (y2 + v6) y4 (y5 + 1)
def fc_X3_doorsOf (g : mS) (J : Nat) (x1 : Int32) : Option (Int32) :=
  bd1 (Lc_X3_doorsOf_1 J FUEL g x1 0 100 0) fun v9 =>
  some v9
set_option maxHeartbeats 4000000 in
set_option maxRecDepth 100000 in
theorem loop_c_X3_doorsOf_1 {p : Program} {l : Launch} {e : Env} {s : State} {m : MethodId} {args : Array Value} {below : List Frame} {meth : Method} {c : Code} (E : cEnv) {J : Nat} (F : CallFix p m c cX3_doorsOf 7 s args lw_all RX3) (hr : meth.sig.returnType = some .int) (hlk : meth.locks = false) (hK : cK E s) (hJ : okW E J) {Q : State → Prop} {g : mS} : ∀ (n : Nat) (y1 : Int32) (y2 : Int32) (y4 : Int32) (y5 : Int32) (o : Int32), Lc_X3_doorsOf_1 J n g y1 y2 y4 y5 = some o → ∀ (H : Heap) (locs : List Loc) (ls : Array Slot), gS (wA E) s.heap (cP E g) H locs → lv_has ls 7 [(1, .int y1), (2, .int y2), (3, .ref (cca E J)), (4, .int y4), (5, .int y5)] → (∀ (w2 : Int32) (H : Heap) (locs : List Loc) (ls : Array Slot), o = w2 → gS (wA E) s.heap (cP E g) H locs → lv_has ls 7 [(2, .int w2)] → W p l e rm_c_X3_doorsOf s m args below meth c H locs 0 0 Q (F0 m 58 ls [])) → W p l e rm_c_X3_doorsOf s m args below meth c H locs 0 0 Q (F0 m 14 ls []) := by
  have hx := F.1
  have hb := F.2.1
  intro n
  induction n with
  | zero =>
    intro y1 y2 y4 y5 o h
    rw [Lc_X3_doorsOf_1] at h
    cases h
  | succ n ih =>
    intro y1 y2 y4 y5 o h H locs ls S hl kx
    rw [Lc_X3_doorsOf_1] at h
    refine lv_iload hx hb dX3_doorsOf_14 (lv_at hl 4 rfl) ?_
    refine lv_iload hx hb dX3_doorsOf_16 (lv_at hl 3 rfl) ?_
    refine lv_icmp_ge (tgt := 58) hx hb dX3_doorsOf_18 (by decide) (fun c1 => ?_) (fun c1 => ?_)
    · rw [if_pos c1] at h
      cases h
      exact kx _ _ _ _ rfl S (lv_sub hl [1] rfl)
    · rw [if_neg c1] at h
      refine lv_aload_n hx hb dX3_doorsOf_21 rfl (lv_at hl 2 rfl) ?_
      refine lv_iload hx hb dX3_doorsOf_22 (lv_at hl 4 rfl) ?_
      obtain ⟨v2, e3, h⟩ := bd1_inv h
      have hv2 := ix100_lt e3
      refine c_aald F hK S (by assumption) e3 dX3_doorsOf_24 ?_
      refine lv_astore (lv' := [(6, .ref (coa E J v2)), (1, .int y1), (2, .int y2), (3, .ref (cca E J)), (4, .int y4), (5, .int y5)]) hx hb dX3_doorsOf_25 hl (by decide) rfl (fun ls hl => ?_)
      refine lv_iload_n hx hb dX3_doorsOf_27 rfl (lv_at hl 2 rfl) ?_
      refine lv_aload hx hb dX3_doorsOf_28 (lv_at hl 0 rfl) ?_
      refine ci_X3_76 F hK S (by assumption) (by assumption) dX3_doorsOf_30 ?_
      obtain ⟨v6, hB, h⟩ := bd1_inv h
      have hJ50 : ∀ (H : Heap) (locs : List Loc) (ls : Array Slot), gS (wA E) s.heap (cP E g) H locs → lv_has ls 7 [(1, .int y1), (3, .ref (cca E J)), (4, .int y4), (5, .int y5)] → W p l e rm_c_X3_doorsOf s m args below meth c H locs 0 0 Q (F0 m 50 ls [.int v6, .int y2]) := by
        intro H locs ls S hl
        refine lv_iadd hx hb dX3_doorsOf_50 ?_
        refine lv_istore_n (lv' := [(2, .int (y2 + v6)), (1, .int y1), (3, .ref (cca E J)), (4, .int y4), (5, .int y5)]) hx hb dX3_doorsOf_51 rfl hl (by decide) rfl (fun ls hl => ?_)
        refine lv_iinc (v := (y5 + 1)) (lv' := [(5, .int (y5 + 1)), (2, .int (y2 + v6)), (1, .int y1), (3, .ref (cca E J)), (4, .int y4)]) hx hb dX3_doorsOf_52 hl (k := 4) rfl rfl (by decide) rfl (fun ls hl => ?_)
        refine lv_goto (tgt := 14) hx hb dX3_doorsOf_55 (by decide) ?_
        exact ih _ _ _ _ _ h _ _ _ S (lv_sub hl [2, 1, 3, 4, 0] rfl) kx
      clear h
      have h := hB
      clear hB
      refine lv_if_eq (tgt := 49) hx hb dX3_doorsOf_33 (by decide) (fun c4 => ?_) (fun c4 => ?_)
      · rw [if_pos c4] at h
        refine lv_iconst (v := 0) hx hb dX3_doorsOf_49 (by decide) ?_
        cases h
        exact hJ50 _ _ _ S (lv_sub hl [1, 3, 4, 5] rfl)
      · rw [if_neg c4] at h
        refine lv_aload hx hb dX3_doorsOf_36 (lv_at hl 0 rfl) ?_
        refine cv_owner_X3_90 F hK S (by assumption) (by assumption) hl.1 (Nat.le_of_ble_eq_true rfl) ⟨Nat.le_of_ble_eq_true rfl, Nat.le_of_ble_eq_true rfl⟩ ⟨Nat.zero_le _, Nat.zero_le _⟩ dX3_doorsOf_38 (fun H locs S => ?_)
        refine lv_iload_n hx hb dX3_doorsOf_41 rfl (lv_at hl 1 rfl) ?_
        refine lv_icmp_ne (tgt := 49) hx hb dX3_doorsOf_42 (by decide) (fun c5 => ?_) (fun c5 => ?_)
        · rw [if_neg c5] at h
          refine lv_iconst (v := 0) hx hb dX3_doorsOf_49 (by decide) ?_
          cases h
          exact hJ50 _ _ _ S (lv_sub hl [1, 3, 4, 5] rfl)
        · rw [if_pos c5] at h
          refine lv_iconst (v := 1) hx hb dX3_doorsOf_45 (by decide) ?_
          refine lv_goto (tgt := 50) hx hb dX3_doorsOf_46 (by decide) ?_
          cases h
          exact hJ50 _ _ _ S (lv_sub hl [1, 3, 4, 5] rfl)
set_option maxHeartbeats 4000000 in
set_option maxRecDepth 100000 in
theorem met_c_X3_doorsOf (l : Launch) (E : cEnv) (g : mS) (J : Nat) (x1 : Int32) (hJ : okW E J) (r : Int32) (h : fc_X3_doorsOf g J x1 = some r) : Met l yX3_doorsOf (ws_ yX3_doorsOf cX3_doorsOf 7 (some .int)) rm_c_X3_doorsOf (va_Pc [.ref (cad E J), .int x1] (gPre (cK E) (cP E g))) (gQi r (cP E g) (wA E)) 0 0 (wA E) := by
  refine g_met (own := RX3) (by decide) rfl (Nat.le_of_ble_eq_true rfl) ?_
  intro p e s m args below meth c ls F hr hlk hK S hl
  have hx := F.1
  have hb := F.2.1
  have hl : lv_has ls 7 [(0, .ref (cad E J)), (1, .int x1)] := hl
  unfold fc_X3_doorsOf at h
  refine lv_iconst (v := 0) hx hb dX3_doorsOf_0 (by decide) ?_
  refine lv_istore_n (lv' := [(2, .int 0), (0, .ref (cad E J)), (1, .int x1)]) hx hb dX3_doorsOf_1 rfl hl (by decide) rfl (fun ls hl => ?_)
  refine lv_aload_n hx hb dX3_doorsOf_2 rfl (lv_at hl 1 rfl) ?_
  refine cg_X3_9 F hK S (by assumption) dX3_doorsOf_3 ?_
  refine lv_astore_n (lv' := [(3, .ref (cca E J)), (2, .int 0), (0, .ref (cad E J)), (1, .int x1)]) hx hb dX3_doorsOf_6 rfl hl (by decide) rfl (fun ls hl => ?_)
  refine lv_aload_n hx hb dX3_doorsOf_7 rfl (lv_at hl 0 rfl) ?_
  refine c_alenK F hK S (by assumption) dX3_doorsOf_8 ?_
  refine lv_istore (lv' := [(4, .int 100), (3, .ref (cca E J)), (2, .int 0), (0, .ref (cad E J)), (1, .int x1)]) hx hb dX3_doorsOf_9 hl (by decide) rfl (fun ls hl => ?_)
  refine lv_iconst (v := 0) hx hb dX3_doorsOf_11 (by decide) ?_
  refine lv_istore (lv' := [(5, .int 0), (4, .int 100), (3, .ref (cca E J)), (2, .int 0), (0, .ref (cad E J)), (1, .int x1)]) hx hb dX3_doorsOf_12 hl (by decide) rfl (fun ls hl => ?_)
  obtain ⟨v9, e8, h⟩ := bd1_inv h
  refine loop_c_X3_doorsOf_1 E F hr hlk hK hJ _ _ _ _ _ _ e8 _ _ _ S (lv_sub hl [5, 3, 2, 1, 0] rfl) (fun v9z H locs ls o S hl => ?_)
  cases o
  refine lv_iload_n hx hb dX3_doorsOf_58 rfl (lv_at hl 0 rfl) ?_
  cases h
  exact g_iret F hr hlk S rfl dX3_doorsOf_59
theorem call_c_X3_doorsOf_X3_97 {p : Program} {l : Launch} {e : Env} {s : State} {m : MethodId} {args : Array Value} {below : List Frame} {meth : Method} {c : Code} {R : Room} {H : Heap} {locs : List Loc} {cells slots pc nL : Nat} {Q : State → Prop} {ls : Array Slot} {rest : List Value} {cc : ByteArray} {E : cEnv} {g : mS} {J : Nat} {x1 : Int32} {r : Int32} (hJ : okW E J) (F : CallFix p m c cc nL s args lw_all RX3) (hK : cK E s) (S : gS (wA E) s.heap (cP E g) H locs) (h : fc_X3_doorsOf g J x1 = some r) (hls : ls.size = nL) (hW : (rest.map fun v => v.category).sum ≤ 8) (hR : rm_c_X3_doorsOf.frames + 1 ≤ R.frames ∧ 8 + (7 + 11) + rm_c_X3_doorsOf.locals ≤ R.locals) (hf : cells ≤ R.cells ∧ slots ≤ R.slots) (hdg : decode cc pc = .ok (.invokevirtual 97, 3))
    (kk : ∀ (H1 : Heap) (locs1 : List Loc), gS (wA E) s.heap (cP E g) H1 locs1 → W p l e R s m args below meth c H1 locs1 cells slots Q (F0 m (pc + 3) ls (.int r :: rest))) : W p l e R s m args below meth c H locs cells slots Q (F0 m pc ls (.int x1 :: .ref (cad E J) :: rest)) :=
  g_ki (g_runV F hK (cKm E) S (met_c_X3_doorsOf l E g J x1 hJ r h) (cwV 1 F.2.2.2.2 (lw_V q1102 q1104 qs19 q115 q1105) rfl rfl rfl (by decide +kernel) hR) (va_recv hK.1 (va_P1 (cAt_w S.1 hJ)) (ci := 3) (q0 := 0) rfl rfl) rfl hls rfl hW hdg hf) S kk
abbrev rm_c_X3_hasAll : Room := { frames := 2, cells := 0, slots := 0, locals := 46 }
def fc_X3_hasAll (g : mS) (J : Nat) (x1 : Int32) : Option (Int32) :=
  bd1 (fc_X3_doorsOf g J x1) fun v2 =>
  bd1 ((
    if v2 ≤ 0 then
      some 0
    else
      bd1 (fc_X3_points g J x1) fun v5 =>
      bd1 (fc_X3_doorsOf g J x1) fun v7 =>
      if v5 = v7 then
        some 1
      else
        some 0) : Option (Int32)) fun v9 =>
  some (zN v9)
set_option maxHeartbeats 4000000 in
set_option maxRecDepth 100000 in
theorem met_c_X3_hasAll (l : Launch) (E : cEnv) (g : mS) (J : Nat) (x1 : Int32) (hJ : okW E J) (r : Int32) (h : fc_X3_hasAll g J x1 = some r) : Met l yX3_hasAll (ws_ yX3_hasAll cX3_hasAll 2 (some .boolean)) rm_c_X3_hasAll (va_Pc [.ref (cad E J), .int x1] (gPre (cK E) (cP E g))) (gQi r (cP E g) (wA E)) 0 0 (wA E) := by
  refine g_met (own := RX3) (by decide) rfl (Nat.le_of_ble_eq_true rfl) ?_
  intro p e s m args below meth c ls F hr hlk hK S hl
  have hx := F.1
  have hb := F.2.1
  have hl : lv_has ls 2 [(0, .ref (cad E J)), (1, .int x1)] := hl
  unfold fc_X3_hasAll at h
  refine lv_aload_n hx hb dX3_hasAll_0 rfl (lv_at hl 0 rfl) ?_
  refine lv_iload_n hx hb dX3_hasAll_1 rfl (lv_at hl 1 rfl) ?_
  obtain ⟨v2, e1, h⟩ := bd1_inv h
  refine call_c_X3_doorsOf_X3_97 (by assumption) F hK S e1 hl.1 (Nat.le_of_ble_eq_true rfl) ⟨Nat.le_of_ble_eq_true rfl, Nat.le_of_ble_eq_true rfl⟩ ⟨Nat.zero_le _, Nat.zero_le _⟩ dX3_hasAll_2 (fun H locs S => ?_)
  obtain ⟨v9, hB, h⟩ := bd1_inv h
  have hJ26 : ∀ (H : Heap) (locs : List Loc) (ls : Array Slot), gS (wA E) s.heap (cP E g) H locs → lv_has ls 2 [] → W p l e rm_c_X3_hasAll s m args below meth c H locs 0 0 (MQ below (gQi r (cP E g) (wA E)) args s 0 0 (wA E)) (F0 m 26 ls [.int v9]) := by
    intro H locs ls S hl
    cases h
    exact g_zret F hr hlk S rfl dX3_hasAll_26
  clear h
  have h := hB
  clear hB
  refine lv_if_le (tgt := 25) hx hb dX3_hasAll_5 (by decide) (fun c3 => ?_) (fun c3 => ?_)
  · rw [if_pos c3] at h
    refine lv_iconst (v := 0) hx hb dX3_hasAll_25 (by decide) ?_
    cases h
    exact hJ26 _ _ _ S (lv_sub hl [] rfl)
  · rw [if_neg c3] at h
    refine lv_aload_n hx hb dX3_hasAll_8 rfl (lv_at hl 0 rfl) ?_
    refine lv_iload_n hx hb dX3_hasAll_9 rfl (lv_at hl 1 rfl) ?_
    obtain ⟨v5, e4, h⟩ := bd1_inv h
    refine call_c_X3_points_X3_101 (by assumption) F hK S e4 hl.1 (Nat.le_of_ble_eq_true rfl) ⟨Nat.le_of_ble_eq_true rfl, Nat.le_of_ble_eq_true rfl⟩ ⟨Nat.zero_le _, Nat.zero_le _⟩ dX3_hasAll_10 (fun H locs S => ?_)
    refine lv_aload_n hx hb dX3_hasAll_13 rfl (lv_at hl 0 rfl) ?_
    refine lv_iload_n hx hb dX3_hasAll_14 rfl (lv_at hl 1 rfl) ?_
    obtain ⟨v7, e6, h⟩ := bd1_inv h
    refine call_c_X3_doorsOf_X3_97 (by assumption) F hK S e6 hl.1 (Nat.le_of_ble_eq_true rfl) ⟨Nat.le_of_ble_eq_true rfl, Nat.le_of_ble_eq_true rfl⟩ ⟨Nat.zero_le _, Nat.zero_le _⟩ dX3_hasAll_15 (fun H locs S => ?_)
    refine lv_icmp_ne (tgt := 25) hx hb dX3_hasAll_18 (by decide) (fun c8 => ?_) (fun c8 => ?_)
    · rw [if_neg c8] at h
      refine lv_iconst (v := 0) hx hb dX3_hasAll_25 (by decide) ?_
      cases h
      exact hJ26 _ _ _ S (lv_sub hl [] rfl)
    · rw [if_pos c8] at h
      refine lv_iconst (v := 1) hx hb dX3_hasAll_21 (by decide) ?_
      refine lv_goto (tgt := 26) hx hb dX3_hasAll_22 (by decide) ?_
      cases h
      exact hJ26 _ _ _ S (lv_sub hl [] rfl)
theorem call_c_X3_hasAll_X3_104 {p : Program} {l : Launch} {e : Env} {s : State} {m : MethodId} {args : Array Value} {below : List Frame} {meth : Method} {c : Code} {R : Room} {H : Heap} {locs : List Loc} {cells slots pc nL : Nat} {Q : State → Prop} {ls : Array Slot} {rest : List Value} {cc : ByteArray} {E : cEnv} {g : mS} {J : Nat} {x1 : Int32} {r : Int32} (hJ : okW E J) (F : CallFix p m c cc nL s args lw_all RX3) (hK : cK E s) (S : gS (wA E) s.heap (cP E g) H locs) (h : fc_X3_hasAll g J x1 = some r) (hls : ls.size = nL) (hW : (rest.map fun v => v.category).sum ≤ 8) (hR : rm_c_X3_hasAll.frames + 1 ≤ R.frames ∧ 8 + (2 + 11) + rm_c_X3_hasAll.locals ≤ R.locals) (hf : cells ≤ R.cells ∧ slots ≤ R.slots) (hdg : decode cc pc = .ok (.invokevirtual 104, 3))
    (kk : ∀ (H1 : Heap) (locs1 : List Loc), gS (wA E) s.heap (cP E g) H1 locs1 → W p l e R s m args below meth c H1 locs1 cells slots Q (F0 m (pc + 3) ls (.int r :: rest))) : W p l e R s m args below meth c H locs cells slots Q (F0 m pc ls (.int x1 :: .ref (cad E J) :: rest)) :=
  g_ki (g_runV F hK (cKm E) S (met_c_X3_hasAll l E g J x1 hJ r h) (cwV 1 F.2.2.2.2 (lw_V q1098 q1100 qs18 q115 q1101) rfl rfl rfl (by decide +kernel) hR) (va_recv hK.1 (va_P1 (cAt_w S.1 hJ)) (ci := 3) (q0 := 0) rfl rfl) rfl hls rfl hW hdg hf) S kk
abbrev rm_c_X3_isOver : Room := { frames := 3, cells := 0, slots := 0, locals := 67 }
def fc_X3_isOver (g : mS) (J : Nat)  : Option (Int32) :=
  bd1 (fc_X3_hasAll g J 1) fun v2 =>
  bd1 ((
    if v2 = 0 then
      bd1 (fc_X3_hasAll g J 2) fun v5 =>
      if v5 = 0 then
        if (g J 4) < (g J 3) then
          some 0
        else
          some 1
      else
        some 1
    else
      some 1) : Option (Int32)) fun v8 =>
  some (zN v8)
set_option maxHeartbeats 4000000 in
set_option maxRecDepth 100000 in
theorem met_c_X3_isOver (l : Launch) (E : cEnv) (g : mS) (J : Nat) (hJ : okW E J) (r : Int32) (h : fc_X3_isOver g J = some r) : Met l yX3_isOver (ws_ yX3_isOver cX3_isOver 1 (some .boolean)) rm_c_X3_isOver (va_Pc [.ref (cad E J)] (gPre (cK E) (cP E g))) (gQi r (cP E g) (wA E)) 0 0 (wA E) := by
  refine g_met (own := RX3) (by decide) rfl (Nat.le_of_ble_eq_true rfl) ?_
  intro p e s m args below meth c ls F hr hlk hK S hl
  have hx := F.1
  have hb := F.2.1
  have hl : lv_has ls 1 [(0, .ref (cad E J))] := hl
  unfold fc_X3_isOver at h
  refine lv_aload_n hx hb dX3_isOver_0 rfl (lv_at hl 0 rfl) ?_
  refine lv_iconst (v := 1) hx hb dX3_isOver_1 (by decide) ?_
  obtain ⟨v2, e1, h⟩ := bd1_inv h
  refine call_c_X3_hasAll_X3_104 (by assumption) F hK S e1 hl.1 (Nat.le_of_ble_eq_true rfl) ⟨Nat.le_of_ble_eq_true rfl, Nat.le_of_ble_eq_true rfl⟩ ⟨Nat.zero_le _, Nat.zero_le _⟩ dX3_isOver_2 (fun H locs S => ?_)
  obtain ⟨v8, hB, h⟩ := bd1_inv h
  have hJ32 : ∀ (H : Heap) (locs : List Loc) (ls : Array Slot), gS (wA E) s.heap (cP E g) H locs → lv_has ls 1 [] → W p l e rm_c_X3_isOver s m args below meth c H locs 0 0 (MQ below (gQi r (cP E g) (wA E)) args s 0 0 (wA E)) (F0 m 32 ls [.int v8]) := by
    intro H locs ls S hl
    cases h
    exact g_zret F hr hlk S rfl dX3_isOver_32
  clear h
  have h := hB
  clear hB
  refine lv_if_ne (tgt := 27) hx hb dX3_isOver_5 (by decide) (fun c3 => ?_) (fun c3 => ?_)
  · rw [if_neg c3] at h
    refine lv_iconst (v := 1) hx hb dX3_isOver_27 (by decide) ?_
    refine lv_goto (tgt := 32) hx hb dX3_isOver_28 (by decide) ?_
    cases h
    exact hJ32 _ _ _ S (lv_sub hl [] rfl)
  · rw [if_pos c3] at h
    refine lv_aload_n hx hb dX3_isOver_8 rfl (lv_at hl 0 rfl) ?_
    refine lv_iconst (v := 2) hx hb dX3_isOver_9 (by decide) ?_
    obtain ⟨v5, e4, h⟩ := bd1_inv h
    refine call_c_X3_hasAll_X3_104 (by assumption) F hK S e4 hl.1 (Nat.le_of_ble_eq_true rfl) ⟨Nat.le_of_ble_eq_true rfl, Nat.le_of_ble_eq_true rfl⟩ ⟨Nat.zero_le _, Nat.zero_le _⟩ dX3_isOver_10 (fun H locs S => ?_)
    refine lv_if_ne (tgt := 27) hx hb dX3_isOver_13 (by decide) (fun c6 => ?_) (fun c6 => ?_)
    · rw [if_neg c6] at h
      refine lv_iconst (v := 1) hx hb dX3_isOver_27 (by decide) ?_
      refine lv_goto (tgt := 32) hx hb dX3_isOver_28 (by decide) ?_
      cases h
      exact hJ32 _ _ _ S (lv_sub hl [] rfl)
    · rw [if_pos c6] at h
      refine lv_aload_n hx hb dX3_isOver_16 rfl (lv_at hl 0 rfl) ?_
      refine cg_X3_54 F hK S (by assumption) dX3_isOver_17 ?_
      refine lv_aload_n hx hb dX3_isOver_20 rfl (lv_at hl 0 rfl) ?_
      refine cg_X3_30 F hK S (by assumption) dX3_isOver_21 ?_
      refine lv_icmp_lt (tgt := 31) hx hb dX3_isOver_24 (by decide) (fun c7 => ?_) (fun c7 => ?_)
      · rw [if_pos c7] at h
        refine lv_iconst (v := 0) hx hb dX3_isOver_31 (by decide) ?_
        cases h
        exact hJ32 _ _ _ S (lv_sub hl [] rfl)
      · rw [if_neg c7] at h
        refine lv_iconst (v := 1) hx hb dX3_isOver_27 (by decide) ?_
        refine lv_goto (tgt := 32) hx hb dX3_isOver_28 (by decide) ?_
        cases h
        exact hJ32 _ _ _ S (lv_sub hl [] rfl)
theorem call_c_X3_isOver_X1_205 {p : Program} {l : Launch} {e : Env} {s : State} {m : MethodId} {args : Array Value} {below : List Frame} {meth : Method} {c : Code} {R : Room} {H : Heap} {locs : List Loc} {cells slots pc nL : Nat} {Q : State → Prop} {ls : Array Slot} {rest : List Value} {cc : ByteArray} {E : cEnv} {g : mS} {J : Nat} {r : Int32} (hJ : okW E J) (F : CallFix p m c cc nL s args lw_all RX1) (hK : cK E s) (S : gS (wA E) s.heap (cP E g) H locs) (h : fc_X3_isOver g J = some r) (hls : ls.size = nL) (hW : (rest.map fun v => v.category).sum ≤ 8) (hR : rm_c_X3_isOver.frames + 1 ≤ R.frames ∧ 8 + (1 + 11) + rm_c_X3_isOver.locals ≤ R.locals) (hf : cells ≤ R.cells ∧ slots ≤ R.slots) (hdg : decode cc pc = .ok (.invokevirtual 205, 3))
    (kk : ∀ (H1 : Heap) (locs1 : List Loc), gS (wA E) s.heap (cP E g) H1 locs1 → W p l e R s m args below meth c H1 locs1 cells slots Q (F0 m (pc + 3) ls (.int r :: rest))) : W p l e R s m args below meth c H locs cells slots Q (F0 m pc ls (.ref (cad E J) :: rest)) :=
  g_ki (g_runV F hK (cKm E) S (met_c_X3_isOver l E g J hJ r h) (cwV 0 F.2.2.2.2 (lw_V q1287 q1095 q1096 q115 q1097) rfl rfl rfl (by decide +kernel) hR) (va_recv hK.1 (va_P1 (cAt_w S.1 hJ)) (ci := 3) (q0 := 0) rfl rfl) rfl hls rfl hW hdg hf) S kk
theorem call_c_X3_isOver_X3_108 {p : Program} {l : Launch} {e : Env} {s : State} {m : MethodId} {args : Array Value} {below : List Frame} {meth : Method} {c : Code} {R : Room} {H : Heap} {locs : List Loc} {cells slots pc nL : Nat} {Q : State → Prop} {ls : Array Slot} {rest : List Value} {cc : ByteArray} {E : cEnv} {g : mS} {J : Nat} {r : Int32} (hJ : okW E J) (F : CallFix p m c cc nL s args lw_all RX3) (hK : cK E s) (S : gS (wA E) s.heap (cP E g) H locs) (h : fc_X3_isOver g J = some r) (hls : ls.size = nL) (hW : (rest.map fun v => v.category).sum ≤ 8) (hR : rm_c_X3_isOver.frames + 1 ≤ R.frames ∧ 8 + (1 + 11) + rm_c_X3_isOver.locals ≤ R.locals) (hf : cells ≤ R.cells ∧ slots ≤ R.slots) (hdg : decode cc pc = .ok (.invokevirtual 108, 3))
    (kk : ∀ (H1 : Heap) (locs1 : List Loc), gS (wA E) s.heap (cP E g) H1 locs1 → W p l e R s m args below meth c H1 locs1 cells slots Q (F0 m (pc + 3) ls (.int r :: rest))) : W p l e R s m args below meth c H locs cells slots Q (F0 m pc ls (.ref (cad E J) :: rest)) :=
  g_ki (g_runV F hK (cKm E) S (met_c_X3_isOver l E g J hJ r h) (cwV 0 F.2.2.2.2 (lw_V q1094 q1095 q1096 q115 q1097) rfl rfl rfl (by decide +kernel) hR) (va_recv hK.1 (va_P1 (cAt_w S.1 hJ)) (ci := 3) (q0 := 0) rfl rfl) rfl hls rfl hW hdg hf) S kk
abbrev rm_c_X3_winner : Room := { frames := 4, cells := 0, slots := 0, locals := 87 }
def fc_X3_winner (g : mS) (J : Nat)  : Option (Int32) :=
  bd1 (fc_X3_isOver g J) fun v2 =>
  if v2 = 0 then
    some 0
  else
    bd1 (fc_X3_hasAll g J 1) fun v5 =>
    if v5 = 0 then
      bd1 (fc_X3_hasAll g J 1) fun v8 =>
      if v8 = 0 then
        bd1 (fc_X3_hasAll g J 2) fun v16 =>
        if v16 = 0 then
          bd1 (fc_X3_points g J 1) fun v19 =>
          bd1 (fc_X3_points g J 2) fun v21 =>
          bd1 ((
            if (v19 - v21) = 0 then
              some 0
            else
              if (v19 - v21) ≤ 0 then
                some 2
              else
                some 1) : Option (Int32)) fun v24 =>
          some v24
        else
          bd1 (fc_X3_hasAll g J 1) fun v27 =>
          bd1 ((
            if v27 = 0 then
              some 2
            else
              some 1) : Option (Int32)) fun v29 =>
          some v29
      else
        bd1 (fc_X3_hasAll g J 1) fun v11 =>
        bd1 ((
          if v11 = 0 then
            some 2
          else
            some 1) : Option (Int32)) fun v13 =>
        some v13
    else
      bd1 (fc_X3_hasAll g J 2) fun v32 =>
      if v32 = 0 then
        bd1 (fc_X3_hasAll g J 1) fun v35 =>
        if v35 = 0 then
          bd1 (fc_X3_hasAll g J 2) fun v43 =>
          if v43 = 0 then
            bd1 (fc_X3_points g J 1) fun v46 =>
            bd1 (fc_X3_points g J 2) fun v48 =>
            bd1 ((
              if (v46 - v48) = 0 then
                some 0
              else
                if (v46 - v48) ≤ 0 then
                  some 2
                else
                  some 1) : Option (Int32)) fun v51 =>
            some v51
          else
            bd1 (fc_X3_hasAll g J 1) fun v54 =>
            bd1 ((
              if v54 = 0 then
                some 2
              else
                some 1) : Option (Int32)) fun v56 =>
            some v56
        else
          bd1 (fc_X3_hasAll g J 1) fun v38 =>
          bd1 ((
            if v38 = 0 then
              some 2
            else
              some 1) : Option (Int32)) fun v40 =>
          some v40
      else
        bd1 ((
          if (g J 5) = 0 then
            some 1
          else
            some (g J 5)) : Option (Int32)) fun v59 =>
        some v59
set_option maxHeartbeats 4000000 in
set_option maxRecDepth 100000 in
theorem met_c_X3_winner (l : Launch) (E : cEnv) (g : mS) (J : Nat) (hJ : okW E J) (r : Int32) (h : fc_X3_winner g J = some r) : Met l yX3_winner (ws_ yX3_winner cX3_winner 2 (some .int)) rm_c_X3_winner (va_Pc [.ref (cad E J)] (gPre (cK E) (cP E g))) (gQi r (cP E g) (wA E)) 0 0 (wA E) := by
  refine g_met (own := RX3) (by decide) rfl (Nat.le_of_ble_eq_true rfl) ?_
  intro p e s m args below meth c ls F hr hlk hK S hl
  have hx := F.1
  have hb := F.2.1
  have hl : lv_has ls 2 [(0, .ref (cad E J))] := hl
  unfold fc_X3_winner at h
  refine lv_aload_n hx hb dX3_winner_0 rfl (lv_at hl 0 rfl) ?_
  obtain ⟨v2, e1, h⟩ := bd1_inv h
  refine call_c_X3_isOver_X3_108 (by assumption) F hK S e1 hl.1 (Nat.le_of_ble_eq_true rfl) ⟨Nat.le_of_ble_eq_true rfl, Nat.le_of_ble_eq_true rfl⟩ ⟨Nat.zero_le _, Nat.zero_le _⟩ dX3_winner_1 (fun H locs S => ?_)
  refine lv_if_ne (tgt := 9) hx hb dX3_winner_4 (by decide) (fun c3 => ?_) (fun c3 => ?_)
  · rw [if_neg c3] at h
    refine lv_aload_n hx hb dX3_winner_9 rfl (lv_at hl 0 rfl) ?_
    refine lv_iconst (v := 1) hx hb dX3_winner_10 (by decide) ?_
    obtain ⟨v5, e4, h⟩ := bd1_inv h
    refine call_c_X3_hasAll_X3_104 (by assumption) F hK S e4 hl.1 (Nat.le_of_ble_eq_true rfl) ⟨Nat.le_of_ble_eq_true rfl, Nat.le_of_ble_eq_true rfl⟩ ⟨Nat.zero_le _, Nat.zero_le _⟩ dX3_winner_11 (fun H locs S => ?_)
    refine lv_if_eq (tgt := 41) hx hb dX3_winner_14 (by decide) (fun c6 => ?_) (fun c6 => ?_)
    · rw [if_pos c6] at h
      refine lv_aload_n hx hb dX3_winner_41 rfl (lv_at hl 0 rfl) ?_
      refine lv_iconst (v := 1) hx hb dX3_winner_42 (by decide) ?_
      obtain ⟨v8, e7, h⟩ := bd1_inv h
      refine call_c_X3_hasAll_X3_104 (by assumption) F hK S e7 hl.1 (Nat.le_of_ble_eq_true rfl) ⟨Nat.le_of_ble_eq_true rfl, Nat.le_of_ble_eq_true rfl⟩ ⟨Nat.zero_le _, Nat.zero_le _⟩ dX3_winner_43 (fun H locs S => ?_)
      refine lv_if_ne (tgt := 57) hx hb dX3_winner_46 (by decide) (fun c9 => ?_) (fun c9 => ?_)
      · rw [if_neg c9] at h
        refine lv_aload_n hx hb dX3_winner_57 rfl (lv_at hl 0 rfl) ?_
        refine lv_iconst (v := 1) hx hb dX3_winner_58 (by decide) ?_
        obtain ⟨v11, e10, h⟩ := bd1_inv h
        refine call_c_X3_hasAll_X3_104 (by assumption) F hK S e10 hl.1 (Nat.le_of_ble_eq_true rfl) ⟨Nat.le_of_ble_eq_true rfl, Nat.le_of_ble_eq_true rfl⟩ ⟨Nat.zero_le _, Nat.zero_le _⟩ dX3_winner_59 (fun H locs S => ?_)
        obtain ⟨v13, hB, h⟩ := bd1_inv h
        have hJ70 : ∀ (H : Heap) (locs : List Loc) (ls : Array Slot), gS (wA E) s.heap (cP E g) H locs → lv_has ls 2 [] → W p l e rm_c_X3_winner s m args below meth c H locs 0 0 (MQ below (gQi r (cP E g) (wA E)) args s 0 0 (wA E)) (F0 m 70 ls [.int v13]) := by
          intro H locs ls S hl
          cases h
          exact g_iret F hr hlk S rfl dX3_winner_70
        clear h
        have h := hB
        clear hB
        refine lv_if_eq (tgt := 69) hx hb dX3_winner_62 (by decide) (fun c12 => ?_) (fun c12 => ?_)
        · rw [if_pos c12] at h
          refine lv_iconst (v := 2) hx hb dX3_winner_69 (by decide) ?_
          cases h
          exact hJ70 _ _ _ S (lv_sub hl [] rfl)
        · rw [if_neg c12] at h
          refine lv_iconst (v := 1) hx hb dX3_winner_65 (by decide) ?_
          refine lv_goto (tgt := 70) hx hb dX3_winner_66 (by decide) ?_
          cases h
          exact hJ70 _ _ _ S (lv_sub hl [] rfl)
      · rw [if_pos c9] at h
        refine lv_aload_n hx hb dX3_winner_49 rfl (lv_at hl 0 rfl) ?_
        refine lv_iconst (v := 2) hx hb dX3_winner_50 (by decide) ?_
        obtain ⟨v16, e15, h⟩ := bd1_inv h
        refine call_c_X3_hasAll_X3_104 (by assumption) F hK S e15 hl.1 (Nat.le_of_ble_eq_true rfl) ⟨Nat.le_of_ble_eq_true rfl, Nat.le_of_ble_eq_true rfl⟩ ⟨Nat.zero_le _, Nat.zero_le _⟩ dX3_winner_51 (fun H locs S => ?_)
        refine lv_if_eq (tgt := 71) hx hb dX3_winner_54 (by decide) (fun c17 => ?_) (fun c17 => ?_)
        · rw [if_pos c17] at h
          refine lv_aload_n hx hb dX3_winner_71 rfl (lv_at hl 0 rfl) ?_
          refine lv_iconst (v := 1) hx hb dX3_winner_72 (by decide) ?_
          obtain ⟨v19, e18, h⟩ := bd1_inv h
          refine call_c_X3_points_X3_101 (by assumption) F hK S e18 hl.1 (Nat.le_of_ble_eq_true rfl) ⟨Nat.le_of_ble_eq_true rfl, Nat.le_of_ble_eq_true rfl⟩ ⟨Nat.zero_le _, Nat.zero_le _⟩ dX3_winner_73 (fun H locs S => ?_)
          refine lv_aload_n hx hb dX3_winner_76 rfl (lv_at hl 0 rfl) ?_
          refine lv_iconst (v := 2) hx hb dX3_winner_77 (by decide) ?_
          obtain ⟨v21, e20, h⟩ := bd1_inv h
          refine call_c_X3_points_X3_101 (by assumption) F hK S e20 hl.1 (Nat.le_of_ble_eq_true rfl) ⟨Nat.le_of_ble_eq_true rfl, Nat.le_of_ble_eq_true rfl⟩ ⟨Nat.zero_le _, Nat.zero_le _⟩ dX3_winner_78 (fun H locs S => ?_)
          refine lv_isub hx hb dX3_winner_81 ?_
          refine lv_istore_n (lv' := [(1, .int (v19 - v21)), (0, .ref (cad E J))]) hx hb dX3_winner_82 rfl hl (by decide) rfl (fun ls hl => ?_)
          refine lv_iload_n hx hb dX3_winner_83 rfl (lv_at hl 0 rfl) ?_
          obtain ⟨v24, hB, h⟩ := bd1_inv h
          have hJ100 : ∀ (H : Heap) (locs : List Loc) (ls : Array Slot), gS (wA E) s.heap (cP E g) H locs → lv_has ls 2 [] → W p l e rm_c_X3_winner s m args below meth c H locs 0 0 (MQ below (gQi r (cP E g) (wA E)) args s 0 0 (wA E)) (F0 m 100 ls [.int v24]) := by
            intro H locs ls S hl
            cases h
            exact g_iret F hr hlk S rfl dX3_winner_100
          clear h
          have h := hB
          clear hB
          refine lv_if_ne (tgt := 91) hx hb dX3_winner_84 (by decide) (fun c22 => ?_) (fun c22 => ?_)
          · rw [if_neg c22] at h
            refine lv_iload_n hx hb dX3_winner_91 rfl (lv_at hl 0 rfl) ?_
            refine lv_if_le (tgt := 99) hx hb dX3_winner_92 (by decide) (fun c23 => ?_) (fun c23 => ?_)
            · rw [if_pos c23] at h
              refine lv_iconst (v := 2) hx hb dX3_winner_99 (by decide) ?_
              cases h
              exact hJ100 _ _ _ S (lv_sub hl [] rfl)
            · rw [if_neg c23] at h
              refine lv_iconst (v := 1) hx hb dX3_winner_95 (by decide) ?_
              refine lv_goto (tgt := 100) hx hb dX3_winner_96 (by decide) ?_
              cases h
              exact hJ100 _ _ _ S (lv_sub hl [] rfl)
          · rw [if_pos c22] at h
            refine lv_iconst (v := 0) hx hb dX3_winner_87 (by decide) ?_
            refine lv_goto (tgt := 100) hx hb dX3_winner_88 (by decide) ?_
            cases h
            exact hJ100 _ _ _ S (lv_sub hl [] rfl)
        · rw [if_neg c17] at h
          refine lv_aload_n hx hb dX3_winner_57 rfl (lv_at hl 0 rfl) ?_
          refine lv_iconst (v := 1) hx hb dX3_winner_58 (by decide) ?_
          obtain ⟨v27, e26, h⟩ := bd1_inv h
          refine call_c_X3_hasAll_X3_104 (by assumption) F hK S e26 hl.1 (Nat.le_of_ble_eq_true rfl) ⟨Nat.le_of_ble_eq_true rfl, Nat.le_of_ble_eq_true rfl⟩ ⟨Nat.zero_le _, Nat.zero_le _⟩ dX3_winner_59 (fun H locs S => ?_)
          obtain ⟨v29, hB, h⟩ := bd1_inv h
          have hJ70 : ∀ (H : Heap) (locs : List Loc) (ls : Array Slot), gS (wA E) s.heap (cP E g) H locs → lv_has ls 2 [] → W p l e rm_c_X3_winner s m args below meth c H locs 0 0 (MQ below (gQi r (cP E g) (wA E)) args s 0 0 (wA E)) (F0 m 70 ls [.int v29]) := by
            intro H locs ls S hl
            cases h
            exact g_iret F hr hlk S rfl dX3_winner_70
          clear h
          have h := hB
          clear hB
          refine lv_if_eq (tgt := 69) hx hb dX3_winner_62 (by decide) (fun c28 => ?_) (fun c28 => ?_)
          · rw [if_pos c28] at h
            refine lv_iconst (v := 2) hx hb dX3_winner_69 (by decide) ?_
            cases h
            exact hJ70 _ _ _ S (lv_sub hl [] rfl)
          · rw [if_neg c28] at h
            refine lv_iconst (v := 1) hx hb dX3_winner_65 (by decide) ?_
            refine lv_goto (tgt := 70) hx hb dX3_winner_66 (by decide) ?_
            cases h
            exact hJ70 _ _ _ S (lv_sub hl [] rfl)
    · rw [if_neg c6] at h
      refine lv_aload_n hx hb dX3_winner_17 rfl (lv_at hl 0 rfl) ?_
      refine lv_iconst (v := 2) hx hb dX3_winner_18 (by decide) ?_
      obtain ⟨v32, e31, h⟩ := bd1_inv h
      refine call_c_X3_hasAll_X3_104 (by assumption) F hK S e31 hl.1 (Nat.le_of_ble_eq_true rfl) ⟨Nat.le_of_ble_eq_true rfl, Nat.le_of_ble_eq_true rfl⟩ ⟨Nat.zero_le _, Nat.zero_le _⟩ dX3_winner_19 (fun H locs S => ?_)
      refine lv_if_eq (tgt := 41) hx hb dX3_winner_22 (by decide) (fun c33 => ?_) (fun c33 => ?_)
      · rw [if_pos c33] at h
        refine lv_aload_n hx hb dX3_winner_41 rfl (lv_at hl 0 rfl) ?_
        refine lv_iconst (v := 1) hx hb dX3_winner_42 (by decide) ?_
        obtain ⟨v35, e34, h⟩ := bd1_inv h
        refine call_c_X3_hasAll_X3_104 (by assumption) F hK S e34 hl.1 (Nat.le_of_ble_eq_true rfl) ⟨Nat.le_of_ble_eq_true rfl, Nat.le_of_ble_eq_true rfl⟩ ⟨Nat.zero_le _, Nat.zero_le _⟩ dX3_winner_43 (fun H locs S => ?_)
        refine lv_if_ne (tgt := 57) hx hb dX3_winner_46 (by decide) (fun c36 => ?_) (fun c36 => ?_)
        · rw [if_neg c36] at h
          refine lv_aload_n hx hb dX3_winner_57 rfl (lv_at hl 0 rfl) ?_
          refine lv_iconst (v := 1) hx hb dX3_winner_58 (by decide) ?_
          obtain ⟨v38, e37, h⟩ := bd1_inv h
          refine call_c_X3_hasAll_X3_104 (by assumption) F hK S e37 hl.1 (Nat.le_of_ble_eq_true rfl) ⟨Nat.le_of_ble_eq_true rfl, Nat.le_of_ble_eq_true rfl⟩ ⟨Nat.zero_le _, Nat.zero_le _⟩ dX3_winner_59 (fun H locs S => ?_)
          obtain ⟨v40, hB, h⟩ := bd1_inv h
          have hJ70 : ∀ (H : Heap) (locs : List Loc) (ls : Array Slot), gS (wA E) s.heap (cP E g) H locs → lv_has ls 2 [] → W p l e rm_c_X3_winner s m args below meth c H locs 0 0 (MQ below (gQi r (cP E g) (wA E)) args s 0 0 (wA E)) (F0 m 70 ls [.int v40]) := by
            intro H locs ls S hl
            cases h
            exact g_iret F hr hlk S rfl dX3_winner_70
          clear h
          have h := hB
          clear hB
          refine lv_if_eq (tgt := 69) hx hb dX3_winner_62 (by decide) (fun c39 => ?_) (fun c39 => ?_)
          · rw [if_pos c39] at h
            refine lv_iconst (v := 2) hx hb dX3_winner_69 (by decide) ?_
            cases h
            exact hJ70 _ _ _ S (lv_sub hl [] rfl)
          · rw [if_neg c39] at h
            refine lv_iconst (v := 1) hx hb dX3_winner_65 (by decide) ?_
            refine lv_goto (tgt := 70) hx hb dX3_winner_66 (by decide) ?_
            cases h
            exact hJ70 _ _ _ S (lv_sub hl [] rfl)
        · rw [if_pos c36] at h
          refine lv_aload_n hx hb dX3_winner_49 rfl (lv_at hl 0 rfl) ?_
          refine lv_iconst (v := 2) hx hb dX3_winner_50 (by decide) ?_
          obtain ⟨v43, e42, h⟩ := bd1_inv h
          refine call_c_X3_hasAll_X3_104 (by assumption) F hK S e42 hl.1 (Nat.le_of_ble_eq_true rfl) ⟨Nat.le_of_ble_eq_true rfl, Nat.le_of_ble_eq_true rfl⟩ ⟨Nat.zero_le _, Nat.zero_le _⟩ dX3_winner_51 (fun H locs S => ?_)
          refine lv_if_eq (tgt := 71) hx hb dX3_winner_54 (by decide) (fun c44 => ?_) (fun c44 => ?_)
          · rw [if_pos c44] at h
            refine lv_aload_n hx hb dX3_winner_71 rfl (lv_at hl 0 rfl) ?_
            refine lv_iconst (v := 1) hx hb dX3_winner_72 (by decide) ?_
            obtain ⟨v46, e45, h⟩ := bd1_inv h
            refine call_c_X3_points_X3_101 (by assumption) F hK S e45 hl.1 (Nat.le_of_ble_eq_true rfl) ⟨Nat.le_of_ble_eq_true rfl, Nat.le_of_ble_eq_true rfl⟩ ⟨Nat.zero_le _, Nat.zero_le _⟩ dX3_winner_73 (fun H locs S => ?_)
            refine lv_aload_n hx hb dX3_winner_76 rfl (lv_at hl 0 rfl) ?_
            refine lv_iconst (v := 2) hx hb dX3_winner_77 (by decide) ?_
            obtain ⟨v48, e47, h⟩ := bd1_inv h
            refine call_c_X3_points_X3_101 (by assumption) F hK S e47 hl.1 (Nat.le_of_ble_eq_true rfl) ⟨Nat.le_of_ble_eq_true rfl, Nat.le_of_ble_eq_true rfl⟩ ⟨Nat.zero_le _, Nat.zero_le _⟩ dX3_winner_78 (fun H locs S => ?_)
            refine lv_isub hx hb dX3_winner_81 ?_
            refine lv_istore_n (lv' := [(1, .int (v46 - v48)), (0, .ref (cad E J))]) hx hb dX3_winner_82 rfl hl (by decide) rfl (fun ls hl => ?_)
            refine lv_iload_n hx hb dX3_winner_83 rfl (lv_at hl 0 rfl) ?_
            obtain ⟨v51, hB, h⟩ := bd1_inv h
            have hJ100 : ∀ (H : Heap) (locs : List Loc) (ls : Array Slot), gS (wA E) s.heap (cP E g) H locs → lv_has ls 2 [] → W p l e rm_c_X3_winner s m args below meth c H locs 0 0 (MQ below (gQi r (cP E g) (wA E)) args s 0 0 (wA E)) (F0 m 100 ls [.int v51]) := by
              intro H locs ls S hl
              cases h
              exact g_iret F hr hlk S rfl dX3_winner_100
            clear h
            have h := hB
            clear hB
            refine lv_if_ne (tgt := 91) hx hb dX3_winner_84 (by decide) (fun c49 => ?_) (fun c49 => ?_)
            · rw [if_neg c49] at h
              refine lv_iload_n hx hb dX3_winner_91 rfl (lv_at hl 0 rfl) ?_
              refine lv_if_le (tgt := 99) hx hb dX3_winner_92 (by decide) (fun c50 => ?_) (fun c50 => ?_)
              · rw [if_pos c50] at h
                refine lv_iconst (v := 2) hx hb dX3_winner_99 (by decide) ?_
                cases h
                exact hJ100 _ _ _ S (lv_sub hl [] rfl)
              · rw [if_neg c50] at h
                refine lv_iconst (v := 1) hx hb dX3_winner_95 (by decide) ?_
                refine lv_goto (tgt := 100) hx hb dX3_winner_96 (by decide) ?_
                cases h
                exact hJ100 _ _ _ S (lv_sub hl [] rfl)
            · rw [if_pos c49] at h
              refine lv_iconst (v := 0) hx hb dX3_winner_87 (by decide) ?_
              refine lv_goto (tgt := 100) hx hb dX3_winner_88 (by decide) ?_
              cases h
              exact hJ100 _ _ _ S (lv_sub hl [] rfl)
          · rw [if_neg c44] at h
            refine lv_aload_n hx hb dX3_winner_57 rfl (lv_at hl 0 rfl) ?_
            refine lv_iconst (v := 1) hx hb dX3_winner_58 (by decide) ?_
            obtain ⟨v54, e53, h⟩ := bd1_inv h
            refine call_c_X3_hasAll_X3_104 (by assumption) F hK S e53 hl.1 (Nat.le_of_ble_eq_true rfl) ⟨Nat.le_of_ble_eq_true rfl, Nat.le_of_ble_eq_true rfl⟩ ⟨Nat.zero_le _, Nat.zero_le _⟩ dX3_winner_59 (fun H locs S => ?_)
            obtain ⟨v56, hB, h⟩ := bd1_inv h
            have hJ70 : ∀ (H : Heap) (locs : List Loc) (ls : Array Slot), gS (wA E) s.heap (cP E g) H locs → lv_has ls 2 [] → W p l e rm_c_X3_winner s m args below meth c H locs 0 0 (MQ below (gQi r (cP E g) (wA E)) args s 0 0 (wA E)) (F0 m 70 ls [.int v56]) := by
              intro H locs ls S hl
              cases h
              exact g_iret F hr hlk S rfl dX3_winner_70
            clear h
            have h := hB
            clear hB
            refine lv_if_eq (tgt := 69) hx hb dX3_winner_62 (by decide) (fun c55 => ?_) (fun c55 => ?_)
            · rw [if_pos c55] at h
              refine lv_iconst (v := 2) hx hb dX3_winner_69 (by decide) ?_
              cases h
              exact hJ70 _ _ _ S (lv_sub hl [] rfl)
            · rw [if_neg c55] at h
              refine lv_iconst (v := 1) hx hb dX3_winner_65 (by decide) ?_
              refine lv_goto (tgt := 70) hx hb dX3_winner_66 (by decide) ?_
              cases h
              exact hJ70 _ _ _ S (lv_sub hl [] rfl)
      · rw [if_neg c33] at h
        refine lv_aload_n hx hb dX3_winner_25 rfl (lv_at hl 0 rfl) ?_
        refine cg_X3_57 F hK S (by assumption) dX3_winner_26 ?_
        obtain ⟨v59, hB, h⟩ := bd1_inv h
        have hJ40 : ∀ (H : Heap) (locs : List Loc) (ls : Array Slot), gS (wA E) s.heap (cP E g) H locs → lv_has ls 2 [] → W p l e rm_c_X3_winner s m args below meth c H locs 0 0 (MQ below (gQi r (cP E g) (wA E)) args s 0 0 (wA E)) (F0 m 40 ls [.int v59]) := by
          intro H locs ls S hl
          cases h
          exact g_iret F hr hlk S rfl dX3_winner_40
        clear h
        have h := hB
        clear hB
        refine lv_if_ne (tgt := 36) hx hb dX3_winner_29 (by decide) (fun c58 => ?_) (fun c58 => ?_)
        · rw [if_neg c58] at h
          refine lv_aload_n hx hb dX3_winner_36 rfl (lv_at hl 0 rfl) ?_
          refine cg_X3_57 F hK S (by assumption) dX3_winner_37 ?_
          cases h
          exact hJ40 _ _ _ S (lv_sub hl [] rfl)
        · rw [if_pos c58] at h
          refine lv_iconst (v := 1) hx hb dX3_winner_32 (by decide) ?_
          refine lv_goto (tgt := 40) hx hb dX3_winner_33 (by decide) ?_
          cases h
          exact hJ40 _ _ _ S (lv_sub hl [] rfl)
  · rw [if_pos c3] at h
    refine lv_iconst (v := 0) hx hb dX3_winner_7 (by decide) ?_
    cases h
    exact g_iret F hr hlk S rfl dX3_winner_8
theorem call_c_X3_winner_X1_231 {p : Program} {l : Launch} {e : Env} {s : State} {m : MethodId} {args : Array Value} {below : List Frame} {meth : Method} {c : Code} {R : Room} {H : Heap} {locs : List Loc} {cells slots pc nL : Nat} {Q : State → Prop} {ls : Array Slot} {rest : List Value} {cc : ByteArray} {E : cEnv} {g : mS} {J : Nat} {r : Int32} (hJ : okW E J) (F : CallFix p m c cc nL s args lw_all RX1) (hK : cK E s) (S : gS (wA E) s.heap (cP E g) H locs) (h : fc_X3_winner g J = some r) (hls : ls.size = nL) (hW : (rest.map fun v => v.category).sum ≤ 8) (hR : rm_c_X3_winner.frames + 1 ≤ R.frames ∧ 8 + (2 + 11) + rm_c_X3_winner.locals ≤ R.locals) (hf : cells ≤ R.cells ∧ slots ≤ R.slots) (hdg : decode cc pc = .ok (.invokevirtual 231, 3))
    (kk : ∀ (H1 : Heap) (locs1 : List Loc), gS (wA E) s.heap (cP E g) H1 locs1 → W p l e R s m args below meth c H1 locs1 cells slots Q (F0 m (pc + 3) ls (.int r :: rest))) : W p l e R s m args below meth c H locs cells slots Q (F0 m pc ls (.ref (cad E J) :: rest)) :=
  g_ki (g_runV F hK (cKm E) S (met_c_X3_winner l E g J hJ r h) (cwV 0 F.2.2.2.2 (lw_V q1636 q1637 q1638 q115 q1639) rfl rfl rfl (by decide +kernel) hR) (va_recv hK.1 (va_P1 (cAt_w S.1 hJ)) (ci := 3) (q0 := 0) rfl rfl) rfl hls rfl hW hdg hf) S kk
abbrev rm_c_X3_ray : Room := { frames := 6, cells := 0, slots := 0, locals := 135 }
def fc_X3_ray (g : mS) (J : Nat)  : Option (mS) :=
  bd1 (fc_X2_trace g J) fun g2 =>
  some g2
set_option maxHeartbeats 4000000 in
set_option maxRecDepth 100000 in
theorem met_c_X3_ray (l : Launch) (E : cEnv) (g : mS) (J : Nat) (hJ : okW E J) (gZ : mS) (h : fc_X3_ray g J = some gZ) : Met l yX3_ray (ws_ yX3_ray cX3_ray 1 (some (.object "MirrorDoors$Ray"))) rm_c_X3_ray (va_Pc [.ref (cad E J)] (gPre (cK E) (cP E g))) (gQr (cad E 0) (cP E gZ) (wA E)) 0 0 (wA E) := by
  refine g_met (own := RX3) (by decide) rfl (Nat.le_of_ble_eq_true rfl) ?_
  intro p e s m args below meth c ls F hr hlk hK S hl
  have hx := F.1
  have hb := F.2.1
  have hl : lv_has ls 1 [(0, .ref (cad E J))] := hl
  unfold fc_X3_ray at h
  refine lv_aload_n hx hb dX3_ray_0 rfl (lv_at hl 0 rfl) ?_
  refine cg_X3_34 F hK S (by assumption) dX3_ray_1 ?_
  refine lv_aload_n hx hb dX3_ray_4 rfl (lv_at hl 0 rfl) ?_
  obtain ⟨g2, e1, h⟩ := bd1_inv h
  refine call_c_X2_trace_X3_111 (by assumption) F hK S e1 hl.1 (Nat.le_of_ble_eq_true rfl) ⟨Nat.le_of_ble_eq_true rfl, Nat.le_of_ble_eq_true rfl⟩ ⟨Nat.zero_le _, Nat.zero_le _⟩ dX3_ray_5 (fun H locs S => ?_)
  refine lv_aload_n hx hb dX3_ray_8 rfl (lv_at hl 0 rfl) ?_
  refine cg_X3_34 F hK S (by assumption) dX3_ray_9 ?_
  cases h
  exact g_aret F hr (Or.inl ⟨_, rfl⟩) hlk S dX3_ray_12
theorem call_c_X3_ray_X1_240 {p : Program} {l : Launch} {e : Env} {s : State} {m : MethodId} {args : Array Value} {below : List Frame} {meth : Method} {c : Code} {R : Room} {H : Heap} {locs : List Loc} {cells slots pc nL : Nat} {Q : State → Prop} {ls : Array Slot} {rest : List Value} {cc : ByteArray} {E : cEnv} {g : mS} {J : Nat} {gZ : mS} (hJ : okW E J) (F : CallFix p m c cc nL s args lw_all RX1) (hK : cK E s) (S : gS (wA E) s.heap (cP E g) H locs) (h : fc_X3_ray g J = some gZ) (hls : ls.size = nL) (hW : (rest.map fun v => v.category).sum ≤ 8) (hR : rm_c_X3_ray.frames + 1 ≤ R.frames ∧ 8 + (1 + 11) + rm_c_X3_ray.locals ≤ R.locals) (hf : cells ≤ R.cells ∧ slots ≤ R.slots) (hdg : decode cc pc = .ok (.invokevirtual 240, 3))
    (kk : ∀ (H1 : Heap) (locs1 : List Loc), gS (wA E) s.heap (cP E gZ) H1 locs1 → W p l e R s m args below meth c H1 locs1 cells slots Q (F0 m (pc + 3) ls (.ref (cad E 0) :: rest))) : W p l e R s m args below meth c H locs cells slots Q (F0 m pc ls (.ref (cad E J) :: rest)) :=
  g_kr (g_runV F hK (cKm E) S (met_c_X3_ray l E g J hJ gZ h) (cwV 0 F.2.2.2.2 (lw_V q1360 q376 q377 q115 q378) rfl rfl rfl (by decide +kernel) hR) (va_recv hK.1 (va_P1 (cAt_w S.1 hJ)) (ci := 3) (q0 := 0) rfl rfl) rfl hls rfl hW hdg hf) S kk
theorem call_c_X3_ray_X3_117 {p : Program} {l : Launch} {e : Env} {s : State} {m : MethodId} {args : Array Value} {below : List Frame} {meth : Method} {c : Code} {R : Room} {H : Heap} {locs : List Loc} {cells slots pc nL : Nat} {Q : State → Prop} {ls : Array Slot} {rest : List Value} {cc : ByteArray} {E : cEnv} {g : mS} {J : Nat} {gZ : mS} (hJ : okW E J) (F : CallFix p m c cc nL s args lw_all RX3) (hK : cK E s) (S : gS (wA E) s.heap (cP E g) H locs) (h : fc_X3_ray g J = some gZ) (hls : ls.size = nL) (hW : (rest.map fun v => v.category).sum ≤ 8) (hR : rm_c_X3_ray.frames + 1 ≤ R.frames ∧ 8 + (1 + 11) + rm_c_X3_ray.locals ≤ R.locals) (hf : cells ≤ R.cells ∧ slots ≤ R.slots) (hdg : decode cc pc = .ok (.invokevirtual 117, 3))
    (kk : ∀ (H1 : Heap) (locs1 : List Loc), gS (wA E) s.heap (cP E gZ) H1 locs1 → W p l e R s m args below meth c H1 locs1 cells slots Q (F0 m (pc + 3) ls (.ref (cad E 0) :: rest))) : W p l e R s m args below meth c H locs cells slots Q (F0 m pc ls (.ref (cad E J) :: rest)) :=
  g_kr (g_runV F hK (cKm E) S (met_c_X3_ray l E g J hJ gZ h) (cwV 0 F.2.2.2.2 (lw_V q375 q376 q377 q115 q378) rfl rfl rfl (by decide +kernel) hR) (va_recv hK.1 (va_P1 (cAt_w S.1 hJ)) (ci := 3) (q0 := 0) rfl rfl) rfl hls rfl hW hdg hf) S kk
abbrev rm_c_X3_laysOpen : Room := { frames := 7, cells := 0, slots := 0, locals := 155 }
def Lc_X3_laysOpen_1 (J : Nat) : Nat → mS → Int32 → Int32 → Option (mS)
  | 0, _, _, _ => none
  | n + 1, g, y2, y3 =>
    if y2 ≤ y3 then
      some g
    else
      bd1 (ix100 y3) fun v4 =>
      bd1 ((
        if (isC 7 g J v4) = 0 then
          some g
        else
          bd1 (ckC 7 g J v4) fun u7 =>
          bd1 (fc_X2_lights g (nI v4)) fun v10 =>
          bd1 ((
            if v10 = 0 then
              some (-1)
            else
              some 0) : Option (Int32)) fun v12 =>
          bd1 (wrC 7 g J v4 5 v12) fun g13 =>
          some g13) : Option (mS)) fun g16 =>
      Lc_X3_laysOpen_1 J n g16 y2 (y3 + 1)
def fc_X3_laysOpen (g : mS) (J : Nat)  : Option (mS) :=
  bd1 (fc_X3_ray g J) fun g2 =>
  bd1 (Lc_X3_laysOpen_1 J FUEL g2 100 0) fun g19 =>
  some g19
set_option maxHeartbeats 4000000 in
set_option maxRecDepth 100000 in
theorem loop_c_X3_laysOpen_1 {p : Program} {l : Launch} {e : Env} {s : State} {m : MethodId} {args : Array Value} {below : List Frame} {meth : Method} {c : Code} (E : cEnv) {J : Nat} (F : CallFix p m c cX3_laysOpen 5 s args lw_all RX3) (hr : meth.sig.returnType = none) (hlk : meth.locks = false) (hK : cK E s) (hJ : okW E J) {Q : State → Prop} : ∀ (n : Nat) (g : mS) (y2 : Int32) (y3 : Int32) (o : mS), Lc_X3_laysOpen_1 J n g y2 y3 = some o → ∀ (H : Heap) (locs : List Loc) (ls : Array Slot), gS (wA E) s.heap (cP E g) H locs → lv_has ls 5 [(0, .ref (cad E J)), (1, .ref (cca E J)), (2, .int y2), (3, .int y3)] → (∀  (gx : mS) (H : Heap) (locs : List Loc) (ls : Array Slot), o = gx → gS (wA E) s.heap (cP E gx) H locs → lv_has ls 5 [] → W p l e rm_c_X3_laysOpen s m args below meth c H locs 0 0 Q (F0 m 67 ls [])) → W p l e rm_c_X3_laysOpen s m args below meth c H locs 0 0 Q (F0 m 15 ls []) := by
  have hx := F.1
  have hb := F.2.1
  intro n
  induction n with
  | zero =>
    intro g y2 y3 o h
    rw [Lc_X3_laysOpen_1] at h
    cases h
  | succ n ih =>
    intro g y2 y3 o h H locs ls S hl kx
    rw [Lc_X3_laysOpen_1] at h
    refine lv_iload_n hx hb dX3_laysOpen_15 rfl (lv_at hl 3 rfl) ?_
    refine lv_iload_n hx hb dX3_laysOpen_16 rfl (lv_at hl 2 rfl) ?_
    refine lv_icmp_ge (tgt := 67) hx hb dX3_laysOpen_17 (by decide) (fun c3 => ?_) (fun c3 => ?_)
    · rw [if_pos c3] at h
      cases h
      exact kx _ _ _ _ rfl S (lv_sub hl [] rfl)
    · rw [if_neg c3] at h
      refine lv_aload_n hx hb dX3_laysOpen_20 rfl (lv_at hl 1 rfl) ?_
      refine lv_iload_n hx hb dX3_laysOpen_21 rfl (lv_at hl 3 rfl) ?_
      obtain ⟨v4, e5, h⟩ := bd1_inv h
      have hv4 := ix100_lt e5
      refine c_aald F hK S (by assumption) e5 dX3_laysOpen_22 ?_
      refine lv_astore (lv' := [(4, .ref (coa E J v4)), (0, .ref (cad E J)), (1, .ref (cca E J)), (2, .int y2), (3, .int y3)]) hx hb dX3_laysOpen_23 hl (by decide) rfl (fun ls hl => ?_)
      refine lv_aload hx hb dX3_laysOpen_25 (lv_at hl 0 rfl) ?_
      refine ci_X3_76 F hK S (by assumption) (by assumption) dX3_laysOpen_27 ?_
      obtain ⟨g16, hB, h⟩ := bd1_inv h
      have hJ61 : ∀ (H : Heap) (locs : List Loc) (ls : Array Slot), gS (wA E) s.heap (cP E g16) H locs → lv_has ls 5 [(0, .ref (cad E J)), (1, .ref (cca E J)), (2, .int y2), (3, .int y3)] → W p l e rm_c_X3_laysOpen s m args below meth c H locs 0 0 Q (F0 m 61 ls []) := by
        intro H locs ls S hl
        refine lv_iinc (v := (y3 + 1)) (lv' := [(3, .int (y3 + 1)), (0, .ref (cad E J)), (1, .ref (cca E J)), (2, .int y2)]) hx hb dX3_laysOpen_61 hl (k := 3) rfl rfl (by decide) rfl (fun ls hl => ?_)
        refine lv_goto (tgt := 15) hx hb dX3_laysOpen_64 (by decide) ?_
        exact ih _ _ _ _ h _ _ _ S (lv_sub hl [1, 2, 3, 0] rfl) kx
      clear h
      have h := hB
      clear hB
      refine lv_if_eq (tgt := 61) hx hb dX3_laysOpen_30 (by decide) (fun c6 => ?_) (fun c6 => ?_)
      · rw [if_pos c6] at h
        cases h
        exact hJ61 _ _ _ S (lv_sub hl [1, 2, 3, 4] rfl)
      · rw [if_neg c6] at h
        refine lv_aload hx hb dX3_laysOpen_33 (lv_at hl 0 rfl) ?_
        obtain ⟨u7, e8, h⟩ := bd1_inv h
        refine cc_X3_76 F hK S (by assumption) (by assumption) e8 dX3_laysOpen_35 ?_
        refine lv_aload_n hx hb dX3_laysOpen_38 rfl (lv_at hl 1 rfl) ?_
        refine cg_X3_34 F hK S (by assumption) dX3_laysOpen_39 ?_
        refine lv_aload hx hb dX3_laysOpen_42 (lv_at hl 0 rfl) ?_
        refine cg_X3_120 F hK S (by assumption) (by assumption) dX3_laysOpen_44 ?_
        obtain ⟨v10, e9, h⟩ := bd1_inv h
        refine call_c_X2_lights_X3_123 F hK S e9 hl.1 (Nat.le_of_ble_eq_true rfl) ⟨Nat.le_of_ble_eq_true rfl, Nat.le_of_ble_eq_true rfl⟩ ⟨Nat.zero_le _, Nat.zero_le _⟩ dX3_laysOpen_47 (fun H locs S => ?_)
        obtain ⟨v12, hB, h⟩ := bd1_inv h
        have hJ58 : ∀ (H : Heap) (locs : List Loc) (ls : Array Slot), gS (wA E) s.heap (cP E g) H locs → lv_has ls 5 [(0, .ref (cad E J)), (1, .ref (cca E J)), (2, .int y2), (3, .int y3)] → W p l e rm_c_X3_laysOpen s m args below meth c H locs 0 0 Q (F0 m 58 ls [.int v12, .ref (coa E J v4)]) := by
          intro H locs ls S hl
          obtain ⟨g13, e14, h⟩ := bd1_inv h
          refine cw_X3_126 F hK S (by assumption) (by assumption) e14 dX3_laysOpen_58 (fun H locs S => ?_)
          cases h
          exact hJ61 _ _ _ S (lv_sub hl [0, 1, 2, 3] rfl)
        clear h
        have h := hB
        clear hB
        refine lv_if_ne (tgt := 57) hx hb dX3_laysOpen_50 (by decide) (fun c11 => ?_) (fun c11 => ?_)
        · rw [if_neg c11] at h
          refine lv_iconst (v := 0) hx hb dX3_laysOpen_57 (by decide) ?_
          cases h
          exact hJ58 _ _ _ S (lv_sub hl [1, 2, 3, 4] rfl)
        · rw [if_pos c11] at h
          refine lv_iconst (v := (-1)) hx hb dX3_laysOpen_53 (by decide) ?_
          refine lv_goto (tgt := 58) hx hb dX3_laysOpen_54 (by decide) ?_
          cases h
          exact hJ58 _ _ _ S (lv_sub hl [1, 2, 3, 4] rfl)
set_option maxHeartbeats 4000000 in
set_option maxRecDepth 100000 in
theorem met_c_X3_laysOpen (l : Launch) (E : cEnv) (g : mS) (J : Nat) (hJ : okW E J) (gZ : mS) (h : fc_X3_laysOpen g J = some gZ) : Met l yX3_laysOpen (ws_ yX3_laysOpen cX3_laysOpen 5 (none)) rm_c_X3_laysOpen (va_Pc [.ref (cad E J)] (gPre (cK E) (cP E g))) (gQv (cP E gZ) (wA E)) 0 0 (wA E) := by
  refine g_met (own := RX3) (by decide) rfl (Nat.le_of_ble_eq_true rfl) ?_
  intro p e s m args below meth c ls F hr hlk hK S hl
  have hx := F.1
  have hb := F.2.1
  have hl : lv_has ls 5 [(0, .ref (cad E J))] := hl
  unfold fc_X3_laysOpen at h
  refine lv_aload_n hx hb dX3_laysOpen_0 rfl (lv_at hl 0 rfl) ?_
  obtain ⟨g2, e1, h⟩ := bd1_inv h
  refine call_c_X3_ray_X3_117 (by assumption) F hK S e1 hl.1 (Nat.le_of_ble_eq_true rfl) ⟨Nat.le_of_ble_eq_true rfl, Nat.le_of_ble_eq_true rfl⟩ ⟨Nat.zero_le _, Nat.zero_le _⟩ dX3_laysOpen_1 (fun H locs S => ?_)
  refine lv_pop hx hb dX3_laysOpen_4 rfl ?_
  refine lv_aload_n hx hb dX3_laysOpen_5 rfl (lv_at hl 0 rfl) ?_
  refine cg_X3_9 F hK S (by assumption) dX3_laysOpen_6 ?_
  refine lv_astore_n (lv' := [(1, .ref (cca E J)), (0, .ref (cad E J))]) hx hb dX3_laysOpen_9 rfl hl (by decide) rfl (fun ls hl => ?_)
  refine lv_aload_n hx hb dX3_laysOpen_10 rfl (lv_at hl 0 rfl) ?_
  refine c_alenK F hK S (by assumption) dX3_laysOpen_11 ?_
  refine lv_istore_n (lv' := [(2, .int 100), (1, .ref (cca E J)), (0, .ref (cad E J))]) hx hb dX3_laysOpen_12 rfl hl (by decide) rfl (fun ls hl => ?_)
  refine lv_iconst (v := 0) hx hb dX3_laysOpen_13 (by decide) ?_
  refine lv_istore_n (lv' := [(3, .int 0), (2, .int 100), (1, .ref (cca E J)), (0, .ref (cad E J))]) hx hb dX3_laysOpen_14 rfl hl (by decide) rfl (fun ls hl => ?_)
  obtain ⟨g19, e18, h⟩ := bd1_inv h
  refine loop_c_X3_laysOpen_1 E F hr hlk hK hJ _ _ _ _ _ e18 _ _ _ S (lv_sub hl [3, 2, 1, 0] rfl) (fun g19z H locs ls o S hl => ?_)
  cases o
  cases h
  exact g_vret F hr hlk S dX3_laysOpen_67
theorem call_c_X3_laysOpen_X1_71 {p : Program} {l : Launch} {e : Env} {s : State} {m : MethodId} {args : Array Value} {below : List Frame} {meth : Method} {c : Code} {R : Room} {H : Heap} {locs : List Loc} {cells slots pc nL : Nat} {Q : State → Prop} {ls : Array Slot} {rest : List Value} {cc : ByteArray} {E : cEnv} {g : mS} {J : Nat} {gZ : mS} (hJ : okW E J) (F : CallFix p m c cc nL s args lw_all RX1) (hK : cK E s) (S : gS (wA E) s.heap (cP E g) H locs) (h : fc_X3_laysOpen g J = some gZ) (hls : ls.size = nL) (hW : (rest.map fun v => v.category).sum ≤ 8) (hR : rm_c_X3_laysOpen.frames + 1 ≤ R.frames ∧ 8 + (5 + 11) + rm_c_X3_laysOpen.locals ≤ R.locals) (hf : cells ≤ R.cells ∧ slots ≤ R.slots) (hdg : decode cc pc = .ok (.invokevirtual 71, 3))
    (kk : ∀ (H1 : Heap) (locs1 : List Loc), gS (wA E) s.heap (cP E gZ) H1 locs1 → W p l e R s m args below meth c H1 locs1 cells slots Q (F0 m (pc + 3) ls (rest))) : W p l e R s m args below meth c H locs cells slots Q (F0 m pc ls (.ref (cad E J) :: rest)) :=
  g_kv (g_runV F hK (cKm E) S (met_c_X3_laysOpen l E g J hJ gZ h) (cwV 0 F.2.2.2.2 (lw_V q371 q372 q373 q115 q374) rfl rfl rfl (by decide +kernel) hR) (va_recv hK.1 (va_P1 (cAt_w S.1 hJ)) (ci := 3) (q0 := 0) rfl rfl) rfl hls rfl hW hdg hf) S kk
theorem call_c_X3_laysOpen_X10_132 {p : Program} {l : Launch} {e : Env} {s : State} {m : MethodId} {args : Array Value} {below : List Frame} {meth : Method} {c : Code} {R : Room} {H : Heap} {locs : List Loc} {cells slots pc nL : Nat} {Q : State → Prop} {ls : Array Slot} {rest : List Value} {cc : ByteArray} {E : cEnv} {g : mS} {J : Nat} {gZ : mS} (hJ : okW E J) (F : CallFix p m c cc nL s args lw_all RX10) (hK : cK E s) (S : gS (wA E) s.heap (cP E g) H locs) (h : fc_X3_laysOpen g J = some gZ) (hls : ls.size = nL) (hW : (rest.map fun v => v.category).sum ≤ 8) (hR : rm_c_X3_laysOpen.frames + 1 ≤ R.frames ∧ 8 + (5 + 11) + rm_c_X3_laysOpen.locals ≤ R.locals) (hf : cells ≤ R.cells ∧ slots ≤ R.slots) (hdg : decode cc pc = .ok (.invokevirtual 132, 3))
    (kk : ∀ (H1 : Heap) (locs1 : List Loc), gS (wA E) s.heap (cP E gZ) H1 locs1 → W p l e R s m args below meth c H1 locs1 cells slots Q (F0 m (pc + 3) ls (rest))) : W p l e R s m args below meth c H locs cells slots Q (F0 m pc ls (.ref (cad E J) :: rest)) :=
  g_kv (g_runV F hK (cKm E) S (met_c_X3_laysOpen l E g J hJ gZ h) (cwV 0 F.2.2.2.2 (lw_V q1089 q372 q373 q115 q374) rfl rfl rfl (by decide +kernel) hR) (va_recv hK.1 (va_P1 (cAt_w S.1 hJ)) (ci := 3) (q0 := 0) rfl rfl) rfl hls rfl hW hdg hf) S kk
abbrev rm_c_X3_whyNotTurn : Room := { frames := 4, cells := 0, slots := 0, locals := 87 }
def fc_X3_whyNotTurn (g : mS) (J : Nat) (x1 : Int32) : Option (Int32) :=
  bd1 (fc_X3_isOver g J) fun v2 =>
  if v2 = 0 then
    bd1 (ix100 x1) fun v4 =>
    if (isC 6 g J v4) = 0 then
      some 7
    else
      bd1 (ix100 x1) fun v7 =>
      bd1 (ckC 6 g J v7) fun u9 =>
      bd1 (fldC 6 g J v7 2) fun v11 =>
      bd1 (fc_X3_mover g J) fun v14 =>
      if v11 = (3 - v14) then
        some 8
      else
        bd1 (fldC 6 g J v7 3) fun v16 =>
        bd1 ((
          if v16 = 0 then
            some 0
          else
            some 9) : Option (Int32)) fun v19 =>
        some v19
  else
    some 6
set_option maxHeartbeats 4000000 in
set_option maxRecDepth 100000 in
theorem met_c_X3_whyNotTurn (l : Launch) (E : cEnv) (g : mS) (J : Nat) (x1 : Int32) (hJ : okW E J) (r : Int32) (h : fc_X3_whyNotTurn g J x1 = some r) : Met l yX3_whyNotTurn (ws_ yX3_whyNotTurn cX3_whyNotTurn 3 (some .int)) rm_c_X3_whyNotTurn (va_Pc [.ref (cad E J), .int x1] (gPre (cK E) (cP E g))) (gQi r (cP E g) (wA E)) 0 0 (wA E) := by
  refine g_met (own := RX3) (by decide) rfl (Nat.le_of_ble_eq_true rfl) ?_
  intro p e s m args below meth c ls F hr hlk hK S hl
  have hx := F.1
  have hb := F.2.1
  have hl : lv_has ls 3 [(0, .ref (cad E J)), (1, .int x1)] := hl
  unfold fc_X3_whyNotTurn at h
  refine lv_aload_n hx hb dX3_whyNotTurn_0 rfl (lv_at hl 0 rfl) ?_
  obtain ⟨v2, e1, h⟩ := bd1_inv h
  refine call_c_X3_isOver_X3_108 (by assumption) F hK S e1 hl.1 (Nat.le_of_ble_eq_true rfl) ⟨Nat.le_of_ble_eq_true rfl, Nat.le_of_ble_eq_true rfl⟩ ⟨Nat.zero_le _, Nat.zero_le _⟩ dX3_whyNotTurn_1 (fun H locs S => ?_)
  refine lv_if_eq (tgt := 10) hx hb dX3_whyNotTurn_4 (by decide) (fun c3 => ?_) (fun c3 => ?_)
  · rw [if_pos c3] at h
    refine lv_aload_n hx hb dX3_whyNotTurn_10 rfl (lv_at hl 0 rfl) ?_
    refine cg_X3_9 F hK S (by assumption) dX3_whyNotTurn_11 ?_
    refine lv_iload_n hx hb dX3_whyNotTurn_14 rfl (lv_at hl 1 rfl) ?_
    obtain ⟨v4, e5, h⟩ := bd1_inv h
    have hv4 := ix100_lt e5
    refine c_aald F hK S (by assumption) e5 dX3_whyNotTurn_15 ?_
    refine ci_X3_74 F hK S (by assumption) (by assumption) dX3_whyNotTurn_16 ?_
    refine lv_if_ne (tgt := 25) hx hb dX3_whyNotTurn_19 (by decide) (fun c6 => ?_) (fun c6 => ?_)
    · rw [if_neg c6] at h
      refine lv_aload_n hx hb dX3_whyNotTurn_25 rfl (lv_at hl 0 rfl) ?_
      refine cg_X3_9 F hK S (by assumption) dX3_whyNotTurn_26 ?_
      refine lv_iload_n hx hb dX3_whyNotTurn_29 rfl (lv_at hl 1 rfl) ?_
      obtain ⟨v7, e8, h⟩ := bd1_inv h
      have hv7 := ix100_lt e8
      refine c_aald F hK S (by assumption) e8 dX3_whyNotTurn_30 ?_
      obtain ⟨u9, e10, h⟩ := bd1_inv h
      refine cc_X3_74 F hK S (by assumption) (by assumption) e10 dX3_whyNotTurn_31 ?_
      refine lv_astore_n (lv' := [(2, .ref (coa E J v7)), (0, .ref (cad E J)), (1, .int x1)]) hx hb dX3_whyNotTurn_34 rfl hl (by decide) rfl (fun ls hl => ?_)
      refine lv_aload_n hx hb dX3_whyNotTurn_35 rfl (lv_at hl 0 rfl) ?_
      obtain ⟨v11, e12, h⟩ := bd1_inv h
      refine cg_X3_129 F hK S (by assumption) (by assumption) e12 dX3_whyNotTurn_36 ?_
      refine lv_iconst (v := 3) hx hb dX3_whyNotTurn_39 (by decide) ?_
      refine lv_aload_n hx hb dX3_whyNotTurn_40 rfl (lv_at hl 1 rfl) ?_
      obtain ⟨v14, e13, h⟩ := bd1_inv h
      refine call_c_X3_mover_X3_131 (by assumption) F hK S e13 hl.1 (Nat.le_of_ble_eq_true rfl) ⟨Nat.le_of_ble_eq_true rfl, Nat.le_of_ble_eq_true rfl⟩ ⟨Nat.zero_le _, Nat.zero_le _⟩ dX3_whyNotTurn_41 (fun H locs S => ?_)
      refine lv_isub hx hb dX3_whyNotTurn_44 ?_
      refine lv_icmp_ne (tgt := 51) hx hb dX3_whyNotTurn_45 (by decide) (fun c15 => ?_) (fun c15 => ?_)
      · rw [if_neg c15] at h
        refine lv_aload_n hx hb dX3_whyNotTurn_51 rfl (lv_at hl 0 rfl) ?_
        obtain ⟨v16, e17, h⟩ := bd1_inv h
        refine cg_X3_134 F hK S (by assumption) (by assumption) e17 dX3_whyNotTurn_52 ?_
        obtain ⟨v19, hB, h⟩ := bd1_inv h
        have hJ64 : ∀ (H : Heap) (locs : List Loc) (ls : Array Slot), gS (wA E) s.heap (cP E g) H locs → lv_has ls 3 [] → W p l e rm_c_X3_whyNotTurn s m args below meth c H locs 0 0 (MQ below (gQi r (cP E g) (wA E)) args s 0 0 (wA E)) (F0 m 64 ls [.int v19]) := by
          intro H locs ls S hl
          cases h
          exact g_iret F hr hlk S rfl dX3_whyNotTurn_64
        clear h
        have h := hB
        clear hB
        refine lv_if_ne (tgt := 62) hx hb dX3_whyNotTurn_55 (by decide) (fun c18 => ?_) (fun c18 => ?_)
        · rw [if_neg c18] at h
          refine lv_bipush (v := 9) hx hb dX3_whyNotTurn_62 (by decide) ?_
          cases h
          exact hJ64 _ _ _ S (lv_sub hl [] rfl)
        · rw [if_pos c18] at h
          refine lv_iconst (v := 0) hx hb dX3_whyNotTurn_58 (by decide) ?_
          refine lv_goto (tgt := 64) hx hb dX3_whyNotTurn_59 (by decide) ?_
          cases h
          exact hJ64 _ _ _ S (lv_sub hl [] rfl)
      · rw [if_pos c15] at h
        refine lv_bipush (v := 8) hx hb dX3_whyNotTurn_48 (by decide) ?_
        cases h
        exact g_iret F hr hlk S rfl dX3_whyNotTurn_50
    · rw [if_pos c6] at h
      refine lv_bipush (v := 7) hx hb dX3_whyNotTurn_22 (by decide) ?_
      cases h
      exact g_iret F hr hlk S rfl dX3_whyNotTurn_24
  · rw [if_neg c3] at h
    refine lv_bipush (v := 6) hx hb dX3_whyNotTurn_7 (by decide) ?_
    cases h
    exact g_iret F hr hlk S rfl dX3_whyNotTurn_9
theorem call_c_X3_whyNotTurn_X1_199 {p : Program} {l : Launch} {e : Env} {s : State} {m : MethodId} {args : Array Value} {below : List Frame} {meth : Method} {c : Code} {R : Room} {H : Heap} {locs : List Loc} {cells slots pc nL : Nat} {Q : State → Prop} {ls : Array Slot} {rest : List Value} {cc : ByteArray} {E : cEnv} {g : mS} {J : Nat} {x1 : Int32} {r : Int32} (hJ : okW E J) (F : CallFix p m c cc nL s args lw_all RX1) (hK : cK E s) (S : gS (wA E) s.heap (cP E g) H locs) (h : fc_X3_whyNotTurn g J x1 = some r) (hls : ls.size = nL) (hW : (rest.map fun v => v.category).sum ≤ 8) (hR : rm_c_X3_whyNotTurn.frames + 1 ≤ R.frames ∧ 8 + (3 + 11) + rm_c_X3_whyNotTurn.locals ≤ R.locals) (hf : cells ≤ R.cells ∧ slots ≤ R.slots) (hdg : decode cc pc = .ok (.invokevirtual 199, 3))
    (kk : ∀ (H1 : Heap) (locs1 : List Loc), gS (wA E) s.heap (cP E g) H1 locs1 → W p l e R s m args below meth c H1 locs1 cells slots Q (F0 m (pc + 3) ls (.int r :: rest))) : W p l e R s m args below meth c H locs cells slots Q (F0 m pc ls (.int x1 :: .ref (cad E J) :: rest)) :=
  g_ki (g_runV F hK (cKm E) S (met_c_X3_whyNotTurn l E g J x1 hJ r h) (cwV 1 F.2.2.2.2 (lw_V q1599 q1091 q1092 q115 q1093) rfl rfl rfl (by decide +kernel) hR) (va_recv hK.1 (va_P1 (cAt_w S.1 hJ)) (ci := 3) (q0 := 0) rfl rfl) rfl hls rfl hW hdg hf) S kk
theorem call_c_X3_whyNotTurn_X10_135 {p : Program} {l : Launch} {e : Env} {s : State} {m : MethodId} {args : Array Value} {below : List Frame} {meth : Method} {c : Code} {R : Room} {H : Heap} {locs : List Loc} {cells slots pc nL : Nat} {Q : State → Prop} {ls : Array Slot} {rest : List Value} {cc : ByteArray} {E : cEnv} {g : mS} {J : Nat} {x1 : Int32} {r : Int32} (hJ : okW E J) (F : CallFix p m c cc nL s args lw_all RX10) (hK : cK E s) (S : gS (wA E) s.heap (cP E g) H locs) (h : fc_X3_whyNotTurn g J x1 = some r) (hls : ls.size = nL) (hW : (rest.map fun v => v.category).sum ≤ 8) (hR : rm_c_X3_whyNotTurn.frames + 1 ≤ R.frames ∧ 8 + (3 + 11) + rm_c_X3_whyNotTurn.locals ≤ R.locals) (hf : cells ≤ R.cells ∧ slots ≤ R.slots) (hdg : decode cc pc = .ok (.invokevirtual 135, 3))
    (kk : ∀ (H1 : Heap) (locs1 : List Loc), gS (wA E) s.heap (cP E g) H1 locs1 → W p l e R s m args below meth c H1 locs1 cells slots Q (F0 m (pc + 3) ls (.int r :: rest))) : W p l e R s m args below meth c H locs cells slots Q (F0 m pc ls (.int x1 :: .ref (cad E J) :: rest)) :=
  g_ki (g_runV F hK (cKm E) S (met_c_X3_whyNotTurn l E g J x1 hJ r h) (cwV 1 F.2.2.2.2 (lw_V q1090 q1091 q1092 q115 q1093) rfl rfl rfl (by decide +kernel) hR) (va_recv hK.1 (va_P1 (cAt_w S.1 hJ)) (ci := 3) (q0 := 0) rfl rfl) rfl hls rfl hW hdg hf) S kk
abbrev rm_c_X3_canTurn : Room := { frames := 1, cells := 0, slots := 0, locals := 21 }
def Lc_X3_canTurn_1 (J : Nat) : Nat → mS → Int32 → Int32 → Option (Int32 ⊕ Unit)
  | 0, _, _, _ => none
  | n + 1, g, y2, y3 =>
    if y2 ≤ y3 then
      some (.inr ())
    else
      bd1 (ix100 y3) fun v2 =>
      if (isC 6 g J v2) = 0 then
        Lc_X3_canTurn_1 J n g y2 (y3 + 1)
      else
        bd1 (ckC 6 g J v2) fun u5 =>
        bd1 (fc_X3_mover g J) fun v8 =>
        bd1 (ckC 6 g J v2) fun u9 =>
        bd1 (fc_X7_isFor g J v2 v8) fun v12 =>
        if v12 = 0 then
          Lc_X3_canTurn_1 J n g y2 (y3 + 1)
        else
          some (.inl 1)
def fc_X3_canTurn (g : mS) (J : Nat)  : Option (Int32) :=
  bs0 (Lc_X3_canTurn_1 J FUEL g 100 0) some <|
  some 0
set_option maxHeartbeats 4000000 in
set_option maxRecDepth 100000 in
theorem loop_c_X3_canTurn_1 {p : Program} {l : Launch} {e : Env} {s : State} {m : MethodId} {args : Array Value} {below : List Frame} {meth : Method} {c : Code} (E : cEnv) {J : Nat} (F : CallFix p m c cX3_canTurn 5 s args lw_all RX3) (hr : meth.sig.returnType = some .boolean) (hlk : meth.locks = false) (hK : cK E s) (hJ : okW E J) {r0 : Int32} {g : mS} : ∀ (n : Nat) (y2 : Int32) (y3 : Int32) (o : Int32 ⊕ Unit), Lc_X3_canTurn_1 J n g y2 y3 = some o → ∀ (H : Heap) (locs : List Loc) (ls : Array Slot), gS (wA E) s.heap (cP E g) H locs → lv_has ls 5 [(0, .ref (cad E J)), (1, .ref (cca E J)), (2, .int y2), (3, .int y3)] → (∀ rz, o = .inl rz → rz = r0) → (∀ (H : Heap) (locs : List Loc) (ls : Array Slot), o = .inr () → gS (wA E) s.heap (cP E g) H locs → lv_has ls 5 [] → W p l e rm_c_X3_canTurn s m args below meth c H locs 0 0 (MQ below (gQi r0 (cP E g) (wA E)) args s 0 0 (wA E)) (F0 m 51 ls [])) → W p l e rm_c_X3_canTurn s m args below meth c H locs 0 0 (MQ below (gQi r0 (cP E g) (wA E)) args s 0 0 (wA E)) (F0 m 10 ls []) := by
  have hx := F.1
  have hb := F.2.1
  intro n
  induction n with
  | zero =>
    intro y2 y3 o h
    rw [Lc_X3_canTurn_1] at h
    cases h
  | succ n ih =>
    intro y2 y3 o h H locs ls S hl kr kx
    rw [Lc_X3_canTurn_1] at h
    refine lv_iload_n hx hb dX3_canTurn_10 rfl (lv_at hl 3 rfl) ?_
    refine lv_iload_n hx hb dX3_canTurn_11 rfl (lv_at hl 2 rfl) ?_
    refine lv_icmp_ge (tgt := 51) hx hb dX3_canTurn_12 (by decide) (fun c1 => ?_) (fun c1 => ?_)
    · rw [if_pos c1] at h
      cases h
      exact kx  _ _ _ rfl S (lv_sub hl [] rfl)
    · rw [if_neg c1] at h
      refine lv_aload_n hx hb dX3_canTurn_15 rfl (lv_at hl 1 rfl) ?_
      refine lv_iload_n hx hb dX3_canTurn_16 rfl (lv_at hl 3 rfl) ?_
      obtain ⟨v2, e3, h⟩ := bd1_inv h
      have hv2 := ix100_lt e3
      refine c_aald F hK S (by assumption) e3 dX3_canTurn_17 ?_
      refine lv_astore (lv' := [(4, .ref (coa E J v2)), (0, .ref (cad E J)), (1, .ref (cca E J)), (2, .int y2), (3, .int y3)]) hx hb dX3_canTurn_18 hl (by decide) rfl (fun ls hl => ?_)
      refine lv_aload hx hb dX3_canTurn_20 (lv_at hl 0 rfl) ?_
      refine ci_X3_74 F hK S (by assumption) (by assumption) dX3_canTurn_22 ?_
      refine lv_if_eq (tgt := 45) hx hb dX3_canTurn_25 (by decide) (fun c4 => ?_) (fun c4 => ?_)
      · rw [if_pos c4] at h
        refine lv_iinc (v := (y3 + 1)) (lv' := [(3, .int (y3 + 1)), (4, .ref (coa E J v2)), (0, .ref (cad E J)), (1, .ref (cca E J)), (2, .int y2)]) hx hb dX3_canTurn_45 hl (k := 4) rfl rfl (by decide) rfl (fun ls hl => ?_)
        refine lv_goto (tgt := 10) hx hb dX3_canTurn_48 (by decide) ?_
        exact ih _ _ _ h _ _ _ S (lv_sub hl [2, 3, 4, 0] rfl) kr kx
      · rw [if_neg c4] at h
        refine lv_aload hx hb dX3_canTurn_28 (lv_at hl 0 rfl) ?_
        obtain ⟨u5, e6, h⟩ := bd1_inv h
        refine cc_X3_74 F hK S (by assumption) (by assumption) e6 dX3_canTurn_30 ?_
        refine lv_aload_n hx hb dX3_canTurn_33 rfl (lv_at hl 1 rfl) ?_
        obtain ⟨v8, e7, h⟩ := bd1_inv h
        refine call_c_X3_mover_X3_131 (by assumption) F hK S e7 hl.1 (Nat.le_of_ble_eq_true rfl) ⟨Nat.le_of_ble_eq_true rfl, Nat.le_of_ble_eq_true rfl⟩ ⟨Nat.zero_le _, Nat.zero_le _⟩ dX3_canTurn_34 (fun H locs S => ?_)
        obtain ⟨u9, e10, h⟩ := bd1_inv h
        obtain ⟨v12, e11, h⟩ := bd1_inv h
        refine call_c_X7_isFor_X3_135 (by assumption) (by assumption) (if_inv e10).1 F hK S e11 hl.1 (Nat.le_of_ble_eq_true rfl) ⟨Nat.le_of_ble_eq_true rfl, Nat.le_of_ble_eq_true rfl⟩ ⟨Nat.zero_le _, Nat.zero_le _⟩ dX3_canTurn_37 (fun H locs S => ?_)
        refine lv_if_eq (tgt := 45) hx hb dX3_canTurn_40 (by decide) (fun c13 => ?_) (fun c13 => ?_)
        · rw [if_pos c13] at h
          refine lv_iinc (v := (y3 + 1)) (lv' := [(3, .int (y3 + 1)), (4, .ref (coa E J v2)), (0, .ref (cad E J)), (1, .ref (cca E J)), (2, .int y2)]) hx hb dX3_canTurn_45 hl (k := 4) rfl rfl (by decide) rfl (fun ls hl => ?_)
          refine lv_goto (tgt := 10) hx hb dX3_canTurn_48 (by decide) ?_
          exact ih _ _ _ h _ _ _ S (lv_sub hl [2, 3, 4, 0] rfl) kr kx
        · rw [if_neg c13] at h
          refine lv_iconst (v := 1) hx hb dX3_canTurn_43 (by decide) ?_
          have hq := kr _ (Option.some.inj h).symm
          subst hq
          exact g_zret F hr hlk S zN_1 dX3_canTurn_44
set_option maxHeartbeats 4000000 in
set_option maxRecDepth 100000 in
theorem met_c_X3_canTurn (l : Launch) (E : cEnv) (g : mS) (J : Nat) (hJ : okW E J) (r : Int32) (h : fc_X3_canTurn g J = some r) : Met l yX3_canTurn (ws_ yX3_canTurn cX3_canTurn 5 (some .boolean)) rm_c_X3_canTurn (va_Pc [.ref (cad E J)] (gPre (cK E) (cP E g))) (gQi r (cP E g) (wA E)) 0 0 (wA E) := by
  refine g_met (own := RX3) (by decide) rfl (Nat.le_of_ble_eq_true rfl) ?_
  intro p e s m args below meth c ls F hr hlk hK S hl
  have hx := F.1
  have hb := F.2.1
  have hl : lv_has ls 5 [(0, .ref (cad E J))] := hl
  unfold fc_X3_canTurn at h
  refine lv_aload_n hx hb dX3_canTurn_0 rfl (lv_at hl 0 rfl) ?_
  refine cg_X3_9 F hK S (by assumption) dX3_canTurn_1 ?_
  refine lv_astore_n (lv' := [(1, .ref (cca E J)), (0, .ref (cad E J))]) hx hb dX3_canTurn_4 rfl hl (by decide) rfl (fun ls hl => ?_)
  refine lv_aload_n hx hb dX3_canTurn_5 rfl (lv_at hl 0 rfl) ?_
  refine c_alenK F hK S (by assumption) dX3_canTurn_6 ?_
  refine lv_istore_n (lv' := [(2, .int 100), (1, .ref (cca E J)), (0, .ref (cad E J))]) hx hb dX3_canTurn_7 rfl hl (by decide) rfl (fun ls hl => ?_)
  refine lv_iconst (v := 0) hx hb dX3_canTurn_8 (by decide) ?_
  refine lv_istore_n (lv' := [(3, .int 0), (2, .int 100), (1, .ref (cca E J)), (0, .ref (cad E J))]) hx hb dX3_canTurn_9 rfl hl (by decide) rfl (fun ls hl => ?_)
  rcases bs0_inv h with ⟨r15, e14, h⟩ | ⟨e14, h⟩
  · exact loop_c_X3_canTurn_1 E F hr hlk hK hJ _ _ _ _ e14 _ _ _ S (lv_sub hl [3, 2, 1, 0] rfl) (fun rz o => by cases o; exact Option.some.inj h) (fun  H locs ls o S hl => by cases o)
  · refine loop_c_X3_canTurn_1 E F hr hlk hK hJ _ _ _ _ e14 _ _ _ S (lv_sub hl [3, 2, 1, 0] rfl) (fun rz o => by cases o) (fun  H locs ls o S hl => ?_)
    cases o
    refine lv_iconst (v := 0) hx hb dX3_canTurn_51 (by decide) ?_
    cases h
    exact g_zret F hr hlk S zN_0 dX3_canTurn_52
theorem call_c_X3_canTurn_X1_209 {p : Program} {l : Launch} {e : Env} {s : State} {m : MethodId} {args : Array Value} {below : List Frame} {meth : Method} {c : Code} {R : Room} {H : Heap} {locs : List Loc} {cells slots pc nL : Nat} {Q : State → Prop} {ls : Array Slot} {rest : List Value} {cc : ByteArray} {E : cEnv} {g : mS} {J : Nat} {r : Int32} (hJ : okW E J) (F : CallFix p m c cc nL s args lw_all RX1) (hK : cK E s) (S : gS (wA E) s.heap (cP E g) H locs) (h : fc_X3_canTurn g J = some r) (hls : ls.size = nL) (hW : (rest.map fun v => v.category).sum ≤ 8) (hR : rm_c_X3_canTurn.frames + 1 ≤ R.frames ∧ 8 + (5 + 11) + rm_c_X3_canTurn.locals ≤ R.locals) (hf : cells ≤ R.cells ∧ slots ≤ R.slots) (hdg : decode cc pc = .ok (.invokevirtual 209, 3))
    (kk : ∀ (H1 : Heap) (locs1 : List Loc), gS (wA E) s.heap (cP E g) H1 locs1 → W p l e R s m args below meth c H1 locs1 cells slots Q (F0 m (pc + 3) ls (.int r :: rest))) : W p l e R s m args below meth c H locs cells slots Q (F0 m pc ls (.ref (cad E J) :: rest)) :=
  g_ki (g_runV F hK (cKm E) S (met_c_X3_canTurn l E g J hJ r h) (cwV 0 F.2.2.2.2 (lw_V q1288 q1289 q1290 q115 q1291) rfl rfl rfl (by decide +kernel) hR) (va_recv hK.1 (va_P1 (cAt_w S.1 hJ)) (ci := 3) (q0 := 0) rfl rfl) rfl hls rfl hW hdg hf) S kk
theorem call_c_X3_canTurn_X3_153 {p : Program} {l : Launch} {e : Env} {s : State} {m : MethodId} {args : Array Value} {below : List Frame} {meth : Method} {c : Code} {R : Room} {H : Heap} {locs : List Loc} {cells slots pc nL : Nat} {Q : State → Prop} {ls : Array Slot} {rest : List Value} {cc : ByteArray} {E : cEnv} {g : mS} {J : Nat} {r : Int32} (hJ : okW E J) (F : CallFix p m c cc nL s args lw_all RX3) (hK : cK E s) (S : gS (wA E) s.heap (cP E g) H locs) (h : fc_X3_canTurn g J = some r) (hls : ls.size = nL) (hW : (rest.map fun v => v.category).sum ≤ 8) (hR : rm_c_X3_canTurn.frames + 1 ≤ R.frames ∧ 8 + (5 + 11) + rm_c_X3_canTurn.locals ≤ R.locals) (hf : cells ≤ R.cells ∧ slots ≤ R.slots) (hdg : decode cc pc = .ok (.invokevirtual 153, 3))
    (kk : ∀ (H1 : Heap) (locs1 : List Loc), gS (wA E) s.heap (cP E g) H1 locs1 → W p l e R s m args below meth c H1 locs1 cells slots Q (F0 m (pc + 3) ls (.int r :: rest))) : W p l e R s m args below meth c H locs cells slots Q (F0 m pc ls (.ref (cad E J) :: rest)) :=
  g_ki (g_runV F hK (cKm E) S (met_c_X3_canTurn l E g J hJ r h) (cwV 0 F.2.2.2.2 (lw_V q1785 q1289 q1290 q115 q1291) rfl rfl rfl (by decide +kernel) hR) (va_recv hK.1 (va_P1 (cAt_w S.1 hJ)) (ci := 3) (q0 := 0) rfl rfl) rfl hls rfl hW hdg hf) S kk
abbrev rm_c_X3_opens : Room := { frames := 7, cells := 0, slots := 0, locals := 155 }
def Lc_X3_opens_1 (J : Nat) : Nat → mS → Int32 → Int32 → Int32 → Option (Int32 × mS)
  | 0, _, _, _, _ => none
  | n + 1, g, y1, y3, y4 =>
    if y3 ≤ y4 then
      some (y1, g)
    else
      bd1 (ix100 y4) fun v4 =>
      bd2 ((
        if (isC 7 g J v4) = 0 then
          some (y1, g)
        else
          bd1 (ckC 7 g J v4) fun u7 =>
          bd1 (ckC 7 g J v4) fun u9 =>
          bd1 (fc_X8_isOpen g J v4) fun v12 =>
          if v12 = 0 then
            bd1 (fc_X2_lights g (nI v4)) fun v15 =>
            if v15 = 0 then
              some (y1, g)
            else
              bd1 (ckC 7 g J v4) fun u17 =>
              bd1 (wrC 7 g J v4 5 (g J 4)) fun g19 =>
              some ((y1 + 1), g19)
          else
            some (y1, g)) : Option (Int32 × mS)) fun v21 g22 =>
      Lc_X3_opens_1 J n g22 v21 y3 (y4 + 1)
def fc_X3_opens (g : mS) (J : Nat)  : Option (Int32 × mS) :=
  bd1 (fc_X3_ray g J) fun g2 =>
  bd2 (Lc_X3_opens_1 J FUEL g2 0 100 0) fun v25 g26 =>
  some (v25, g26)
set_option maxHeartbeats 4000000 in
set_option maxRecDepth 100000 in
theorem loop_c_X3_opens_1 {p : Program} {l : Launch} {e : Env} {s : State} {m : MethodId} {args : Array Value} {below : List Frame} {meth : Method} {c : Code} (E : cEnv) {J : Nat} (F : CallFix p m c cX3_opens 6 s args lw_all RX3) (hr : meth.sig.returnType = some .int) (hlk : meth.locks = false) (hK : cK E s) (hJ : okW E J) {Q : State → Prop} : ∀ (n : Nat) (g : mS) (y1 : Int32) (y3 : Int32) (y4 : Int32) (o : Int32 × mS), Lc_X3_opens_1 J n g y1 y3 y4 = some o → ∀ (H : Heap) (locs : List Loc) (ls : Array Slot), gS (wA E) s.heap (cP E g) H locs → lv_has ls 6 [(0, .ref (cad E J)), (1, .int y1), (2, .ref (cca E J)), (3, .int y3), (4, .int y4)] → (∀ (w1 : Int32) (gx : mS) (H : Heap) (locs : List Loc) (ls : Array Slot), o = (w1, gx) → gS (wA E) s.heap (cP E gx) H locs → lv_has ls 6 [(1, .int w1)] → W p l e rm_c_X3_opens s m args below meth c H locs 0 0 Q (F0 m 85 ls [])) → W p l e rm_c_X3_opens s m args below meth c H locs 0 0 Q (F0 m 18 ls []) := by
  have hx := F.1
  have hb := F.2.1
  intro n
  induction n with
  | zero =>
    intro g y1 y3 y4 o h
    rw [Lc_X3_opens_1] at h
    cases h
  | succ n ih =>
    intro g y1 y3 y4 o h H locs ls S hl kx
    rw [Lc_X3_opens_1] at h
    refine lv_iload hx hb dX3_opens_18 (lv_at hl 4 rfl) ?_
    refine lv_iload_n hx hb dX3_opens_20 rfl (lv_at hl 3 rfl) ?_
    refine lv_icmp_ge (tgt := 85) hx hb dX3_opens_21 (by decide) (fun c3 => ?_) (fun c3 => ?_)
    · rw [if_pos c3] at h
      cases h
      exact kx _ _ _ _ _ rfl S (lv_sub hl [1] rfl)
    · rw [if_neg c3] at h
      refine lv_aload_n hx hb dX3_opens_24 rfl (lv_at hl 2 rfl) ?_
      refine lv_iload hx hb dX3_opens_25 (lv_at hl 4 rfl) ?_
      obtain ⟨v4, e5, h⟩ := bd1_inv h
      have hv4 := ix100_lt e5
      refine c_aald F hK S (by assumption) e5 dX3_opens_27 ?_
      refine lv_astore (lv' := [(5, .ref (coa E J v4)), (0, .ref (cad E J)), (1, .int y1), (2, .ref (cca E J)), (3, .int y3), (4, .int y4)]) hx hb dX3_opens_28 hl (by decide) rfl (fun ls hl => ?_)
      refine lv_aload hx hb dX3_opens_30 (lv_at hl 0 rfl) ?_
      refine ci_X3_76 F hK S (by assumption) (by assumption) dX3_opens_32 ?_
      obtain ⟨v21, g22, hB, h⟩ := bd2_inv h
      have hJ79 : ∀ (H : Heap) (locs : List Loc) (ls : Array Slot), gS (wA E) s.heap (cP E g22) H locs → lv_has ls 6 [(0, .ref (cad E J)), (1, .int v21), (2, .ref (cca E J)), (3, .int y3), (4, .int y4)] → W p l e rm_c_X3_opens s m args below meth c H locs 0 0 Q (F0 m 79 ls []) := by
        intro H locs ls S hl
        refine lv_iinc (v := (y4 + 1)) (lv' := [(4, .int (y4 + 1)), (0, .ref (cad E J)), (1, .int v21), (2, .ref (cca E J)), (3, .int y3)]) hx hb dX3_opens_79 hl (k := 4) rfl rfl (by decide) rfl (fun ls hl => ?_)
        refine lv_goto (tgt := 18) hx hb dX3_opens_82 (by decide) ?_
        exact ih _ _ _ _ _ h _ _ _ S (lv_sub hl [1, 2, 3, 4, 0] rfl) kx
      clear h
      have h := hB
      clear hB
      refine lv_if_eq (tgt := 79) hx hb dX3_opens_35 (by decide) (fun c6 => ?_) (fun c6 => ?_)
      · rw [if_pos c6] at h
        cases h
        exact hJ79 _ _ _ S (lv_sub hl [1, 2, 3, 4, 5] rfl)
      · rw [if_neg c6] at h
        refine lv_aload hx hb dX3_opens_38 (lv_at hl 0 rfl) ?_
        obtain ⟨u7, e8, h⟩ := bd1_inv h
        refine cc_X3_76 F hK S (by assumption) (by assumption) e8 dX3_opens_40 ?_
        obtain ⟨u9, e10, h⟩ := bd1_inv h
        obtain ⟨v12, e11, h⟩ := bd1_inv h
        refine call_c_X8_isOpen_X3_93 (by assumption) (by assumption) (if_inv e10).1 F hK S e11 hl.1 (Nat.le_of_ble_eq_true rfl) ⟨Nat.le_of_ble_eq_true rfl, Nat.le_of_ble_eq_true rfl⟩ ⟨Nat.zero_le _, Nat.zero_le _⟩ dX3_opens_43 (fun H locs S => ?_)
        refine lv_if_ne (tgt := 79) hx hb dX3_opens_46 (by decide) (fun c13 => ?_) (fun c13 => ?_)
        · rw [if_neg c13] at h
          cases h
          exact hJ79 _ _ _ S (lv_sub hl [1, 2, 3, 4, 5] rfl)
        · rw [if_pos c13] at h
          refine lv_aload_n hx hb dX3_opens_49 rfl (lv_at hl 1 rfl) ?_
          refine cg_X3_34 F hK S (by assumption) dX3_opens_50 ?_
          refine lv_aload hx hb dX3_opens_53 (lv_at hl 0 rfl) ?_
          refine cg_X3_120 F hK S (by assumption) (by assumption) dX3_opens_55 ?_
          obtain ⟨v15, e14, h⟩ := bd1_inv h
          refine call_c_X2_lights_X3_123 F hK S e14 hl.1 (Nat.le_of_ble_eq_true rfl) ⟨Nat.le_of_ble_eq_true rfl, Nat.le_of_ble_eq_true rfl⟩ ⟨Nat.zero_le _, Nat.zero_le _⟩ dX3_opens_58 (fun H locs S => ?_)
          refine lv_if_eq (tgt := 79) hx hb dX3_opens_61 (by decide) (fun c16 => ?_) (fun c16 => ?_)
          · rw [if_pos c16] at h
            cases h
            exact hJ79 _ _ _ S (lv_sub hl [1, 2, 3, 4, 5] rfl)
          · rw [if_neg c16] at h
            refine lv_aload hx hb dX3_opens_64 (lv_at hl 0 rfl) ?_
            obtain ⟨u17, e18, h⟩ := bd1_inv h
            refine cc_X3_76 F hK S (by assumption) (by assumption) e18 dX3_opens_66 ?_
            refine lv_aload_n hx hb dX3_opens_69 rfl (lv_at hl 1 rfl) ?_
            refine cg_X3_54 F hK S (by assumption) dX3_opens_70 ?_
            obtain ⟨g19, e20, h⟩ := bd1_inv h
            refine cw_X3_126 F hK S (by assumption) (by assumption) e20 dX3_opens_73 (fun H locs S => ?_)
            refine lv_iinc (v := (y1 + 1)) (lv' := [(1, .int (y1 + 1)), (5, .ref (coa E J v4)), (0, .ref (cad E J)), (2, .ref (cca E J)), (3, .int y3), (4, .int y4)]) hx hb dX3_opens_76 hl (k := 2) rfl rfl (by decide) rfl (fun ls hl => ?_)
            cases h
            exact hJ79 _ _ _ S (lv_sub hl [2, 0, 3, 4, 5] rfl)
set_option maxHeartbeats 4000000 in
set_option maxRecDepth 100000 in
theorem met_c_X3_opens (l : Launch) (E : cEnv) (g : mS) (J : Nat) (hJ : okW E J) (r : Int32) (gZ : mS) (h : fc_X3_opens g J = some (r, gZ)) : Met l yX3_opens (ws_ yX3_opens cX3_opens 6 (some .int)) rm_c_X3_opens (va_Pc [.ref (cad E J)] (gPre (cK E) (cP E g))) (gQi r (cP E gZ) (wA E)) 0 0 (wA E) := by
  refine g_met (own := RX3) (by decide) rfl (Nat.le_of_ble_eq_true rfl) ?_
  intro p e s m args below meth c ls F hr hlk hK S hl
  have hx := F.1
  have hb := F.2.1
  have hl : lv_has ls 6 [(0, .ref (cad E J))] := hl
  unfold fc_X3_opens at h
  refine lv_aload_n hx hb dX3_opens_0 rfl (lv_at hl 0 rfl) ?_
  obtain ⟨g2, e1, h⟩ := bd1_inv h
  refine call_c_X3_ray_X3_117 (by assumption) F hK S e1 hl.1 (Nat.le_of_ble_eq_true rfl) ⟨Nat.le_of_ble_eq_true rfl, Nat.le_of_ble_eq_true rfl⟩ ⟨Nat.zero_le _, Nat.zero_le _⟩ dX3_opens_1 (fun H locs S => ?_)
  refine lv_pop hx hb dX3_opens_4 rfl ?_
  refine lv_iconst (v := 0) hx hb dX3_opens_5 (by decide) ?_
  refine lv_istore_n (lv' := [(1, .int 0), (0, .ref (cad E J))]) hx hb dX3_opens_6 rfl hl (by decide) rfl (fun ls hl => ?_)
  refine lv_aload_n hx hb dX3_opens_7 rfl (lv_at hl 1 rfl) ?_
  refine cg_X3_9 F hK S (by assumption) dX3_opens_8 ?_
  refine lv_astore_n (lv' := [(2, .ref (cca E J)), (1, .int 0), (0, .ref (cad E J))]) hx hb dX3_opens_11 rfl hl (by decide) rfl (fun ls hl => ?_)
  refine lv_aload_n hx hb dX3_opens_12 rfl (lv_at hl 0 rfl) ?_
  refine c_alenK F hK S (by assumption) dX3_opens_13 ?_
  refine lv_istore_n (lv' := [(3, .int 100), (2, .ref (cca E J)), (1, .int 0), (0, .ref (cad E J))]) hx hb dX3_opens_14 rfl hl (by decide) rfl (fun ls hl => ?_)
  refine lv_iconst (v := 0) hx hb dX3_opens_15 (by decide) ?_
  refine lv_istore (lv' := [(4, .int 0), (3, .int 100), (2, .ref (cca E J)), (1, .int 0), (0, .ref (cad E J))]) hx hb dX3_opens_16 hl (by decide) rfl (fun ls hl => ?_)
  obtain ⟨v25, g26, e24, h⟩ := bd2_inv h
  refine loop_c_X3_opens_1 E F hr hlk hK hJ _ _ _ _ _ _ e24 _ _ _ S (lv_sub hl [4, 3, 2, 1, 0] rfl) (fun v25z g26z H locs ls o S hl => ?_)
  cases o
  refine lv_iload_n hx hb dX3_opens_85 rfl (lv_at hl 0 rfl) ?_
  cases h
  exact g_iret F hr hlk S rfl dX3_opens_86
theorem call_c_X3_opens_X3_150 {p : Program} {l : Launch} {e : Env} {s : State} {m : MethodId} {args : Array Value} {below : List Frame} {meth : Method} {c : Code} {R : Room} {H : Heap} {locs : List Loc} {cells slots pc nL : Nat} {Q : State → Prop} {ls : Array Slot} {rest : List Value} {cc : ByteArray} {E : cEnv} {g : mS} {J : Nat} {r : Int32} {gZ : mS} (hJ : okW E J) (F : CallFix p m c cc nL s args lw_all RX3) (hK : cK E s) (S : gS (wA E) s.heap (cP E g) H locs) (h : fc_X3_opens g J = some (r, gZ)) (hls : ls.size = nL) (hW : (rest.map fun v => v.category).sum ≤ 8) (hR : rm_c_X3_opens.frames + 1 ≤ R.frames ∧ 8 + (6 + 11) + rm_c_X3_opens.locals ≤ R.locals) (hf : cells ≤ R.cells ∧ slots ≤ R.slots) (hdg : decode cc pc = .ok (.invokevirtual 150, 3))
    (kk : ∀ (H1 : Heap) (locs1 : List Loc), gS (wA E) s.heap (cP E gZ) H1 locs1 → W p l e R s m args below meth c H1 locs1 cells slots Q (F0 m (pc + 3) ls (.int r :: rest))) : W p l e R s m args below meth c H locs cells slots Q (F0 m pc ls (.ref (cad E J) :: rest)) :=
  g_ki (g_runV F hK (cKm E) S (met_c_X3_opens l E g J hJ r gZ h) (cwV 0 F.2.2.2.2 (lw_V q1138 q1140 qs20 q115 q1141) rfl rfl rfl (by decide +kernel) hR) (va_recv hK.1 (va_P1 (cAt_w S.1 hJ)) (ci := 3) (q0 := 0) rfl rfl) rfl hls rfl hW hdg hf) S kk
abbrev rm_c_X3_hits : Room := { frames := 7, cells := 0, slots := 0, locals := 155 }
def Lc_X3_hits_1 (J : Nat) : Nat → mS → Int32 → Int32 → Int32 → Int32 → Option (Int32)
  | 0, _, _, _, _, _ => none
  | n + 1, g, y1, y2, y4, y5 =>
    if y4 ≤ y5 then
      some y1
    else
      bd1 (ix100 y5) fun v4 =>
      bd2 ((
        if (isC 7 g J v4) = 0 then
          some (y1, y2)
        else
          bd1 (fc_X2_lights g (nI v4)) fun v8 =>
          bd1 ((
            if v8 = 0 then
              some 0
            else
              some (1 <<< (y2 &&& 31))) : Option (Int32)) fun v10 =>
          some ((y1 ||| v10), (y2 + 1))) : Option (Int32 × Int32)) fun v12 v13 =>
      Lc_X3_hits_1 J n g v12 v13 y4 (y5 + 1)
def fc_X3_hits (g : mS) (J : Nat)  : Option (Int32 × mS) :=
  bd1 (fc_X3_ray g J) fun g2 =>
  bd1 (Lc_X3_hits_1 J FUEL g2 0 0 100 0) fun v16 =>
  some (v16, g2)
set_option maxHeartbeats 4000000 in
set_option maxRecDepth 100000 in
theorem loop_c_X3_hits_1 {p : Program} {l : Launch} {e : Env} {s : State} {m : MethodId} {args : Array Value} {below : List Frame} {meth : Method} {c : Code} (E : cEnv) {J : Nat} (F : CallFix p m c cX3_hits 7 s args lw_all RX3) (hr : meth.sig.returnType = some .int) (hlk : meth.locks = false) (hK : cK E s) (hJ : okW E J) {Q : State → Prop} : ∀ (n : Nat) (g : mS) (y1 : Int32) (y2 : Int32) (y4 : Int32) (y5 : Int32) (o : Int32), Lc_X3_hits_1 J n g y1 y2 y4 y5 = some o → ∀ (H : Heap) (locs : List Loc) (ls : Array Slot), gS (wA E) s.heap (cP E g) H locs → lv_has ls 7 [(0, .ref (cad E J)), (1, .int y1), (2, .int y2), (3, .ref (cca E J)), (4, .int y4), (5, .int y5)] → (∀ (w1 : Int32) (H : Heap) (locs : List Loc) (ls : Array Slot), o = w1 → gS (wA E) s.heap (cP E g) H locs → lv_has ls 7 [(1, .int w1)] → W p l e rm_c_X3_hits s m args below meth c H locs 0 0 Q (F0 m 76 ls [])) → W p l e rm_c_X3_hits s m args below meth c H locs 0 0 Q (F0 m 21 ls []) := by
  have hx := F.1
  have hb := F.2.1
  intro n
  induction n with
  | zero =>
    intro g y1 y2 y4 y5 o h
    rw [Lc_X3_hits_1] at h
    cases h
  | succ n ih =>
    intro g y1 y2 y4 y5 o h H locs ls S hl kx
    rw [Lc_X3_hits_1] at h
    refine lv_iload hx hb dX3_hits_21 (lv_at hl 5 rfl) ?_
    refine lv_iload hx hb dX3_hits_23 (lv_at hl 4 rfl) ?_
    refine lv_icmp_ge (tgt := 76) hx hb dX3_hits_25 (by decide) (fun c3 => ?_) (fun c3 => ?_)
    · rw [if_pos c3] at h
      cases h
      exact kx _ _ _ _ rfl S (lv_sub hl [1] rfl)
    · rw [if_neg c3] at h
      refine lv_aload_n hx hb dX3_hits_28 rfl (lv_at hl 3 rfl) ?_
      refine lv_iload hx hb dX3_hits_29 (lv_at hl 5 rfl) ?_
      obtain ⟨v4, e5, h⟩ := bd1_inv h
      have hv4 := ix100_lt e5
      refine c_aald F hK S (by assumption) e5 dX3_hits_31 ?_
      refine lv_astore (lv' := [(6, .ref (coa E J v4)), (0, .ref (cad E J)), (1, .int y1), (2, .int y2), (3, .ref (cca E J)), (4, .int y4), (5, .int y5)]) hx hb dX3_hits_32 hl (by decide) rfl (fun ls hl => ?_)
      refine lv_aload hx hb dX3_hits_34 (lv_at hl 0 rfl) ?_
      refine ci_X3_76 F hK S (by assumption) (by assumption) dX3_hits_36 ?_
      obtain ⟨v12, v13, hB, h⟩ := bd2_inv h
      have hJ70 : ∀ (H : Heap) (locs : List Loc) (ls : Array Slot), gS (wA E) s.heap (cP E g) H locs → lv_has ls 7 [(0, .ref (cad E J)), (1, .int v12), (2, .int v13), (3, .ref (cca E J)), (4, .int y4), (5, .int y5)] → W p l e rm_c_X3_hits s m args below meth c H locs 0 0 Q (F0 m 70 ls []) := by
        intro H locs ls S hl
        refine lv_iinc (v := (y5 + 1)) (lv' := [(5, .int (y5 + 1)), (0, .ref (cad E J)), (1, .int v12), (2, .int v13), (3, .ref (cca E J)), (4, .int y4)]) hx hb dX3_hits_70 hl (k := 5) rfl rfl (by decide) rfl (fun ls hl => ?_)
        refine lv_goto (tgt := 21) hx hb dX3_hits_73 (by decide) ?_
        exact ih _ _ _ _ _ _ h _ _ _ S (lv_sub hl [1, 2, 3, 4, 5, 0] rfl) kx
      clear h
      have h := hB
      clear hB
      refine lv_if_eq (tgt := 70) hx hb dX3_hits_39 (by decide) (fun c6 => ?_) (fun c6 => ?_)
      · rw [if_pos c6] at h
        cases h
        exact hJ70 _ _ _ S (lv_sub hl [1, 2, 3, 4, 5, 6] rfl)
      · rw [if_neg c6] at h
        refine lv_iload_n hx hb dX3_hits_42 rfl (lv_at hl 2 rfl) ?_
        refine lv_aload_n hx hb dX3_hits_43 rfl (lv_at hl 1 rfl) ?_
        refine cg_X3_34 F hK S (by assumption) dX3_hits_44 ?_
        refine lv_aload hx hb dX3_hits_47 (lv_at hl 0 rfl) ?_
        refine cg_X3_120 F hK S (by assumption) (by assumption) dX3_hits_49 ?_
        obtain ⟨v8, e7, h⟩ := bd1_inv h
        refine call_c_X2_lights_X3_123 F hK S e7 hl.1 (Nat.le_of_ble_eq_true rfl) ⟨Nat.le_of_ble_eq_true rfl, Nat.le_of_ble_eq_true rfl⟩ ⟨Nat.zero_le _, Nat.zero_le _⟩ dX3_hits_52 (fun H locs S => ?_)
        obtain ⟨v10, hB, h⟩ := bd1_inv h
        have hJ65 : ∀ (H : Heap) (locs : List Loc) (ls : Array Slot), gS (wA E) s.heap (cP E g) H locs → lv_has ls 7 [(0, .ref (cad E J)), (2, .int y2), (3, .ref (cca E J)), (4, .int y4), (5, .int y5)] → W p l e rm_c_X3_hits s m args below meth c H locs 0 0 Q (F0 m 65 ls [.int v10, .int y1]) := by
          intro H locs ls S hl
          refine lv_ior hx hb dX3_hits_65 ?_
          refine lv_istore_n (lv' := [(1, .int (y1 ||| v10)), (0, .ref (cad E J)), (2, .int y2), (3, .ref (cca E J)), (4, .int y4), (5, .int y5)]) hx hb dX3_hits_66 rfl hl (by decide) rfl (fun ls hl => ?_)
          refine lv_iinc (v := (y2 + 1)) (lv' := [(2, .int (y2 + 1)), (1, .int (y1 ||| v10)), (0, .ref (cad E J)), (3, .ref (cca E J)), (4, .int y4), (5, .int y5)]) hx hb dX3_hits_67 hl (k := 2) rfl rfl (by decide) rfl (fun ls hl => ?_)
          cases h
          exact hJ70 _ _ _ S (lv_sub hl [2, 1, 0, 3, 4, 5] rfl)
        clear h
        have h := hB
        clear hB
        refine lv_if_ne (tgt := 62) hx hb dX3_hits_55 (by decide) (fun c9 => ?_) (fun c9 => ?_)
        · rw [if_neg c9] at h
          refine lv_iconst (v := 1) hx hb dX3_hits_62 (by decide) ?_
          refine lv_iload_n hx hb dX3_hits_63 rfl (lv_at hl 3 rfl) ?_
          refine lv_ishl hx hb dX3_hits_64 ?_
          cases h
          exact hJ65 _ _ _ S (lv_sub hl [1, 3, 4, 5, 6] rfl)
        · rw [if_pos c9] at h
          refine lv_iconst (v := 0) hx hb dX3_hits_58 (by decide) ?_
          refine lv_goto (tgt := 65) hx hb dX3_hits_59 (by decide) ?_
          cases h
          exact hJ65 _ _ _ S (lv_sub hl [1, 3, 4, 5, 6] rfl)
set_option maxHeartbeats 4000000 in
set_option maxRecDepth 100000 in
theorem met_c_X3_hits (l : Launch) (E : cEnv) (g : mS) (J : Nat) (hJ : okW E J) (r : Int32) (gZ : mS) (h : fc_X3_hits g J = some (r, gZ)) : Met l yX3_hits (ws_ yX3_hits cX3_hits 7 (some .int)) rm_c_X3_hits (va_Pc [.ref (cad E J)] (gPre (cK E) (cP E g))) (gQi r (cP E gZ) (wA E)) 0 0 (wA E) := by
  refine g_met (own := RX3) (by decide) rfl (Nat.le_of_ble_eq_true rfl) ?_
  intro p e s m args below meth c ls F hr hlk hK S hl
  have hx := F.1
  have hb := F.2.1
  have hl : lv_has ls 7 [(0, .ref (cad E J))] := hl
  unfold fc_X3_hits at h
  refine lv_aload_n hx hb dX3_hits_0 rfl (lv_at hl 0 rfl) ?_
  obtain ⟨g2, e1, h⟩ := bd1_inv h
  refine call_c_X3_ray_X3_117 (by assumption) F hK S e1 hl.1 (Nat.le_of_ble_eq_true rfl) ⟨Nat.le_of_ble_eq_true rfl, Nat.le_of_ble_eq_true rfl⟩ ⟨Nat.zero_le _, Nat.zero_le _⟩ dX3_hits_1 (fun H locs S => ?_)
  refine lv_pop hx hb dX3_hits_4 rfl ?_
  refine lv_iconst (v := 0) hx hb dX3_hits_5 (by decide) ?_
  refine lv_istore_n (lv' := [(1, .int 0), (0, .ref (cad E J))]) hx hb dX3_hits_6 rfl hl (by decide) rfl (fun ls hl => ?_)
  refine lv_iconst (v := 0) hx hb dX3_hits_7 (by decide) ?_
  refine lv_istore_n (lv' := [(2, .int 0), (1, .int 0), (0, .ref (cad E J))]) hx hb dX3_hits_8 rfl hl (by decide) rfl (fun ls hl => ?_)
  refine lv_aload_n hx hb dX3_hits_9 rfl (lv_at hl 2 rfl) ?_
  refine cg_X3_9 F hK S (by assumption) dX3_hits_10 ?_
  refine lv_astore_n (lv' := [(3, .ref (cca E J)), (2, .int 0), (1, .int 0), (0, .ref (cad E J))]) hx hb dX3_hits_13 rfl hl (by decide) rfl (fun ls hl => ?_)
  refine lv_aload_n hx hb dX3_hits_14 rfl (lv_at hl 0 rfl) ?_
  refine c_alenK F hK S (by assumption) dX3_hits_15 ?_
  refine lv_istore (lv' := [(4, .int 100), (3, .ref (cca E J)), (2, .int 0), (1, .int 0), (0, .ref (cad E J))]) hx hb dX3_hits_16 hl (by decide) rfl (fun ls hl => ?_)
  refine lv_iconst (v := 0) hx hb dX3_hits_18 (by decide) ?_
  refine lv_istore (lv' := [(5, .int 0), (4, .int 100), (3, .ref (cca E J)), (2, .int 0), (1, .int 0), (0, .ref (cad E J))]) hx hb dX3_hits_19 hl (by decide) rfl (fun ls hl => ?_)
  obtain ⟨v16, e15, h⟩ := bd1_inv h
  refine loop_c_X3_hits_1 E F hr hlk hK hJ _ _ _ _ _ _ _ e15 _ _ _ S (lv_sub hl [5, 4, 3, 2, 1, 0] rfl) (fun v16z H locs ls o S hl => ?_)
  cases o
  refine lv_iload_n hx hb dX3_hits_76 rfl (lv_at hl 0 rfl) ?_
  cases h
  exact g_iret F hr hlk S rfl dX3_hits_77
theorem call_c_X3_hits_X1_295 {p : Program} {l : Launch} {e : Env} {s : State} {m : MethodId} {args : Array Value} {below : List Frame} {meth : Method} {c : Code} {R : Room} {H : Heap} {locs : List Loc} {cells slots pc nL : Nat} {Q : State → Prop} {ls : Array Slot} {rest : List Value} {cc : ByteArray} {E : cEnv} {g : mS} {J : Nat} {r : Int32} {gZ : mS} (hJ : okW E J) (F : CallFix p m c cc nL s args lw_all RX1) (hK : cK E s) (S : gS (wA E) s.heap (cP E g) H locs) (h : fc_X3_hits g J = some (r, gZ)) (hls : ls.size = nL) (hW : (rest.map fun v => v.category).sum ≤ 8) (hR : rm_c_X3_hits.frames + 1 ≤ R.frames ∧ 8 + (7 + 11) + rm_c_X3_hits.locals ≤ R.locals) (hf : cells ≤ R.cells ∧ slots ≤ R.slots) (hdg : decode cc pc = .ok (.invokevirtual 295, 3))
    (kk : ∀ (H1 : Heap) (locs1 : List Loc), gS (wA E) s.heap (cP E gZ) H1 locs1 → W p l e R s m args below meth c H1 locs1 cells slots Q (F0 m (pc + 3) ls (.int r :: rest))) : W p l e R s m args below meth c H locs cells slots Q (F0 m pc ls (.ref (cad E J) :: rest)) :=
  g_ki (g_runV F hK (cKm E) S (met_c_X3_hits l E g J hJ r gZ h) (cwV 0 F.2.2.2.2 (lw_V q1706 q1707 q1708 q115 q1709) rfl rfl rfl (by decide +kernel) hR) (va_recv hK.1 (va_P1 (cAt_w S.1 hJ)) (ci := 3) (q0 := 0) rfl rfl) rfl hls rfl hW hdg hf) S kk
