/-! HEAP MODE: worth -/
set_option maxRecDepth 100000
theorem hpc_X3_mover_X3_131 {p : Program} {l : Launch} {e : Env} {s : State} {m : MethodId} {args : Array Value} {below : List Frame} {meth : Method} {c : Code} {R : Room} {H : Heap} {locs : List Loc} {cb sb pc nL : Nat} {Q : State → Prop} {ls : Array Slot} {rest : List Value} {cc : ByteArray} {E : hEnv} {A : Nat → Prop} {w : hW} {d : hD} {g : mS} {a : Nat} {r : Int32} (F : CallFix p m c cc nL s args lw_all RX3) (hK : hK E A s) (S : hS E A s.heap cb sb w H locs) (hr : hRel d g w.1) (hd : d.1 100 = a) (h : fc_X3_mover g 100 = some r) (hrc : R.cells = cb) (hrs : R.slots = sb) (hls : ls.size = nL) (hWt : (rest.map fun v => v.category).sum ≤ 8) (hR : rm_c_X3_mover.frames + 1 ≤ R.frames ∧ 8 + (1 + 11) + rm_c_X3_mover.locals ≤ R.locals) (hdg : decode cc pc = .ok (.invokevirtual 131, 3))
    (kk : ∀ (H1 : Heap) (locs1 : List Loc), hS E A s.heap cb sb w H1 locs1 → W p l e R s m args below meth c H1 locs1 (cb - w.2.1) (sb - w.2.2) Q (F0 m (pc + 3) ls (.int r :: rest))) : W p l e R s m args below meth c H locs (cb - w.2.1) (sb - w.2.2) Q (F0 m pc ls (.ref a :: rest)) := by
  subst hd
  refine hb_ki hK S hr (gZ := g) (va_runV (g := F0 m pc ls _) F (met_c_X3_mover l (hDE E d g H.size) g 100 hOk100 r h) (cwV 0 F.2.2.2.2 (lw_V q1129 q1130 q1131 q115 q1132) rfl rfl rfl (by decide +kernel) hR) ⟨gBlind (cKm (hDE E d g H.size)), h_recv hK S (ci := 3) rfl (hRel_w hr), fun U hU hW => ⟨rfl, hB_pre hK S hr U hU hW⟩⟩ rfl rfl hls rfl (lv_room hWt) hdg ⟨by rw [hrc]; exact Nat.sub_le _ _, by rw [hrs]; exact Nat.sub_le _ _⟩) (fun w' H1 locs1 hw _ S1 => ?_)
  rw [hPut_self hr] at hw
  subst hw
  exact kk H1 locs1 S1
theorem hpc_X3_isOver_X3_108 {p : Program} {l : Launch} {e : Env} {s : State} {m : MethodId} {args : Array Value} {below : List Frame} {meth : Method} {c : Code} {R : Room} {H : Heap} {locs : List Loc} {cb sb pc nL : Nat} {Q : State → Prop} {ls : Array Slot} {rest : List Value} {cc : ByteArray} {E : hEnv} {A : Nat → Prop} {w : hW} {d : hD} {g : mS} {a : Nat} {r : Int32} (F : CallFix p m c cc nL s args lw_all RX3) (hK : hK E A s) (S : hS E A s.heap cb sb w H locs) (hr : hRel d g w.1) (hd : d.1 100 = a) (h : fc_X3_isOver g 100 = some r) (hrc : R.cells = cb) (hrs : R.slots = sb) (hls : ls.size = nL) (hWt : (rest.map fun v => v.category).sum ≤ 8) (hR : rm_c_X3_isOver.frames + 1 ≤ R.frames ∧ 8 + (1 + 11) + rm_c_X3_isOver.locals ≤ R.locals) (hdg : decode cc pc = .ok (.invokevirtual 108, 3))
    (kk : ∀ (H1 : Heap) (locs1 : List Loc), hS E A s.heap cb sb w H1 locs1 → W p l e R s m args below meth c H1 locs1 (cb - w.2.1) (sb - w.2.2) Q (F0 m (pc + 3) ls (.int r :: rest))) : W p l e R s m args below meth c H locs (cb - w.2.1) (sb - w.2.2) Q (F0 m pc ls (.ref a :: rest)) := by
  subst hd
  refine hb_ki hK S hr (gZ := g) (va_runV (g := F0 m pc ls _) F (met_c_X3_isOver l (hDE E d g H.size) g 100 hOk100 r h) (cwV 0 F.2.2.2.2 (lw_V q1094 q1095 q1096 q115 q1097) rfl rfl rfl (by decide +kernel) hR) ⟨gBlind (cKm (hDE E d g H.size)), h_recv hK S (ci := 3) rfl (hRel_w hr), fun U hU hW => ⟨rfl, hB_pre hK S hr U hU hW⟩⟩ rfl rfl hls rfl (lv_room hWt) hdg ⟨by rw [hrc]; exact Nat.sub_le _ _, by rw [hrs]; exact Nat.sub_le _ _⟩) (fun w' H1 locs1 hw _ S1 => ?_)
  rw [hPut_self hr] at hw
  subst hw
  exact kk H1 locs1 S1
theorem hpc_X3_points_X3_101 {p : Program} {l : Launch} {e : Env} {s : State} {m : MethodId} {args : Array Value} {below : List Frame} {meth : Method} {c : Code} {R : Room} {H : Heap} {locs : List Loc} {cb sb pc nL : Nat} {Q : State → Prop} {ls : Array Slot} {rest : List Value} {cc : ByteArray} {E : hEnv} {A : Nat → Prop} {w : hW} {d : hD} {g : mS} {a : Nat} {x1 : Int32} {r : Int32} (F : CallFix p m c cc nL s args lw_all RX3) (hK : hK E A s) (S : hS E A s.heap cb sb w H locs) (hr : hRel d g w.1) (hd : d.1 100 = a) (h : fc_X3_points g 100 x1 = some r) (hrc : R.cells = cb) (hrs : R.slots = sb) (hls : ls.size = nL) (hWt : (rest.map fun v => v.category).sum ≤ 8) (hR : rm_c_X3_points.frames + 1 ≤ R.frames ∧ 8 + (7 + 11) + rm_c_X3_points.locals ≤ R.locals) (hdg : decode cc pc = .ok (.invokevirtual 101, 3))
    (kk : ∀ (H1 : Heap) (locs1 : List Loc), hS E A s.heap cb sb w H1 locs1 → W p l e R s m args below meth c H1 locs1 (cb - w.2.1) (sb - w.2.2) Q (F0 m (pc + 3) ls (.int r :: rest))) : W p l e R s m args below meth c H locs (cb - w.2.1) (sb - w.2.2) Q (F0 m pc ls (.int x1 :: .ref a :: rest)) := by
  subst hd
  refine hb_ki hK S hr (gZ := g) (va_runV (g := F0 m pc ls _) F (met_c_X3_points l (hDE E d g H.size) g 100 x1 hOk100 r h) (cwV 1 F.2.2.2.2 (lw_V q1120 q1121 q1122 q115 q1123) rfl rfl rfl (by decide +kernel) hR) ⟨gBlind (cKm (hDE E d g H.size)), h_recv hK S (ci := 3) rfl (hRel_w hr), fun U hU hW => ⟨rfl, hB_pre hK S hr U hU hW⟩⟩ rfl rfl hls rfl (lv_room hWt) hdg ⟨by rw [hrc]; exact Nat.sub_le _ _, by rw [hrs]; exact Nat.sub_le _ _⟩) (fun w' H1 locs1 hw _ S1 => ?_)
  rw [hPut_self hr] at hw
  subst hw
  exact kk H1 locs1 S1
theorem hpc_X3_canTurn_X3_153 {p : Program} {l : Launch} {e : Env} {s : State} {m : MethodId} {args : Array Value} {below : List Frame} {meth : Method} {c : Code} {R : Room} {H : Heap} {locs : List Loc} {cb sb pc nL : Nat} {Q : State → Prop} {ls : Array Slot} {rest : List Value} {cc : ByteArray} {E : hEnv} {A : Nat → Prop} {w : hW} {d : hD} {g : mS} {a : Nat} {r : Int32} (F : CallFix p m c cc nL s args lw_all RX3) (hK : hK E A s) (S : hS E A s.heap cb sb w H locs) (hr : hRel d g w.1) (hd : d.1 100 = a) (h : fc_X3_canTurn g 100 = some r) (hrc : R.cells = cb) (hrs : R.slots = sb) (hls : ls.size = nL) (hWt : (rest.map fun v => v.category).sum ≤ 8) (hR : rm_c_X3_canTurn.frames + 1 ≤ R.frames ∧ 8 + (5 + 11) + rm_c_X3_canTurn.locals ≤ R.locals) (hdg : decode cc pc = .ok (.invokevirtual 153, 3))
    (kk : ∀ (H1 : Heap) (locs1 : List Loc), hS E A s.heap cb sb w H1 locs1 → W p l e R s m args below meth c H1 locs1 (cb - w.2.1) (sb - w.2.2) Q (F0 m (pc + 3) ls (.int r :: rest))) : W p l e R s m args below meth c H locs (cb - w.2.1) (sb - w.2.2) Q (F0 m pc ls (.ref a :: rest)) := by
  subst hd
  refine hb_ki hK S hr (gZ := g) (va_runV (g := F0 m pc ls _) F (met_c_X3_canTurn l (hDE E d g H.size) g 100 hOk100 r h) (cwV 0 F.2.2.2.2 (lw_V q1785 q1289 q1290 q115 q1291) rfl rfl rfl (by decide +kernel) hR) ⟨gBlind (cKm (hDE E d g H.size)), h_recv hK S (ci := 3) rfl (hRel_w hr), fun U hU hW => ⟨rfl, hB_pre hK S hr U hU hW⟩⟩ rfl rfl hls rfl (lv_room hWt) hdg ⟨by rw [hrc]; exact Nat.sub_le _ _, by rw [hrs]; exact Nat.sub_le _ _⟩) (fun w' H1 locs1 hw _ S1 => ?_)
  rw [hPut_self hr] at hw
  subst hw
  exact kk H1 locs1 S1
theorem hcl_X7_isFor_X3_135 {p : Program} {l : Launch} {e : Env} {s : State} {m : MethodId} {args : Array Value} {below : List Frame} {meth : Method} {c : Code} {R : Room} {H : Heap} {locs : List Loc} {cb sb pc nL : Nat} {Q : State → Prop} {ls : Array Slot} {rest : List Value} {cc : ByteArray} {E : hEnv} {A : Nat → Prop} {w : hW} {a0 : Nat} {x1 : Int32} {Q' : Int32 → hO → Prop} {c1 s1 : Nat} (F : CallFix p m c cc nL s args lw_all RX3) (hK : hK E A s) (S : hS E A s.heap cb sb w H locs) (hrv : ∃ (b : Bool) (fs : List Value), w.1 a0 = some (b, .inl (6, fs))) (h1 : c1 ≤ w.2.1) (h2 : s1 ≤ w.2.2) (h : hf_X7_isFor E.2.2 (w.1, c1, s1) a0 x1 Q') (hrc : R.cells = cb) (hrs : R.slots = sb) (hls : ls.size = nL) (hWt : (rest.map fun v => v.category).sum ≤ 8) (hR : 0 + 1 ≤ R.frames ∧ 8 + (2 + 11) + 0 ≤ R.locals) (hdg : decode cc pc = .ok (.invokevirtual 135, 3))
    (kk : ∀ (v : Int32) (o : hO) (w' : hW) (H1 : Heap) (locs1 : List Loc), w' = (o, w.2.1 - c1, w.2.2 - s1) → Q' v o → hS E A s.heap cb sb w' H1 locs1 → W p l e R s m args below meth c H1 locs1 (cb - w'.2.1) (sb - w'.2.2) Q (F0 m (pc + 3) ls (.int v :: rest))) : W p l e R s m args below meth c H locs (cb - w.2.1) (sb - w.2.2) Q (F0 m pc ls (.int x1 :: .ref a0 :: rest)) :=
  h_ki (g_runV F hK (hKm E A) S.1 (hmet_X7_isFor l E A (w.1, c1, s1) a0 x1 Q' h) (cwV 1 F.2.2.2.2 (lw_V q1292 q1293 q1294 q119 q1295) rfl rfl rfl (by decide +kernel) hR) (h_recv hK S (ci := 6) rfl hrv) rfl hls rfl hWt hdg ⟨by rw [hrc]; exact (h_left S h1 h2).1, by rw [hrs]; exact (h_left S h1 h2).2⟩) S h1 h2 kk
def hL_X3_worthL0_1 (pl : Nat → Nat) (Q : Int32 → hO → Prop) (K : Int32 → hW → Prop) (y0 : Nat) (y1 : Int32) (y2 : Int32) (y4 : Nat) (y5 : Int32) : Nat → hW → Int32 → Int32 → Prop
  | 0, _, _, _ => False
  | n + 1, w, y3, y6 =>
    hIf (y5 ≤ y6) (
      K y3 w) <|
      obd (haP w y4 y6) fun v34 =>
      obd (hInst 6 w v34) fun v36 =>
      hjoin (fun (g51 : hW) =>
        hL_X3_worthL0_1 pl Q K y0 y1 y2 y4 y5 n g51 y3 (y6 + 1)) fun k53 =>
      hIf (v36 = 0) (
        k53 w) <|
        obd (hIs w v34 6) fun u39 =>
        obd (hIs w v34 6) fun u41 =>
        hcall w fun n43 n44 => hf_X7_isFor pl (w.1, n43, n44) v34 y2 fun v47 o46 => hret w n43 n44 o46 fun w45 =>
        hIf (v47 = 0) (
          k53 w45) <|
          obd (hIs w45 v34 6) fun u49 =>
          False
def hf_X3_worthL0 (pl : Nat → Nat) (w : hW) (a0 : Nat) (x1 : Int32) (Q : Int32 → hO → Prop) : Prop :=
  ∃ (d1 : hD) (g2 : mS), hRel d1 g2 w.1 ∧ d1.1 100 = a0 ∧ obd (fc_X3_mover g2 100) fun v5 =>
  ∃ (d6 : hD) (g7 : mS), hRel d6 g7 w.1 ∧ d6.1 100 = a0 ∧ obd (fc_X3_isOver g7 100) fun v10 =>
  hIf (v10 = 0) (
    hIf (x1 = 0) (
      ∃ (d56 : hD) (g57 : mS), hRel d56 g57 w.1 ∧ d56.1 100 = a0 ∧ obd (fc_X3_points g57 100 v5) fun v60 =>
      ∃ (d61 : hD) (g62 : mS), hRel d61 g62 w.1 ∧ d61.1 100 = a0 ∧ obd (fc_X3_points g62 100 (3 - v5)) fun v65 =>
      Q (v60 - v65) w.1) <|
      ∃ (d23 : hD) (g24 : mS), hRel d23 g24 w.1 ∧ d23.1 100 = a0 ∧ obd (fc_X3_canTurn g24 100) fun v27 =>
      hIf (v27 = 0) (
        False) <|
        obd (hgP w a0 3 3) fun v29 =>
        obd (hLen w v29) fun v31 =>
        hL_X3_worthL0_1 pl Q (fun (v54 : Int32) (w55 : hW) =>
          Q v54 w55.1) a0 x1 v5 v29 v31 FUEL w (-2147483648) 0) <|
    ∃ (d12 : hD) (g13 : mS), hRel d12 g13 w.1 ∧ d12.1 100 = a0 ∧ obd (fc_X3_points g13 100 v5) fun v16 =>
    ∃ (d17 : hD) (g18 : mS), hRel d17 g18 w.1 ∧ d17.1 100 = a0 ∧ obd (fc_X3_points g18 100 (3 - v5)) fun v21 =>
    Q (v16 - v21) w.1
abbrev hrm_X3_worthL0 (c s : Nat) : Room := { frames := 4, cells := c, slots := s, locals := 87 }
set_option maxHeartbeats 4000000 in
set_option maxRecDepth 100000 in
theorem hloop_X3_worthL0_1 {p : Program} {l : Launch} {e : Env} {s : State} {m : MethodId} {args : Array Value} {below : List Frame} {meth : Method} {c : Code} {cb sb : Nat} {E : hEnv} {A : Nat → Prop} {Q : Int32 → hO → Prop} {K : Int32 → hW → Prop} {y0 : Nat} {y1 : Int32} {y2 : Int32} {y4 : Nat} {y5 : Int32} (F : CallFix p m c cX3_worth 8 s args lw_all RX3) (hr : meth.sig.returnType = some .int) (hlk : meth.locks = false) (hK : hK E A s) : ∀ (n : Nat) (w : hW) (y3 : Int32) (y6 : Int32), hL_X3_worthL0_1 E.2.2 Q K y0 y1 y2 y4 y5 n w y3 y6 → ∀ (H : Heap) (locs : List Loc) (ls : Array Slot), hS E A s.heap cb sb w H locs → lv_has ls 8 [(0, .ref y0), (1, .int y1), (2, .int y2), (3, .int y3), (4, .ref y4), (5, .int y5), (6, .int y6)] → (∀ (z3 : Int32) (wz : hW) (H : Heap) (locs : List Loc) (ls : Array Slot), K z3 wz → hS E A s.heap cb sb wz H locs → lv_has ls 8 [(3, .int z3)] → W p l e (hrm_X3_worthL0 cb sb) s m args below meth c H locs (cb - wz.2.1) (sb - wz.2.2) (MQ below (hQi E A Q) args s cb sb A) (F0 m 122 ls [])) → W p l e (hrm_X3_worthL0 cb sb) s m args below meth c H locs (cb - w.2.1) (sb - w.2.2) (MQ below (hQi E A Q) args s cb sb A) (F0 m 64 ls []) := by
  have hx := F.1
  have hb := F.2.1
  intro n
  induction n with
  | zero =>
    intro w y3 y6 h
    exact False.elim h
  | succ n ih =>
    intro w y3 y6 h H locs ls S hl kx
    rw [hL_X3_worthL0_1] at h
    refine lv_iload hx hb dX3_worth_64 (lv_at hl 6 rfl) ?_
    refine lv_iload hx hb dX3_worth_66 (lv_at hl 5 rfl) ?_
    refine lv_icmp_ge (tgt := 122) hx hb dX3_worth_68 (by decide) (fun c33 => ?_) (fun c33 => ?_)
    · rw [hIf_pos c33] at h
      exact kx _ _ _ _ _ h S (lv_sub hl [3] rfl)
    · rw [hIf_neg c33] at h
      refine lv_aload hx hb dX3_worth_71 (lv_at hl 4 rfl) ?_
      refine lv_iload hx hb dX3_worth_73 (lv_at hl 6 rfl) ?_
      obtain ⟨v34, e35, h⟩ := obd_inv h
      refine h_aald F hK S e35 dX3_worth_75 ?_
      refine lv_astore (lv' := [(7, .ref v34), (0, .ref y0), (1, .int y1), (2, .int y2), (3, .int y3), (4, .ref y4), (5, .int y5), (6, .int y6)]) hx hb dX3_worth_76 hl (by decide) rfl (fun ls hl => ?_)
      refine lv_aload hx hb dX3_worth_78 (lv_at hl 0 rfl) ?_
      obtain ⟨v36, e37, h⟩ := obd_inv h
      refine h_inst6 F hK S e37 q1128 dX3_worth_80 ?_
      obtain ⟨k53, hk53, h⟩ := hj1_inv h
      have hJ116 : ∀ (g51 : hW) (H : Heap) (locs : List Loc) (ls : Array Slot), k53 g51 → hS E A s.heap cb sb g51 H locs → lv_has ls 8 [(0, .ref y0), (1, .int y1), (2, .int y2), (3, .int y3), (4, .ref y4), (5, .int y5), (6, .int y6)] → W p l e (hrm_X3_worthL0 cb sb) s m args below meth c H locs (cb - g51.2.1) (sb - g51.2.2) (MQ below (hQi E A Q) args s cb sb A) (F0 m 116 ls []) := by
        intro g51 H locs ls h S hl
        replace h := hk53 _ h
        refine lv_iinc (v := (y6 + 1)) (lv' := [(6, .int (y6 + 1)), (0, .ref y0), (1, .int y1), (2, .int y2), (3, .int y3), (4, .ref y4), (5, .int y5)]) hx hb dX3_worth_116 hl (k := 6) rfl rfl (by decide) rfl (fun ls hl => ?_)
        refine lv_goto (tgt := 64) hx hb dX3_worth_119 (by decide) ?_
        exact ih _ _ _ h _ _ _ S (lv_sub hl [1, 2, 3, 4, 5, 6, 0] rfl) kx
      clear hk53
      refine lv_if_eq (tgt := 116) hx hb dX3_worth_83 (by decide) (fun c38 => ?_) (fun c38 => ?_)
      · rw [hIf_pos c38] at h
        exact hJ116 _ _ _ _ h S (lv_sub hl [1, 2, 3, 4, 5, 6, 7] rfl)
      · rw [hIf_neg c38] at h
        refine lv_aload hx hb dX3_worth_86 (lv_at hl 0 rfl) ?_
        obtain ⟨u39, e40, h⟩ := obd_inv h
        refine h_cast F hK S e40 rfl q1128 dX3_worth_88 ?_
        refine lv_iload_n hx hb dX3_worth_91 rfl (lv_at hl 3 rfl) ?_
        obtain ⟨u41, e42, h⟩ := obd_inv h
        obtain ⟨n43, n44, h1, h2, h⟩ := hcall_inv h
        refine hcl_X7_isFor_X3_135 F hK S (hIs_inv e42) h1 h2 h rfl rfl hl.1 (Nat.le_of_ble_eq_true rfl) ⟨Nat.le_of_ble_eq_true rfl, Nat.le_of_ble_eq_true rfl⟩ dX3_worth_92 (fun v47 o46 w45 H locs hw h S => ?_)
        replace h := hret_mp h hw
        clear hw h1 h2
        refine lv_if_eq (tgt := 116) hx hb dX3_worth_95 (by decide) (fun c48 => ?_) (fun c48 => ?_)
        · rw [hIf_pos c48] at h
          exact hJ116 _ _ _ _ h S (lv_sub hl [1, 2, 3, 4, 5, 6, 7] rfl)
        · rw [hIf_neg c48] at h
          refine lv_iload_n hx hb dX3_worth_98 rfl (lv_at hl 4 rfl) ?_
          refine lv_aload_n hx hb dX3_worth_99 rfl (lv_at hl 1 rfl) ?_
          refine lv_aload hx hb dX3_worth_100 (lv_at hl 0 rfl) ?_
          obtain ⟨u49, e50, h⟩ := obd_inv h
          refine h_cast F hK S e50 rfl q1128 dX3_worth_102 ?_
          refine lv_iload_n hx hb dX3_worth_105 rfl (lv_at hl 2 rfl) ?_
          refine lv_iconst (v := 1) hx hb dX3_worth_106 (by decide) ?_
          refine lv_isub hx hb dX3_worth_107 ?_
          exact False.elim h
set_option maxHeartbeats 4000000 in
set_option maxRecDepth 100000 in
theorem hmet_X3_worthL0 (l : Launch) (E : hEnv) (A : Nat → Prop) (w : hW) (a0 : Nat) (x1 : Int32) (Q : Int32 → hO → Prop) (h : hf_X3_worthL0 E.2.2 w a0 x1 Q) : Met l yX3_worth (ws_ yX3_worth cX3_worth 8 (some .int)) (hrm_X3_worthL0 w.2.1 w.2.2) (va_Pc [.ref a0, .int x1] (gPre (hK E A) (hP E A w.1))) (hQi E A Q) w.2.1 w.2.2 A := by
  refine h_met (own := RX3) (by decide +kernel) rfl (Nat.le_of_ble_eq_true rfl) ?_
  intro p e s m args below meth c ls cb sb F hr hlk hK S hl
  have hx := F.1
  have hb := F.2.1
  have hl : lv_has ls 8 [(0, .ref a0), (1, .int x1)] := hl
  unfold hf_X3_worthL0 at h
  refine lv_aload_n hx hb dX3_worth_0 rfl (lv_at hl 0 rfl) ?_
  obtain ⟨d1, g2, hrl, hdl, h⟩ := h
  obtain ⟨v5, e4, h⟩ := obd_inv h
  refine hpc_X3_mover_X3_131 F hK S hrl hdl e4 rfl rfl hl.1 (Nat.le_of_ble_eq_true rfl) ⟨Nat.le_of_ble_eq_true rfl, Nat.le_of_ble_eq_true rfl⟩ dX3_worth_1 (fun H locs S => ?_)
  refine lv_istore_n (lv' := [(2, .int v5), (0, .ref a0), (1, .int x1)]) hx hb dX3_worth_4 rfl hl (by decide) rfl (fun ls hl => ?_)
  refine lv_aload_n hx hb dX3_worth_5 rfl (lv_at hl 1 rfl) ?_
  obtain ⟨d6, g7, hrl, hdl, h⟩ := h
  obtain ⟨v10, e9, h⟩ := obd_inv h
  refine hpc_X3_isOver_X3_108 F hK S hrl hdl e9 rfl rfl hl.1 (Nat.le_of_ble_eq_true rfl) ⟨Nat.le_of_ble_eq_true rfl, Nat.le_of_ble_eq_true rfl⟩ dX3_worth_6 (fun H locs S => ?_)
  refine lv_if_ne (tgt := 16) hx hb dX3_worth_9 (by decide) (fun c11 => ?_) (fun c11 => ?_)
  · rw [hIf_neg c11] at h
    refine lv_aload_n hx hb dX3_worth_16 rfl (lv_at hl 1 rfl) ?_
    refine lv_iload_n hx hb dX3_worth_17 rfl (lv_at hl 0 rfl) ?_
    obtain ⟨d12, g13, hrl, hdl, h⟩ := h
    obtain ⟨v16, e15, h⟩ := obd_inv h
    refine hpc_X3_points_X3_101 F hK S hrl hdl e15 rfl rfl hl.1 (Nat.le_of_ble_eq_true rfl) ⟨Nat.le_of_ble_eq_true rfl, Nat.le_of_ble_eq_true rfl⟩ dX3_worth_18 (fun H locs S => ?_)
    refine lv_aload_n hx hb dX3_worth_21 rfl (lv_at hl 1 rfl) ?_
    refine lv_iconst (v := 3) hx hb dX3_worth_22 (by decide) ?_
    refine lv_iload_n hx hb dX3_worth_23 rfl (lv_at hl 0 rfl) ?_
    refine lv_isub hx hb dX3_worth_24 ?_
    obtain ⟨d17, g18, hrl, hdl, h⟩ := h
    obtain ⟨v21, e20, h⟩ := obd_inv h
    refine hpc_X3_points_X3_101 F hK S hrl hdl e20 rfl rfl hl.1 (Nat.le_of_ble_eq_true rfl) ⟨Nat.le_of_ble_eq_true rfl, Nat.le_of_ble_eq_true rfl⟩ dX3_worth_25 (fun H locs S => ?_)
    refine lv_isub hx hb dX3_worth_28 ?_
    exact h_iret F hr hlk S h dX3_worth_29
  · rw [hIf_pos c11] at h
    refine lv_iload_n hx hb dX3_worth_12 rfl (lv_at hl 2 rfl) ?_
    refine lv_if_ne (tgt := 30) hx hb dX3_worth_13 (by decide) (fun c22 => ?_) (fun c22 => ?_)
    · rw [hIf_neg c22] at h
      refine lv_aload_n hx hb dX3_worth_30 rfl (lv_at hl 1 rfl) ?_
      obtain ⟨d23, g24, hrl, hdl, h⟩ := h
      obtain ⟨v27, e26, h⟩ := obd_inv h
      refine hpc_X3_canTurn_X3_153 F hK S hrl hdl e26 rfl rfl hl.1 (Nat.le_of_ble_eq_true rfl) ⟨Nat.le_of_ble_eq_true rfl, Nat.le_of_ble_eq_true rfl⟩ dX3_worth_31 (fun H locs S => ?_)
      refine lv_if_ne (tgt := 47) hx hb dX3_worth_34 (by decide) (fun c28 => ?_) (fun c28 => ?_)
      · rw [hIf_neg c28] at h
        refine lv_ldc (v := (-2147483648)) hx hb F.2.2.2.1 (F.2.2.2.2 _ q1800) dX3_worth_47 ?_
        refine lv_istore_n (lv' := [(3, .int (-2147483648)), (2, .int v5), (0, .ref a0), (1, .int x1)]) hx hb dX3_worth_49 rfl hl (by decide) rfl (fun ls hl => ?_)
        refine lv_aload_n hx hb dX3_worth_50 rfl (lv_at hl 2 rfl) ?_
        obtain ⟨v29, e30, h⟩ := obd_inv h
        refine hg_X3_9 F hK S e30 dX3_worth_51 ?_
        refine lv_astore (lv' := [(4, .ref v29), (3, .int (-2147483648)), (2, .int v5), (0, .ref a0), (1, .int x1)]) hx hb dX3_worth_54 hl (by decide) rfl (fun ls hl => ?_)
        refine lv_aload hx hb dX3_worth_56 (lv_at hl 0 rfl) ?_
        obtain ⟨v31, e32, h⟩ := obd_inv h
        refine h_alen F hK S e32 dX3_worth_58 ?_
        refine lv_istore (lv' := [(5, .int v31), (4, .ref v29), (3, .int (-2147483648)), (2, .int v5), (0, .ref a0), (1, .int x1)]) hx hb dX3_worth_59 hl (by decide) rfl (fun ls hl => ?_)
        refine lv_iconst (v := 0) hx hb dX3_worth_61 (by decide) ?_
        refine lv_istore (lv' := [(6, .int 0), (5, .int v31), (4, .ref v29), (3, .int (-2147483648)), (2, .int v5), (0, .ref a0), (1, .int x1)]) hx hb dX3_worth_62 hl (by decide) rfl (fun ls hl => ?_)
        refine hloop_X3_worthL0_1 F hr hlk hK _ _ _ _ h _ _ _ S (lv_sub hl [5, 6, 4, 3, 2, 1, 0] rfl) (fun v54 w55 H locs ls h S hl => ?_)
        refine lv_iload_n hx hb dX3_worth_122 rfl (lv_at hl 0 rfl) ?_
        exact h_iret F hr hlk S h dX3_worth_123
      · rw [hIf_pos c28] at h
        refine lv_aload_n hx hb dX3_worth_37 rfl (lv_at hl 1 rfl) ?_
        refine lv_null hx hb dX3_worth_38 ?_
        refine lv_iload_n hx hb dX3_worth_39 rfl (lv_at hl 2 rfl) ?_
        refine lv_iconst (v := 1) hx hb dX3_worth_40 (by decide) ?_
        refine lv_isub hx hb dX3_worth_41 ?_
        exact False.elim h
    · rw [hIf_pos c22] at h
      refine lv_aload_n hx hb dX3_worth_16 rfl (lv_at hl 1 rfl) ?_
      refine lv_iload_n hx hb dX3_worth_17 rfl (lv_at hl 0 rfl) ?_
      obtain ⟨d56, g57, hrl, hdl, h⟩ := h
      obtain ⟨v60, e59, h⟩ := obd_inv h
      refine hpc_X3_points_X3_101 F hK S hrl hdl e59 rfl rfl hl.1 (Nat.le_of_ble_eq_true rfl) ⟨Nat.le_of_ble_eq_true rfl, Nat.le_of_ble_eq_true rfl⟩ dX3_worth_18 (fun H locs S => ?_)
      refine lv_aload_n hx hb dX3_worth_21 rfl (lv_at hl 1 rfl) ?_
      refine lv_iconst (v := 3) hx hb dX3_worth_22 (by decide) ?_
      refine lv_iload_n hx hb dX3_worth_23 rfl (lv_at hl 0 rfl) ?_
      refine lv_isub hx hb dX3_worth_24 ?_
      obtain ⟨d61, g62, hrl, hdl, h⟩ := h
      obtain ⟨v65, e64, h⟩ := obd_inv h
      refine hpc_X3_points_X3_101 F hK S hrl hdl e64 rfl rfl hl.1 (Nat.le_of_ble_eq_true rfl) ⟨Nat.le_of_ble_eq_true rfl, Nat.le_of_ble_eq_true rfl⟩ dX3_worth_25 (fun H locs S => ?_)
      refine lv_isub hx hb dX3_worth_28 ?_
      exact h_iret F hr hlk S h dX3_worth_29
theorem hcl_X3_row_X3_163 {p : Program} {l : Launch} {e : Env} {s : State} {m : MethodId} {args : Array Value} {below : List Frame} {meth : Method} {c : Code} {R : Room} {H : Heap} {locs : List Loc} {cb sb pc nL : Nat} {Q : State → Prop} {ls : Array Slot} {rest : List Value} {cc : ByteArray} {E : hEnv} {A : Nat → Prop} {w : hW} {a0 : Nat} {Q' : Nat → hO → Prop} {c1 s1 : Nat} (F : CallFix p m c cc nL s args lw_all RX3) (hK : hK E A s) (S : hS E A s.heap cb sb w H locs) (hrv : ∃ (b : Bool) (fs : List Value), w.1 a0 = some (b, .inl (3, fs))) (h1 : c1 ≤ w.2.1) (h2 : s1 ≤ w.2.2) (h : hf_X3_row E.2.2 (w.1, c1, s1) a0 Q') (hrc : R.cells = cb) (hrs : R.slots = sb) (hls : ls.size = nL) (hWt : (rest.map fun v => v.category).sum ≤ 8) (hR : 0 + 1 ≤ R.frames ∧ 8 + (7 + 11) + 0 ≤ R.locals) (hdg : decode cc pc = .ok (.invokevirtual 163, 3))
    (kk : ∀ (v : Nat) (o : hO) (w' : hW) (H1 : Heap) (locs1 : List Loc), w' = (o, w.2.1 - c1, w.2.2 - s1) → Q' v o → hS E A s.heap cb sb w' H1 locs1 → W p l e R s m args below meth c H1 locs1 (cb - w'.2.1) (sb - w'.2.2) Q (F0 m (pc + 3) ls (.ref v :: rest))) : W p l e R s m args below meth c H locs (cb - w.2.1) (sb - w.2.2) Q (F0 m pc ls (.ref a0 :: rest)) :=
  h_kp (g_runV F hK (hKm E A) S.1 (hmet_X3_row l E A (w.1, c1, s1) a0 Q' h) (cwV 0 F.2.2.2.2 (lw_V q1790 q1792 qs38 q115 q1793) rfl rfl rfl (by decide +kernel) hR) (h_recv hK S (ci := 3) rfl hrv) rfl hls rfl hWt hdg ⟨by rw [hrc]; exact (h_left S h1 h2).1, by rw [hrs]; exact (h_left S h1 h2).2⟩) S h1 h2 kk
theorem hpc_X3_moves_X3_167 {p : Program} {l : Launch} {e : Env} {s : State} {m : MethodId} {args : Array Value} {below : List Frame} {meth : Method} {c : Code} {R : Room} {H : Heap} {locs : List Loc} {cb sb pc nL : Nat} {Q : State → Prop} {ls : Array Slot} {rest : List Value} {cc : ByteArray} {E : hEnv} {A : Nat → Prop} {w : hW} {d : hD} {g : mS} {a : Nat} {x1 bx1 : Nat} {r : Int32 × mS} (F : CallFix p m c cc nL s args lw_all RX3) (hK : hK E A s) (S : hS E A s.heap cb sb w H locs) (hr : hRel d g w.1) (hd : d.1 100 = a) (hx1 : x1 < 100 ∧ d.2.2 x1 = bx1) (h : fc_X3_moves g 100 x1 = some r) (hrc : R.cells = cb) (hrs : R.slots = sb) (hls : ls.size = nL) (hWt : (rest.map fun v => v.category).sum ≤ 8) (hR : rm_c_X3_moves.frames + 1 ≤ R.frames ∧ 8 + (7 + 11) + rm_c_X3_moves.locals ≤ R.locals) (hdg : decode cc pc = .ok (.invokevirtual 167, 3))
    (kk : ∀ (w' : hW) (H1 : Heap) (locs1 : List Loc), w' = (hPut d r.2 w.1, w.2) → hRel d r.2 (hPut d r.2 w.1) → hS E A s.heap cb sb w' H1 locs1 → W p l e R s m args below meth c H1 locs1 (cb - w'.2.1) (sb - w'.2.2) Q (F0 m (pc + 3) ls (.int r.1 :: rest))) : W p l e R s m args below meth c H locs (cb - w.2.1) (sb - w.2.2) Q (F0 m pc ls (.ref bx1 :: .ref a :: rest)) := by
  subst hd
  obtain ⟨hx1, rfl⟩ := hx1
  obtain ⟨r, gZ⟩ := r
  exact hb_ki hK S hr (va_runV (g := F0 m pc ls _) F (met_c_X3_moves l (hDE E d g H.size) g 100 x1 hOk100 hx1 r gZ h) (cwV 1 F.2.2.2.2 (lw_V q1794 q1134 q1135 q115 q1136) rfl rfl rfl (by decide +kernel) hR) ⟨gBlind (cKm (hDE E d g H.size)), h_recv hK S (ci := 3) rfl (hRel_w hr), fun U hU hW => ⟨rfl, hB_pre hK S hr U hU hW⟩⟩ rfl rfl hls rfl (lv_room hWt) hdg ⟨by rw [hrc]; exact Nat.sub_le _ _, by rw [hrs]; exact Nat.sub_le _ _⟩) kk
theorem hcl_X3_worthL0_X3_170 {p : Program} {l : Launch} {e : Env} {s : State} {m : MethodId} {args : Array Value} {below : List Frame} {meth : Method} {c : Code} {R : Room} {H : Heap} {locs : List Loc} {cb sb pc nL : Nat} {Q : State → Prop} {ls : Array Slot} {rest : List Value} {cc : ByteArray} {E : hEnv} {A : Nat → Prop} {w : hW} {a0 : Nat} {x1 : Int32} {Q' : Int32 → hO → Prop} {c1 s1 : Nat} (F : CallFix p m c cc nL s args lw_all RX3) (hK : hK E A s) (S : hS E A s.heap cb sb w H locs) (hrv : ∃ (b : Bool) (fs : List Value), w.1 a0 = some (b, .inl (3, fs))) (h1 : c1 ≤ w.2.1) (h2 : s1 ≤ w.2.2) (h : hf_X3_worthL0 E.2.2 (w.1, c1, s1) a0 x1 Q') (hrc : R.cells = cb) (hrs : R.slots = sb) (hls : ls.size = nL) (hWt : (rest.map fun v => v.category).sum ≤ 8) (hR : 4 + 1 ≤ R.frames ∧ 8 + (8 + 11) + 87 ≤ R.locals) (hdg : decode cc pc = .ok (.invokevirtual 170, 3))
    (kk : ∀ (v : Int32) (o : hO) (w' : hW) (H1 : Heap) (locs1 : List Loc), w' = (o, w.2.1 - c1, w.2.2 - s1) → Q' v o → hS E A s.heap cb sb w' H1 locs1 → W p l e R s m args below meth c H1 locs1 (cb - w'.2.1) (sb - w'.2.2) Q (F0 m (pc + 3) ls (.int v :: rest))) : W p l e R s m args below meth c H locs (cb - w.2.1) (sb - w.2.2) Q (F0 m pc ls (.int x1 :: .ref a0 :: rest)) :=
  h_ki (g_runV F hK (hKm E A) S.1 (hmet_X3_worthL0 l E A (w.1, c1, s1) a0 x1 Q' h) (cwV 1 F.2.2.2.2 (lw_V q1795 q1782 q1783 q115 q1784) rfl rfl rfl (by decide +kernel) hR) (h_recv hK S (ci := 3) rfl hrv) rfl hls rfl hWt hdg ⟨by rw [hrc]; exact (h_left S h1 h2).1, by rw [hrs]; exact (h_left S h1 h2).2⟩) S h1 h2 kk
theorem hpc_X3_takesBack_X3_173 {p : Program} {l : Launch} {e : Env} {s : State} {m : MethodId} {args : Array Value} {below : List Frame} {meth : Method} {c : Code} {R : Room} {H : Heap} {locs : List Loc} {cb sb pc nL : Nat} {Q : State → Prop} {ls : Array Slot} {rest : List Value} {cc : ByteArray} {E : hEnv} {A : Nat → Prop} {w : hW} {d : hD} {g : mS} {a : Nat} {q0 : Nat} {rq : Nat → Int32} {x1 bx1 : Nat} {x3 : Int32} {r : mS} (F : CallFix p m c cc nL s args lw_all RX3) (hK : hK E A s) (S : hS E A s.heap cb sb w H locs) (hr : hRel d g w.1) (hd : d.1 100 = a) (hq : w.1 q0 = some (true, .inr (0, 20, .inl rq))) (hx1 : x1 < 100 ∧ d.2.2 x1 = bx1) (h : fc_X3_takesBack g 100 rq x1 x3 = some r) (hrc : R.cells = cb) (hrs : R.slots = sb) (hls : ls.size = nL) (hWt : (rest.map fun v => v.category).sum ≤ 8) (hR : rm_c_X3_takesBack.frames + 1 ≤ R.frames ∧ 8 + (9 + 11) + rm_c_X3_takesBack.locals ≤ R.locals) (hdg : decode cc pc = .ok (.invokevirtual 173, 3))
    (kk : ∀ (w' : hW) (H1 : Heap) (locs1 : List Loc), w' = (hPut d r w.1, w.2) → hRel d r (hPut d r w.1) → hS E A s.heap cb sb w' H1 locs1 → W p l e R s m args below meth c H1 locs1 (cb - w'.2.1) (sb - w'.2.2) Q (F0 m (pc + 3) ls (rest))) : W p l e R s m args below meth c H locs (cb - w.2.1) (sb - w.2.2) Q (F0 m pc ls (.int x3 :: .ref q0 :: .ref bx1 :: .ref a :: rest)) := by
  subst hd
  obtain ⟨hx1, rfl⟩ := hx1
  exact hb_kv hK S hr (va_runV (g := F0 m pc ls _) F (met_c_X3_takesBack l (hDE E d g H.size) g q0 100 rq x1 x3 hOk100 hx1 r h) (cwV 3 F.2.2.2.2 (lw_V q1796 q1798 qs39 q115 q1799) rfl rfl rfl (by decide +kernel) hR) ⟨gBlind (cKqm (hDE E d g H.size) q0 rq), h_recv hK S (ci := 3) rfl (hRel_w hr), fun U hU hW => ⟨rfl, (hB_pre hK S hr U hU hW).1, hB_Kq (hKm E A s U hW (by rw [hU]; exact S.1.2.1) (by rw [hU]; exact S.1.2.2.1) hK) hU S hr (hB_A hr S.1.1 (fun q hq => hK.2.2.2 q (Nat.le_trans S.1.2.1 hq))) hq⟩⟩ rfl rfl hls rfl (lv_room hWt) hdg ⟨by rw [hrc]; exact Nat.sub_le _ _, by rw [hrs]; exact Nat.sub_le _ _⟩) kk
def hf_X3_worthBehindL0 (pl : Nat → Nat) (w : hW) (a0 : Nat) (x1 : Nat) (x2 : Int32) (Q : Int32 → hO → Prop) : Prop :=
  obd (hIs w a0 3) fun u1 =>
  hcall w fun n3 n4 => hf_X3_row pl (w.1, n3, n4) a0 fun v7 o6 => hret w n3 n4 o6 fun w5 =>
  obd (hgI w5 a0 3 8) fun v8 =>
  ∃ (d10 : hD) (g11 : mS), hRel d10 g11 w5.1 ∧ d10.1 100 = a0 ∧ ∃ c12 : Nat, (c12 < 100 ∧ d10.2.2 c12 = x1) ∧ obd (fc_X3_moves g11 100 c12) fun v15 => hpret w5 d10 v15.2 fun w13 =>
  obd (hIs w13 a0 3) fun u16 =>
  hcall w13 fun n18 n19 => hf_X3_worthL0 pl (w13.1, n18, n19) a0 x2 fun v22 o21 => hret w13 n18 n19 o21 fun w20 =>
  ∃ (d23 : hD) (g24 : mS), hRel d23 g24 w20.1 ∧ d23.1 100 = a0 ∧ ∃ (rq25 : Nat → Int32), w20.1 v7 = some (true, .inr (0, 20, .inl rq25)) ∧ ∃ c26 : Nat, (c26 < 100 ∧ d23.2.2 c26 = x1) ∧ obd (fc_X3_takesBack g24 100 rq25 c26 v8) fun v29 => hpret w20 d23 v29 fun w27 =>
  Q v22 w27.1
abbrev hrm_X3_worthBehindL0 (c s : Nat) : Room := { frames := 9, cells := c, slots := s, locals := 206 }
set_option maxHeartbeats 4000000 in
set_option maxRecDepth 100000 in
theorem hmet_X3_worthBehindL0 (l : Launch) (E : hEnv) (A : Nat → Prop) (w : hW) (a0 : Nat) (x1 : Nat) (x2 : Int32) (Q : Int32 → hO → Prop) (h : hf_X3_worthBehindL0 E.2.2 w a0 x1 x2 Q) : Met l yX3_worthBehind (ws_ yX3_worthBehind cX3_worthBehind 6 (some .int)) (hrm_X3_worthBehindL0 w.2.1 w.2.2) (va_Pc [.ref a0, .ref x1, .int x2] (gPre (hK E A) (hP E A w.1))) (hQi E A Q) w.2.1 w.2.2 A := by
  refine h_met (own := RX3) (by decide +kernel) rfl (Nat.le_of_ble_eq_true rfl) ?_
  intro p e s m args below meth c ls cb sb F hr hlk hK S hl
  have hx := F.1
  have hb := F.2.1
  have hl : lv_has ls 6 [(0, .ref a0), (1, .ref x1), (2, .int x2)] := hl
  unfold hf_X3_worthBehindL0 at h
  refine lv_aload_n hx hb dX3_worthBehind_0 rfl (lv_at hl 0 rfl) ?_
  obtain ⟨u1, e2, h⟩ := obd_inv h
  obtain ⟨n3, n4, h1, h2, h⟩ := hcall_inv h
  refine hcl_X3_row_X3_163 F hK S (hIs_inv e2) h1 h2 h rfl rfl hl.1 (Nat.le_of_ble_eq_true rfl) ⟨Nat.le_of_ble_eq_true rfl, Nat.le_of_ble_eq_true rfl⟩ dX3_worthBehind_1 (fun v7 o6 w5 H locs hw h S => ?_)
  replace h := hret_mp h hw
  clear hw h1 h2
  refine lv_astore_n (lv' := [(3, .ref v7), (0, .ref a0), (1, .ref x1), (2, .int x2)]) hx hb dX3_worthBehind_4 rfl hl (by decide) rfl (fun ls hl => ?_)
  refine lv_aload_n hx hb dX3_worthBehind_5 rfl (lv_at hl 1 rfl) ?_
  obtain ⟨v8, e9, h⟩ := obd_inv h
  refine hg_X3_57 F hK S e9 dX3_worthBehind_6 ?_
  refine lv_istore (lv' := [(4, .int v8), (3, .ref v7), (0, .ref a0), (1, .ref x1), (2, .int x2)]) hx hb dX3_worthBehind_9 hl (by decide) rfl (fun ls hl => ?_)
  refine lv_aload_n hx hb dX3_worthBehind_11 rfl (lv_at hl 2 rfl) ?_
  refine lv_aload_n hx hb dX3_worthBehind_12 rfl (lv_at hl 3 rfl) ?_
  obtain ⟨d10, g11, hrl, hdl, c12, hc, h⟩ := h
  obtain ⟨v15, e14, h⟩ := obd_inv h
  refine hpc_X3_moves_X3_167 F hK S hrl hdl hc e14 rfl rfl hl.1 (Nat.le_of_ble_eq_true rfl) ⟨Nat.le_of_ble_eq_true rfl, Nat.le_of_ble_eq_true rfl⟩ dX3_worthBehind_13 (fun w13 H locs hw hz S => ?_)
  replace h := hpret_mp h hw hz
  clear hw hz
  refine lv_pop hx hb dX3_worthBehind_16 rfl ?_
  refine lv_aload_n hx hb dX3_worthBehind_17 rfl (lv_at hl 2 rfl) ?_
  refine lv_iload_n hx hb dX3_worthBehind_18 rfl (lv_at hl 4 rfl) ?_
  obtain ⟨u16, e17, h⟩ := obd_inv h
  obtain ⟨n18, n19, h1, h2, h⟩ := hcall_inv h
  refine hcl_X3_worthL0_X3_170 F hK S (hIs_inv e17) h1 h2 h rfl rfl hl.1 (Nat.le_of_ble_eq_true rfl) ⟨Nat.le_of_ble_eq_true rfl, Nat.le_of_ble_eq_true rfl⟩ dX3_worthBehind_19 (fun v22 o21 w20 H locs hw h S => ?_)
  replace h := hret_mp h hw
  clear hw h1 h2
  refine lv_istore (lv' := [(5, .int v22), (4, .int v8), (3, .ref v7), (0, .ref a0), (1, .ref x1), (2, .int x2)]) hx hb dX3_worthBehind_22 hl (by decide) rfl (fun ls hl => ?_)
  refine lv_aload_n hx hb dX3_worthBehind_24 rfl (lv_at hl 3 rfl) ?_
  refine lv_aload_n hx hb dX3_worthBehind_25 rfl (lv_at hl 4 rfl) ?_
  refine lv_aload_n hx hb dX3_worthBehind_26 rfl (lv_at hl 2 rfl) ?_
  refine lv_iload hx hb dX3_worthBehind_27 (lv_at hl 1 rfl) ?_
  obtain ⟨d23, g24, hrl, hdl, rq25, hq, c26, hc, h⟩ := h
  obtain ⟨v29, e28, h⟩ := obd_inv h
  refine hpc_X3_takesBack_X3_173 F hK S hrl hdl hq hc e28 rfl rfl hl.1 (Nat.le_of_ble_eq_true rfl) ⟨Nat.le_of_ble_eq_true rfl, Nat.le_of_ble_eq_true rfl⟩ dX3_worthBehind_29 (fun w27 H locs hw hz S => ?_)
  replace h := hpret_mp h hw hz
  clear hw hz
  refine lv_iload hx hb dX3_worthBehind_32 (lv_at hl 0 rfl) ?_
  exact h_iret F hr hlk S h dX3_worthBehind_34
theorem hpc_X3_movesN_X3_167 {p : Program} {l : Launch} {e : Env} {s : State} {m : MethodId} {args : Array Value} {below : List Frame} {meth : Method} {c : Code} {R : Room} {H : Heap} {locs : List Loc} {cb sb pc nL : Nat} {Q : State → Prop} {ls : Array Slot} {rest : List Value} {cc : ByteArray} {E : hEnv} {A : Nat → Prop} {w : hW} {d : hD} {g : mS} {a : Nat} {r : Int32 × mS} (F : CallFix p m c cc nL s args lw_all RX3) (hK : hK E A s) (S : hS E A s.heap cb sb w H locs) (hr : hRel d g w.1) (hd : d.1 100 = a) (h : fc_X3_movesN g 100 = some r) (hrc : R.cells = cb) (hrs : R.slots = sb) (hls : ls.size = nL) (hWt : (rest.map fun v => v.category).sum ≤ 8) (hR : rm_c_X3_movesN.frames + 1 ≤ R.frames ∧ 8 + (7 + 11) + rm_c_X3_movesN.locals ≤ R.locals) (hdg : decode cc pc = .ok (.invokevirtual 167, 3))
    (kk : ∀ (w' : hW) (H1 : Heap) (locs1 : List Loc), w' = (hPut d r.2 w.1, w.2) → hRel d r.2 (hPut d r.2 w.1) → hS E A s.heap cb sb w' H1 locs1 → W p l e R s m args below meth c H1 locs1 (cb - w'.2.1) (sb - w'.2.2) Q (F0 m (pc + 3) ls (.int r.1 :: rest))) : W p l e R s m args below meth c H locs (cb - w.2.1) (sb - w.2.2) Q (F0 m pc ls (.null :: .ref a :: rest)) := by
  subst hd
  obtain ⟨r, gZ⟩ := r
  exact hb_ki hK S hr (va_runV (g := F0 m pc ls _) F (met_c_X3_movesN l (hDE E d g H.size) g 100 hOk100 r gZ h) (cwV 1 F.2.2.2.2 (lw_V q1794 q1134 q1135 q115 q1136) rfl rfl rfl (by decide +kernel) hR) ⟨gBlind (cKm (hDE E d g H.size)), h_recv hK S (ci := 3) rfl (hRel_w hr), fun U hU hW => ⟨rfl, hB_pre hK S hr U hU hW⟩⟩ rfl rfl hls rfl (lv_room hWt) hdg ⟨by rw [hrc]; exact Nat.sub_le _ _, by rw [hrs]; exact Nat.sub_le _ _⟩) kk
theorem hpc_X3_takesBackN_X3_173 {p : Program} {l : Launch} {e : Env} {s : State} {m : MethodId} {args : Array Value} {below : List Frame} {meth : Method} {c : Code} {R : Room} {H : Heap} {locs : List Loc} {cb sb pc nL : Nat} {Q : State → Prop} {ls : Array Slot} {rest : List Value} {cc : ByteArray} {E : hEnv} {A : Nat → Prop} {w : hW} {d : hD} {g : mS} {a : Nat} {q0 : Nat} {rq : Nat → Int32} {x3 : Int32} {r : mS} (F : CallFix p m c cc nL s args lw_all RX3) (hK : hK E A s) (S : hS E A s.heap cb sb w H locs) (hr : hRel d g w.1) (hd : d.1 100 = a) (hq : w.1 q0 = some (true, .inr (0, 20, .inl rq))) (h : fc_X3_takesBackN g 100 rq x3 = some r) (hrc : R.cells = cb) (hrs : R.slots = sb) (hls : ls.size = nL) (hWt : (rest.map fun v => v.category).sum ≤ 8) (hR : rm_c_X3_takesBackN.frames + 1 ≤ R.frames ∧ 8 + (9 + 11) + rm_c_X3_takesBackN.locals ≤ R.locals) (hdg : decode cc pc = .ok (.invokevirtual 173, 3))
    (kk : ∀ (w' : hW) (H1 : Heap) (locs1 : List Loc), w' = (hPut d r w.1, w.2) → hRel d r (hPut d r w.1) → hS E A s.heap cb sb w' H1 locs1 → W p l e R s m args below meth c H1 locs1 (cb - w'.2.1) (sb - w'.2.2) Q (F0 m (pc + 3) ls (rest))) : W p l e R s m args below meth c H locs (cb - w.2.1) (sb - w.2.2) Q (F0 m pc ls (.int x3 :: .ref q0 :: .null :: .ref a :: rest)) := by
  subst hd
  exact hb_kv hK S hr (va_runV (g := F0 m pc ls _) F (met_c_X3_takesBackN l (hDE E d g H.size) g q0 100 rq x3 hOk100 r h) (cwV 3 F.2.2.2.2 (lw_V q1796 q1798 qs39 q115 q1799) rfl rfl rfl (by decide +kernel) hR) ⟨gBlind (cKqm (hDE E d g H.size) q0 rq), h_recv hK S (ci := 3) rfl (hRel_w hr), fun U hU hW => ⟨rfl, (hB_pre hK S hr U hU hW).1, hB_Kq (hKm E A s U hW (by rw [hU]; exact S.1.2.1) (by rw [hU]; exact S.1.2.2.1) hK) hU S hr (hB_A hr S.1.1 (fun q hq => hK.2.2.2 q (Nat.le_trans S.1.2.1 hq))) hq⟩⟩ rfl rfl hls rfl (lv_room hWt) hdg ⟨by rw [hrc]; exact Nat.sub_le _ _, by rw [hrs]; exact Nat.sub_le _ _⟩) kk
def hf_X3_worthBehindL0N (pl : Nat → Nat) (w : hW) (a0 : Nat) (x2 : Int32) (Q : Int32 → hO → Prop) : Prop :=
  obd (hIs w a0 3) fun u1 =>
  hcall w fun n3 n4 => hf_X3_row pl (w.1, n3, n4) a0 fun v7 o6 => hret w n3 n4 o6 fun w5 =>
  obd (hgI w5 a0 3 8) fun v8 =>
  ∃ (d10 : hD) (g11 : mS), hRel d10 g11 w5.1 ∧ d10.1 100 = a0 ∧ obd (fc_X3_movesN g11 100) fun v14 => hpret w5 d10 v14.2 fun w12 =>
  obd (hIs w12 a0 3) fun u15 =>
  hcall w12 fun n17 n18 => hf_X3_worthL0 pl (w12.1, n17, n18) a0 x2 fun v21 o20 => hret w12 n17 n18 o20 fun w19 =>
  ∃ (d22 : hD) (g23 : mS), hRel d22 g23 w19.1 ∧ d22.1 100 = a0 ∧ ∃ (rq24 : Nat → Int32), w19.1 v7 = some (true, .inr (0, 20, .inl rq24)) ∧ obd (fc_X3_takesBackN g23 100 rq24 v8) fun v27 => hpret w19 d22 v27 fun w25 =>
  Q v21 w25.1
abbrev hrm_X3_worthBehindL0N (c s : Nat) : Room := { frames := 9, cells := c, slots := s, locals := 206 }
set_option maxHeartbeats 4000000 in
set_option maxRecDepth 100000 in
theorem hmet_X3_worthBehindL0N (l : Launch) (E : hEnv) (A : Nat → Prop) (w : hW) (a0 : Nat) (x2 : Int32) (Q : Int32 → hO → Prop) (h : hf_X3_worthBehindL0N E.2.2 w a0 x2 Q) : Met l yX3_worthBehind (ws_ yX3_worthBehind cX3_worthBehind 6 (some .int)) (hrm_X3_worthBehindL0N w.2.1 w.2.2) (va_Pc [.ref a0, .null, .int x2] (gPre (hK E A) (hP E A w.1))) (hQi E A Q) w.2.1 w.2.2 A := by
  refine h_met (own := RX3) (by decide +kernel) rfl (Nat.le_of_ble_eq_true rfl) ?_
  intro p e s m args below meth c ls cb sb F hr hlk hK S hl
  have hx := F.1
  have hb := F.2.1
  have hl : lv_has ls 6 [(0, .ref a0), (1, .null), (2, .int x2)] := hl
  unfold hf_X3_worthBehindL0N at h
  refine lv_aload_n hx hb dX3_worthBehind_0 rfl (lv_at hl 0 rfl) ?_
  obtain ⟨u1, e2, h⟩ := obd_inv h
  obtain ⟨n3, n4, h1, h2, h⟩ := hcall_inv h
  refine hcl_X3_row_X3_163 F hK S (hIs_inv e2) h1 h2 h rfl rfl hl.1 (Nat.le_of_ble_eq_true rfl) ⟨Nat.le_of_ble_eq_true rfl, Nat.le_of_ble_eq_true rfl⟩ dX3_worthBehind_1 (fun v7 o6 w5 H locs hw h S => ?_)
  replace h := hret_mp h hw
  clear hw h1 h2
  refine lv_astore_n (lv' := [(3, .ref v7), (0, .ref a0), (1, .null), (2, .int x2)]) hx hb dX3_worthBehind_4 rfl hl (by decide) rfl (fun ls hl => ?_)
  refine lv_aload_n hx hb dX3_worthBehind_5 rfl (lv_at hl 1 rfl) ?_
  obtain ⟨v8, e9, h⟩ := obd_inv h
  refine hg_X3_57 F hK S e9 dX3_worthBehind_6 ?_
  refine lv_istore (lv' := [(4, .int v8), (3, .ref v7), (0, .ref a0), (1, .null), (2, .int x2)]) hx hb dX3_worthBehind_9 hl (by decide) rfl (fun ls hl => ?_)
  refine lv_aload_n hx hb dX3_worthBehind_11 rfl (lv_at hl 2 rfl) ?_
  refine lv_aload_nN hx hb dX3_worthBehind_12 rfl (lv_at hl 3 rfl) ?_
  obtain ⟨d10, g11, hrl, hdl, h⟩ := h
  obtain ⟨v14, e13, h⟩ := obd_inv h
  refine hpc_X3_movesN_X3_167 F hK S hrl hdl e13 rfl rfl hl.1 (Nat.le_of_ble_eq_true rfl) ⟨Nat.le_of_ble_eq_true rfl, Nat.le_of_ble_eq_true rfl⟩ dX3_worthBehind_13 (fun w12 H locs hw hz S => ?_)
  replace h := hpret_mp h hw hz
  clear hw hz
  refine lv_pop hx hb dX3_worthBehind_16 rfl ?_
  refine lv_aload_n hx hb dX3_worthBehind_17 rfl (lv_at hl 2 rfl) ?_
  refine lv_iload_n hx hb dX3_worthBehind_18 rfl (lv_at hl 4 rfl) ?_
  obtain ⟨u15, e16, h⟩ := obd_inv h
  obtain ⟨n17, n18, h1, h2, h⟩ := hcall_inv h
  refine hcl_X3_worthL0_X3_170 F hK S (hIs_inv e16) h1 h2 h rfl rfl hl.1 (Nat.le_of_ble_eq_true rfl) ⟨Nat.le_of_ble_eq_true rfl, Nat.le_of_ble_eq_true rfl⟩ dX3_worthBehind_19 (fun v21 o20 w19 H locs hw h S => ?_)
  replace h := hret_mp h hw
  clear hw h1 h2
  refine lv_istore (lv' := [(5, .int v21), (4, .int v8), (3, .ref v7), (0, .ref a0), (1, .null), (2, .int x2)]) hx hb dX3_worthBehind_22 hl (by decide) rfl (fun ls hl => ?_)
  refine lv_aload_n hx hb dX3_worthBehind_24 rfl (lv_at hl 3 rfl) ?_
  refine lv_aload_nN hx hb dX3_worthBehind_25 rfl (lv_at hl 4 rfl) ?_
  refine lv_aload_n hx hb dX3_worthBehind_26 rfl (lv_at hl 2 rfl) ?_
  refine lv_iload hx hb dX3_worthBehind_27 (lv_at hl 1 rfl) ?_
  obtain ⟨d22, g23, hrl, hdl, rq24, hq, h⟩ := h
  obtain ⟨v27, e26, h⟩ := obd_inv h
  refine hpc_X3_takesBackN_X3_173 F hK S hrl hdl hq e26 rfl rfl hl.1 (Nat.le_of_ble_eq_true rfl) ⟨Nat.le_of_ble_eq_true rfl, Nat.le_of_ble_eq_true rfl⟩ dX3_worthBehind_29 (fun w25 H locs hw hz S => ?_)
  replace h := hpret_mp h hw hz
  clear hw hz
  refine lv_iload hx hb dX3_worthBehind_32 (lv_at hl 0 rfl) ?_
  exact h_iret F hr hlk S h dX3_worthBehind_34
theorem hcl_X3_worthBehindL0_X3_156 {p : Program} {l : Launch} {e : Env} {s : State} {m : MethodId} {args : Array Value} {below : List Frame} {meth : Method} {c : Code} {R : Room} {H : Heap} {locs : List Loc} {cb sb pc nL : Nat} {Q : State → Prop} {ls : Array Slot} {rest : List Value} {cc : ByteArray} {E : hEnv} {A : Nat → Prop} {w : hW} {a0 : Nat} {x1 : Nat} {x2 : Int32} {Q' : Int32 → hO → Prop} {c1 s1 : Nat} (F : CallFix p m c cc nL s args lw_all RX3) (hK : hK E A s) (S : hS E A s.heap cb sb w H locs) (hrv : ∃ (b : Bool) (fs : List Value), w.1 a0 = some (b, .inl (3, fs))) (h1 : c1 ≤ w.2.1) (h2 : s1 ≤ w.2.2) (h : hf_X3_worthBehindL0 E.2.2 (w.1, c1, s1) a0 x1 x2 Q') (hrc : R.cells = cb) (hrs : R.slots = sb) (hls : ls.size = nL) (hWt : (rest.map fun v => v.category).sum ≤ 8) (hR : 9 + 1 ≤ R.frames ∧ 8 + (6 + 11) + 206 ≤ R.locals) (hdg : decode cc pc = .ok (.invokevirtual 156, 3))
    (kk : ∀ (v : Int32) (o : hO) (w' : hW) (H1 : Heap) (locs1 : List Loc), w' = (o, w.2.1 - c1, w.2.2 - s1) → Q' v o → hS E A s.heap cb sb w' H1 locs1 → W p l e R s m args below meth c H1 locs1 (cb - w'.2.1) (sb - w'.2.2) Q (F0 m (pc + 3) ls (.int v :: rest))) : W p l e R s m args below meth c H locs (cb - w.2.1) (sb - w.2.2) Q (F0 m pc ls (.int x2 :: .ref x1 :: .ref a0 :: rest)) :=
  h_ki (g_runV F hK (hKm E A) S.1 (hmet_X3_worthBehindL0 l E A (w.1, c1, s1) a0 x1 x2 Q' h) (cwV 2 F.2.2.2.2 (lw_V q1786 q1787 q1788 q115 q1789) rfl rfl rfl (by decide +kernel) hR) (h_recv hK S (ci := 3) rfl hrv) rfl hls rfl hWt hdg ⟨by rw [hrc]; exact (h_left S h1 h2).1, by rw [hrs]; exact (h_left S h1 h2).2⟩) S h1 h2 kk
theorem hcl_X3_worthBehindL0N_X3_156 {p : Program} {l : Launch} {e : Env} {s : State} {m : MethodId} {args : Array Value} {below : List Frame} {meth : Method} {c : Code} {R : Room} {H : Heap} {locs : List Loc} {cb sb pc nL : Nat} {Q : State → Prop} {ls : Array Slot} {rest : List Value} {cc : ByteArray} {E : hEnv} {A : Nat → Prop} {w : hW} {a0 : Nat} {x2 : Int32} {Q' : Int32 → hO → Prop} {c1 s1 : Nat} (F : CallFix p m c cc nL s args lw_all RX3) (hK : hK E A s) (S : hS E A s.heap cb sb w H locs) (hrv : ∃ (b : Bool) (fs : List Value), w.1 a0 = some (b, .inl (3, fs))) (h1 : c1 ≤ w.2.1) (h2 : s1 ≤ w.2.2) (h : hf_X3_worthBehindL0N E.2.2 (w.1, c1, s1) a0 x2 Q') (hrc : R.cells = cb) (hrs : R.slots = sb) (hls : ls.size = nL) (hWt : (rest.map fun v => v.category).sum ≤ 8) (hR : 9 + 1 ≤ R.frames ∧ 8 + (6 + 11) + 206 ≤ R.locals) (hdg : decode cc pc = .ok (.invokevirtual 156, 3))
    (kk : ∀ (v : Int32) (o : hO) (w' : hW) (H1 : Heap) (locs1 : List Loc), w' = (o, w.2.1 - c1, w.2.2 - s1) → Q' v o → hS E A s.heap cb sb w' H1 locs1 → W p l e R s m args below meth c H1 locs1 (cb - w'.2.1) (sb - w'.2.2) Q (F0 m (pc + 3) ls (.int v :: rest))) : W p l e R s m args below meth c H locs (cb - w.2.1) (sb - w.2.2) Q (F0 m pc ls (.int x2 :: .null :: .ref a0 :: rest)) :=
  h_ki (g_runV F hK (hKm E A) S.1 (hmet_X3_worthBehindL0N l E A (w.1, c1, s1) a0 x2 Q' h) (cwV 2 F.2.2.2.2 (lw_V q1786 q1787 q1788 q115 q1789) rfl rfl rfl (by decide +kernel) hR) (h_recv hK S (ci := 3) rfl hrv) rfl hls rfl hWt hdg ⟨by rw [hrc]; exact (h_left S h1 h2).1, by rw [hrs]; exact (h_left S h1 h2).2⟩) S h1 h2 kk
def hL_X3_worthL1_1 (pl : Nat → Nat) (Q : Int32 → hO → Prop) (K : Int32 → hW → Prop) (y0 : Nat) (y1 : Int32) (y2 : Int32) (y4 : Nat) (y5 : Int32) : Nat → hW → Int32 → Int32 → Prop
  | 0, _, _, _ => False
  | n + 1, w, y3, y6 =>
    hIf (y5 ≤ y6) (
      K y3 w) <|
      obd (haP w y4 y6) fun v34 =>
      obd (hInst 6 w v34) fun v36 =>
      hjoin (fun (v58 : Int32) (g59 : hW) =>
        hL_X3_worthL1_1 pl Q K y0 y1 y2 y4 y5 n g59 v58 (y6 + 1)) fun k61 =>
      hIf (v36 = 0) (
        k61 y3 w) <|
        obd (hIs w v34 6) fun u39 =>
        obd (hIs w v34 6) fun u41 =>
        hcall w fun n43 n44 => hf_X7_isFor pl (w.1, n43, n44) v34 y2 fun v47 o46 => hret w n43 n44 o46 fun w45 =>
        hIf (v47 = 0) (
          k61 y3 w45) <|
          obd (hIs w45 v34 6) fun u49 =>
          obd (hIs w45 y0 3) fun u51 =>
          hcall w45 fun n53 n54 => hf_X3_worthBehindL0 pl (w45.1, n53, n54) y0 v34 (y1 - 1) fun v57 o56 => hret w45 n53 n54 o56 fun w55 =>
          k61 (if y3 < (-v57) then (-v57) else y3) w55
def hf_X3_worthL1 (pl : Nat → Nat) (w : hW) (a0 : Nat) (x1 : Int32) (Q : Int32 → hO → Prop) : Prop :=
  ∃ (d1 : hD) (g2 : mS), hRel d1 g2 w.1 ∧ d1.1 100 = a0 ∧ obd (fc_X3_mover g2 100) fun v5 =>
  ∃ (d6 : hD) (g7 : mS), hRel d6 g7 w.1 ∧ d6.1 100 = a0 ∧ obd (fc_X3_isOver g7 100) fun v10 =>
  hIf (v10 = 0) (
    hIf (x1 = 0) (
      ∃ (d71 : hD) (g72 : mS), hRel d71 g72 w.1 ∧ d71.1 100 = a0 ∧ obd (fc_X3_points g72 100 v5) fun v75 =>
      ∃ (d76 : hD) (g77 : mS), hRel d76 g77 w.1 ∧ d76.1 100 = a0 ∧ obd (fc_X3_points g77 100 (3 - v5)) fun v80 =>
      Q (v75 - v80) w.1) <|
      ∃ (d23 : hD) (g24 : mS), hRel d23 g24 w.1 ∧ d23.1 100 = a0 ∧ obd (fc_X3_canTurn g24 100) fun v27 =>
      hIf (v27 = 0) (
        obd (hIs w a0 3) fun u64 =>
        hcall w fun n66 n67 => hf_X3_worthBehindL0N pl (w.1, n66, n67) a0 (x1 - 1) fun v70 o69 => hret w n66 n67 o69 fun w68 =>
        Q (-v70) w68.1) <|
        obd (hgP w a0 3 3) fun v29 =>
        obd (hLen w v29) fun v31 =>
        hL_X3_worthL1_1 pl Q (fun (v62 : Int32) (w63 : hW) =>
          Q v62 w63.1) a0 x1 v5 v29 v31 FUEL w (-2147483648) 0) <|
    ∃ (d12 : hD) (g13 : mS), hRel d12 g13 w.1 ∧ d12.1 100 = a0 ∧ obd (fc_X3_points g13 100 v5) fun v16 =>
    ∃ (d17 : hD) (g18 : mS), hRel d17 g18 w.1 ∧ d17.1 100 = a0 ∧ obd (fc_X3_points g18 100 (3 - v5)) fun v21 =>
    Q (v16 - v21) w.1
abbrev hrm_X3_worthL1 (c s : Nat) : Room := { frames := 10, cells := c, slots := s, locals := 231 }
set_option maxHeartbeats 4000000 in
set_option maxRecDepth 100000 in
theorem hloop_X3_worthL1_1 {p : Program} {l : Launch} {e : Env} {s : State} {m : MethodId} {args : Array Value} {below : List Frame} {meth : Method} {c : Code} {cb sb : Nat} {E : hEnv} {A : Nat → Prop} {Q : Int32 → hO → Prop} {K : Int32 → hW → Prop} {y0 : Nat} {y1 : Int32} {y2 : Int32} {y4 : Nat} {y5 : Int32} (F : CallFix p m c cX3_worth 8 s args lw_all RX3) (hr : meth.sig.returnType = some .int) (hlk : meth.locks = false) (hK : hK E A s) : ∀ (n : Nat) (w : hW) (y3 : Int32) (y6 : Int32), hL_X3_worthL1_1 E.2.2 Q K y0 y1 y2 y4 y5 n w y3 y6 → ∀ (H : Heap) (locs : List Loc) (ls : Array Slot), hS E A s.heap cb sb w H locs → lv_has ls 8 [(0, .ref y0), (1, .int y1), (2, .int y2), (3, .int y3), (4, .ref y4), (5, .int y5), (6, .int y6)] → (∀ (z3 : Int32) (wz : hW) (H : Heap) (locs : List Loc) (ls : Array Slot), K z3 wz → hS E A s.heap cb sb wz H locs → lv_has ls 8 [(3, .int z3)] → W p l e (hrm_X3_worthL1 cb sb) s m args below meth c H locs (cb - wz.2.1) (sb - wz.2.2) (MQ below (hQi E A Q) args s cb sb A) (F0 m 122 ls [])) → W p l e (hrm_X3_worthL1 cb sb) s m args below meth c H locs (cb - w.2.1) (sb - w.2.2) (MQ below (hQi E A Q) args s cb sb A) (F0 m 64 ls []) := by
  have hx := F.1
  have hb := F.2.1
  intro n
  induction n with
  | zero =>
    intro w y3 y6 h
    exact False.elim h
  | succ n ih =>
    intro w y3 y6 h H locs ls S hl kx
    rw [hL_X3_worthL1_1] at h
    refine lv_iload hx hb dX3_worth_64 (lv_at hl 6 rfl) ?_
    refine lv_iload hx hb dX3_worth_66 (lv_at hl 5 rfl) ?_
    refine lv_icmp_ge (tgt := 122) hx hb dX3_worth_68 (by decide) (fun c33 => ?_) (fun c33 => ?_)
    · rw [hIf_pos c33] at h
      exact kx _ _ _ _ _ h S (lv_sub hl [3] rfl)
    · rw [hIf_neg c33] at h
      refine lv_aload hx hb dX3_worth_71 (lv_at hl 4 rfl) ?_
      refine lv_iload hx hb dX3_worth_73 (lv_at hl 6 rfl) ?_
      obtain ⟨v34, e35, h⟩ := obd_inv h
      refine h_aald F hK S e35 dX3_worth_75 ?_
      refine lv_astore (lv' := [(7, .ref v34), (0, .ref y0), (1, .int y1), (2, .int y2), (3, .int y3), (4, .ref y4), (5, .int y5), (6, .int y6)]) hx hb dX3_worth_76 hl (by decide) rfl (fun ls hl => ?_)
      refine lv_aload hx hb dX3_worth_78 (lv_at hl 0 rfl) ?_
      obtain ⟨v36, e37, h⟩ := obd_inv h
      refine h_inst6 F hK S e37 q1128 dX3_worth_80 ?_
      obtain ⟨k61, hk61, h⟩ := hj2_inv h
      have hJ116 : ∀ (v58 : Int32) (g59 : hW) (H : Heap) (locs : List Loc) (ls : Array Slot), k61 v58 g59 → hS E A s.heap cb sb g59 H locs → lv_has ls 8 [(0, .ref y0), (1, .int y1), (2, .int y2), (3, .int v58), (4, .ref y4), (5, .int y5), (6, .int y6)] → W p l e (hrm_X3_worthL1 cb sb) s m args below meth c H locs (cb - g59.2.1) (sb - g59.2.2) (MQ below (hQi E A Q) args s cb sb A) (F0 m 116 ls []) := by
        intro v58 g59 H locs ls h S hl
        replace h := hk61 _ _ h
        refine lv_iinc (v := (y6 + 1)) (lv' := [(6, .int (y6 + 1)), (0, .ref y0), (1, .int y1), (2, .int y2), (3, .int v58), (4, .ref y4), (5, .int y5)]) hx hb dX3_worth_116 hl (k := 6) rfl rfl (by decide) rfl (fun ls hl => ?_)
        refine lv_goto (tgt := 64) hx hb dX3_worth_119 (by decide) ?_
        exact ih _ _ _ h _ _ _ S (lv_sub hl [1, 2, 3, 4, 5, 6, 0] rfl) kx
      clear hk61
      refine lv_if_eq (tgt := 116) hx hb dX3_worth_83 (by decide) (fun c38 => ?_) (fun c38 => ?_)
      · rw [hIf_pos c38] at h
        exact hJ116 _ _ _ _ _ h S (lv_sub hl [1, 2, 3, 4, 5, 6, 7] rfl)
      · rw [hIf_neg c38] at h
        refine lv_aload hx hb dX3_worth_86 (lv_at hl 0 rfl) ?_
        obtain ⟨u39, e40, h⟩ := obd_inv h
        refine h_cast F hK S e40 rfl q1128 dX3_worth_88 ?_
        refine lv_iload_n hx hb dX3_worth_91 rfl (lv_at hl 3 rfl) ?_
        obtain ⟨u41, e42, h⟩ := obd_inv h
        obtain ⟨n43, n44, h1, h2, h⟩ := hcall_inv h
        refine hcl_X7_isFor_X3_135 F hK S (hIs_inv e42) h1 h2 h rfl rfl hl.1 (Nat.le_of_ble_eq_true rfl) ⟨Nat.le_of_ble_eq_true rfl, Nat.le_of_ble_eq_true rfl⟩ dX3_worth_92 (fun v47 o46 w45 H locs hw h S => ?_)
        replace h := hret_mp h hw
        clear hw h1 h2
        refine lv_if_eq (tgt := 116) hx hb dX3_worth_95 (by decide) (fun c48 => ?_) (fun c48 => ?_)
        · rw [hIf_pos c48] at h
          exact hJ116 _ _ _ _ _ h S (lv_sub hl [1, 2, 3, 4, 5, 6, 7] rfl)
        · rw [hIf_neg c48] at h
          refine lv_iload_n hx hb dX3_worth_98 rfl (lv_at hl 4 rfl) ?_
          refine lv_aload_n hx hb dX3_worth_99 rfl (lv_at hl 1 rfl) ?_
          refine lv_aload hx hb dX3_worth_100 (lv_at hl 0 rfl) ?_
          obtain ⟨u49, e50, h⟩ := obd_inv h
          refine h_cast F hK S e50 rfl q1128 dX3_worth_102 ?_
          refine lv_iload_n hx hb dX3_worth_105 rfl (lv_at hl 2 rfl) ?_
          refine lv_iconst (v := 1) hx hb dX3_worth_106 (by decide) ?_
          refine lv_isub hx hb dX3_worth_107 ?_
          obtain ⟨u51, e52, h⟩ := obd_inv h
          obtain ⟨n53, n54, h1, h2, h⟩ := hcall_inv h
          refine hcl_X3_worthBehindL0_X3_156 F hK S (hIs_inv e52) h1 h2 h rfl rfl hl.1 (Nat.le_of_ble_eq_true rfl) ⟨Nat.le_of_ble_eq_true rfl, Nat.le_of_ble_eq_true rfl⟩ dX3_worth_108 (fun v57 o56 w55 H locs hw h S => ?_)
          replace h := hret_mp h hw
          clear hw h1 h2
          refine lv_ineg hx hb dX3_worth_111 ?_
          refine va_mmax hx hb (F.2.2.1.trans hl.1.symm) F.2.2.2.1 (F.2.2.2.2 _ q1137) (F.2.2.2.2 _ q594) (F.2.2.2.2 _ q128) (F.2.2.2.2 _ q595) (Nat.le_of_ble_eq_true rfl) (Nat.le_of_ble_eq_true rfl) (Nat.sub_le _ _) (Nat.sub_le _ _) dX3_worth_112 ?_
          refine lv_istore_n (lv' := [(3, .int (if y3 < (-v57) then (-v57) else y3)), (7, .ref v34), (0, .ref y0), (1, .int y1), (2, .int y2), (4, .ref y4), (5, .int y5), (6, .int y6)]) hx hb dX3_worth_115 rfl hl (by decide) rfl (fun ls hl => ?_)
          exact hJ116 _ _ _ _ _ h S (lv_sub hl [2, 3, 4, 0, 5, 6, 7] rfl)
set_option maxHeartbeats 4000000 in
set_option maxRecDepth 100000 in
theorem hmet_X3_worthL1 (l : Launch) (E : hEnv) (A : Nat → Prop) (w : hW) (a0 : Nat) (x1 : Int32) (Q : Int32 → hO → Prop) (h : hf_X3_worthL1 E.2.2 w a0 x1 Q) : Met l yX3_worth (ws_ yX3_worth cX3_worth 8 (some .int)) (hrm_X3_worthL1 w.2.1 w.2.2) (va_Pc [.ref a0, .int x1] (gPre (hK E A) (hP E A w.1))) (hQi E A Q) w.2.1 w.2.2 A := by
  refine h_met (own := RX3) (by decide +kernel) rfl (Nat.le_of_ble_eq_true rfl) ?_
  intro p e s m args below meth c ls cb sb F hr hlk hK S hl
  have hx := F.1
  have hb := F.2.1
  have hl : lv_has ls 8 [(0, .ref a0), (1, .int x1)] := hl
  unfold hf_X3_worthL1 at h
  refine lv_aload_n hx hb dX3_worth_0 rfl (lv_at hl 0 rfl) ?_
  obtain ⟨d1, g2, hrl, hdl, h⟩ := h
  obtain ⟨v5, e4, h⟩ := obd_inv h
  refine hpc_X3_mover_X3_131 F hK S hrl hdl e4 rfl rfl hl.1 (Nat.le_of_ble_eq_true rfl) ⟨Nat.le_of_ble_eq_true rfl, Nat.le_of_ble_eq_true rfl⟩ dX3_worth_1 (fun H locs S => ?_)
  refine lv_istore_n (lv' := [(2, .int v5), (0, .ref a0), (1, .int x1)]) hx hb dX3_worth_4 rfl hl (by decide) rfl (fun ls hl => ?_)
  refine lv_aload_n hx hb dX3_worth_5 rfl (lv_at hl 1 rfl) ?_
  obtain ⟨d6, g7, hrl, hdl, h⟩ := h
  obtain ⟨v10, e9, h⟩ := obd_inv h
  refine hpc_X3_isOver_X3_108 F hK S hrl hdl e9 rfl rfl hl.1 (Nat.le_of_ble_eq_true rfl) ⟨Nat.le_of_ble_eq_true rfl, Nat.le_of_ble_eq_true rfl⟩ dX3_worth_6 (fun H locs S => ?_)
  refine lv_if_ne (tgt := 16) hx hb dX3_worth_9 (by decide) (fun c11 => ?_) (fun c11 => ?_)
  · rw [hIf_neg c11] at h
    refine lv_aload_n hx hb dX3_worth_16 rfl (lv_at hl 1 rfl) ?_
    refine lv_iload_n hx hb dX3_worth_17 rfl (lv_at hl 0 rfl) ?_
    obtain ⟨d12, g13, hrl, hdl, h⟩ := h
    obtain ⟨v16, e15, h⟩ := obd_inv h
    refine hpc_X3_points_X3_101 F hK S hrl hdl e15 rfl rfl hl.1 (Nat.le_of_ble_eq_true rfl) ⟨Nat.le_of_ble_eq_true rfl, Nat.le_of_ble_eq_true rfl⟩ dX3_worth_18 (fun H locs S => ?_)
    refine lv_aload_n hx hb dX3_worth_21 rfl (lv_at hl 1 rfl) ?_
    refine lv_iconst (v := 3) hx hb dX3_worth_22 (by decide) ?_
    refine lv_iload_n hx hb dX3_worth_23 rfl (lv_at hl 0 rfl) ?_
    refine lv_isub hx hb dX3_worth_24 ?_
    obtain ⟨d17, g18, hrl, hdl, h⟩ := h
    obtain ⟨v21, e20, h⟩ := obd_inv h
    refine hpc_X3_points_X3_101 F hK S hrl hdl e20 rfl rfl hl.1 (Nat.le_of_ble_eq_true rfl) ⟨Nat.le_of_ble_eq_true rfl, Nat.le_of_ble_eq_true rfl⟩ dX3_worth_25 (fun H locs S => ?_)
    refine lv_isub hx hb dX3_worth_28 ?_
    exact h_iret F hr hlk S h dX3_worth_29
  · rw [hIf_pos c11] at h
    refine lv_iload_n hx hb dX3_worth_12 rfl (lv_at hl 2 rfl) ?_
    refine lv_if_ne (tgt := 30) hx hb dX3_worth_13 (by decide) (fun c22 => ?_) (fun c22 => ?_)
    · rw [hIf_neg c22] at h
      refine lv_aload_n hx hb dX3_worth_30 rfl (lv_at hl 1 rfl) ?_
      obtain ⟨d23, g24, hrl, hdl, h⟩ := h
      obtain ⟨v27, e26, h⟩ := obd_inv h
      refine hpc_X3_canTurn_X3_153 F hK S hrl hdl e26 rfl rfl hl.1 (Nat.le_of_ble_eq_true rfl) ⟨Nat.le_of_ble_eq_true rfl, Nat.le_of_ble_eq_true rfl⟩ dX3_worth_31 (fun H locs S => ?_)
      refine lv_if_ne (tgt := 47) hx hb dX3_worth_34 (by decide) (fun c28 => ?_) (fun c28 => ?_)
      · rw [hIf_neg c28] at h
        refine lv_ldc (v := (-2147483648)) hx hb F.2.2.2.1 (F.2.2.2.2 _ q1800) dX3_worth_47 ?_
        refine lv_istore_n (lv' := [(3, .int (-2147483648)), (2, .int v5), (0, .ref a0), (1, .int x1)]) hx hb dX3_worth_49 rfl hl (by decide) rfl (fun ls hl => ?_)
        refine lv_aload_n hx hb dX3_worth_50 rfl (lv_at hl 2 rfl) ?_
        obtain ⟨v29, e30, h⟩ := obd_inv h
        refine hg_X3_9 F hK S e30 dX3_worth_51 ?_
        refine lv_astore (lv' := [(4, .ref v29), (3, .int (-2147483648)), (2, .int v5), (0, .ref a0), (1, .int x1)]) hx hb dX3_worth_54 hl (by decide) rfl (fun ls hl => ?_)
        refine lv_aload hx hb dX3_worth_56 (lv_at hl 0 rfl) ?_
        obtain ⟨v31, e32, h⟩ := obd_inv h
        refine h_alen F hK S e32 dX3_worth_58 ?_
        refine lv_istore (lv' := [(5, .int v31), (4, .ref v29), (3, .int (-2147483648)), (2, .int v5), (0, .ref a0), (1, .int x1)]) hx hb dX3_worth_59 hl (by decide) rfl (fun ls hl => ?_)
        refine lv_iconst (v := 0) hx hb dX3_worth_61 (by decide) ?_
        refine lv_istore (lv' := [(6, .int 0), (5, .int v31), (4, .ref v29), (3, .int (-2147483648)), (2, .int v5), (0, .ref a0), (1, .int x1)]) hx hb dX3_worth_62 hl (by decide) rfl (fun ls hl => ?_)
        refine hloop_X3_worthL1_1 F hr hlk hK _ _ _ _ h _ _ _ S (lv_sub hl [5, 6, 4, 3, 2, 1, 0] rfl) (fun v62 w63 H locs ls h S hl => ?_)
        refine lv_iload_n hx hb dX3_worth_122 rfl (lv_at hl 0 rfl) ?_
        exact h_iret F hr hlk S h dX3_worth_123
      · rw [hIf_pos c28] at h
        refine lv_aload_n hx hb dX3_worth_37 rfl (lv_at hl 1 rfl) ?_
        refine lv_null hx hb dX3_worth_38 ?_
        refine lv_iload_n hx hb dX3_worth_39 rfl (lv_at hl 2 rfl) ?_
        refine lv_iconst (v := 1) hx hb dX3_worth_40 (by decide) ?_
        refine lv_isub hx hb dX3_worth_41 ?_
        obtain ⟨u64, e65, h⟩ := obd_inv h
        obtain ⟨n66, n67, h1, h2, h⟩ := hcall_inv h
        refine hcl_X3_worthBehindL0N_X3_156 F hK S (hIs_inv e65) h1 h2 h rfl rfl hl.1 (Nat.le_of_ble_eq_true rfl) ⟨Nat.le_of_ble_eq_true rfl, Nat.le_of_ble_eq_true rfl⟩ dX3_worth_42 (fun v70 o69 w68 H locs hw h S => ?_)
        replace h := hret_mp h hw
        clear hw h1 h2
        refine lv_ineg hx hb dX3_worth_45 ?_
        exact h_iret F hr hlk S h dX3_worth_46
    · rw [hIf_pos c22] at h
      refine lv_aload_n hx hb dX3_worth_16 rfl (lv_at hl 1 rfl) ?_
      refine lv_iload_n hx hb dX3_worth_17 rfl (lv_at hl 0 rfl) ?_
      obtain ⟨d71, g72, hrl, hdl, h⟩ := h
      obtain ⟨v75, e74, h⟩ := obd_inv h
      refine hpc_X3_points_X3_101 F hK S hrl hdl e74 rfl rfl hl.1 (Nat.le_of_ble_eq_true rfl) ⟨Nat.le_of_ble_eq_true rfl, Nat.le_of_ble_eq_true rfl⟩ dX3_worth_18 (fun H locs S => ?_)
      refine lv_aload_n hx hb dX3_worth_21 rfl (lv_at hl 1 rfl) ?_
      refine lv_iconst (v := 3) hx hb dX3_worth_22 (by decide) ?_
      refine lv_iload_n hx hb dX3_worth_23 rfl (lv_at hl 0 rfl) ?_
      refine lv_isub hx hb dX3_worth_24 ?_
      obtain ⟨d76, g77, hrl, hdl, h⟩ := h
      obtain ⟨v80, e79, h⟩ := obd_inv h
      refine hpc_X3_points_X3_101 F hK S hrl hdl e79 rfl rfl hl.1 (Nat.le_of_ble_eq_true rfl) ⟨Nat.le_of_ble_eq_true rfl, Nat.le_of_ble_eq_true rfl⟩ dX3_worth_25 (fun H locs S => ?_)
      refine lv_isub hx hb dX3_worth_28 ?_
      exact h_iret F hr hlk S h dX3_worth_29
theorem hcl_X3_worthL1_X3_170 {p : Program} {l : Launch} {e : Env} {s : State} {m : MethodId} {args : Array Value} {below : List Frame} {meth : Method} {c : Code} {R : Room} {H : Heap} {locs : List Loc} {cb sb pc nL : Nat} {Q : State → Prop} {ls : Array Slot} {rest : List Value} {cc : ByteArray} {E : hEnv} {A : Nat → Prop} {w : hW} {a0 : Nat} {x1 : Int32} {Q' : Int32 → hO → Prop} {c1 s1 : Nat} (F : CallFix p m c cc nL s args lw_all RX3) (hK : hK E A s) (S : hS E A s.heap cb sb w H locs) (hrv : ∃ (b : Bool) (fs : List Value), w.1 a0 = some (b, .inl (3, fs))) (h1 : c1 ≤ w.2.1) (h2 : s1 ≤ w.2.2) (h : hf_X3_worthL1 E.2.2 (w.1, c1, s1) a0 x1 Q') (hrc : R.cells = cb) (hrs : R.slots = sb) (hls : ls.size = nL) (hWt : (rest.map fun v => v.category).sum ≤ 8) (hR : 10 + 1 ≤ R.frames ∧ 8 + (8 + 11) + 231 ≤ R.locals) (hdg : decode cc pc = .ok (.invokevirtual 170, 3))
    (kk : ∀ (v : Int32) (o : hO) (w' : hW) (H1 : Heap) (locs1 : List Loc), w' = (o, w.2.1 - c1, w.2.2 - s1) → Q' v o → hS E A s.heap cb sb w' H1 locs1 → W p l e R s m args below meth c H1 locs1 (cb - w'.2.1) (sb - w'.2.2) Q (F0 m (pc + 3) ls (.int v :: rest))) : W p l e R s m args below meth c H locs (cb - w.2.1) (sb - w.2.2) Q (F0 m pc ls (.int x1 :: .ref a0 :: rest)) :=
  h_ki (g_runV F hK (hKm E A) S.1 (hmet_X3_worthL1 l E A (w.1, c1, s1) a0 x1 Q' h) (cwV 1 F.2.2.2.2 (lw_V q1795 q1782 q1783 q115 q1784) rfl rfl rfl (by decide +kernel) hR) (h_recv hK S (ci := 3) rfl hrv) rfl hls rfl hWt hdg ⟨by rw [hrc]; exact (h_left S h1 h2).1, by rw [hrs]; exact (h_left S h1 h2).2⟩) S h1 h2 kk
def hf_X3_worthBehindL1 (pl : Nat → Nat) (w : hW) (a0 : Nat) (x1 : Nat) (x2 : Int32) (Q : Int32 → hO → Prop) : Prop :=
  obd (hIs w a0 3) fun u1 =>
  hcall w fun n3 n4 => hf_X3_row pl (w.1, n3, n4) a0 fun v7 o6 => hret w n3 n4 o6 fun w5 =>
  obd (hgI w5 a0 3 8) fun v8 =>
  ∃ (d10 : hD) (g11 : mS), hRel d10 g11 w5.1 ∧ d10.1 100 = a0 ∧ ∃ c12 : Nat, (c12 < 100 ∧ d10.2.2 c12 = x1) ∧ obd (fc_X3_moves g11 100 c12) fun v15 => hpret w5 d10 v15.2 fun w13 =>
  obd (hIs w13 a0 3) fun u16 =>
  hcall w13 fun n18 n19 => hf_X3_worthL1 pl (w13.1, n18, n19) a0 x2 fun v22 o21 => hret w13 n18 n19 o21 fun w20 =>
  ∃ (d23 : hD) (g24 : mS), hRel d23 g24 w20.1 ∧ d23.1 100 = a0 ∧ ∃ (rq25 : Nat → Int32), w20.1 v7 = some (true, .inr (0, 20, .inl rq25)) ∧ ∃ c26 : Nat, (c26 < 100 ∧ d23.2.2 c26 = x1) ∧ obd (fc_X3_takesBack g24 100 rq25 c26 v8) fun v29 => hpret w20 d23 v29 fun w27 =>
  Q v22 w27.1
abbrev hrm_X3_worthBehindL1 (c s : Nat) : Room := { frames := 11, cells := c, slots := s, locals := 258 }
set_option maxHeartbeats 4000000 in
set_option maxRecDepth 100000 in
theorem hmet_X3_worthBehindL1 (l : Launch) (E : hEnv) (A : Nat → Prop) (w : hW) (a0 : Nat) (x1 : Nat) (x2 : Int32) (Q : Int32 → hO → Prop) (h : hf_X3_worthBehindL1 E.2.2 w a0 x1 x2 Q) : Met l yX3_worthBehind (ws_ yX3_worthBehind cX3_worthBehind 6 (some .int)) (hrm_X3_worthBehindL1 w.2.1 w.2.2) (va_Pc [.ref a0, .ref x1, .int x2] (gPre (hK E A) (hP E A w.1))) (hQi E A Q) w.2.1 w.2.2 A := by
  refine h_met (own := RX3) (by decide +kernel) rfl (Nat.le_of_ble_eq_true rfl) ?_
  intro p e s m args below meth c ls cb sb F hr hlk hK S hl
  have hx := F.1
  have hb := F.2.1
  have hl : lv_has ls 6 [(0, .ref a0), (1, .ref x1), (2, .int x2)] := hl
  unfold hf_X3_worthBehindL1 at h
  refine lv_aload_n hx hb dX3_worthBehind_0 rfl (lv_at hl 0 rfl) ?_
  obtain ⟨u1, e2, h⟩ := obd_inv h
  obtain ⟨n3, n4, h1, h2, h⟩ := hcall_inv h
  refine hcl_X3_row_X3_163 F hK S (hIs_inv e2) h1 h2 h rfl rfl hl.1 (Nat.le_of_ble_eq_true rfl) ⟨Nat.le_of_ble_eq_true rfl, Nat.le_of_ble_eq_true rfl⟩ dX3_worthBehind_1 (fun v7 o6 w5 H locs hw h S => ?_)
  replace h := hret_mp h hw
  clear hw h1 h2
  refine lv_astore_n (lv' := [(3, .ref v7), (0, .ref a0), (1, .ref x1), (2, .int x2)]) hx hb dX3_worthBehind_4 rfl hl (by decide) rfl (fun ls hl => ?_)
  refine lv_aload_n hx hb dX3_worthBehind_5 rfl (lv_at hl 1 rfl) ?_
  obtain ⟨v8, e9, h⟩ := obd_inv h
  refine hg_X3_57 F hK S e9 dX3_worthBehind_6 ?_
  refine lv_istore (lv' := [(4, .int v8), (3, .ref v7), (0, .ref a0), (1, .ref x1), (2, .int x2)]) hx hb dX3_worthBehind_9 hl (by decide) rfl (fun ls hl => ?_)
  refine lv_aload_n hx hb dX3_worthBehind_11 rfl (lv_at hl 2 rfl) ?_
  refine lv_aload_n hx hb dX3_worthBehind_12 rfl (lv_at hl 3 rfl) ?_
  obtain ⟨d10, g11, hrl, hdl, c12, hc, h⟩ := h
  obtain ⟨v15, e14, h⟩ := obd_inv h
  refine hpc_X3_moves_X3_167 F hK S hrl hdl hc e14 rfl rfl hl.1 (Nat.le_of_ble_eq_true rfl) ⟨Nat.le_of_ble_eq_true rfl, Nat.le_of_ble_eq_true rfl⟩ dX3_worthBehind_13 (fun w13 H locs hw hz S => ?_)
  replace h := hpret_mp h hw hz
  clear hw hz
  refine lv_pop hx hb dX3_worthBehind_16 rfl ?_
  refine lv_aload_n hx hb dX3_worthBehind_17 rfl (lv_at hl 2 rfl) ?_
  refine lv_iload_n hx hb dX3_worthBehind_18 rfl (lv_at hl 4 rfl) ?_
  obtain ⟨u16, e17, h⟩ := obd_inv h
  obtain ⟨n18, n19, h1, h2, h⟩ := hcall_inv h
  refine hcl_X3_worthL1_X3_170 F hK S (hIs_inv e17) h1 h2 h rfl rfl hl.1 (Nat.le_of_ble_eq_true rfl) ⟨Nat.le_of_ble_eq_true rfl, Nat.le_of_ble_eq_true rfl⟩ dX3_worthBehind_19 (fun v22 o21 w20 H locs hw h S => ?_)
  replace h := hret_mp h hw
  clear hw h1 h2
  refine lv_istore (lv' := [(5, .int v22), (4, .int v8), (3, .ref v7), (0, .ref a0), (1, .ref x1), (2, .int x2)]) hx hb dX3_worthBehind_22 hl (by decide) rfl (fun ls hl => ?_)
  refine lv_aload_n hx hb dX3_worthBehind_24 rfl (lv_at hl 3 rfl) ?_
  refine lv_aload_n hx hb dX3_worthBehind_25 rfl (lv_at hl 4 rfl) ?_
  refine lv_aload_n hx hb dX3_worthBehind_26 rfl (lv_at hl 2 rfl) ?_
  refine lv_iload hx hb dX3_worthBehind_27 (lv_at hl 1 rfl) ?_
  obtain ⟨d23, g24, hrl, hdl, rq25, hq, c26, hc, h⟩ := h
  obtain ⟨v29, e28, h⟩ := obd_inv h
  refine hpc_X3_takesBack_X3_173 F hK S hrl hdl hq hc e28 rfl rfl hl.1 (Nat.le_of_ble_eq_true rfl) ⟨Nat.le_of_ble_eq_true rfl, Nat.le_of_ble_eq_true rfl⟩ dX3_worthBehind_29 (fun w27 H locs hw hz S => ?_)
  replace h := hpret_mp h hw hz
  clear hw hz
  refine lv_iload hx hb dX3_worthBehind_32 (lv_at hl 0 rfl) ?_
  exact h_iret F hr hlk S h dX3_worthBehind_34
def hf_X3_worthBehindL1N (pl : Nat → Nat) (w : hW) (a0 : Nat) (x2 : Int32) (Q : Int32 → hO → Prop) : Prop :=
  obd (hIs w a0 3) fun u1 =>
  hcall w fun n3 n4 => hf_X3_row pl (w.1, n3, n4) a0 fun v7 o6 => hret w n3 n4 o6 fun w5 =>
  obd (hgI w5 a0 3 8) fun v8 =>
  ∃ (d10 : hD) (g11 : mS), hRel d10 g11 w5.1 ∧ d10.1 100 = a0 ∧ obd (fc_X3_movesN g11 100) fun v14 => hpret w5 d10 v14.2 fun w12 =>
  obd (hIs w12 a0 3) fun u15 =>
  hcall w12 fun n17 n18 => hf_X3_worthL1 pl (w12.1, n17, n18) a0 x2 fun v21 o20 => hret w12 n17 n18 o20 fun w19 =>
  ∃ (d22 : hD) (g23 : mS), hRel d22 g23 w19.1 ∧ d22.1 100 = a0 ∧ ∃ (rq24 : Nat → Int32), w19.1 v7 = some (true, .inr (0, 20, .inl rq24)) ∧ obd (fc_X3_takesBackN g23 100 rq24 v8) fun v27 => hpret w19 d22 v27 fun w25 =>
  Q v21 w25.1
abbrev hrm_X3_worthBehindL1N (c s : Nat) : Room := { frames := 11, cells := c, slots := s, locals := 258 }
set_option maxHeartbeats 4000000 in
set_option maxRecDepth 100000 in
theorem hmet_X3_worthBehindL1N (l : Launch) (E : hEnv) (A : Nat → Prop) (w : hW) (a0 : Nat) (x2 : Int32) (Q : Int32 → hO → Prop) (h : hf_X3_worthBehindL1N E.2.2 w a0 x2 Q) : Met l yX3_worthBehind (ws_ yX3_worthBehind cX3_worthBehind 6 (some .int)) (hrm_X3_worthBehindL1N w.2.1 w.2.2) (va_Pc [.ref a0, .null, .int x2] (gPre (hK E A) (hP E A w.1))) (hQi E A Q) w.2.1 w.2.2 A := by
  refine h_met (own := RX3) (by decide +kernel) rfl (Nat.le_of_ble_eq_true rfl) ?_
  intro p e s m args below meth c ls cb sb F hr hlk hK S hl
  have hx := F.1
  have hb := F.2.1
  have hl : lv_has ls 6 [(0, .ref a0), (1, .null), (2, .int x2)] := hl
  unfold hf_X3_worthBehindL1N at h
  refine lv_aload_n hx hb dX3_worthBehind_0 rfl (lv_at hl 0 rfl) ?_
  obtain ⟨u1, e2, h⟩ := obd_inv h
  obtain ⟨n3, n4, h1, h2, h⟩ := hcall_inv h
  refine hcl_X3_row_X3_163 F hK S (hIs_inv e2) h1 h2 h rfl rfl hl.1 (Nat.le_of_ble_eq_true rfl) ⟨Nat.le_of_ble_eq_true rfl, Nat.le_of_ble_eq_true rfl⟩ dX3_worthBehind_1 (fun v7 o6 w5 H locs hw h S => ?_)
  replace h := hret_mp h hw
  clear hw h1 h2
  refine lv_astore_n (lv' := [(3, .ref v7), (0, .ref a0), (1, .null), (2, .int x2)]) hx hb dX3_worthBehind_4 rfl hl (by decide) rfl (fun ls hl => ?_)
  refine lv_aload_n hx hb dX3_worthBehind_5 rfl (lv_at hl 1 rfl) ?_
  obtain ⟨v8, e9, h⟩ := obd_inv h
  refine hg_X3_57 F hK S e9 dX3_worthBehind_6 ?_
  refine lv_istore (lv' := [(4, .int v8), (3, .ref v7), (0, .ref a0), (1, .null), (2, .int x2)]) hx hb dX3_worthBehind_9 hl (by decide) rfl (fun ls hl => ?_)
  refine lv_aload_n hx hb dX3_worthBehind_11 rfl (lv_at hl 2 rfl) ?_
  refine lv_aload_nN hx hb dX3_worthBehind_12 rfl (lv_at hl 3 rfl) ?_
  obtain ⟨d10, g11, hrl, hdl, h⟩ := h
  obtain ⟨v14, e13, h⟩ := obd_inv h
  refine hpc_X3_movesN_X3_167 F hK S hrl hdl e13 rfl rfl hl.1 (Nat.le_of_ble_eq_true rfl) ⟨Nat.le_of_ble_eq_true rfl, Nat.le_of_ble_eq_true rfl⟩ dX3_worthBehind_13 (fun w12 H locs hw hz S => ?_)
  replace h := hpret_mp h hw hz
  clear hw hz
  refine lv_pop hx hb dX3_worthBehind_16 rfl ?_
  refine lv_aload_n hx hb dX3_worthBehind_17 rfl (lv_at hl 2 rfl) ?_
  refine lv_iload_n hx hb dX3_worthBehind_18 rfl (lv_at hl 4 rfl) ?_
  obtain ⟨u15, e16, h⟩ := obd_inv h
  obtain ⟨n17, n18, h1, h2, h⟩ := hcall_inv h
  refine hcl_X3_worthL1_X3_170 F hK S (hIs_inv e16) h1 h2 h rfl rfl hl.1 (Nat.le_of_ble_eq_true rfl) ⟨Nat.le_of_ble_eq_true rfl, Nat.le_of_ble_eq_true rfl⟩ dX3_worthBehind_19 (fun v21 o20 w19 H locs hw h S => ?_)
  replace h := hret_mp h hw
  clear hw h1 h2
  refine lv_istore (lv' := [(5, .int v21), (4, .int v8), (3, .ref v7), (0, .ref a0), (1, .null), (2, .int x2)]) hx hb dX3_worthBehind_22 hl (by decide) rfl (fun ls hl => ?_)
  refine lv_aload_n hx hb dX3_worthBehind_24 rfl (lv_at hl 3 rfl) ?_
  refine lv_aload_nN hx hb dX3_worthBehind_25 rfl (lv_at hl 4 rfl) ?_
  refine lv_aload_n hx hb dX3_worthBehind_26 rfl (lv_at hl 2 rfl) ?_
  refine lv_iload hx hb dX3_worthBehind_27 (lv_at hl 1 rfl) ?_
  obtain ⟨d22, g23, hrl, hdl, rq24, hq, h⟩ := h
  obtain ⟨v27, e26, h⟩ := obd_inv h
  refine hpc_X3_takesBackN_X3_173 F hK S hrl hdl hq e26 rfl rfl hl.1 (Nat.le_of_ble_eq_true rfl) ⟨Nat.le_of_ble_eq_true rfl, Nat.le_of_ble_eq_true rfl⟩ dX3_worthBehind_29 (fun w25 H locs hw hz S => ?_)
  replace h := hpret_mp h hw hz
  clear hw hz
  refine lv_iload hx hb dX3_worthBehind_32 (lv_at hl 0 rfl) ?_
  exact h_iret F hr hlk S h dX3_worthBehind_34
theorem hcl_X3_worthBehindL1_X3_156 {p : Program} {l : Launch} {e : Env} {s : State} {m : MethodId} {args : Array Value} {below : List Frame} {meth : Method} {c : Code} {R : Room} {H : Heap} {locs : List Loc} {cb sb pc nL : Nat} {Q : State → Prop} {ls : Array Slot} {rest : List Value} {cc : ByteArray} {E : hEnv} {A : Nat → Prop} {w : hW} {a0 : Nat} {x1 : Nat} {x2 : Int32} {Q' : Int32 → hO → Prop} {c1 s1 : Nat} (F : CallFix p m c cc nL s args lw_all RX3) (hK : hK E A s) (S : hS E A s.heap cb sb w H locs) (hrv : ∃ (b : Bool) (fs : List Value), w.1 a0 = some (b, .inl (3, fs))) (h1 : c1 ≤ w.2.1) (h2 : s1 ≤ w.2.2) (h : hf_X3_worthBehindL1 E.2.2 (w.1, c1, s1) a0 x1 x2 Q') (hrc : R.cells = cb) (hrs : R.slots = sb) (hls : ls.size = nL) (hWt : (rest.map fun v => v.category).sum ≤ 8) (hR : 11 + 1 ≤ R.frames ∧ 8 + (6 + 11) + 258 ≤ R.locals) (hdg : decode cc pc = .ok (.invokevirtual 156, 3))
    (kk : ∀ (v : Int32) (o : hO) (w' : hW) (H1 : Heap) (locs1 : List Loc), w' = (o, w.2.1 - c1, w.2.2 - s1) → Q' v o → hS E A s.heap cb sb w' H1 locs1 → W p l e R s m args below meth c H1 locs1 (cb - w'.2.1) (sb - w'.2.2) Q (F0 m (pc + 3) ls (.int v :: rest))) : W p l e R s m args below meth c H locs (cb - w.2.1) (sb - w.2.2) Q (F0 m pc ls (.int x2 :: .ref x1 :: .ref a0 :: rest)) :=
  h_ki (g_runV F hK (hKm E A) S.1 (hmet_X3_worthBehindL1 l E A (w.1, c1, s1) a0 x1 x2 Q' h) (cwV 2 F.2.2.2.2 (lw_V q1786 q1787 q1788 q115 q1789) rfl rfl rfl (by decide +kernel) hR) (h_recv hK S (ci := 3) rfl hrv) rfl hls rfl hWt hdg ⟨by rw [hrc]; exact (h_left S h1 h2).1, by rw [hrs]; exact (h_left S h1 h2).2⟩) S h1 h2 kk
theorem hcl_X3_worthBehindL1N_X3_156 {p : Program} {l : Launch} {e : Env} {s : State} {m : MethodId} {args : Array Value} {below : List Frame} {meth : Method} {c : Code} {R : Room} {H : Heap} {locs : List Loc} {cb sb pc nL : Nat} {Q : State → Prop} {ls : Array Slot} {rest : List Value} {cc : ByteArray} {E : hEnv} {A : Nat → Prop} {w : hW} {a0 : Nat} {x2 : Int32} {Q' : Int32 → hO → Prop} {c1 s1 : Nat} (F : CallFix p m c cc nL s args lw_all RX3) (hK : hK E A s) (S : hS E A s.heap cb sb w H locs) (hrv : ∃ (b : Bool) (fs : List Value), w.1 a0 = some (b, .inl (3, fs))) (h1 : c1 ≤ w.2.1) (h2 : s1 ≤ w.2.2) (h : hf_X3_worthBehindL1N E.2.2 (w.1, c1, s1) a0 x2 Q') (hrc : R.cells = cb) (hrs : R.slots = sb) (hls : ls.size = nL) (hWt : (rest.map fun v => v.category).sum ≤ 8) (hR : 11 + 1 ≤ R.frames ∧ 8 + (6 + 11) + 258 ≤ R.locals) (hdg : decode cc pc = .ok (.invokevirtual 156, 3))
    (kk : ∀ (v : Int32) (o : hO) (w' : hW) (H1 : Heap) (locs1 : List Loc), w' = (o, w.2.1 - c1, w.2.2 - s1) → Q' v o → hS E A s.heap cb sb w' H1 locs1 → W p l e R s m args below meth c H1 locs1 (cb - w'.2.1) (sb - w'.2.2) Q (F0 m (pc + 3) ls (.int v :: rest))) : W p l e R s m args below meth c H locs (cb - w.2.1) (sb - w.2.2) Q (F0 m pc ls (.int x2 :: .null :: .ref a0 :: rest)) :=
  h_ki (g_runV F hK (hKm E A) S.1 (hmet_X3_worthBehindL1N l E A (w.1, c1, s1) a0 x2 Q' h) (cwV 2 F.2.2.2.2 (lw_V q1786 q1787 q1788 q115 q1789) rfl rfl rfl (by decide +kernel) hR) (h_recv hK S (ci := 3) rfl hrv) rfl hls rfl hWt hdg ⟨by rw [hrc]; exact (h_left S h1 h2).1, by rw [hrs]; exact (h_left S h1 h2).2⟩) S h1 h2 kk
def hL_X3_worthL2_1 (pl : Nat → Nat) (Q : Int32 → hO → Prop) (K : Int32 → hW → Prop) (y0 : Nat) (y1 : Int32) (y2 : Int32) (y4 : Nat) (y5 : Int32) : Nat → hW → Int32 → Int32 → Prop
  | 0, _, _, _ => False
  | n + 1, w, y3, y6 =>
    hIf (y5 ≤ y6) (
      K y3 w) <|
      obd (haP w y4 y6) fun v34 =>
      obd (hInst 6 w v34) fun v36 =>
      hjoin (fun (v58 : Int32) (g59 : hW) =>
        hL_X3_worthL2_1 pl Q K y0 y1 y2 y4 y5 n g59 v58 (y6 + 1)) fun k61 =>
      hIf (v36 = 0) (
        k61 y3 w) <|
        obd (hIs w v34 6) fun u39 =>
        obd (hIs w v34 6) fun u41 =>
        hcall w fun n43 n44 => hf_X7_isFor pl (w.1, n43, n44) v34 y2 fun v47 o46 => hret w n43 n44 o46 fun w45 =>
        hIf (v47 = 0) (
          k61 y3 w45) <|
          obd (hIs w45 v34 6) fun u49 =>
          obd (hIs w45 y0 3) fun u51 =>
          hcall w45 fun n53 n54 => hf_X3_worthBehindL1 pl (w45.1, n53, n54) y0 v34 (y1 - 1) fun v57 o56 => hret w45 n53 n54 o56 fun w55 =>
          k61 (if y3 < (-v57) then (-v57) else y3) w55
def hf_X3_worthL2 (pl : Nat → Nat) (w : hW) (a0 : Nat) (x1 : Int32) (Q : Int32 → hO → Prop) : Prop :=
  ∃ (d1 : hD) (g2 : mS), hRel d1 g2 w.1 ∧ d1.1 100 = a0 ∧ obd (fc_X3_mover g2 100) fun v5 =>
  ∃ (d6 : hD) (g7 : mS), hRel d6 g7 w.1 ∧ d6.1 100 = a0 ∧ obd (fc_X3_isOver g7 100) fun v10 =>
  hIf (v10 = 0) (
    hIf (x1 = 0) (
      ∃ (d71 : hD) (g72 : mS), hRel d71 g72 w.1 ∧ d71.1 100 = a0 ∧ obd (fc_X3_points g72 100 v5) fun v75 =>
      ∃ (d76 : hD) (g77 : mS), hRel d76 g77 w.1 ∧ d76.1 100 = a0 ∧ obd (fc_X3_points g77 100 (3 - v5)) fun v80 =>
      Q (v75 - v80) w.1) <|
      ∃ (d23 : hD) (g24 : mS), hRel d23 g24 w.1 ∧ d23.1 100 = a0 ∧ obd (fc_X3_canTurn g24 100) fun v27 =>
      hIf (v27 = 0) (
        obd (hIs w a0 3) fun u64 =>
        hcall w fun n66 n67 => hf_X3_worthBehindL1N pl (w.1, n66, n67) a0 (x1 - 1) fun v70 o69 => hret w n66 n67 o69 fun w68 =>
        Q (-v70) w68.1) <|
        obd (hgP w a0 3 3) fun v29 =>
        obd (hLen w v29) fun v31 =>
        hL_X3_worthL2_1 pl Q (fun (v62 : Int32) (w63 : hW) =>
          Q v62 w63.1) a0 x1 v5 v29 v31 FUEL w (-2147483648) 0) <|
    ∃ (d12 : hD) (g13 : mS), hRel d12 g13 w.1 ∧ d12.1 100 = a0 ∧ obd (fc_X3_points g13 100 v5) fun v16 =>
    ∃ (d17 : hD) (g18 : mS), hRel d17 g18 w.1 ∧ d17.1 100 = a0 ∧ obd (fc_X3_points g18 100 (3 - v5)) fun v21 =>
    Q (v16 - v21) w.1
abbrev hrm_X3_worthL2 (c s : Nat) : Room := { frames := 12, cells := c, slots := s, locals := 283 }
set_option maxHeartbeats 4000000 in
set_option maxRecDepth 100000 in
theorem hloop_X3_worthL2_1 {p : Program} {l : Launch} {e : Env} {s : State} {m : MethodId} {args : Array Value} {below : List Frame} {meth : Method} {c : Code} {cb sb : Nat} {E : hEnv} {A : Nat → Prop} {Q : Int32 → hO → Prop} {K : Int32 → hW → Prop} {y0 : Nat} {y1 : Int32} {y2 : Int32} {y4 : Nat} {y5 : Int32} (F : CallFix p m c cX3_worth 8 s args lw_all RX3) (hr : meth.sig.returnType = some .int) (hlk : meth.locks = false) (hK : hK E A s) : ∀ (n : Nat) (w : hW) (y3 : Int32) (y6 : Int32), hL_X3_worthL2_1 E.2.2 Q K y0 y1 y2 y4 y5 n w y3 y6 → ∀ (H : Heap) (locs : List Loc) (ls : Array Slot), hS E A s.heap cb sb w H locs → lv_has ls 8 [(0, .ref y0), (1, .int y1), (2, .int y2), (3, .int y3), (4, .ref y4), (5, .int y5), (6, .int y6)] → (∀ (z3 : Int32) (wz : hW) (H : Heap) (locs : List Loc) (ls : Array Slot), K z3 wz → hS E A s.heap cb sb wz H locs → lv_has ls 8 [(3, .int z3)] → W p l e (hrm_X3_worthL2 cb sb) s m args below meth c H locs (cb - wz.2.1) (sb - wz.2.2) (MQ below (hQi E A Q) args s cb sb A) (F0 m 122 ls [])) → W p l e (hrm_X3_worthL2 cb sb) s m args below meth c H locs (cb - w.2.1) (sb - w.2.2) (MQ below (hQi E A Q) args s cb sb A) (F0 m 64 ls []) := by
  have hx := F.1
  have hb := F.2.1
  intro n
  induction n with
  | zero =>
    intro w y3 y6 h
    exact False.elim h
  | succ n ih =>
    intro w y3 y6 h H locs ls S hl kx
    rw [hL_X3_worthL2_1] at h
    refine lv_iload hx hb dX3_worth_64 (lv_at hl 6 rfl) ?_
    refine lv_iload hx hb dX3_worth_66 (lv_at hl 5 rfl) ?_
    refine lv_icmp_ge (tgt := 122) hx hb dX3_worth_68 (by decide) (fun c33 => ?_) (fun c33 => ?_)
    · rw [hIf_pos c33] at h
      exact kx _ _ _ _ _ h S (lv_sub hl [3] rfl)
    · rw [hIf_neg c33] at h
      refine lv_aload hx hb dX3_worth_71 (lv_at hl 4 rfl) ?_
      refine lv_iload hx hb dX3_worth_73 (lv_at hl 6 rfl) ?_
      obtain ⟨v34, e35, h⟩ := obd_inv h
      refine h_aald F hK S e35 dX3_worth_75 ?_
      refine lv_astore (lv' := [(7, .ref v34), (0, .ref y0), (1, .int y1), (2, .int y2), (3, .int y3), (4, .ref y4), (5, .int y5), (6, .int y6)]) hx hb dX3_worth_76 hl (by decide) rfl (fun ls hl => ?_)
      refine lv_aload hx hb dX3_worth_78 (lv_at hl 0 rfl) ?_
      obtain ⟨v36, e37, h⟩ := obd_inv h
      refine h_inst6 F hK S e37 q1128 dX3_worth_80 ?_
      obtain ⟨k61, hk61, h⟩ := hj2_inv h
      have hJ116 : ∀ (v58 : Int32) (g59 : hW) (H : Heap) (locs : List Loc) (ls : Array Slot), k61 v58 g59 → hS E A s.heap cb sb g59 H locs → lv_has ls 8 [(0, .ref y0), (1, .int y1), (2, .int y2), (3, .int v58), (4, .ref y4), (5, .int y5), (6, .int y6)] → W p l e (hrm_X3_worthL2 cb sb) s m args below meth c H locs (cb - g59.2.1) (sb - g59.2.2) (MQ below (hQi E A Q) args s cb sb A) (F0 m 116 ls []) := by
        intro v58 g59 H locs ls h S hl
        replace h := hk61 _ _ h
        refine lv_iinc (v := (y6 + 1)) (lv' := [(6, .int (y6 + 1)), (0, .ref y0), (1, .int y1), (2, .int y2), (3, .int v58), (4, .ref y4), (5, .int y5)]) hx hb dX3_worth_116 hl (k := 6) rfl rfl (by decide) rfl (fun ls hl => ?_)
        refine lv_goto (tgt := 64) hx hb dX3_worth_119 (by decide) ?_
        exact ih _ _ _ h _ _ _ S (lv_sub hl [1, 2, 3, 4, 5, 6, 0] rfl) kx
      clear hk61
      refine lv_if_eq (tgt := 116) hx hb dX3_worth_83 (by decide) (fun c38 => ?_) (fun c38 => ?_)
      · rw [hIf_pos c38] at h
        exact hJ116 _ _ _ _ _ h S (lv_sub hl [1, 2, 3, 4, 5, 6, 7] rfl)
      · rw [hIf_neg c38] at h
        refine lv_aload hx hb dX3_worth_86 (lv_at hl 0 rfl) ?_
        obtain ⟨u39, e40, h⟩ := obd_inv h
        refine h_cast F hK S e40 rfl q1128 dX3_worth_88 ?_
        refine lv_iload_n hx hb dX3_worth_91 rfl (lv_at hl 3 rfl) ?_
        obtain ⟨u41, e42, h⟩ := obd_inv h
        obtain ⟨n43, n44, h1, h2, h⟩ := hcall_inv h
        refine hcl_X7_isFor_X3_135 F hK S (hIs_inv e42) h1 h2 h rfl rfl hl.1 (Nat.le_of_ble_eq_true rfl) ⟨Nat.le_of_ble_eq_true rfl, Nat.le_of_ble_eq_true rfl⟩ dX3_worth_92 (fun v47 o46 w45 H locs hw h S => ?_)
        replace h := hret_mp h hw
        clear hw h1 h2
        refine lv_if_eq (tgt := 116) hx hb dX3_worth_95 (by decide) (fun c48 => ?_) (fun c48 => ?_)
        · rw [hIf_pos c48] at h
          exact hJ116 _ _ _ _ _ h S (lv_sub hl [1, 2, 3, 4, 5, 6, 7] rfl)
        · rw [hIf_neg c48] at h
          refine lv_iload_n hx hb dX3_worth_98 rfl (lv_at hl 4 rfl) ?_
          refine lv_aload_n hx hb dX3_worth_99 rfl (lv_at hl 1 rfl) ?_
          refine lv_aload hx hb dX3_worth_100 (lv_at hl 0 rfl) ?_
          obtain ⟨u49, e50, h⟩ := obd_inv h
          refine h_cast F hK S e50 rfl q1128 dX3_worth_102 ?_
          refine lv_iload_n hx hb dX3_worth_105 rfl (lv_at hl 2 rfl) ?_
          refine lv_iconst (v := 1) hx hb dX3_worth_106 (by decide) ?_
          refine lv_isub hx hb dX3_worth_107 ?_
          obtain ⟨u51, e52, h⟩ := obd_inv h
          obtain ⟨n53, n54, h1, h2, h⟩ := hcall_inv h
          refine hcl_X3_worthBehindL1_X3_156 F hK S (hIs_inv e52) h1 h2 h rfl rfl hl.1 (Nat.le_of_ble_eq_true rfl) ⟨Nat.le_of_ble_eq_true rfl, Nat.le_of_ble_eq_true rfl⟩ dX3_worth_108 (fun v57 o56 w55 H locs hw h S => ?_)
          replace h := hret_mp h hw
          clear hw h1 h2
          refine lv_ineg hx hb dX3_worth_111 ?_
          refine va_mmax hx hb (F.2.2.1.trans hl.1.symm) F.2.2.2.1 (F.2.2.2.2 _ q1137) (F.2.2.2.2 _ q594) (F.2.2.2.2 _ q128) (F.2.2.2.2 _ q595) (Nat.le_of_ble_eq_true rfl) (Nat.le_of_ble_eq_true rfl) (Nat.sub_le _ _) (Nat.sub_le _ _) dX3_worth_112 ?_
          refine lv_istore_n (lv' := [(3, .int (if y3 < (-v57) then (-v57) else y3)), (7, .ref v34), (0, .ref y0), (1, .int y1), (2, .int y2), (4, .ref y4), (5, .int y5), (6, .int y6)]) hx hb dX3_worth_115 rfl hl (by decide) rfl (fun ls hl => ?_)
          exact hJ116 _ _ _ _ _ h S (lv_sub hl [2, 3, 4, 0, 5, 6, 7] rfl)
set_option maxHeartbeats 4000000 in
set_option maxRecDepth 100000 in
theorem hmet_X3_worthL2 (l : Launch) (E : hEnv) (A : Nat → Prop) (w : hW) (a0 : Nat) (x1 : Int32) (Q : Int32 → hO → Prop) (h : hf_X3_worthL2 E.2.2 w a0 x1 Q) : Met l yX3_worth (ws_ yX3_worth cX3_worth 8 (some .int)) (hrm_X3_worthL2 w.2.1 w.2.2) (va_Pc [.ref a0, .int x1] (gPre (hK E A) (hP E A w.1))) (hQi E A Q) w.2.1 w.2.2 A := by
  refine h_met (own := RX3) (by decide +kernel) rfl (Nat.le_of_ble_eq_true rfl) ?_
  intro p e s m args below meth c ls cb sb F hr hlk hK S hl
  have hx := F.1
  have hb := F.2.1
  have hl : lv_has ls 8 [(0, .ref a0), (1, .int x1)] := hl
  unfold hf_X3_worthL2 at h
  refine lv_aload_n hx hb dX3_worth_0 rfl (lv_at hl 0 rfl) ?_
  obtain ⟨d1, g2, hrl, hdl, h⟩ := h
  obtain ⟨v5, e4, h⟩ := obd_inv h
  refine hpc_X3_mover_X3_131 F hK S hrl hdl e4 rfl rfl hl.1 (Nat.le_of_ble_eq_true rfl) ⟨Nat.le_of_ble_eq_true rfl, Nat.le_of_ble_eq_true rfl⟩ dX3_worth_1 (fun H locs S => ?_)
  refine lv_istore_n (lv' := [(2, .int v5), (0, .ref a0), (1, .int x1)]) hx hb dX3_worth_4 rfl hl (by decide) rfl (fun ls hl => ?_)
  refine lv_aload_n hx hb dX3_worth_5 rfl (lv_at hl 1 rfl) ?_
  obtain ⟨d6, g7, hrl, hdl, h⟩ := h
  obtain ⟨v10, e9, h⟩ := obd_inv h
  refine hpc_X3_isOver_X3_108 F hK S hrl hdl e9 rfl rfl hl.1 (Nat.le_of_ble_eq_true rfl) ⟨Nat.le_of_ble_eq_true rfl, Nat.le_of_ble_eq_true rfl⟩ dX3_worth_6 (fun H locs S => ?_)
  refine lv_if_ne (tgt := 16) hx hb dX3_worth_9 (by decide) (fun c11 => ?_) (fun c11 => ?_)
  · rw [hIf_neg c11] at h
    refine lv_aload_n hx hb dX3_worth_16 rfl (lv_at hl 1 rfl) ?_
    refine lv_iload_n hx hb dX3_worth_17 rfl (lv_at hl 0 rfl) ?_
    obtain ⟨d12, g13, hrl, hdl, h⟩ := h
    obtain ⟨v16, e15, h⟩ := obd_inv h
    refine hpc_X3_points_X3_101 F hK S hrl hdl e15 rfl rfl hl.1 (Nat.le_of_ble_eq_true rfl) ⟨Nat.le_of_ble_eq_true rfl, Nat.le_of_ble_eq_true rfl⟩ dX3_worth_18 (fun H locs S => ?_)
    refine lv_aload_n hx hb dX3_worth_21 rfl (lv_at hl 1 rfl) ?_
    refine lv_iconst (v := 3) hx hb dX3_worth_22 (by decide) ?_
    refine lv_iload_n hx hb dX3_worth_23 rfl (lv_at hl 0 rfl) ?_
    refine lv_isub hx hb dX3_worth_24 ?_
    obtain ⟨d17, g18, hrl, hdl, h⟩ := h
    obtain ⟨v21, e20, h⟩ := obd_inv h
    refine hpc_X3_points_X3_101 F hK S hrl hdl e20 rfl rfl hl.1 (Nat.le_of_ble_eq_true rfl) ⟨Nat.le_of_ble_eq_true rfl, Nat.le_of_ble_eq_true rfl⟩ dX3_worth_25 (fun H locs S => ?_)
    refine lv_isub hx hb dX3_worth_28 ?_
    exact h_iret F hr hlk S h dX3_worth_29
  · rw [hIf_pos c11] at h
    refine lv_iload_n hx hb dX3_worth_12 rfl (lv_at hl 2 rfl) ?_
    refine lv_if_ne (tgt := 30) hx hb dX3_worth_13 (by decide) (fun c22 => ?_) (fun c22 => ?_)
    · rw [hIf_neg c22] at h
      refine lv_aload_n hx hb dX3_worth_30 rfl (lv_at hl 1 rfl) ?_
      obtain ⟨d23, g24, hrl, hdl, h⟩ := h
      obtain ⟨v27, e26, h⟩ := obd_inv h
      refine hpc_X3_canTurn_X3_153 F hK S hrl hdl e26 rfl rfl hl.1 (Nat.le_of_ble_eq_true rfl) ⟨Nat.le_of_ble_eq_true rfl, Nat.le_of_ble_eq_true rfl⟩ dX3_worth_31 (fun H locs S => ?_)
      refine lv_if_ne (tgt := 47) hx hb dX3_worth_34 (by decide) (fun c28 => ?_) (fun c28 => ?_)
      · rw [hIf_neg c28] at h
        refine lv_ldc (v := (-2147483648)) hx hb F.2.2.2.1 (F.2.2.2.2 _ q1800) dX3_worth_47 ?_
        refine lv_istore_n (lv' := [(3, .int (-2147483648)), (2, .int v5), (0, .ref a0), (1, .int x1)]) hx hb dX3_worth_49 rfl hl (by decide) rfl (fun ls hl => ?_)
        refine lv_aload_n hx hb dX3_worth_50 rfl (lv_at hl 2 rfl) ?_
        obtain ⟨v29, e30, h⟩ := obd_inv h
        refine hg_X3_9 F hK S e30 dX3_worth_51 ?_
        refine lv_astore (lv' := [(4, .ref v29), (3, .int (-2147483648)), (2, .int v5), (0, .ref a0), (1, .int x1)]) hx hb dX3_worth_54 hl (by decide) rfl (fun ls hl => ?_)
        refine lv_aload hx hb dX3_worth_56 (lv_at hl 0 rfl) ?_
        obtain ⟨v31, e32, h⟩ := obd_inv h
        refine h_alen F hK S e32 dX3_worth_58 ?_
        refine lv_istore (lv' := [(5, .int v31), (4, .ref v29), (3, .int (-2147483648)), (2, .int v5), (0, .ref a0), (1, .int x1)]) hx hb dX3_worth_59 hl (by decide) rfl (fun ls hl => ?_)
        refine lv_iconst (v := 0) hx hb dX3_worth_61 (by decide) ?_
        refine lv_istore (lv' := [(6, .int 0), (5, .int v31), (4, .ref v29), (3, .int (-2147483648)), (2, .int v5), (0, .ref a0), (1, .int x1)]) hx hb dX3_worth_62 hl (by decide) rfl (fun ls hl => ?_)
        refine hloop_X3_worthL2_1 F hr hlk hK _ _ _ _ h _ _ _ S (lv_sub hl [5, 6, 4, 3, 2, 1, 0] rfl) (fun v62 w63 H locs ls h S hl => ?_)
        refine lv_iload_n hx hb dX3_worth_122 rfl (lv_at hl 0 rfl) ?_
        exact h_iret F hr hlk S h dX3_worth_123
      · rw [hIf_pos c28] at h
        refine lv_aload_n hx hb dX3_worth_37 rfl (lv_at hl 1 rfl) ?_
        refine lv_null hx hb dX3_worth_38 ?_
        refine lv_iload_n hx hb dX3_worth_39 rfl (lv_at hl 2 rfl) ?_
        refine lv_iconst (v := 1) hx hb dX3_worth_40 (by decide) ?_
        refine lv_isub hx hb dX3_worth_41 ?_
        obtain ⟨u64, e65, h⟩ := obd_inv h
        obtain ⟨n66, n67, h1, h2, h⟩ := hcall_inv h
        refine hcl_X3_worthBehindL1N_X3_156 F hK S (hIs_inv e65) h1 h2 h rfl rfl hl.1 (Nat.le_of_ble_eq_true rfl) ⟨Nat.le_of_ble_eq_true rfl, Nat.le_of_ble_eq_true rfl⟩ dX3_worth_42 (fun v70 o69 w68 H locs hw h S => ?_)
        replace h := hret_mp h hw
        clear hw h1 h2
        refine lv_ineg hx hb dX3_worth_45 ?_
        exact h_iret F hr hlk S h dX3_worth_46
    · rw [hIf_pos c22] at h
      refine lv_aload_n hx hb dX3_worth_16 rfl (lv_at hl 1 rfl) ?_
      refine lv_iload_n hx hb dX3_worth_17 rfl (lv_at hl 0 rfl) ?_
      obtain ⟨d71, g72, hrl, hdl, h⟩ := h
      obtain ⟨v75, e74, h⟩ := obd_inv h
      refine hpc_X3_points_X3_101 F hK S hrl hdl e74 rfl rfl hl.1 (Nat.le_of_ble_eq_true rfl) ⟨Nat.le_of_ble_eq_true rfl, Nat.le_of_ble_eq_true rfl⟩ dX3_worth_18 (fun H locs S => ?_)
      refine lv_aload_n hx hb dX3_worth_21 rfl (lv_at hl 1 rfl) ?_
      refine lv_iconst (v := 3) hx hb dX3_worth_22 (by decide) ?_
      refine lv_iload_n hx hb dX3_worth_23 rfl (lv_at hl 0 rfl) ?_
      refine lv_isub hx hb dX3_worth_24 ?_
      obtain ⟨d76, g77, hrl, hdl, h⟩ := h
      obtain ⟨v80, e79, h⟩ := obd_inv h
      refine hpc_X3_points_X3_101 F hK S hrl hdl e79 rfl rfl hl.1 (Nat.le_of_ble_eq_true rfl) ⟨Nat.le_of_ble_eq_true rfl, Nat.le_of_ble_eq_true rfl⟩ dX3_worth_25 (fun H locs S => ?_)
      refine lv_isub hx hb dX3_worth_28 ?_
      exact h_iret F hr hlk S h dX3_worth_29
theorem hcl_X3_worthL2_X3_170 {p : Program} {l : Launch} {e : Env} {s : State} {m : MethodId} {args : Array Value} {below : List Frame} {meth : Method} {c : Code} {R : Room} {H : Heap} {locs : List Loc} {cb sb pc nL : Nat} {Q : State → Prop} {ls : Array Slot} {rest : List Value} {cc : ByteArray} {E : hEnv} {A : Nat → Prop} {w : hW} {a0 : Nat} {x1 : Int32} {Q' : Int32 → hO → Prop} {c1 s1 : Nat} (F : CallFix p m c cc nL s args lw_all RX3) (hK : hK E A s) (S : hS E A s.heap cb sb w H locs) (hrv : ∃ (b : Bool) (fs : List Value), w.1 a0 = some (b, .inl (3, fs))) (h1 : c1 ≤ w.2.1) (h2 : s1 ≤ w.2.2) (h : hf_X3_worthL2 E.2.2 (w.1, c1, s1) a0 x1 Q') (hrc : R.cells = cb) (hrs : R.slots = sb) (hls : ls.size = nL) (hWt : (rest.map fun v => v.category).sum ≤ 8) (hR : 12 + 1 ≤ R.frames ∧ 8 + (8 + 11) + 283 ≤ R.locals) (hdg : decode cc pc = .ok (.invokevirtual 170, 3))
    (kk : ∀ (v : Int32) (o : hO) (w' : hW) (H1 : Heap) (locs1 : List Loc), w' = (o, w.2.1 - c1, w.2.2 - s1) → Q' v o → hS E A s.heap cb sb w' H1 locs1 → W p l e R s m args below meth c H1 locs1 (cb - w'.2.1) (sb - w'.2.2) Q (F0 m (pc + 3) ls (.int v :: rest))) : W p l e R s m args below meth c H locs (cb - w.2.1) (sb - w.2.2) Q (F0 m pc ls (.int x1 :: .ref a0 :: rest)) :=
  h_ki (g_runV F hK (hKm E A) S.1 (hmet_X3_worthL2 l E A (w.1, c1, s1) a0 x1 Q' h) (cwV 1 F.2.2.2.2 (lw_V q1795 q1782 q1783 q115 q1784) rfl rfl rfl (by decide +kernel) hR) (h_recv hK S (ci := 3) rfl hrv) rfl hls rfl hWt hdg ⟨by rw [hrc]; exact (h_left S h1 h2).1, by rw [hrs]; exact (h_left S h1 h2).2⟩) S h1 h2 kk
def hf_X3_worthBehindL2 (pl : Nat → Nat) (w : hW) (a0 : Nat) (x1 : Nat) (x2 : Int32) (Q : Int32 → hO → Prop) : Prop :=
  obd (hIs w a0 3) fun u1 =>
  hcall w fun n3 n4 => hf_X3_row pl (w.1, n3, n4) a0 fun v7 o6 => hret w n3 n4 o6 fun w5 =>
  obd (hgI w5 a0 3 8) fun v8 =>
  ∃ (d10 : hD) (g11 : mS), hRel d10 g11 w5.1 ∧ d10.1 100 = a0 ∧ ∃ c12 : Nat, (c12 < 100 ∧ d10.2.2 c12 = x1) ∧ obd (fc_X3_moves g11 100 c12) fun v15 => hpret w5 d10 v15.2 fun w13 =>
  obd (hIs w13 a0 3) fun u16 =>
  hcall w13 fun n18 n19 => hf_X3_worthL2 pl (w13.1, n18, n19) a0 x2 fun v22 o21 => hret w13 n18 n19 o21 fun w20 =>
  ∃ (d23 : hD) (g24 : mS), hRel d23 g24 w20.1 ∧ d23.1 100 = a0 ∧ ∃ (rq25 : Nat → Int32), w20.1 v7 = some (true, .inr (0, 20, .inl rq25)) ∧ ∃ c26 : Nat, (c26 < 100 ∧ d23.2.2 c26 = x1) ∧ obd (fc_X3_takesBack g24 100 rq25 c26 v8) fun v29 => hpret w20 d23 v29 fun w27 =>
  Q v22 w27.1
abbrev hrm_X3_worthBehindL2 (c s : Nat) : Room := { frames := 13, cells := c, slots := s, locals := 310 }
set_option maxHeartbeats 4000000 in
set_option maxRecDepth 100000 in
theorem hmet_X3_worthBehindL2 (l : Launch) (E : hEnv) (A : Nat → Prop) (w : hW) (a0 : Nat) (x1 : Nat) (x2 : Int32) (Q : Int32 → hO → Prop) (h : hf_X3_worthBehindL2 E.2.2 w a0 x1 x2 Q) : Met l yX3_worthBehind (ws_ yX3_worthBehind cX3_worthBehind 6 (some .int)) (hrm_X3_worthBehindL2 w.2.1 w.2.2) (va_Pc [.ref a0, .ref x1, .int x2] (gPre (hK E A) (hP E A w.1))) (hQi E A Q) w.2.1 w.2.2 A := by
  refine h_met (own := RX3) (by decide +kernel) rfl (Nat.le_of_ble_eq_true rfl) ?_
  intro p e s m args below meth c ls cb sb F hr hlk hK S hl
  have hx := F.1
  have hb := F.2.1
  have hl : lv_has ls 6 [(0, .ref a0), (1, .ref x1), (2, .int x2)] := hl
  unfold hf_X3_worthBehindL2 at h
  refine lv_aload_n hx hb dX3_worthBehind_0 rfl (lv_at hl 0 rfl) ?_
  obtain ⟨u1, e2, h⟩ := obd_inv h
  obtain ⟨n3, n4, h1, h2, h⟩ := hcall_inv h
  refine hcl_X3_row_X3_163 F hK S (hIs_inv e2) h1 h2 h rfl rfl hl.1 (Nat.le_of_ble_eq_true rfl) ⟨Nat.le_of_ble_eq_true rfl, Nat.le_of_ble_eq_true rfl⟩ dX3_worthBehind_1 (fun v7 o6 w5 H locs hw h S => ?_)
  replace h := hret_mp h hw
  clear hw h1 h2
  refine lv_astore_n (lv' := [(3, .ref v7), (0, .ref a0), (1, .ref x1), (2, .int x2)]) hx hb dX3_worthBehind_4 rfl hl (by decide) rfl (fun ls hl => ?_)
  refine lv_aload_n hx hb dX3_worthBehind_5 rfl (lv_at hl 1 rfl) ?_
  obtain ⟨v8, e9, h⟩ := obd_inv h
  refine hg_X3_57 F hK S e9 dX3_worthBehind_6 ?_
  refine lv_istore (lv' := [(4, .int v8), (3, .ref v7), (0, .ref a0), (1, .ref x1), (2, .int x2)]) hx hb dX3_worthBehind_9 hl (by decide) rfl (fun ls hl => ?_)
  refine lv_aload_n hx hb dX3_worthBehind_11 rfl (lv_at hl 2 rfl) ?_
  refine lv_aload_n hx hb dX3_worthBehind_12 rfl (lv_at hl 3 rfl) ?_
  obtain ⟨d10, g11, hrl, hdl, c12, hc, h⟩ := h
  obtain ⟨v15, e14, h⟩ := obd_inv h
  refine hpc_X3_moves_X3_167 F hK S hrl hdl hc e14 rfl rfl hl.1 (Nat.le_of_ble_eq_true rfl) ⟨Nat.le_of_ble_eq_true rfl, Nat.le_of_ble_eq_true rfl⟩ dX3_worthBehind_13 (fun w13 H locs hw hz S => ?_)
  replace h := hpret_mp h hw hz
  clear hw hz
  refine lv_pop hx hb dX3_worthBehind_16 rfl ?_
  refine lv_aload_n hx hb dX3_worthBehind_17 rfl (lv_at hl 2 rfl) ?_
  refine lv_iload_n hx hb dX3_worthBehind_18 rfl (lv_at hl 4 rfl) ?_
  obtain ⟨u16, e17, h⟩ := obd_inv h
  obtain ⟨n18, n19, h1, h2, h⟩ := hcall_inv h
  refine hcl_X3_worthL2_X3_170 F hK S (hIs_inv e17) h1 h2 h rfl rfl hl.1 (Nat.le_of_ble_eq_true rfl) ⟨Nat.le_of_ble_eq_true rfl, Nat.le_of_ble_eq_true rfl⟩ dX3_worthBehind_19 (fun v22 o21 w20 H locs hw h S => ?_)
  replace h := hret_mp h hw
  clear hw h1 h2
  refine lv_istore (lv' := [(5, .int v22), (4, .int v8), (3, .ref v7), (0, .ref a0), (1, .ref x1), (2, .int x2)]) hx hb dX3_worthBehind_22 hl (by decide) rfl (fun ls hl => ?_)
  refine lv_aload_n hx hb dX3_worthBehind_24 rfl (lv_at hl 3 rfl) ?_
  refine lv_aload_n hx hb dX3_worthBehind_25 rfl (lv_at hl 4 rfl) ?_
  refine lv_aload_n hx hb dX3_worthBehind_26 rfl (lv_at hl 2 rfl) ?_
  refine lv_iload hx hb dX3_worthBehind_27 (lv_at hl 1 rfl) ?_
  obtain ⟨d23, g24, hrl, hdl, rq25, hq, c26, hc, h⟩ := h
  obtain ⟨v29, e28, h⟩ := obd_inv h
  refine hpc_X3_takesBack_X3_173 F hK S hrl hdl hq hc e28 rfl rfl hl.1 (Nat.le_of_ble_eq_true rfl) ⟨Nat.le_of_ble_eq_true rfl, Nat.le_of_ble_eq_true rfl⟩ dX3_worthBehind_29 (fun w27 H locs hw hz S => ?_)
  replace h := hpret_mp h hw hz
  clear hw hz
  refine lv_iload hx hb dX3_worthBehind_32 (lv_at hl 0 rfl) ?_
  exact h_iret F hr hlk S h dX3_worthBehind_34
def hf_X3_worthBehindL2N (pl : Nat → Nat) (w : hW) (a0 : Nat) (x2 : Int32) (Q : Int32 → hO → Prop) : Prop :=
  obd (hIs w a0 3) fun u1 =>
  hcall w fun n3 n4 => hf_X3_row pl (w.1, n3, n4) a0 fun v7 o6 => hret w n3 n4 o6 fun w5 =>
  obd (hgI w5 a0 3 8) fun v8 =>
  ∃ (d10 : hD) (g11 : mS), hRel d10 g11 w5.1 ∧ d10.1 100 = a0 ∧ obd (fc_X3_movesN g11 100) fun v14 => hpret w5 d10 v14.2 fun w12 =>
  obd (hIs w12 a0 3) fun u15 =>
  hcall w12 fun n17 n18 => hf_X3_worthL2 pl (w12.1, n17, n18) a0 x2 fun v21 o20 => hret w12 n17 n18 o20 fun w19 =>
  ∃ (d22 : hD) (g23 : mS), hRel d22 g23 w19.1 ∧ d22.1 100 = a0 ∧ ∃ (rq24 : Nat → Int32), w19.1 v7 = some (true, .inr (0, 20, .inl rq24)) ∧ obd (fc_X3_takesBackN g23 100 rq24 v8) fun v27 => hpret w19 d22 v27 fun w25 =>
  Q v21 w25.1
abbrev hrm_X3_worthBehindL2N (c s : Nat) : Room := { frames := 13, cells := c, slots := s, locals := 310 }
set_option maxHeartbeats 4000000 in
set_option maxRecDepth 100000 in
theorem hmet_X3_worthBehindL2N (l : Launch) (E : hEnv) (A : Nat → Prop) (w : hW) (a0 : Nat) (x2 : Int32) (Q : Int32 → hO → Prop) (h : hf_X3_worthBehindL2N E.2.2 w a0 x2 Q) : Met l yX3_worthBehind (ws_ yX3_worthBehind cX3_worthBehind 6 (some .int)) (hrm_X3_worthBehindL2N w.2.1 w.2.2) (va_Pc [.ref a0, .null, .int x2] (gPre (hK E A) (hP E A w.1))) (hQi E A Q) w.2.1 w.2.2 A := by
  refine h_met (own := RX3) (by decide +kernel) rfl (Nat.le_of_ble_eq_true rfl) ?_
  intro p e s m args below meth c ls cb sb F hr hlk hK S hl
  have hx := F.1
  have hb := F.2.1
  have hl : lv_has ls 6 [(0, .ref a0), (1, .null), (2, .int x2)] := hl
  unfold hf_X3_worthBehindL2N at h
  refine lv_aload_n hx hb dX3_worthBehind_0 rfl (lv_at hl 0 rfl) ?_
  obtain ⟨u1, e2, h⟩ := obd_inv h
  obtain ⟨n3, n4, h1, h2, h⟩ := hcall_inv h
  refine hcl_X3_row_X3_163 F hK S (hIs_inv e2) h1 h2 h rfl rfl hl.1 (Nat.le_of_ble_eq_true rfl) ⟨Nat.le_of_ble_eq_true rfl, Nat.le_of_ble_eq_true rfl⟩ dX3_worthBehind_1 (fun v7 o6 w5 H locs hw h S => ?_)
  replace h := hret_mp h hw
  clear hw h1 h2
  refine lv_astore_n (lv' := [(3, .ref v7), (0, .ref a0), (1, .null), (2, .int x2)]) hx hb dX3_worthBehind_4 rfl hl (by decide) rfl (fun ls hl => ?_)
  refine lv_aload_n hx hb dX3_worthBehind_5 rfl (lv_at hl 1 rfl) ?_
  obtain ⟨v8, e9, h⟩ := obd_inv h
  refine hg_X3_57 F hK S e9 dX3_worthBehind_6 ?_
  refine lv_istore (lv' := [(4, .int v8), (3, .ref v7), (0, .ref a0), (1, .null), (2, .int x2)]) hx hb dX3_worthBehind_9 hl (by decide) rfl (fun ls hl => ?_)
  refine lv_aload_n hx hb dX3_worthBehind_11 rfl (lv_at hl 2 rfl) ?_
  refine lv_aload_nN hx hb dX3_worthBehind_12 rfl (lv_at hl 3 rfl) ?_
  obtain ⟨d10, g11, hrl, hdl, h⟩ := h
  obtain ⟨v14, e13, h⟩ := obd_inv h
  refine hpc_X3_movesN_X3_167 F hK S hrl hdl e13 rfl rfl hl.1 (Nat.le_of_ble_eq_true rfl) ⟨Nat.le_of_ble_eq_true rfl, Nat.le_of_ble_eq_true rfl⟩ dX3_worthBehind_13 (fun w12 H locs hw hz S => ?_)
  replace h := hpret_mp h hw hz
  clear hw hz
  refine lv_pop hx hb dX3_worthBehind_16 rfl ?_
  refine lv_aload_n hx hb dX3_worthBehind_17 rfl (lv_at hl 2 rfl) ?_
  refine lv_iload_n hx hb dX3_worthBehind_18 rfl (lv_at hl 4 rfl) ?_
  obtain ⟨u15, e16, h⟩ := obd_inv h
  obtain ⟨n17, n18, h1, h2, h⟩ := hcall_inv h
  refine hcl_X3_worthL2_X3_170 F hK S (hIs_inv e16) h1 h2 h rfl rfl hl.1 (Nat.le_of_ble_eq_true rfl) ⟨Nat.le_of_ble_eq_true rfl, Nat.le_of_ble_eq_true rfl⟩ dX3_worthBehind_19 (fun v21 o20 w19 H locs hw h S => ?_)
  replace h := hret_mp h hw
  clear hw h1 h2
  refine lv_istore (lv' := [(5, .int v21), (4, .int v8), (3, .ref v7), (0, .ref a0), (1, .null), (2, .int x2)]) hx hb dX3_worthBehind_22 hl (by decide) rfl (fun ls hl => ?_)
  refine lv_aload_n hx hb dX3_worthBehind_24 rfl (lv_at hl 3 rfl) ?_
  refine lv_aload_nN hx hb dX3_worthBehind_25 rfl (lv_at hl 4 rfl) ?_
  refine lv_aload_n hx hb dX3_worthBehind_26 rfl (lv_at hl 2 rfl) ?_
  refine lv_iload hx hb dX3_worthBehind_27 (lv_at hl 1 rfl) ?_
  obtain ⟨d22, g23, hrl, hdl, rq24, hq, h⟩ := h
  obtain ⟨v27, e26, h⟩ := obd_inv h
  refine hpc_X3_takesBackN_X3_173 F hK S hrl hdl hq e26 rfl rfl hl.1 (Nat.le_of_ble_eq_true rfl) ⟨Nat.le_of_ble_eq_true rfl, Nat.le_of_ble_eq_true rfl⟩ dX3_worthBehind_29 (fun w25 H locs hw hz S => ?_)
  replace h := hpret_mp h hw hz
  clear hw hz
  refine lv_iload hx hb dX3_worthBehind_32 (lv_at hl 0 rfl) ?_
  exact h_iret F hr hlk S h dX3_worthBehind_34
theorem hcl_X3_worthBehindL2_X3_156 {p : Program} {l : Launch} {e : Env} {s : State} {m : MethodId} {args : Array Value} {below : List Frame} {meth : Method} {c : Code} {R : Room} {H : Heap} {locs : List Loc} {cb sb pc nL : Nat} {Q : State → Prop} {ls : Array Slot} {rest : List Value} {cc : ByteArray} {E : hEnv} {A : Nat → Prop} {w : hW} {a0 : Nat} {x1 : Nat} {x2 : Int32} {Q' : Int32 → hO → Prop} {c1 s1 : Nat} (F : CallFix p m c cc nL s args lw_all RX3) (hK : hK E A s) (S : hS E A s.heap cb sb w H locs) (hrv : ∃ (b : Bool) (fs : List Value), w.1 a0 = some (b, .inl (3, fs))) (h1 : c1 ≤ w.2.1) (h2 : s1 ≤ w.2.2) (h : hf_X3_worthBehindL2 E.2.2 (w.1, c1, s1) a0 x1 x2 Q') (hrc : R.cells = cb) (hrs : R.slots = sb) (hls : ls.size = nL) (hWt : (rest.map fun v => v.category).sum ≤ 8) (hR : 13 + 1 ≤ R.frames ∧ 8 + (6 + 11) + 310 ≤ R.locals) (hdg : decode cc pc = .ok (.invokevirtual 156, 3))
    (kk : ∀ (v : Int32) (o : hO) (w' : hW) (H1 : Heap) (locs1 : List Loc), w' = (o, w.2.1 - c1, w.2.2 - s1) → Q' v o → hS E A s.heap cb sb w' H1 locs1 → W p l e R s m args below meth c H1 locs1 (cb - w'.2.1) (sb - w'.2.2) Q (F0 m (pc + 3) ls (.int v :: rest))) : W p l e R s m args below meth c H locs (cb - w.2.1) (sb - w.2.2) Q (F0 m pc ls (.int x2 :: .ref x1 :: .ref a0 :: rest)) :=
  h_ki (g_runV F hK (hKm E A) S.1 (hmet_X3_worthBehindL2 l E A (w.1, c1, s1) a0 x1 x2 Q' h) (cwV 2 F.2.2.2.2 (lw_V q1786 q1787 q1788 q115 q1789) rfl rfl rfl (by decide +kernel) hR) (h_recv hK S (ci := 3) rfl hrv) rfl hls rfl hWt hdg ⟨by rw [hrc]; exact (h_left S h1 h2).1, by rw [hrs]; exact (h_left S h1 h2).2⟩) S h1 h2 kk
theorem hcl_X3_worthBehindL2N_X3_156 {p : Program} {l : Launch} {e : Env} {s : State} {m : MethodId} {args : Array Value} {below : List Frame} {meth : Method} {c : Code} {R : Room} {H : Heap} {locs : List Loc} {cb sb pc nL : Nat} {Q : State → Prop} {ls : Array Slot} {rest : List Value} {cc : ByteArray} {E : hEnv} {A : Nat → Prop} {w : hW} {a0 : Nat} {x2 : Int32} {Q' : Int32 → hO → Prop} {c1 s1 : Nat} (F : CallFix p m c cc nL s args lw_all RX3) (hK : hK E A s) (S : hS E A s.heap cb sb w H locs) (hrv : ∃ (b : Bool) (fs : List Value), w.1 a0 = some (b, .inl (3, fs))) (h1 : c1 ≤ w.2.1) (h2 : s1 ≤ w.2.2) (h : hf_X3_worthBehindL2N E.2.2 (w.1, c1, s1) a0 x2 Q') (hrc : R.cells = cb) (hrs : R.slots = sb) (hls : ls.size = nL) (hWt : (rest.map fun v => v.category).sum ≤ 8) (hR : 13 + 1 ≤ R.frames ∧ 8 + (6 + 11) + 310 ≤ R.locals) (hdg : decode cc pc = .ok (.invokevirtual 156, 3))
    (kk : ∀ (v : Int32) (o : hO) (w' : hW) (H1 : Heap) (locs1 : List Loc), w' = (o, w.2.1 - c1, w.2.2 - s1) → Q' v o → hS E A s.heap cb sb w' H1 locs1 → W p l e R s m args below meth c H1 locs1 (cb - w'.2.1) (sb - w'.2.2) Q (F0 m (pc + 3) ls (.int v :: rest))) : W p l e R s m args below meth c H locs (cb - w.2.1) (sb - w.2.2) Q (F0 m pc ls (.int x2 :: .null :: .ref a0 :: rest)) :=
  h_ki (g_runV F hK (hKm E A) S.1 (hmet_X3_worthBehindL2N l E A (w.1, c1, s1) a0 x2 Q' h) (cwV 2 F.2.2.2.2 (lw_V q1786 q1787 q1788 q115 q1789) rfl rfl rfl (by decide +kernel) hR) (h_recv hK S (ci := 3) rfl hrv) rfl hls rfl hWt hdg ⟨by rw [hrc]; exact (h_left S h1 h2).1, by rw [hrs]; exact (h_left S h1 h2).2⟩) S h1 h2 kk
def hL_X3_worthL3_1 (pl : Nat → Nat) (Q : Int32 → hO → Prop) (K : Int32 → hW → Prop) (y0 : Nat) (y1 : Int32) (y2 : Int32) (y4 : Nat) (y5 : Int32) : Nat → hW → Int32 → Int32 → Prop
  | 0, _, _, _ => False
  | n + 1, w, y3, y6 =>
    hIf (y5 ≤ y6) (
      K y3 w) <|
      obd (haP w y4 y6) fun v34 =>
      obd (hInst 6 w v34) fun v36 =>
      hjoin (fun (v58 : Int32) (g59 : hW) =>
        hL_X3_worthL3_1 pl Q K y0 y1 y2 y4 y5 n g59 v58 (y6 + 1)) fun k61 =>
      hIf (v36 = 0) (
        k61 y3 w) <|
        obd (hIs w v34 6) fun u39 =>
        obd (hIs w v34 6) fun u41 =>
        hcall w fun n43 n44 => hf_X7_isFor pl (w.1, n43, n44) v34 y2 fun v47 o46 => hret w n43 n44 o46 fun w45 =>
        hIf (v47 = 0) (
          k61 y3 w45) <|
          obd (hIs w45 v34 6) fun u49 =>
          obd (hIs w45 y0 3) fun u51 =>
          hcall w45 fun n53 n54 => hf_X3_worthBehindL2 pl (w45.1, n53, n54) y0 v34 (y1 - 1) fun v57 o56 => hret w45 n53 n54 o56 fun w55 =>
          k61 (if y3 < (-v57) then (-v57) else y3) w55
def hf_X3_worthL3 (pl : Nat → Nat) (w : hW) (a0 : Nat) (x1 : Int32) (Q : Int32 → hO → Prop) : Prop :=
  ∃ (d1 : hD) (g2 : mS), hRel d1 g2 w.1 ∧ d1.1 100 = a0 ∧ obd (fc_X3_mover g2 100) fun v5 =>
  ∃ (d6 : hD) (g7 : mS), hRel d6 g7 w.1 ∧ d6.1 100 = a0 ∧ obd (fc_X3_isOver g7 100) fun v10 =>
  hIf (v10 = 0) (
    hIf (x1 = 0) (
      ∃ (d71 : hD) (g72 : mS), hRel d71 g72 w.1 ∧ d71.1 100 = a0 ∧ obd (fc_X3_points g72 100 v5) fun v75 =>
      ∃ (d76 : hD) (g77 : mS), hRel d76 g77 w.1 ∧ d76.1 100 = a0 ∧ obd (fc_X3_points g77 100 (3 - v5)) fun v80 =>
      Q (v75 - v80) w.1) <|
      ∃ (d23 : hD) (g24 : mS), hRel d23 g24 w.1 ∧ d23.1 100 = a0 ∧ obd (fc_X3_canTurn g24 100) fun v27 =>
      hIf (v27 = 0) (
        obd (hIs w a0 3) fun u64 =>
        hcall w fun n66 n67 => hf_X3_worthBehindL2N pl (w.1, n66, n67) a0 (x1 - 1) fun v70 o69 => hret w n66 n67 o69 fun w68 =>
        Q (-v70) w68.1) <|
        obd (hgP w a0 3 3) fun v29 =>
        obd (hLen w v29) fun v31 =>
        hL_X3_worthL3_1 pl Q (fun (v62 : Int32) (w63 : hW) =>
          Q v62 w63.1) a0 x1 v5 v29 v31 FUEL w (-2147483648) 0) <|
    ∃ (d12 : hD) (g13 : mS), hRel d12 g13 w.1 ∧ d12.1 100 = a0 ∧ obd (fc_X3_points g13 100 v5) fun v16 =>
    ∃ (d17 : hD) (g18 : mS), hRel d17 g18 w.1 ∧ d17.1 100 = a0 ∧ obd (fc_X3_points g18 100 (3 - v5)) fun v21 =>
    Q (v16 - v21) w.1
abbrev hrm_X3_worthL3 (c s : Nat) : Room := { frames := 14, cells := c, slots := s, locals := 335 }
set_option maxHeartbeats 4000000 in
set_option maxRecDepth 100000 in
theorem hloop_X3_worthL3_1 {p : Program} {l : Launch} {e : Env} {s : State} {m : MethodId} {args : Array Value} {below : List Frame} {meth : Method} {c : Code} {cb sb : Nat} {E : hEnv} {A : Nat → Prop} {Q : Int32 → hO → Prop} {K : Int32 → hW → Prop} {y0 : Nat} {y1 : Int32} {y2 : Int32} {y4 : Nat} {y5 : Int32} (F : CallFix p m c cX3_worth 8 s args lw_all RX3) (hr : meth.sig.returnType = some .int) (hlk : meth.locks = false) (hK : hK E A s) : ∀ (n : Nat) (w : hW) (y3 : Int32) (y6 : Int32), hL_X3_worthL3_1 E.2.2 Q K y0 y1 y2 y4 y5 n w y3 y6 → ∀ (H : Heap) (locs : List Loc) (ls : Array Slot), hS E A s.heap cb sb w H locs → lv_has ls 8 [(0, .ref y0), (1, .int y1), (2, .int y2), (3, .int y3), (4, .ref y4), (5, .int y5), (6, .int y6)] → (∀ (z3 : Int32) (wz : hW) (H : Heap) (locs : List Loc) (ls : Array Slot), K z3 wz → hS E A s.heap cb sb wz H locs → lv_has ls 8 [(3, .int z3)] → W p l e (hrm_X3_worthL3 cb sb) s m args below meth c H locs (cb - wz.2.1) (sb - wz.2.2) (MQ below (hQi E A Q) args s cb sb A) (F0 m 122 ls [])) → W p l e (hrm_X3_worthL3 cb sb) s m args below meth c H locs (cb - w.2.1) (sb - w.2.2) (MQ below (hQi E A Q) args s cb sb A) (F0 m 64 ls []) := by
  have hx := F.1
  have hb := F.2.1
  intro n
  induction n with
  | zero =>
    intro w y3 y6 h
    exact False.elim h
  | succ n ih =>
    intro w y3 y6 h H locs ls S hl kx
    rw [hL_X3_worthL3_1] at h
    refine lv_iload hx hb dX3_worth_64 (lv_at hl 6 rfl) ?_
    refine lv_iload hx hb dX3_worth_66 (lv_at hl 5 rfl) ?_
    refine lv_icmp_ge (tgt := 122) hx hb dX3_worth_68 (by decide) (fun c33 => ?_) (fun c33 => ?_)
    · rw [hIf_pos c33] at h
      exact kx _ _ _ _ _ h S (lv_sub hl [3] rfl)
    · rw [hIf_neg c33] at h
      refine lv_aload hx hb dX3_worth_71 (lv_at hl 4 rfl) ?_
      refine lv_iload hx hb dX3_worth_73 (lv_at hl 6 rfl) ?_
      obtain ⟨v34, e35, h⟩ := obd_inv h
      refine h_aald F hK S e35 dX3_worth_75 ?_
      refine lv_astore (lv' := [(7, .ref v34), (0, .ref y0), (1, .int y1), (2, .int y2), (3, .int y3), (4, .ref y4), (5, .int y5), (6, .int y6)]) hx hb dX3_worth_76 hl (by decide) rfl (fun ls hl => ?_)
      refine lv_aload hx hb dX3_worth_78 (lv_at hl 0 rfl) ?_
      obtain ⟨v36, e37, h⟩ := obd_inv h
      refine h_inst6 F hK S e37 q1128 dX3_worth_80 ?_
      obtain ⟨k61, hk61, h⟩ := hj2_inv h
      have hJ116 : ∀ (v58 : Int32) (g59 : hW) (H : Heap) (locs : List Loc) (ls : Array Slot), k61 v58 g59 → hS E A s.heap cb sb g59 H locs → lv_has ls 8 [(0, .ref y0), (1, .int y1), (2, .int y2), (3, .int v58), (4, .ref y4), (5, .int y5), (6, .int y6)] → W p l e (hrm_X3_worthL3 cb sb) s m args below meth c H locs (cb - g59.2.1) (sb - g59.2.2) (MQ below (hQi E A Q) args s cb sb A) (F0 m 116 ls []) := by
        intro v58 g59 H locs ls h S hl
        replace h := hk61 _ _ h
        refine lv_iinc (v := (y6 + 1)) (lv' := [(6, .int (y6 + 1)), (0, .ref y0), (1, .int y1), (2, .int y2), (3, .int v58), (4, .ref y4), (5, .int y5)]) hx hb dX3_worth_116 hl (k := 6) rfl rfl (by decide) rfl (fun ls hl => ?_)
        refine lv_goto (tgt := 64) hx hb dX3_worth_119 (by decide) ?_
        exact ih _ _ _ h _ _ _ S (lv_sub hl [1, 2, 3, 4, 5, 6, 0] rfl) kx
      clear hk61
      refine lv_if_eq (tgt := 116) hx hb dX3_worth_83 (by decide) (fun c38 => ?_) (fun c38 => ?_)
      · rw [hIf_pos c38] at h
        exact hJ116 _ _ _ _ _ h S (lv_sub hl [1, 2, 3, 4, 5, 6, 7] rfl)
      · rw [hIf_neg c38] at h
        refine lv_aload hx hb dX3_worth_86 (lv_at hl 0 rfl) ?_
        obtain ⟨u39, e40, h⟩ := obd_inv h
        refine h_cast F hK S e40 rfl q1128 dX3_worth_88 ?_
        refine lv_iload_n hx hb dX3_worth_91 rfl (lv_at hl 3 rfl) ?_
        obtain ⟨u41, e42, h⟩ := obd_inv h
        obtain ⟨n43, n44, h1, h2, h⟩ := hcall_inv h
        refine hcl_X7_isFor_X3_135 F hK S (hIs_inv e42) h1 h2 h rfl rfl hl.1 (Nat.le_of_ble_eq_true rfl) ⟨Nat.le_of_ble_eq_true rfl, Nat.le_of_ble_eq_true rfl⟩ dX3_worth_92 (fun v47 o46 w45 H locs hw h S => ?_)
        replace h := hret_mp h hw
        clear hw h1 h2
        refine lv_if_eq (tgt := 116) hx hb dX3_worth_95 (by decide) (fun c48 => ?_) (fun c48 => ?_)
        · rw [hIf_pos c48] at h
          exact hJ116 _ _ _ _ _ h S (lv_sub hl [1, 2, 3, 4, 5, 6, 7] rfl)
        · rw [hIf_neg c48] at h
          refine lv_iload_n hx hb dX3_worth_98 rfl (lv_at hl 4 rfl) ?_
          refine lv_aload_n hx hb dX3_worth_99 rfl (lv_at hl 1 rfl) ?_
          refine lv_aload hx hb dX3_worth_100 (lv_at hl 0 rfl) ?_
          obtain ⟨u49, e50, h⟩ := obd_inv h
          refine h_cast F hK S e50 rfl q1128 dX3_worth_102 ?_
          refine lv_iload_n hx hb dX3_worth_105 rfl (lv_at hl 2 rfl) ?_
          refine lv_iconst (v := 1) hx hb dX3_worth_106 (by decide) ?_
          refine lv_isub hx hb dX3_worth_107 ?_
          obtain ⟨u51, e52, h⟩ := obd_inv h
          obtain ⟨n53, n54, h1, h2, h⟩ := hcall_inv h
          refine hcl_X3_worthBehindL2_X3_156 F hK S (hIs_inv e52) h1 h2 h rfl rfl hl.1 (Nat.le_of_ble_eq_true rfl) ⟨Nat.le_of_ble_eq_true rfl, Nat.le_of_ble_eq_true rfl⟩ dX3_worth_108 (fun v57 o56 w55 H locs hw h S => ?_)
          replace h := hret_mp h hw
          clear hw h1 h2
          refine lv_ineg hx hb dX3_worth_111 ?_
          refine va_mmax hx hb (F.2.2.1.trans hl.1.symm) F.2.2.2.1 (F.2.2.2.2 _ q1137) (F.2.2.2.2 _ q594) (F.2.2.2.2 _ q128) (F.2.2.2.2 _ q595) (Nat.le_of_ble_eq_true rfl) (Nat.le_of_ble_eq_true rfl) (Nat.sub_le _ _) (Nat.sub_le _ _) dX3_worth_112 ?_
          refine lv_istore_n (lv' := [(3, .int (if y3 < (-v57) then (-v57) else y3)), (7, .ref v34), (0, .ref y0), (1, .int y1), (2, .int y2), (4, .ref y4), (5, .int y5), (6, .int y6)]) hx hb dX3_worth_115 rfl hl (by decide) rfl (fun ls hl => ?_)
          exact hJ116 _ _ _ _ _ h S (lv_sub hl [2, 3, 4, 0, 5, 6, 7] rfl)
set_option maxHeartbeats 4000000 in
set_option maxRecDepth 100000 in
theorem hmet_X3_worthL3 (l : Launch) (E : hEnv) (A : Nat → Prop) (w : hW) (a0 : Nat) (x1 : Int32) (Q : Int32 → hO → Prop) (h : hf_X3_worthL3 E.2.2 w a0 x1 Q) : Met l yX3_worth (ws_ yX3_worth cX3_worth 8 (some .int)) (hrm_X3_worthL3 w.2.1 w.2.2) (va_Pc [.ref a0, .int x1] (gPre (hK E A) (hP E A w.1))) (hQi E A Q) w.2.1 w.2.2 A := by
  refine h_met (own := RX3) (by decide +kernel) rfl (Nat.le_of_ble_eq_true rfl) ?_
  intro p e s m args below meth c ls cb sb F hr hlk hK S hl
  have hx := F.1
  have hb := F.2.1
  have hl : lv_has ls 8 [(0, .ref a0), (1, .int x1)] := hl
  unfold hf_X3_worthL3 at h
  refine lv_aload_n hx hb dX3_worth_0 rfl (lv_at hl 0 rfl) ?_
  obtain ⟨d1, g2, hrl, hdl, h⟩ := h
  obtain ⟨v5, e4, h⟩ := obd_inv h
  refine hpc_X3_mover_X3_131 F hK S hrl hdl e4 rfl rfl hl.1 (Nat.le_of_ble_eq_true rfl) ⟨Nat.le_of_ble_eq_true rfl, Nat.le_of_ble_eq_true rfl⟩ dX3_worth_1 (fun H locs S => ?_)
  refine lv_istore_n (lv' := [(2, .int v5), (0, .ref a0), (1, .int x1)]) hx hb dX3_worth_4 rfl hl (by decide) rfl (fun ls hl => ?_)
  refine lv_aload_n hx hb dX3_worth_5 rfl (lv_at hl 1 rfl) ?_
  obtain ⟨d6, g7, hrl, hdl, h⟩ := h
  obtain ⟨v10, e9, h⟩ := obd_inv h
  refine hpc_X3_isOver_X3_108 F hK S hrl hdl e9 rfl rfl hl.1 (Nat.le_of_ble_eq_true rfl) ⟨Nat.le_of_ble_eq_true rfl, Nat.le_of_ble_eq_true rfl⟩ dX3_worth_6 (fun H locs S => ?_)
  refine lv_if_ne (tgt := 16) hx hb dX3_worth_9 (by decide) (fun c11 => ?_) (fun c11 => ?_)
  · rw [hIf_neg c11] at h
    refine lv_aload_n hx hb dX3_worth_16 rfl (lv_at hl 1 rfl) ?_
    refine lv_iload_n hx hb dX3_worth_17 rfl (lv_at hl 0 rfl) ?_
    obtain ⟨d12, g13, hrl, hdl, h⟩ := h
    obtain ⟨v16, e15, h⟩ := obd_inv h
    refine hpc_X3_points_X3_101 F hK S hrl hdl e15 rfl rfl hl.1 (Nat.le_of_ble_eq_true rfl) ⟨Nat.le_of_ble_eq_true rfl, Nat.le_of_ble_eq_true rfl⟩ dX3_worth_18 (fun H locs S => ?_)
    refine lv_aload_n hx hb dX3_worth_21 rfl (lv_at hl 1 rfl) ?_
    refine lv_iconst (v := 3) hx hb dX3_worth_22 (by decide) ?_
    refine lv_iload_n hx hb dX3_worth_23 rfl (lv_at hl 0 rfl) ?_
    refine lv_isub hx hb dX3_worth_24 ?_
    obtain ⟨d17, g18, hrl, hdl, h⟩ := h
    obtain ⟨v21, e20, h⟩ := obd_inv h
    refine hpc_X3_points_X3_101 F hK S hrl hdl e20 rfl rfl hl.1 (Nat.le_of_ble_eq_true rfl) ⟨Nat.le_of_ble_eq_true rfl, Nat.le_of_ble_eq_true rfl⟩ dX3_worth_25 (fun H locs S => ?_)
    refine lv_isub hx hb dX3_worth_28 ?_
    exact h_iret F hr hlk S h dX3_worth_29
  · rw [hIf_pos c11] at h
    refine lv_iload_n hx hb dX3_worth_12 rfl (lv_at hl 2 rfl) ?_
    refine lv_if_ne (tgt := 30) hx hb dX3_worth_13 (by decide) (fun c22 => ?_) (fun c22 => ?_)
    · rw [hIf_neg c22] at h
      refine lv_aload_n hx hb dX3_worth_30 rfl (lv_at hl 1 rfl) ?_
      obtain ⟨d23, g24, hrl, hdl, h⟩ := h
      obtain ⟨v27, e26, h⟩ := obd_inv h
      refine hpc_X3_canTurn_X3_153 F hK S hrl hdl e26 rfl rfl hl.1 (Nat.le_of_ble_eq_true rfl) ⟨Nat.le_of_ble_eq_true rfl, Nat.le_of_ble_eq_true rfl⟩ dX3_worth_31 (fun H locs S => ?_)
      refine lv_if_ne (tgt := 47) hx hb dX3_worth_34 (by decide) (fun c28 => ?_) (fun c28 => ?_)
      · rw [hIf_neg c28] at h
        refine lv_ldc (v := (-2147483648)) hx hb F.2.2.2.1 (F.2.2.2.2 _ q1800) dX3_worth_47 ?_
        refine lv_istore_n (lv' := [(3, .int (-2147483648)), (2, .int v5), (0, .ref a0), (1, .int x1)]) hx hb dX3_worth_49 rfl hl (by decide) rfl (fun ls hl => ?_)
        refine lv_aload_n hx hb dX3_worth_50 rfl (lv_at hl 2 rfl) ?_
        obtain ⟨v29, e30, h⟩ := obd_inv h
        refine hg_X3_9 F hK S e30 dX3_worth_51 ?_
        refine lv_astore (lv' := [(4, .ref v29), (3, .int (-2147483648)), (2, .int v5), (0, .ref a0), (1, .int x1)]) hx hb dX3_worth_54 hl (by decide) rfl (fun ls hl => ?_)
        refine lv_aload hx hb dX3_worth_56 (lv_at hl 0 rfl) ?_
        obtain ⟨v31, e32, h⟩ := obd_inv h
        refine h_alen F hK S e32 dX3_worth_58 ?_
        refine lv_istore (lv' := [(5, .int v31), (4, .ref v29), (3, .int (-2147483648)), (2, .int v5), (0, .ref a0), (1, .int x1)]) hx hb dX3_worth_59 hl (by decide) rfl (fun ls hl => ?_)
        refine lv_iconst (v := 0) hx hb dX3_worth_61 (by decide) ?_
        refine lv_istore (lv' := [(6, .int 0), (5, .int v31), (4, .ref v29), (3, .int (-2147483648)), (2, .int v5), (0, .ref a0), (1, .int x1)]) hx hb dX3_worth_62 hl (by decide) rfl (fun ls hl => ?_)
        refine hloop_X3_worthL3_1 F hr hlk hK _ _ _ _ h _ _ _ S (lv_sub hl [5, 6, 4, 3, 2, 1, 0] rfl) (fun v62 w63 H locs ls h S hl => ?_)
        refine lv_iload_n hx hb dX3_worth_122 rfl (lv_at hl 0 rfl) ?_
        exact h_iret F hr hlk S h dX3_worth_123
      · rw [hIf_pos c28] at h
        refine lv_aload_n hx hb dX3_worth_37 rfl (lv_at hl 1 rfl) ?_
        refine lv_null hx hb dX3_worth_38 ?_
        refine lv_iload_n hx hb dX3_worth_39 rfl (lv_at hl 2 rfl) ?_
        refine lv_iconst (v := 1) hx hb dX3_worth_40 (by decide) ?_
        refine lv_isub hx hb dX3_worth_41 ?_
        obtain ⟨u64, e65, h⟩ := obd_inv h
        obtain ⟨n66, n67, h1, h2, h⟩ := hcall_inv h
        refine hcl_X3_worthBehindL2N_X3_156 F hK S (hIs_inv e65) h1 h2 h rfl rfl hl.1 (Nat.le_of_ble_eq_true rfl) ⟨Nat.le_of_ble_eq_true rfl, Nat.le_of_ble_eq_true rfl⟩ dX3_worth_42 (fun v70 o69 w68 H locs hw h S => ?_)
        replace h := hret_mp h hw
        clear hw h1 h2
        refine lv_ineg hx hb dX3_worth_45 ?_
        exact h_iret F hr hlk S h dX3_worth_46
    · rw [hIf_pos c22] at h
      refine lv_aload_n hx hb dX3_worth_16 rfl (lv_at hl 1 rfl) ?_
      refine lv_iload_n hx hb dX3_worth_17 rfl (lv_at hl 0 rfl) ?_
      obtain ⟨d71, g72, hrl, hdl, h⟩ := h
      obtain ⟨v75, e74, h⟩ := obd_inv h
      refine hpc_X3_points_X3_101 F hK S hrl hdl e74 rfl rfl hl.1 (Nat.le_of_ble_eq_true rfl) ⟨Nat.le_of_ble_eq_true rfl, Nat.le_of_ble_eq_true rfl⟩ dX3_worth_18 (fun H locs S => ?_)
      refine lv_aload_n hx hb dX3_worth_21 rfl (lv_at hl 1 rfl) ?_
      refine lv_iconst (v := 3) hx hb dX3_worth_22 (by decide) ?_
      refine lv_iload_n hx hb dX3_worth_23 rfl (lv_at hl 0 rfl) ?_
      refine lv_isub hx hb dX3_worth_24 ?_
      obtain ⟨d76, g77, hrl, hdl, h⟩ := h
      obtain ⟨v80, e79, h⟩ := obd_inv h
      refine hpc_X3_points_X3_101 F hK S hrl hdl e79 rfl rfl hl.1 (Nat.le_of_ble_eq_true rfl) ⟨Nat.le_of_ble_eq_true rfl, Nat.le_of_ble_eq_true rfl⟩ dX3_worth_25 (fun H locs S => ?_)
      refine lv_isub hx hb dX3_worth_28 ?_
      exact h_iret F hr hlk S h dX3_worth_29
