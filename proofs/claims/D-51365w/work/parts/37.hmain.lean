/-! HEAP MODE: the object: what throws nothing -/
set_option maxRecDepth 100000
theorem hg_X1_47 {p : Program} {l : Launch} {e : Env} {s : State} {m : MethodId} {args : Array Value} {below : List Frame} {meth : Method} {c : Code} {R : Room} {H : Heap} {locs : List Loc} {cb sb pc nL : Nat} {Q : State → Prop} {ls : Array Slot} {rest : List Value} {cc : ByteArray} {E : hEnv} {A : Nat → Prop} {w : hW} {a : Nat} {v : Nat} (F : CallFix p m c cc nL s args lw_all RX1) (hK : hK E A s) (S : hS E A s.heap cb sb w H locs) (h : hgP w a 1 3 = some v) (hdg : decode cc pc = .ok (.getfield 47, 3)) (kk : W p l e R s m args below meth c H locs (cb - w.2.1) (sb - w.2.2) Q (F0 m (pc + 3) ls (.ref v :: rest))) : W p l e R s m args below meth c H locs (cb - w.2.1) (sb - w.2.2) Q (F0 m pc ls (.ref a :: rest)) := by
  obtain ⟨b, fs, ho, hv⟩ := hgP_inv h
  exact h_get F hK S ho (ci := 1) (C := RX1) (T := TX1) (N := 7) (k := 3) rfl in_X1 (by decide) q473 (fun x h => h) hv hdg kk
theorem hg_X1_74 {p : Program} {l : Launch} {e : Env} {s : State} {m : MethodId} {args : Array Value} {below : List Frame} {meth : Method} {c : Code} {R : Room} {H : Heap} {locs : List Loc} {cb sb pc nL : Nat} {Q : State → Prop} {ls : Array Slot} {rest : List Value} {cc : ByteArray} {E : hEnv} {A : Nat → Prop} {w : hW} {a : Nat} {v : Nat} (F : CallFix p m c cc nL s args lw_all RX1) (hK : hK E A s) (S : hS E A s.heap cb sb w H locs) (h : hgP w a 3 3 = some v) (hdg : decode cc pc = .ok (.getfield 74, 3)) (kk : W p l e R s m args below meth c H locs (cb - w.2.1) (sb - w.2.2) Q (F0 m (pc + 3) ls (.ref v :: rest))) : W p l e R s m args below meth c H locs (cb - w.2.1) (sb - w.2.2) Q (F0 m pc ls (.ref a :: rest)) := by
  obtain ⟨b, fs, ho, hv⟩ := hgP_inv h
  exact h_getN F hK S ho (ci := 3) (C := RX3) (T := TX3) (N := 9) (k := 3) rfl in_X3 (by decide) (hK.2.1.1 _ (List.mem_of_getElem? (i := 1) rfl)) (fun x h => h) hv hdg kk
theorem hg_X1_78 {p : Program} {l : Launch} {e : Env} {s : State} {m : MethodId} {args : Array Value} {below : List Frame} {meth : Method} {c : Code} {R : Room} {H : Heap} {locs : List Loc} {cb sb pc nL : Nat} {Q : State → Prop} {ls : Array Slot} {rest : List Value} {cc : ByteArray} {E : hEnv} {A : Nat → Prop} {w : hW} {a : Nat} {v : Int32} (F : CallFix p m c cc nL s args lw_all RX1) (hK : hK E A s) (S : hS E A s.heap cb sb w H locs) (h : hgC w a = some v) (hdg : decode cc pc = .ok (.getfield 78, 3)) (kk : W p l e R s m args below meth c H locs (cb - w.2.1) (sb - w.2.2) Q (F0 m (pc + 3) ls (.int v :: rest))) : W p l e R s m args below meth c H locs (cb - w.2.1) (sb - w.2.2) Q (F0 m pc ls (.ref a :: rest)) := by
  obtain ⟨ci, b, fs, hc, ho, hv⟩ := hgC_inv h
  rcases hc with rfl | rfl | rfl | rfl | rfl | rfl
  · exact h_get F hK S ho (ci := 4) (C := RX5) (T := TX5) (N := 1) (k := 0) rfl in_X5 (by decide) q299 (fun x h => h) hv hdg kk
  · exact h_get F hK S ho (ci := 5) (C := RX6) (T := TX6) (N := 2) (k := 0) rfl in_X6 (by decide) q299 (fun x h => h) hv hdg kk
  · exact h_get F hK S ho (ci := 6) (C := RX7) (T := TX7) (N := 6) (k := 0) rfl in_X7 (by decide) q299 (fun x h => h) hv hdg kk
  · exact h_get F hK S ho (ci := 7) (C := RX8) (T := TX8) (N := 3) (k := 0) rfl in_X8 (by decide) q299 (fun x h => h) hv hdg kk
  · exact h_get F hK S ho (ci := 8) (C := RX12) (T := TX12) (N := 2) (k := 0) rfl in_X12 (by decide) q299 (fun x h => h) hv hdg kk
  · exact h_get F hK S ho (ci := 9) (C := RX13) (T := TX13) (N := 2) (k := 0) rfl in_X13 (by decide) q299 (fun x h => h) hv hdg kk
def hL_X1_lays_1 (pl : Nat → Nat) (Q : hO → Prop) (K : hW → Prop) (y0 : Nat) (y2 : Nat) (y3 : Int32) : Nat → hW → Int32 → Prop
  | 0, _, _ => False
  | n + 1, w, y4 =>
    hIf (y3 ≤ y4) (
      K w) <|
      obd (haP w y2 y4) fun v4 =>
      obd (hgP w y0 1 3) fun v6 =>
      obd (hgP w v6 3 3) fun v8 =>
      obd (hgC w v4) fun v10 =>
      obd (hsR w v8 v10 (some v4)) fun w12 =>
      hL_X1_lays_1 pl Q K y0 y2 y3 n w12 (y4 + 1)
def hf_X1_lays (pl : Nat → Nat) (w : hW) (a0 : Nat) (x1 : Nat) (Q : hO → Prop) : Prop :=
  obd (hLen w x1) fun v1 =>
  hL_X1_lays_1 pl Q (fun (w14 : hW) =>
    Q w14.1) a0 x1 v1 FUEL w 0
abbrev hrm_X1_lays (c s : Nat) : Room := { frames := 0, cells := c, slots := s, locals := 0 }
set_option maxHeartbeats 4000000 in
set_option maxRecDepth 100000 in
theorem hloop_X1_lays_1 {p : Program} {l : Launch} {e : Env} {s : State} {m : MethodId} {args : Array Value} {below : List Frame} {meth : Method} {c : Code} {cb sb : Nat} {E : hEnv} {A : Nat → Prop} {Q : hO → Prop} {K : hW → Prop} {y0 : Nat} {y2 : Nat} {y3 : Int32} (F : CallFix p m c cX1_lays 6 s args lw_all RX1) (hr : meth.sig.returnType = none) (hlk : meth.locks = false) (hK : hK E A s) : ∀ (n : Nat) (w : hW) (y4 : Int32), hL_X1_lays_1 E.2.2 Q K y0 y2 y3 n w y4 → ∀ (H : Heap) (locs : List Loc) (ls : Array Slot), hS E A s.heap cb sb w H locs → lv_has ls 6 [(0, .ref y0), (2, .ref y2), (3, .int y3), (4, .int y4)] → (∀ (wz : hW) (H : Heap) (locs : List Loc) (ls : Array Slot), K wz → hS E A s.heap cb sb wz H locs → lv_has ls 6 [] → W p l e (hrm_X1_lays cb sb) s m args below meth c H locs (cb - wz.2.1) (sb - wz.2.2) (MQ below (hQv E A Q) args s cb sb A) (F0 m 41 ls [])) → W p l e (hrm_X1_lays cb sb) s m args below meth c H locs (cb - w.2.1) (sb - w.2.2) (MQ below (hQv E A Q) args s cb sb A) (F0 m 8 ls []) := by
  have hx := F.1
  have hb := F.2.1
  intro n
  induction n with
  | zero =>
    intro w y4 h
    exact False.elim h
  | succ n ih =>
    intro w y4 h H locs ls S hl kx
    rw [hL_X1_lays_1] at h
    refine lv_iload hx hb dX1_lays_8 (lv_at hl 3 rfl) ?_
    refine lv_iload_n hx hb dX1_lays_10 rfl (lv_at hl 2 rfl) ?_
    refine lv_icmp_ge (tgt := 41) hx hb dX1_lays_11 (by decide) (fun c3 => ?_) (fun c3 => ?_)
    · rw [hIf_pos c3] at h
      exact kx _ _ _ _ h S (lv_sub hl [] rfl)
    · rw [hIf_neg c3] at h
      refine lv_aload_n hx hb dX1_lays_14 rfl (lv_at hl 1 rfl) ?_
      refine lv_iload hx hb dX1_lays_15 (lv_at hl 3 rfl) ?_
      obtain ⟨v4, e5, h⟩ := obd_inv h
      refine h_aald F hK S e5 dX1_lays_17 ?_
      refine lv_astore (lv' := [(5, .ref v4), (0, .ref y0), (2, .ref y2), (3, .int y3), (4, .int y4)]) hx hb dX1_lays_18 hl (by decide) rfl (fun ls hl => ?_)
      refine lv_aload_n hx hb dX1_lays_20 rfl (lv_at hl 1 rfl) ?_
      obtain ⟨v6, e7, h⟩ := obd_inv h
      refine hg_X1_47 F hK S e7 dX1_lays_21 ?_
      obtain ⟨v8, e9, h⟩ := obd_inv h
      refine hg_X1_74 F hK S e9 dX1_lays_24 ?_
      refine lv_aload hx hb dX1_lays_27 (lv_at hl 0 rfl) ?_
      obtain ⟨v10, e11, h⟩ := obd_inv h
      refine hg_X1_78 F hK S e11 dX1_lays_29 ?_
      refine lv_aload hx hb dX1_lays_32 (lv_at hl 0 rfl) ?_
      obtain ⟨w12, e13, h⟩ := obd_inv h
      refine h_aast F hK S e13 dX1_lays_34 (fun H locs S => ?_)
      refine lv_iinc (v := (y4 + 1)) (lv' := [(4, .int (y4 + 1)), (5, .ref v4), (0, .ref y0), (2, .ref y2), (3, .int y3)]) hx hb dX1_lays_35 hl (k := 4) rfl rfl (by decide) rfl (fun ls hl => ?_)
      refine lv_goto (tgt := 8) hx hb dX1_lays_38 (by decide) ?_
      exact ih _ _ h _ _ _ S (lv_sub hl [2, 3, 4, 0] rfl) kx
set_option maxHeartbeats 4000000 in
set_option maxRecDepth 100000 in
theorem hmet_X1_lays (l : Launch) (E : hEnv) (A : Nat → Prop) (w : hW) (a0 : Nat) (x1 : Nat) (Q : hO → Prop) (h : hf_X1_lays E.2.2 w a0 x1 Q) : Met l yX1_lays (ws_ yX1_lays cX1_lays 6 (none)) (hrm_X1_lays w.2.1 w.2.2) (va_Pc [.ref a0, .ref x1] (gPre (hK E A) (hP E A w.1))) (hQv E A Q) w.2.1 w.2.2 A := by
  refine h_met (own := RX1) (by decide +kernel) rfl (Nat.le_of_ble_eq_true rfl) ?_
  intro p e s m args below meth c ls cb sb F hr hlk hK S hl
  have hx := F.1
  have hb := F.2.1
  have hl : lv_has ls 6 [(0, .ref a0), (1, .ref x1)] := hl
  unfold hf_X1_lays at h
  refine lv_aload_n hx hb dX1_lays_0 rfl (lv_at hl 1 rfl) ?_
  refine lv_astore_n (lv' := [(2, .ref x1), (0, .ref a0), (1, .ref x1)]) hx hb dX1_lays_1 rfl hl (by decide) rfl (fun ls hl => ?_)
  refine lv_aload_n hx hb dX1_lays_2 rfl (lv_at hl 0 rfl) ?_
  obtain ⟨v1, e2, h⟩ := obd_inv h
  refine h_alen F hK S e2 dX1_lays_3 ?_
  refine lv_istore_n (lv' := [(3, .int v1), (2, .ref x1), (0, .ref a0), (1, .ref x1)]) hx hb dX1_lays_4 rfl hl (by decide) rfl (fun ls hl => ?_)
  refine lv_iconst (v := 0) hx hb dX1_lays_5 (by decide) ?_
  refine lv_istore (lv' := [(4, .int 0), (3, .int v1), (2, .ref x1), (0, .ref a0), (1, .ref x1)]) hx hb dX1_lays_6 hl (by decide) rfl (fun ls hl => ?_)
  refine hloop_X1_lays_1 F hr hlk hK _ _ _ h _ _ _ S (lv_sub hl [3, 2, 1, 0] rfl) (fun w14 H locs ls h S hl => ?_)
  exact h_vret F hr hlk S h dX1_lays_41
theorem hg_X1_28 {p : Program} {l : Launch} {e : Env} {s : State} {m : MethodId} {args : Array Value} {below : List Frame} {meth : Method} {c : Code} {R : Room} {H : Heap} {locs : List Loc} {cb sb pc nL : Nat} {Q : State → Prop} {ls : Array Slot} {rest : List Value} {cc : ByteArray} {E : hEnv} {A : Nat → Prop} {w : hW} {a : Nat} {v : Nat} (F : CallFix p m c cc nL s args lw_all RX1) (hK : hK E A s) (S : hS E A s.heap cb sb w H locs) (h : hgP w a 1 4 = some v) (hdg : decode cc pc = .ok (.getfield 28, 3)) (kk : W p l e R s m args below meth c H locs (cb - w.2.1) (sb - w.2.2) Q (F0 m (pc + 3) ls (.ref v :: rest))) : W p l e R s m args below meth c H locs (cb - w.2.1) (sb - w.2.2) Q (F0 m pc ls (.ref a :: rest)) := by
  obtain ⟨b, fs, ho, hv⟩ := hgP_inv h
  exact h_get F hK S ho (ci := 1) (C := RX1) (T := TX1) (N := 7) (k := 4) rfl in_X1 (by decide) q474 (fun x h => h) hv hdg kk
theorem hcl_J1_size_X1_81 {p : Program} {l : Launch} {e : Env} {s : State} {m : MethodId} {args : Array Value} {below : List Frame} {meth : Method} {c : Code} {R : Room} {H : Heap} {locs : List Loc} {cb sb pc nL : Nat} {Q : State → Prop} {ls : Array Slot} {rest : List Value} {cc : ByteArray} {E : hEnv} {A : Nat → Prop} {w : hW} {a0 : Nat} {Q' : Int32 → hO → Prop} {c1 s1 : Nat} (F : CallFix p m c cc nL s args lw_all RX1) (hK : hK E A s) (S : hS E A s.heap cb sb w H locs) (hrv : ∃ (b : Bool) (fs : List Value), w.1 a0 = some (b, .inl (12, fs))) (h1 : c1 ≤ w.2.1) (h2 : s1 ≤ w.2.2) (h : hf_J1_size E.2.2 (w.1, c1, s1) a0 Q') (hrc : R.cells = cb) (hrs : R.slots = sb) (hls : ls.size = nL) (hWt : (rest.map fun v => v.category).sum ≤ 8) (hR : 1 + 1 ≤ R.frames ∧ 8 + (1 + 11) + 22 ≤ R.locals) (hdg : decode cc pc = .ok (.invokevirtual 81, 3))
    (kk : ∀ (v : Int32) (o : hO) (w' : hW) (H1 : Heap) (locs1 : List Loc), w' = (o, w.2.1 - c1, w.2.2 - s1) → Q' v o → hS E A s.heap cb sb w' H1 locs1 → W p l e R s m args below meth c H1 locs1 (cb - w'.2.1) (sb - w'.2.2) Q (F0 m (pc + 3) ls (.int v :: rest))) : W p l e R s m args below meth c H locs (cb - w.2.1) (sb - w.2.2) Q (F0 m pc ls (.ref a0 :: rest)) :=
  h_ki (g_runV F hK (hKm E A) S.1 (hmet_J1_size l E A (w.1, c1, s1) a0 Q' h) (cwV 0 F.2.2.2.2 (lw_V q1146 q1147 q1148 q114 q1149) rfl rfl rfl (by decide +kernel) hR) (h_recv hK S (ci := 12) rfl hrv) rfl hls rfl hWt hdg ⟨by rw [hrc]; exact (h_left S h1 h2).1, by rw [hrs]; exact (h_left S h1 h2).2⟩) S h1 h2 kk
theorem hcl_J1_removeFirst_X1_85 {p : Program} {l : Launch} {e : Env} {s : State} {m : MethodId} {args : Array Value} {below : List Frame} {meth : Method} {c : Code} {R : Room} {H : Heap} {locs : List Loc} {cb sb pc nL : Nat} {Q : State → Prop} {ls : Array Slot} {rest : List Value} {cc : ByteArray} {E : hEnv} {A : Nat → Prop} {w : hW} {a0 : Nat} {Q' : Nat → hO → Prop} {c1 s1 : Nat} (F : CallFix p m c cc nL s args lw_all RX1) (hK : hK E A s) (S : hS E A s.heap cb sb w H locs) (hrv : ∃ (b : Bool) (fs : List Value), w.1 a0 = some (b, .inl (12, fs))) (h1 : c1 ≤ w.2.1) (h2 : s1 ≤ w.2.2) (h : hf_J1_removeFirst E.2.2 (w.1, c1, s1) a0 Q') (hrc : R.cells = cb) (hrs : R.slots = sb) (hls : ls.size = nL) (hWt : (rest.map fun v => v.category).sum ≤ 8) (hR : 2 + 1 ≤ R.frames ∧ 8 + (2 + 11) + 44 ≤ R.locals) (hdg : decode cc pc = .ok (.invokevirtual 85, 3))
    (kk : ∀ (v : Nat) (o : hO) (w' : hW) (H1 : Heap) (locs1 : List Loc), w' = (o, w.2.1 - c1, w.2.2 - s1) → Q' v o → hS E A s.heap cb sb w' H1 locs1 → W p l e R s m args below meth c H1 locs1 (cb - w'.2.1) (sb - w'.2.2) Q (F0 m (pc + 3) ls (.ref v :: rest))) : W p l e R s m args below meth c H locs (cb - w.2.1) (sb - w.2.2) Q (F0 m pc ls (.ref a0 :: rest)) :=
  h_kp (g_runV F hK (hKm E A) S.1 (hmet_J1_removeFirst l E A (w.1, c1, s1) a0 Q' h) (cwV 0 F.2.2.2.2 (lw_V q1153 q1154 q1155 q114 q1156) rfl rfl rfl (by decide +kernel) hR) (h_recv hK S (ci := 12) rfl hrv) rfl hls rfl hWt hdg ⟨by rw [hrc]; exact (h_left S h1 h2).1, by rw [hrs]; exact (h_left S h1 h2).2⟩) S h1 h2 kk
theorem hcl_J1_addLast_X1_89 {p : Program} {l : Launch} {e : Env} {s : State} {m : MethodId} {args : Array Value} {below : List Frame} {meth : Method} {c : Code} {R : Room} {H : Heap} {locs : List Loc} {cb sb pc nL : Nat} {Q : State → Prop} {ls : Array Slot} {rest : List Value} {cc : ByteArray} {E : hEnv} {A : Nat → Prop} {w : hW} {a0 : Nat} {x1 : Nat} {Q' : hO → Prop} {c1 s1 : Nat} (F : CallFix p m c cc nL s args lw_all RX1) (hK : hK E A s) (S : hS E A s.heap cb sb w H locs) (hrv : ∃ (b : Bool) (fs : List Value), w.1 a0 = some (b, .inl (12, fs))) (h1 : c1 ≤ w.2.1) (h2 : s1 ≤ w.2.2) (h : hf_J1_addLast E.2.2 (w.1, c1, s1) a0 x1 Q') (hrc : R.cells = cb) (hrs : R.slots = sb) (hls : ls.size = nL) (hWt : (rest.map fun v => v.category).sum ≤ 8) (hR : 1 + 1 ≤ R.frames ∧ 8 + (3 + 11) + 21 ≤ R.locals) (hdg : decode cc pc = .ok (.invokevirtual 89, 3))
    (kk : ∀ (o : hO) (w' : hW) (H1 : Heap) (locs1 : List Loc), w' = (o, w.2.1 - c1, w.2.2 - s1) → Q' o → hS E A s.heap cb sb w' H1 locs1 → W p l e R s m args below meth c H1 locs1 (cb - w'.2.1) (sb - w'.2.2) Q (F0 m (pc + 3) ls (rest))) : W p l e R s m args below meth c H locs (cb - w.2.1) (sb - w.2.2) Q (F0 m pc ls (.ref x1 :: .ref a0 :: rest)) :=
  h_kv (g_runV F hK (hKm E A) S.1 (hmet_J1_addLast l E A (w.1, c1, s1) a0 x1 Q' h) (cwV 1 F.2.2.2.2 (lw_V q1185 q1186 q1187 q114 q1188) rfl rfl rfl (by decide +kernel) hR) (h_recv hK S (ci := 12) rfl hrv) rfl hls rfl hWt hdg ⟨by rw [hrc]; exact (h_left S h1 h2).1, by rw [hrs]; exact (h_left S h1 h2).2⟩) S h1 h2 kk
theorem hp_X1_47 {p : Program} {l : Launch} {e : Env} {s : State} {m : MethodId} {args : Array Value} {below : List Frame} {meth : Method} {c : Code} {R : Room} {H : Heap} {locs : List Loc} {cb sb pc nL : Nat} {Q : State → Prop} {ls : Array Slot} {rest : List Value} {cc : ByteArray} {E : hEnv} {A : Nat → Prop} {w : hW} {a : Nat} {w' : hW} {v : Nat} (F : CallFix p m c cc nL s args lw_all RX1) (hK : hK E A s) (S : hS E A s.heap cb sb w H locs) (h : hpV w a 1 3 (.ref v) = some w') (hdg : decode cc pc = .ok (.putfield 47, 3)) (kk : ∀ (H1 : Heap) (locs1 : List Loc), hS E A s.heap cb sb w' H1 locs1 → W p l e R s m args below meth c H1 locs1 (cb - w'.2.1) (sb - w'.2.2) Q (F0 m (pc + 3) ls rest)) : W p l e R s m args below meth c H locs (cb - w.2.1) (sb - w.2.2) Q (F0 m pc ls (.ref v :: .ref a :: rest)) :=
  h_put F hK S h (ci := 1) (C := RX1) (T := TX1) (N := 7) (k := 3) rfl in_X1 tyX1 tyX1_ok nmX1 (by decide) q473 (fun x h => h) rfl (ty := (.object "MirrorDoors$World")) (by decide +kernel) rfl rfl hdg kk
def hf_X1_change (pl : Nat → Nat) (w : hW) (a0 : Nat) (x1 : Nat) (Q : Nat → hO → Prop) : Prop :=
  obd (hgP w a0 1 4) fun v1 =>
  obd (hIs w v1 12) fun u3 =>
  hcall w fun n5 n6 => hf_J1_size pl (w.1, n5, n6) v1 fun v9 o8 => hret w n5 n6 o8 fun w7 =>
  hjoin (fun (g20 : hW) =>
    obd (hgP g20 a0 1 4) fun v21 =>
    obd (hgP g20 a0 1 3) fun v23 =>
    obd (hIs g20 v21 12) fun u25 =>
    hcall g20 fun n27 n28 => hf_J1_addLast pl (g20.1, n27, n28) v21 v23 fun o30 => hret g20 n27 n28 o30 fun w29 =>
    obd (hpV w29 a0 1 3 (.ref x1)) fun w31 =>
    Q x1 w31.1) fun k34 =>
  hIf (v9 = 10) (
    obd (hgP w7 a0 1 4) fun v11 =>
    obd (hIs w7 v11 12) fun u13 =>
    hcall w7 fun n15 n16 => hf_J1_removeFirst pl (w7.1, n15, n16) v11 fun v19 o18 => hret w7 n15 n16 o18 fun w17 =>
    k34 w17) <|
    k34 w7
abbrev hrm_X1_change (c s : Nat) : Room := { frames := 3, cells := c, slots := s, locals := 65 }
set_option maxHeartbeats 4000000 in
set_option maxRecDepth 100000 in
theorem hmet_X1_change (l : Launch) (E : hEnv) (A : Nat → Prop) (w : hW) (a0 : Nat) (x1 : Nat) (Q : Nat → hO → Prop) (h : hf_X1_change E.2.2 w a0 x1 Q) : Met l yX1_change (ws_ yX1_change cX1_change 2 (some (.object "MirrorDoors$World"))) (hrm_X1_change w.2.1 w.2.2) (va_Pc [.ref a0, .ref x1] (gPre (hK E A) (hP E A w.1))) (hQp E A Q) w.2.1 w.2.2 A := by
  refine h_met (own := RX1) (by decide +kernel) rfl (Nat.le_of_ble_eq_true rfl) ?_
  intro p e s m args below meth c ls cb sb F hr hlk hK S hl
  have hx := F.1
  have hb := F.2.1
  have hl : lv_has ls 2 [(0, .ref a0), (1, .ref x1)] := hl
  unfold hf_X1_change at h
  refine lv_aload_n hx hb dX1_change_0 rfl (lv_at hl 0 rfl) ?_
  obtain ⟨v1, e2, h⟩ := obd_inv h
  refine hg_X1_28 F hK S e2 dX1_change_1 ?_
  obtain ⟨u3, e4, h⟩ := obd_inv h
  obtain ⟨n5, n6, h1, h2, h⟩ := hcall_inv h
  refine hcl_J1_size_X1_81 F hK S (hIs_inv e4) h1 h2 h rfl rfl hl.1 (Nat.le_of_ble_eq_true rfl) ⟨Nat.le_of_ble_eq_true rfl, Nat.le_of_ble_eq_true rfl⟩ dX1_change_4 (fun v9 o8 w7 H locs hw h S => ?_)
  replace h := hret_mp h hw
  clear hw h1 h2
  refine lv_bipush (v := 10) hx hb dX1_change_7 (by decide) ?_
  obtain ⟨k34, hk34, h⟩ := hj1_inv h
  have hJ20 : ∀ (g20 : hW) (H : Heap) (locs : List Loc) (ls : Array Slot), k34 g20 → hS E A s.heap cb sb g20 H locs → lv_has ls 2 [(0, .ref a0), (1, .ref x1)] → W p l e (hrm_X1_change cb sb) s m args below meth c H locs (cb - g20.2.1) (sb - g20.2.2) (MQ below (hQp E A Q) args s cb sb A) (F0 m 20 ls []) := by
    intro g20 H locs ls h S hl
    replace h := hk34 _ h
    refine lv_aload_n hx hb dX1_change_20 rfl (lv_at hl 0 rfl) ?_
    obtain ⟨v21, e22, h⟩ := obd_inv h
    refine hg_X1_28 F hK S e22 dX1_change_21 ?_
    refine lv_aload_n hx hb dX1_change_24 rfl (lv_at hl 0 rfl) ?_
    obtain ⟨v23, e24, h⟩ := obd_inv h
    refine hg_X1_47 F hK S e24 dX1_change_25 ?_
    obtain ⟨u25, e26, h⟩ := obd_inv h
    obtain ⟨n27, n28, h1, h2, h⟩ := hcall_inv h
    refine hcl_J1_addLast_X1_89 F hK S (hIs_inv e26) h1 h2 h rfl rfl hl.1 (Nat.le_of_ble_eq_true rfl) ⟨Nat.le_of_ble_eq_true rfl, Nat.le_of_ble_eq_true rfl⟩ dX1_change_28 (fun o30 w29 H locs hw h S => ?_)
    replace h := hret_mp h hw
    clear hw h1 h2
    refine lv_aload_n hx hb dX1_change_31 rfl (lv_at hl 0 rfl) ?_
    refine lv_aload_n hx hb dX1_change_32 rfl (lv_at hl 1 rfl) ?_
    obtain ⟨w31, e32, h⟩ := obd_inv h
    refine hp_X1_47 F hK S e32 dX1_change_33 (fun H locs S => ?_)
    refine lv_aload_n hx hb dX1_change_36 rfl (lv_at hl 1 rfl) ?_
    exact h_aret F hr (Or.inl ⟨_, rfl⟩) hlk S h dX1_change_37
  clear hk34
  refine lv_icmp_ne (tgt := 20) hx hb dX1_change_9 (by decide) (fun c10 => ?_) (fun c10 => ?_)
  · rw [hIf_neg c10] at h
    exact hJ20 _ _ _ _ h S (lv_sub hl [0, 1] rfl)
  · rw [hIf_pos c10] at h
    refine lv_aload_n hx hb dX1_change_12 rfl (lv_at hl 0 rfl) ?_
    obtain ⟨v11, e12, h⟩ := obd_inv h
    refine hg_X1_28 F hK S e12 dX1_change_13 ?_
    obtain ⟨u13, e14, h⟩ := obd_inv h
    obtain ⟨n15, n16, h1, h2, h⟩ := hcall_inv h
    refine hcl_J1_removeFirst_X1_85 F hK S (hIs_inv e14) h1 h2 h rfl rfl hl.1 (Nat.le_of_ble_eq_true rfl) ⟨Nat.le_of_ble_eq_true rfl, Nat.le_of_ble_eq_true rfl⟩ dX1_change_16 (fun v19 o18 w17 H locs hw h S => ?_)
    replace h := hret_mp h hw
    clear hw h1 h2
    refine lv_pop hx hb dX1_change_19 rfl ?_
    exact hJ20 _ _ _ _ h S (lv_sub hl [0, 1] rfl)
theorem hn_X1_32 {p : Program} {l : Launch} {e : Env} {s : State} {m : MethodId} {args : Array Value} {below : List Frame} {meth : Method} {c : Code} {R : Room} {H : Heap} {locs : List Loc} {cb sb pc nL : Nat} {Q : State → Prop} {ls : Array Slot} {rest : List Value} {cc : ByteArray} {E : hEnv} {A : Nat → Prop} {w : hW} (F : CallFix p m c cc nL s args lw_all RX1) (hK : hK E A s) (S : hS E A s.heap cb sb w H locs) (hrc : R.cells = cb) (hrs : R.slots = sb) {f : Nat → hW → Prop} (h : hNew w (.inl (3, [.null, .int 0, .int 0, .null, .int 0, .int 0, .int 0, .int 0, .int 0])) 9 f) (hdg : decode cc pc = .ok (.new 32, 3)) (kk : ∀ (q : Nat) (w' : hW) (H1 : Heap), f q w' → hS E A s.heap cb sb w' H1 locs → W p l e R s m args below meth c H1 locs (cb - w'.2.1) (sb - w'.2.2) Q (F0 m (pc + 3) ls (.ref q :: rest))) : W p l e R s m args below meth c H locs (cb - w.2.1) (sb - w.2.2) Q (F0 m pc ls rest) :=
  h_new F hK S hrc hrs (C := RX3) (T := TX3) (N := 9) tyX3 tyX3_ok q226 q229 q115 in_X3 rfl (fun j hj => by match j, hj with | 0, _ => rfl | 1, _ => rfl | 2, _ => rfl | 3, _ => rfl | 4, _ => rfl | 5, _ => rfl | 6, _ => rfl | 7, _ => rfl | 8, _ => rfl) h hdg kk
theorem hcl_X3_init_3_X1_93 {p : Program} {l : Launch} {e : Env} {s : State} {m : MethodId} {args : Array Value} {below : List Frame} {meth : Method} {c : Code} {R : Room} {H : Heap} {locs : List Loc} {cb sb pc nL : Nat} {Q : State → Prop} {ls : Array Slot} {rest : List Value} {cc : ByteArray} {E : hEnv} {A : Nat → Prop} {w : hW} {a0 : Nat} {x1 : Nat} {Q' : hO → Prop} {c1 s1 : Nat} (F : CallFix p m c cc nL s args lw_all RX1) (hK : hK E A s) (S : hS E A s.heap cb sb w H locs) (h1 : c1 ≤ w.2.1) (h2 : s1 ≤ w.2.2) (h : hf_X3_init_3 E.2.2 (w.1, c1, s1) a0 x1 Q') (hrc : R.cells = cb) (hrs : R.slots = sb) (hls : ls.size = nL) (hWt : (rest.map fun v => v.category).sum ≤ 8) (hR : 4 + 1 ≤ R.frames ∧ 8 + (3 + 11) + 86 ≤ R.locals) (hdg : decode cc pc = .ok (.invokespecial 93, 3))
    (kk : ∀ (o : hO) (w' : hW) (H1 : Heap) (locs1 : List Loc), w' = (o, w.2.1 - c1, w.2.2 - s1) → Q' o → hS E A s.heap cb sb w' H1 locs1 → W p l e R s m args below meth c H1 locs1 (cb - w'.2.1) (sb - w'.2.2) Q (F0 m (pc + 3) ls (rest))) : W p l e R s m args below meth c H locs (cb - w.2.1) (sb - w.2.2) Q (F0 m pc ls (.ref x1 :: .ref a0 :: rest)) :=
  h_kv (g_runI F hK (hKm E A) S.1 (hmet_X3_init_3 l E A (w.1, c1, s1) a0 x1 Q' h) (cwI 1 F.2.2.2.2 (lw_meth q1302) rfl rfl rfl (F.2.2.2.2 _ q115) (F.2.2.2.2 _ q1300) (F.2.2.2.2 _ q1301) rfl (by decide +kernel) hR) rfl hls rfl hWt hdg ⟨by rw [hrc]; exact (h_left S h1 h2).1, by rw [hrs]; exact (h_left S h1 h2).2⟩) S h1 h2 kk
theorem hcl_X1_change_X1_96 {p : Program} {l : Launch} {e : Env} {s : State} {m : MethodId} {args : Array Value} {below : List Frame} {meth : Method} {c : Code} {R : Room} {H : Heap} {locs : List Loc} {cb sb pc nL : Nat} {Q : State → Prop} {ls : Array Slot} {rest : List Value} {cc : ByteArray} {E : hEnv} {A : Nat → Prop} {w : hW} {a0 : Nat} {x1 : Nat} {Q' : Nat → hO → Prop} {c1 s1 : Nat} (F : CallFix p m c cc nL s args lw_all RX1) (hK : hK E A s) (S : hS E A s.heap cb sb w H locs) (hrv : ∃ (b : Bool) (fs : List Value), w.1 a0 = some (b, .inl (1, fs))) (h1 : c1 ≤ w.2.1) (h2 : s1 ≤ w.2.2) (h : hf_X1_change E.2.2 (w.1, c1, s1) a0 x1 Q') (hrc : R.cells = cb) (hrs : R.slots = sb) (hls : ls.size = nL) (hWt : (rest.map fun v => v.category).sum ≤ 8) (hR : 3 + 1 ≤ R.frames ∧ 8 + (2 + 11) + 65 ≤ R.locals) (hdg : decode cc pc = .ok (.invokevirtual 96, 3))
    (kk : ∀ (v : Nat) (o : hO) (w' : hW) (H1 : Heap) (locs1 : List Loc), w' = (o, w.2.1 - c1, w.2.2 - s1) → Q' v o → hS E A s.heap cb sb w' H1 locs1 → W p l e R s m args below meth c H1 locs1 (cb - w'.2.1) (sb - w'.2.2) Q (F0 m (pc + 3) ls (.ref v :: rest))) : W p l e R s m args below meth c H locs (cb - w.2.1) (sb - w.2.2) Q (F0 m pc ls (.ref x1 :: .ref a0 :: rest)) :=
  h_kp (g_runV F hK (hKm E A) S.1 (hmet_X1_change l E A (w.1, c1, s1) a0 x1 Q' h) (cwV 1 F.2.2.2.2 (lw_V q1142 q1144 qs21 q111 q1145) rfl rfl rfl (by decide +kernel) hR) (h_recv hK S (ci := 1) rfl hrv) rfl hls rfl hWt hdg ⟨by rw [hrc]; exact (h_left S h1 h2).1, by rw [hrs]; exact (h_left S h1 h2).2⟩) S h1 h2 kk
def hf_X1_change_2 (pl : Nat → Nat) (w : hW) (a0 : Nat) (Q : Nat → hO → Prop) : Prop :=
  hNew w (.inl (3, [.null, .int 0, .int 0, .null, .int 0, .int 0, .int 0, .int 0, .int 0])) 9 fun q1 w2 =>
  obd (hgP w2 a0 1 3) fun v3 =>
  hcall w2 fun n5 n6 => hf_X3_init_3 pl (w2.1, n5, n6) q1 v3 fun o8 => hret w2 n5 n6 o8 fun w7 =>
  obd (hIs w7 a0 1) fun u9 =>
  hcall w7 fun n11 n12 => hf_X1_change pl (w7.1, n11, n12) a0 q1 fun v15 o14 => hret w7 n11 n12 o14 fun w13 =>
  Q v15 w13.1
abbrev hrm_X1_change_2 (c s : Nat) : Room := { frames := 5, cells := c, slots := s, locals := 108 }
set_option maxHeartbeats 4000000 in
set_option maxRecDepth 100000 in
theorem hmet_X1_change_2 (l : Launch) (E : hEnv) (A : Nat → Prop) (w : hW) (a0 : Nat) (Q : Nat → hO → Prop) (h : hf_X1_change_2 E.2.2 w a0 Q) : Met l yX1_change_2 (ws_ yX1_change_2 cX1_change_2 1 (some (.object "MirrorDoors$World"))) (hrm_X1_change_2 w.2.1 w.2.2) (va_Pc [.ref a0] (gPre (hK E A) (hP E A w.1))) (hQp E A Q) w.2.1 w.2.2 A := by
  refine h_met (own := RX1) (by decide +kernel) rfl (Nat.le_of_ble_eq_true rfl) ?_
  intro p e s m args below meth c ls cb sb F hr hlk hK S hl
  have hx := F.1
  have hb := F.2.1
  have hl : lv_has ls 1 [(0, .ref a0)] := hl
  unfold hf_X1_change_2 at h
  refine lv_aload_n hx hb dX1_change_2_0 rfl (lv_at hl 0 rfl) ?_
  refine hn_X1_32 F hK S rfl rfl h dX1_change_2_1 (fun q1 w2 H h S => ?_)
  refine lv_dup hx hb dX1_change_2_4 rfl ?_
  refine lv_aload_n hx hb dX1_change_2_5 rfl (lv_at hl 0 rfl) ?_
  obtain ⟨v3, e4, h⟩ := obd_inv h
  refine hg_X1_47 F hK S e4 dX1_change_2_6 ?_
  obtain ⟨n5, n6, h1, h2, h⟩ := hcall_inv h
  refine hcl_X3_init_3_X1_93 F hK S h1 h2 h rfl rfl hl.1 (Nat.le_of_ble_eq_true rfl) ⟨Nat.le_of_ble_eq_true rfl, Nat.le_of_ble_eq_true rfl⟩ dX1_change_2_9 (fun o8 w7 H locs hw h S => ?_)
  replace h := hret_mp h hw
  clear hw h1 h2
  obtain ⟨u9, e10, h⟩ := obd_inv h
  obtain ⟨n11, n12, h1, h2, h⟩ := hcall_inv h
  refine hcl_X1_change_X1_96 F hK S (hIs_inv e10) h1 h2 h rfl rfl hl.1 (Nat.le_of_ble_eq_true rfl) ⟨Nat.le_of_ble_eq_true rfl, Nat.le_of_ble_eq_true rfl⟩ dX1_change_2_12 (fun v15 o14 w13 H locs hw h S => ?_)
  replace h := hret_mp h hw
  clear hw h1 h2
  exact h_aret F hr (Or.inl ⟨_, rfl⟩) hlk S h dX1_change_2_15
def hv_kind (pl : Nat → Nat) (w : hW) (a0 : Nat) (Q : Int32 → hO → Prop) : Prop := (hCls w a0 = some 4 ∧ hf_X5_kind pl w a0 Q) ∨ (hCls w a0 = some 5 ∧ hf_X6_kind pl w a0 Q) ∨ (hCls w a0 = some 6 ∧ hf_X7_kind pl w a0 Q) ∨ (hCls w a0 = some 7 ∧ hf_X8_kind pl w a0 Q) ∨ (hCls w a0 = some 8 ∧ hf_X12_kind pl w a0 Q) ∨ (hCls w a0 = some 9 ∧ hf_X13_kind pl w a0 Q)
theorem hcv_kind_X1_107 {p : Program} {l : Launch} {e : Env} {s : State} {m : MethodId} {args : Array Value} {below : List Frame} {meth : Method} {c : Code} {R : Room} {H : Heap} {locs : List Loc} {cb sb pc nL : Nat} {Q : State → Prop} {ls : Array Slot} {rest : List Value} {cc : ByteArray} {E : hEnv} {A : Nat → Prop} {w : hW} {a0 : Nat} {Q' : Int32 → hO → Prop} {c1 s1 : Nat} (F : CallFix p m c cc nL s args lw_all RX1) (hK : hK E A s) (S : hS E A s.heap cb sb w H locs) (h1 : c1 ≤ w.2.1) (h2 : s1 ≤ w.2.2) (h : hv_kind E.2.2 (w.1, c1, s1) a0 Q') (hrc : R.cells = cb) (hrs : R.slots = sb) (hls : ls.size = nL) (hWt : (rest.map fun v => v.category).sum ≤ 8) (hR : 0 + 1 ≤ R.frames ∧ 8 + (1 + 11) + 0 ≤ R.locals) (hdg : decode cc pc = .ok (.invokevirtual 107, 3))
    (kk : ∀ (v : Int32) (o : hO) (w' : hW) (H1 : Heap) (locs1 : List Loc), w' = (o, w.2.1 - c1, w.2.2 - s1) → Q' v o → hS E A s.heap cb sb w' H1 locs1 → W p l e R s m args below meth c H1 locs1 (cb - w'.2.1) (sb - w'.2.2) Q (F0 m (pc + 3) ls (.int v :: rest))) : W p l e R s m args below meth c H locs (cb - w.2.1) (sb - w.2.2) Q (F0 m pc ls (.ref a0 :: rest)) := by
  rcases h with ⟨hc, h⟩ | ⟨hc, h⟩ | ⟨hc, h⟩ | ⟨hc, h⟩ | ⟨hc, h⟩ | ⟨hc, h⟩
  · exact h_ki (g_runU F hK (hKm E A) S.1 (hmet_X5_kind l E A (w.1, c1, s1) a0 Q' h) (va_cwA 0 F.2.2.2.2 (gw_U q1405 q1011 q1015 q1016 q117 q1017) rfl rfl rfl (hK.2.1.2.2.2.1 _ (List.mem_of_getElem? (i := 0) rfl)) (by decide +kernel) ⟨Nat.le_trans (Nat.le_of_ble_eq_true rfl) hR.1, Nat.le_trans (Nat.le_of_ble_eq_true rfl) hR.2⟩) (h_recv hK S (ci := 4) rfl (hCls_inv hc)) rfl hls rfl hWt hdg ⟨by rw [hrc]; exact (h_left S h1 h2).1, by rw [hrs]; exact (h_left S h1 h2).2⟩) S h1 h2 kk
  · exact h_ki (g_runU F hK (hKm E A) S.1 (hmet_X6_kind l E A (w.1, c1, s1) a0 Q' h) (va_cwA 0 F.2.2.2.2 (gw_U q1405 q1011 q1027 q1028 q118 q1029) rfl rfl rfl (hK.2.1.2.2.2.1 _ (List.mem_of_getElem? (i := 0) rfl)) (by decide +kernel) ⟨Nat.le_trans (Nat.le_of_ble_eq_true rfl) hR.1, Nat.le_trans (Nat.le_of_ble_eq_true rfl) hR.2⟩) (h_recv hK S (ci := 5) rfl (hCls_inv hc)) rfl hls rfl hWt hdg ⟨by rw [hrc]; exact (h_left S h1 h2).1, by rw [hrs]; exact (h_left S h1 h2).2⟩) S h1 h2 kk
  · exact h_ki (g_runU F hK (hKm E A) S.1 (hmet_X7_kind l E A (w.1, c1, s1) a0 Q' h) (va_cwA 0 F.2.2.2.2 (gw_U q1405 q1011 q1021 q1022 q119 q1023) rfl rfl rfl (hK.2.1.2.2.2.1 _ (List.mem_of_getElem? (i := 0) rfl)) (by decide +kernel) ⟨Nat.le_trans (Nat.le_of_ble_eq_true rfl) hR.1, Nat.le_trans (Nat.le_of_ble_eq_true rfl) hR.2⟩) (h_recv hK S (ci := 6) rfl (hCls_inv hc)) rfl hls rfl hWt hdg ⟨by rw [hrc]; exact (h_left S h1 h2).1, by rw [hrs]; exact (h_left S h1 h2).2⟩) S h1 h2 kk
  · exact h_ki (g_runU F hK (hKm E A) S.1 (hmet_X8_kind l E A (w.1, c1, s1) a0 Q' h) (va_cwA 0 F.2.2.2.2 (gw_U q1405 q1011 q1012 q1013 q120 q1014) rfl rfl rfl (hK.2.1.2.2.2.1 _ (List.mem_of_getElem? (i := 0) rfl)) (by decide +kernel) ⟨Nat.le_trans (Nat.le_of_ble_eq_true rfl) hR.1, Nat.le_trans (Nat.le_of_ble_eq_true rfl) hR.2⟩) (h_recv hK S (ci := 7) rfl (hCls_inv hc)) rfl hls rfl hWt hdg ⟨by rw [hrc]; exact (h_left S h1 h2).1, by rw [hrs]; exact (h_left S h1 h2).2⟩) S h1 h2 kk
  · exact h_ki (g_runU F hK (hKm E A) S.1 (hmet_X12_kind l E A (w.1, c1, s1) a0 Q' h) (va_cwA 0 F.2.2.2.2 (gw_U q1405 q1011 q1018 q1019 q140 q1020) rfl rfl rfl (hK.2.1.2.2.2.1 _ (List.mem_of_getElem? (i := 0) rfl)) (by decide +kernel) ⟨Nat.le_trans (Nat.le_of_ble_eq_true rfl) hR.1, Nat.le_trans (Nat.le_of_ble_eq_true rfl) hR.2⟩) (h_recv hK S (ci := 8) rfl (hCls_inv hc)) rfl hls rfl hWt hdg ⟨by rw [hrc]; exact (h_left S h1 h2).1, by rw [hrs]; exact (h_left S h1 h2).2⟩) S h1 h2 kk
  · exact h_ki (g_runU F hK (hKm E A) S.1 (hmet_X13_kind l E A (w.1, c1, s1) a0 Q' h) (va_cwA 0 F.2.2.2.2 (gw_U q1405 q1011 q1024 q1025 q141 q1026) rfl rfl rfl (hK.2.1.2.2.2.1 _ (List.mem_of_getElem? (i := 0) rfl)) (by decide +kernel) ⟨Nat.le_trans (Nat.le_of_ble_eq_true rfl) hR.1, Nat.le_trans (Nat.le_of_ble_eq_true rfl) hR.2⟩) (h_recv hK S (ci := 9) rfl (hCls_inv hc)) rfl hls rfl hWt hdg ⟨by rw [hrc]; exact (h_left S h1 h2).1, by rw [hrs]; exact (h_left S h1 h2).2⟩) S h1 h2 kk
def hf_X1_isEmpty (pl : Nat → Nat) (w : hW) (a0 : Nat) (x1 : Int32) (Q : Int32 → hO → Prop) : Prop :=
  obd (hgP w a0 1 3) fun v1 =>
  obd (hgP w v1 3 3) fun v3 =>
  obd (haP w v3 x1) fun v5 =>
  hcall w fun n7 n8 => hv_kind pl (w.1, n7, n8) v5 fun v11 o10 => hret w n7 n8 o10 fun w9 =>
  hjoin (fun (v13 : Int32) =>
    Q (zN v13) w9.1) fun k15 =>
  hIf (v11 = 0) (
    k15 1) <|
    k15 0
abbrev hrm_X1_isEmpty (c s : Nat) : Room := { frames := 1, cells := c, slots := s, locals := 20 }
set_option maxHeartbeats 4000000 in
set_option maxRecDepth 100000 in
theorem hmet_X1_isEmpty (l : Launch) (E : hEnv) (A : Nat → Prop) (w : hW) (a0 : Nat) (x1 : Int32) (Q : Int32 → hO → Prop) (h : hf_X1_isEmpty E.2.2 w a0 x1 Q) : Met l yX1_isEmpty (ws_ yX1_isEmpty cX1_isEmpty 2 (some .boolean)) (hrm_X1_isEmpty w.2.1 w.2.2) (va_Pc [.ref a0, .int x1] (gPre (hK E A) (hP E A w.1))) (hQi E A Q) w.2.1 w.2.2 A := by
  refine h_met (own := RX1) (by decide +kernel) rfl (Nat.le_of_ble_eq_true rfl) ?_
  intro p e s m args below meth c ls cb sb F hr hlk hK S hl
  have hx := F.1
  have hb := F.2.1
  have hl : lv_has ls 2 [(0, .ref a0), (1, .int x1)] := hl
  unfold hf_X1_isEmpty at h
  refine lv_aload_n hx hb dX1_isEmpty_0 rfl (lv_at hl 0 rfl) ?_
  obtain ⟨v1, e2, h⟩ := obd_inv h
  refine hg_X1_47 F hK S e2 dX1_isEmpty_1 ?_
  obtain ⟨v3, e4, h⟩ := obd_inv h
  refine hg_X1_74 F hK S e4 dX1_isEmpty_4 ?_
  refine lv_iload_n hx hb dX1_isEmpty_7 rfl (lv_at hl 1 rfl) ?_
  obtain ⟨v5, e6, h⟩ := obd_inv h
  refine h_aald F hK S e6 dX1_isEmpty_8 ?_
  obtain ⟨n7, n8, h1, h2, h⟩ := hcall_inv h
  refine hcv_kind_X1_107 F hK S h1 h2 h rfl rfl hl.1 (Nat.le_of_ble_eq_true rfl) ⟨Nat.le_of_ble_eq_true rfl, Nat.le_of_ble_eq_true rfl⟩ dX1_isEmpty_9 (fun v11 o10 w9 H locs hw h S => ?_)
  replace h := hret_mp h hw
  clear hw h1 h2
  obtain ⟨k15, hk15, h⟩ := hj1_inv h
  have hJ20 : ∀ (v13 : Int32) (H : Heap) (locs : List Loc) (ls : Array Slot), k15 v13 → hS E A s.heap cb sb w9 H locs → lv_has ls 2 [] → W p l e (hrm_X1_isEmpty cb sb) s m args below meth c H locs (cb - w9.2.1) (sb - w9.2.2) (MQ below (hQi E A Q) args s cb sb A) (F0 m 20 ls [.int v13]) := by
    intro v13 H locs ls h S hl
    replace h := hk15 _ h
    exact h_zret F hr hlk S h dX1_isEmpty_20
  clear hk15
  refine lv_if_ne (tgt := 19) hx hb dX1_isEmpty_12 (by decide) (fun c12 => ?_) (fun c12 => ?_)
  · rw [hIf_neg c12] at h
    refine lv_iconst (v := 0) hx hb dX1_isEmpty_19 (by decide) ?_
    exact hJ20 _ _ _ _ h S (lv_sub hl [] rfl)
  · rw [hIf_pos c12] at h
    refine lv_iconst (v := 1) hx hb dX1_isEmpty_15 (by decide) ?_
    refine lv_goto (tgt := 20) hx hb dX1_isEmpty_16 (by decide) ?_
    exact hJ20 _ _ _ _ h S (lv_sub hl [] rfl)
theorem hg_X1_110 {p : Program} {l : Launch} {e : Env} {s : State} {m : MethodId} {args : Array Value} {below : List Frame} {meth : Method} {c : Code} {R : Room} {H : Heap} {locs : List Loc} {cb sb pc nL : Nat} {Q : State → Prop} {ls : Array Slot} {rest : List Value} {cc : ByteArray} {E : hEnv} {A : Nat → Prop} {w : hW} {a : Nat} {v : Int32} (F : CallFix p m c cc nL s args lw_all RX1) (hK : hK E A s) (S : hS E A s.heap cb sb w H locs) (h : hgI w a 3 7 = some v) (hdg : decode cc pc = .ok (.getfield 110, 3)) (kk : W p l e R s m args below meth c H locs (cb - w.2.1) (sb - w.2.2) Q (F0 m (pc + 3) ls (.int v :: rest))) : W p l e R s m args below meth c H locs (cb - w.2.1) (sb - w.2.2) Q (F0 m pc ls (.ref a :: rest)) := by
  obtain ⟨b, fs, ho, hv⟩ := hgI_inv h
  exact h_getN F hK S ho (ci := 3) (C := RX3) (T := TX3) (N := 9) (k := 7) rfl in_X3 (by decide) (hK.2.1.1 _ (List.mem_of_getElem? (i := 2) rfl)) (fun x h => h) hv hdg kk
theorem hcl_X1_isEmpty_X1_113 {p : Program} {l : Launch} {e : Env} {s : State} {m : MethodId} {args : Array Value} {below : List Frame} {meth : Method} {c : Code} {R : Room} {H : Heap} {locs : List Loc} {cb sb pc nL : Nat} {Q : State → Prop} {ls : Array Slot} {rest : List Value} {cc : ByteArray} {E : hEnv} {A : Nat → Prop} {w : hW} {a0 : Nat} {x1 : Int32} {Q' : Int32 → hO → Prop} {c1 s1 : Nat} (F : CallFix p m c cc nL s args lw_all RX1) (hK : hK E A s) (S : hS E A s.heap cb sb w H locs) (hrv : ∃ (b : Bool) (fs : List Value), w.1 a0 = some (b, .inl (1, fs))) (h1 : c1 ≤ w.2.1) (h2 : s1 ≤ w.2.2) (h : hf_X1_isEmpty E.2.2 (w.1, c1, s1) a0 x1 Q') (hrc : R.cells = cb) (hrs : R.slots = sb) (hls : ls.size = nL) (hWt : (rest.map fun v => v.category).sum ≤ 8) (hR : 1 + 1 ≤ R.frames ∧ 8 + (2 + 11) + 20 ≤ R.locals) (hdg : decode cc pc = .ok (.invokevirtual 113, 3))
    (kk : ∀ (v : Int32) (o : hO) (w' : hW) (H1 : Heap) (locs1 : List Loc), w' = (o, w.2.1 - c1, w.2.2 - s1) → Q' v o → hS E A s.heap cb sb w' H1 locs1 → W p l e R s m args below meth c H1 locs1 (cb - w'.2.1) (sb - w'.2.2) Q (F0 m (pc + 3) ls (.int v :: rest))) : W p l e R s m args below meth c H locs (cb - w.2.1) (sb - w.2.2) Q (F0 m pc ls (.int x1 :: .ref a0 :: rest)) :=
  h_ki (g_runV F hK (hKm E A) S.1 (hmet_X1_isEmpty l E A (w.1, c1, s1) a0 x1 Q' h) (cwV 1 F.2.2.2.2 (lw_V q1479 q1481 qs33 q111 q1482) rfl rfl rfl (by decide +kernel) hR) (h_recv hK S (ci := 1) rfl hrv) rfl hls rfl hWt hdg ⟨by rw [hrc]; exact (h_left S h1 h2).1, by rw [hrs]; exact (h_left S h1 h2).2⟩) S h1 h2 kk
def hf_X1_whyNotLay (pl : Nat → Nat) (w : hW) (a0 : Nat) (x1 : Int32) (x2 : Int32) (Q : Int32 → hO → Prop) : Prop :=
  obd (hgP w a0 1 3) fun v1 =>
  obd (hgI w v1 3 7) fun v3 =>
  hIf (v3 ≤ 0) (
    obd (hIs w a0 1) fun u6 =>
    hcall w fun n8 n9 => hf_X1_isEmpty pl (w.1, n8, n9) a0 x1 fun v12 o11 => hret w n8 n9 o11 fun w10 =>
    hIf (v12 = 0) (
      Q (-3) w10.1) <|
      hjoin (fun (v15 : Int32) =>
        Q v15 w10.1) fun k17 =>
      hIf (x2 = 0) (
        k17 (-4)) <|
        k17 0) <|
    Q (-2) w.1
abbrev hrm_X1_whyNotLay (c s : Nat) : Room := { frames := 2, cells := c, slots := s, locals := 41 }
set_option maxHeartbeats 4000000 in
set_option maxRecDepth 100000 in
theorem hmet_X1_whyNotLay (l : Launch) (E : hEnv) (A : Nat → Prop) (w : hW) (a0 : Nat) (x1 : Int32) (x2 : Int32) (Q : Int32 → hO → Prop) (h : hf_X1_whyNotLay E.2.2 w a0 x1 x2 Q) : Met l yX1_whyNotLay (ws_ yX1_whyNotLay cX1_whyNotLay 3 (some .int)) (hrm_X1_whyNotLay w.2.1 w.2.2) (va_Pc [.ref a0, .int x1, .int x2] (gPre (hK E A) (hP E A w.1))) (hQi E A Q) w.2.1 w.2.2 A := by
  refine h_met (own := RX1) (by decide +kernel) rfl (Nat.le_of_ble_eq_true rfl) ?_
  intro p e s m args below meth c ls cb sb F hr hlk hK S hl
  have hx := F.1
  have hb := F.2.1
  have hl : lv_has ls 3 [(0, .ref a0), (1, .int x1), (2, .int x2)] := hl
  unfold hf_X1_whyNotLay at h
  refine lv_aload_n hx hb dX1_whyNotLay_0 rfl (lv_at hl 0 rfl) ?_
  obtain ⟨v1, e2, h⟩ := obd_inv h
  refine hg_X1_47 F hK S e2 dX1_whyNotLay_1 ?_
  obtain ⟨v3, e4, h⟩ := obd_inv h
  refine hg_X1_110 F hK S e4 dX1_whyNotLay_4 ?_
  refine lv_if_le (tgt := 13) hx hb dX1_whyNotLay_7 (by decide) (fun c5 => ?_) (fun c5 => ?_)
  · rw [hIf_pos c5] at h
    refine lv_aload_n hx hb dX1_whyNotLay_13 rfl (lv_at hl 0 rfl) ?_
    refine lv_iload_n hx hb dX1_whyNotLay_14 rfl (lv_at hl 1 rfl) ?_
    obtain ⟨u6, e7, h⟩ := obd_inv h
    obtain ⟨n8, n9, h1, h2, h⟩ := hcall_inv h
    refine hcl_X1_isEmpty_X1_113 F hK S (hIs_inv e7) h1 h2 h rfl rfl hl.1 (Nat.le_of_ble_eq_true rfl) ⟨Nat.le_of_ble_eq_true rfl, Nat.le_of_ble_eq_true rfl⟩ dX1_whyNotLay_15 (fun v12 o11 w10 H locs hw h S => ?_)
    replace h := hret_mp h hw
    clear hw h1 h2
    refine lv_if_ne (tgt := 24) hx hb dX1_whyNotLay_18 (by decide) (fun c13 => ?_) (fun c13 => ?_)
    · rw [hIf_neg c13] at h
      refine lv_iload_n hx hb dX1_whyNotLay_24 rfl (lv_at hl 2 rfl) ?_
      obtain ⟨k17, hk17, h⟩ := hj1_inv h
      have hJ34 : ∀ (v15 : Int32) (H : Heap) (locs : List Loc) (ls : Array Slot), k17 v15 → hS E A s.heap cb sb w10 H locs → lv_has ls 3 [] → W p l e (hrm_X1_whyNotLay cb sb) s m args below meth c H locs (cb - w10.2.1) (sb - w10.2.2) (MQ below (hQi E A Q) args s cb sb A) (F0 m 34 ls [.int v15]) := by
        intro v15 H locs ls h S hl
        replace h := hk17 _ h
        exact h_iret F hr hlk S h dX1_whyNotLay_34
      clear hk17
      refine lv_if_eq (tgt := 32) hx hb dX1_whyNotLay_25 (by decide) (fun c14 => ?_) (fun c14 => ?_)
      · rw [hIf_pos c14] at h
        refine lv_bipush (v := (-4)) hx hb dX1_whyNotLay_32 (by decide) ?_
        exact hJ34 _ _ _ _ h S (lv_sub hl [] rfl)
      · rw [hIf_neg c14] at h
        refine lv_iconst (v := 0) hx hb dX1_whyNotLay_28 (by decide) ?_
        refine lv_goto (tgt := 34) hx hb dX1_whyNotLay_29 (by decide) ?_
        exact hJ34 _ _ _ _ h S (lv_sub hl [] rfl)
    · rw [hIf_pos c13] at h
      refine lv_bipush (v := (-3)) hx hb dX1_whyNotLay_21 (by decide) ?_
      exact h_iret F hr hlk S h dX1_whyNotLay_23
  · rw [hIf_neg c5] at h
    refine lv_bipush (v := (-2)) hx hb dX1_whyNotLay_10 (by decide) ?_
    exact h_iret F hr hlk S h dX1_whyNotLay_12
theorem hcl_X1_change_2_X1_117 {p : Program} {l : Launch} {e : Env} {s : State} {m : MethodId} {args : Array Value} {below : List Frame} {meth : Method} {c : Code} {R : Room} {H : Heap} {locs : List Loc} {cb sb pc nL : Nat} {Q : State → Prop} {ls : Array Slot} {rest : List Value} {cc : ByteArray} {E : hEnv} {A : Nat → Prop} {w : hW} {a0 : Nat} {Q' : Nat → hO → Prop} {c1 s1 : Nat} (F : CallFix p m c cc nL s args lw_all RX1) (hK : hK E A s) (S : hS E A s.heap cb sb w H locs) (hrv : ∃ (b : Bool) (fs : List Value), w.1 a0 = some (b, .inl (1, fs))) (h1 : c1 ≤ w.2.1) (h2 : s1 ≤ w.2.2) (h : hf_X1_change_2 E.2.2 (w.1, c1, s1) a0 Q') (hrc : R.cells = cb) (hrs : R.slots = sb) (hls : ls.size = nL) (hWt : (rest.map fun v => v.category).sum ≤ 8) (hR : 5 + 1 ≤ R.frames ∧ 8 + (1 + 11) + 108 ≤ R.locals) (hdg : decode cc pc = .ok (.invokevirtual 117, 3))
    (kk : ∀ (v : Nat) (o : hO) (w' : hW) (H1 : Heap) (locs1 : List Loc), w' = (o, w.2.1 - c1, w.2.2 - s1) → Q' v o → hS E A s.heap cb sb w' H1 locs1 → W p l e R s m args below meth c H1 locs1 (cb - w'.2.1) (sb - w'.2.2) Q (F0 m (pc + 3) ls (.ref v :: rest))) : W p l e R s m args below meth c H locs (cb - w.2.1) (sb - w.2.2) Q (F0 m pc ls (.ref a0 :: rest)) :=
  h_kp (g_runV F hK (hKm E A) S.1 (hmet_X1_change_2 l E A (w.1, c1, s1) a0 Q' h) (cwV 0 F.2.2.2.2 (lw_V q1296 q1298 qs27 q111 q1299) rfl rfl rfl (by decide +kernel) hR) (h_recv hK S (ci := 1) rfl hrv) rfl hls rfl hWt hdg ⟨by rw [hrc]; exact (h_left S h1 h2).1, by rw [hrs]; exact (h_left S h1 h2).2⟩) S h1 h2 kk
theorem hcl_X1_lays_X1_63 {p : Program} {l : Launch} {e : Env} {s : State} {m : MethodId} {args : Array Value} {below : List Frame} {meth : Method} {c : Code} {R : Room} {H : Heap} {locs : List Loc} {cb sb pc nL : Nat} {Q : State → Prop} {ls : Array Slot} {rest : List Value} {cc : ByteArray} {E : hEnv} {A : Nat → Prop} {w : hW} {a0 : Nat} {x1 : Nat} {Q' : hO → Prop} {c1 s1 : Nat} (F : CallFix p m c cc nL s args lw_all RX1) (hK : hK E A s) (S : hS E A s.heap cb sb w H locs) (hrv : ∃ (b : Bool) (fs : List Value), w.1 a0 = some (b, .inl (1, fs))) (h1 : c1 ≤ w.2.1) (h2 : s1 ≤ w.2.2) (h : hf_X1_lays E.2.2 (w.1, c1, s1) a0 x1 Q') (hrc : R.cells = cb) (hrs : R.slots = sb) (hls : ls.size = nL) (hWt : (rest.map fun v => v.category).sum ≤ 8) (hR : 0 + 1 ≤ R.frames ∧ 8 + (6 + 11) + 0 ≤ R.locals) (hdg : decode cc pc = .ok (.invokevirtual 63, 3))
    (kk : ∀ (o : hO) (w' : hW) (H1 : Heap) (locs1 : List Loc), w' = (o, w.2.1 - c1, w.2.2 - s1) → Q' o → hS E A s.heap cb sb w' H1 locs1 → W p l e R s m args below meth c H1 locs1 (cb - w'.2.1) (sb - w'.2.2) Q (F0 m (pc + 3) ls (rest))) : W p l e R s m args below meth c H locs (cb - w.2.1) (sb - w.2.2) Q (F0 m pc ls (.ref x1 :: .ref a0 :: rest)) :=
  h_kv (g_runV F hK (hKm E A) S.1 (hmet_X1_lays l E A (w.1, c1, s1) a0 x1 Q' h) (cwV 1 F.2.2.2.2 (lw_V q367 q369 qs0 q111 q370) rfl rfl rfl (by decide +kernel) hR) (h_recv hK S (ci := 1) rfl hrv) rfl hls rfl hWt hdg ⟨by rw [hrc]; exact (h_left S h1 h2).1, by rw [hrs]; exact (h_left S h1 h2).2⟩) S h1 h2 kk
theorem hpc_X3_laysOpen_X1_71 {p : Program} {l : Launch} {e : Env} {s : State} {m : MethodId} {args : Array Value} {below : List Frame} {meth : Method} {c : Code} {R : Room} {H : Heap} {locs : List Loc} {cb sb pc nL : Nat} {Q : State → Prop} {ls : Array Slot} {rest : List Value} {cc : ByteArray} {E : hEnv} {A : Nat → Prop} {w : hW} {d : hD} {g : mS} {a : Nat} {r : mS} (F : CallFix p m c cc nL s args lw_all RX1) (hK : hK E A s) (S : hS E A s.heap cb sb w H locs) (hr : hRel d g w.1) (hd : d.1 100 = a) (h : fc_X3_laysOpen g 100 = some r) (hrc : R.cells = cb) (hrs : R.slots = sb) (hls : ls.size = nL) (hWt : (rest.map fun v => v.category).sum ≤ 8) (hR : rm_c_X3_laysOpen.frames + 1 ≤ R.frames ∧ 8 + (5 + 11) + rm_c_X3_laysOpen.locals ≤ R.locals) (hdg : decode cc pc = .ok (.invokevirtual 71, 3))
    (kk : ∀ (w' : hW) (H1 : Heap) (locs1 : List Loc), w' = (hPut d r w.1, w.2) → hRel d r (hPut d r w.1) → hS E A s.heap cb sb w' H1 locs1 → W p l e R s m args below meth c H1 locs1 (cb - w'.2.1) (sb - w'.2.2) Q (F0 m (pc + 3) ls (rest))) : W p l e R s m args below meth c H locs (cb - w.2.1) (sb - w.2.2) Q (F0 m pc ls (.ref a :: rest)) := by
  subst hd
  exact hb_kv hK S hr (va_runV (g := F0 m pc ls _) F (met_c_X3_laysOpen l (hDE E d g H.size) g 100 hOk100 r h) (cwV 0 F.2.2.2.2 (lw_V q371 q372 q373 q115 q374) rfl rfl rfl (by decide +kernel) hR) ⟨gBlind (cKm (hDE E d g H.size)), h_recv hK S (ci := 3) rfl (hRel_w hr), fun U hU hW => ⟨rfl, hB_pre hK S hr U hU hW⟩⟩ rfl rfl hls rfl (lv_room hWt) hdg ⟨by rw [hrc]; exact Nat.sub_le _ _, by rw [hrs]; exact Nat.sub_le _ _⟩) kk
def hf_X1_put_2 (pl : Nat → Nat) (w : hW) (a0 : Nat) (x1 : Nat) (Q : Nat → hO → Prop) : Prop :=
  obd (hIs w a0 1) fun u1 =>
  hcall w fun n3 n4 => hf_X1_change_2 pl (w.1, n3, n4) a0 fun v7 o6 => hret w n3 n4 o6 fun w5 =>
  obd (hIs w5 a0 1) fun u8 =>
  hcall w5 fun n10 n11 => hf_X1_lays pl (w5.1, n10, n11) a0 x1 fun o13 => hret w5 n10 n11 o13 fun w12 =>
  ∃ (d14 : hD) (g15 : mS), hRel d14 g15 w12.1 ∧ d14.1 100 = v7 ∧ obd (fc_X3_laysOpen g15 100) fun v18 => hpret w12 d14 v18 fun w16 =>
  Q v7 w16.1
abbrev hrm_X1_put_2 (c s : Nat) : Room := { frames := 8, cells := c, slots := s, locals := 179 }
set_option maxHeartbeats 4000000 in
set_option maxRecDepth 100000 in
theorem hmet_X1_put_2 (l : Launch) (E : hEnv) (A : Nat → Prop) (w : hW) (a0 : Nat) (x1 : Nat) (Q : Nat → hO → Prop) (h : hf_X1_put_2 E.2.2 w a0 x1 Q) : Met l yX1_put_2 (ws_ yX1_put_2 cX1_put_2 3 (some (.object "MirrorDoors$World"))) (hrm_X1_put_2 w.2.1 w.2.2) (va_Pc [.ref a0, .ref x1] (gPre (hK E A) (hP E A w.1))) (hQp E A Q) w.2.1 w.2.2 A := by
  refine h_met (own := RX1) (by decide +kernel) rfl (Nat.le_of_ble_eq_true rfl) ?_
  intro p e s m args below meth c ls cb sb F hr hlk hK S hl
  have hx := F.1
  have hb := F.2.1
  have hl : lv_has ls 3 [(0, .ref a0), (1, .ref x1)] := hl
  unfold hf_X1_put_2 at h
  refine lv_aload_n hx hb dX1_put_2_0 rfl (lv_at hl 0 rfl) ?_
  obtain ⟨u1, e2, h⟩ := obd_inv h
  obtain ⟨n3, n4, h1, h2, h⟩ := hcall_inv h
  refine hcl_X1_change_2_X1_117 F hK S (hIs_inv e2) h1 h2 h rfl rfl hl.1 (Nat.le_of_ble_eq_true rfl) ⟨Nat.le_of_ble_eq_true rfl, Nat.le_of_ble_eq_true rfl⟩ dX1_put_2_1 (fun v7 o6 w5 H locs hw h S => ?_)
  replace h := hret_mp h hw
  clear hw h1 h2
  refine lv_astore_n (lv' := [(2, .ref v7), (0, .ref a0), (1, .ref x1)]) hx hb dX1_put_2_4 rfl hl (by decide) rfl (fun ls hl => ?_)
  refine lv_aload_n hx hb dX1_put_2_5 rfl (lv_at hl 1 rfl) ?_
  refine lv_aload_n hx hb dX1_put_2_6 rfl (lv_at hl 2 rfl) ?_
  obtain ⟨u8, e9, h⟩ := obd_inv h
  obtain ⟨n10, n11, h1, h2, h⟩ := hcall_inv h
  refine hcl_X1_lays_X1_63 F hK S (hIs_inv e9) h1 h2 h rfl rfl hl.1 (Nat.le_of_ble_eq_true rfl) ⟨Nat.le_of_ble_eq_true rfl, Nat.le_of_ble_eq_true rfl⟩ dX1_put_2_7 (fun o13 w12 H locs hw h S => ?_)
  replace h := hret_mp h hw
  clear hw h1 h2
  refine lv_aload_n hx hb dX1_put_2_10 rfl (lv_at hl 0 rfl) ?_
  obtain ⟨d14, g15, hrl, hdl, h⟩ := h
  obtain ⟨v18, e17, h⟩ := obd_inv h
  refine hpc_X3_laysOpen_X1_71 F hK S hrl hdl e17 rfl rfl hl.1 (Nat.le_of_ble_eq_true rfl) ⟨Nat.le_of_ble_eq_true rfl, Nat.le_of_ble_eq_true rfl⟩ dX1_put_2_11 (fun w16 H locs hw hz S => ?_)
  replace h := hpret_mp h hw hz
  clear hw hz
  refine lv_aload_n hx hb dX1_put_2_14 rfl (lv_at hl 0 rfl) ?_
  exact h_aret F hr (Or.inl ⟨_, rfl⟩) hlk S h dX1_put_2_15
theorem hn_X1_10 {p : Program} {l : Launch} {e : Env} {s : State} {m : MethodId} {args : Array Value} {below : List Frame} {meth : Method} {c : Code} {R : Room} {H : Heap} {locs : List Loc} {cb sb pc nL : Nat} {Q : State → Prop} {ls : Array Slot} {rest : List Value} {cc : ByteArray} {E : hEnv} {A : Nat → Prop} {w : hW} (F : CallFix p m c cc nL s args lw_all RX1) (hK : hK E A s) (S : hS E A s.heap cb sb w H locs) (hrc : R.cells = cb) (hrs : R.slots = sb) {f : Nat → hW → Prop} (h : hNew w (.inl (2, [.null, .null, .null, .null, .int 0, .int 0, .null, .int 0, .int 0, .null, .null, .int 0])) 12 f) (hdg : decode cc pc = .ok (.new 10, 3)) (kk : ∀ (q : Nat) (w' : hW) (H1 : Heap), f q w' → hS E A s.heap cb sb w' H1 locs → W p l e R s m args below meth c H1 locs (cb - w'.2.1) (sb - w'.2.2) Q (F0 m (pc + 3) ls (.ref q :: rest))) : W p l e R s m args below meth c H locs (cb - w.2.1) (sb - w.2.2) Q (F0 m pc ls rest) :=
  h_new F hK S hrc hrs (C := RX2) (T := TX2) (N := 12) tyX2 tyX2_ok q156 q157 q112 in_X2 rfl (fun j hj => by match j, hj with | 0, _ => rfl | 1, _ => rfl | 2, _ => rfl | 3, _ => rfl | 4, _ => rfl | 5, _ => rfl | 6, _ => rfl | 7, _ => rfl | 8, _ => rfl | 9, _ => rfl | 10, _ => rfl | 11, _ => rfl) h hdg kk
theorem hcl_X2_init_X1_12 {p : Program} {l : Launch} {e : Env} {s : State} {m : MethodId} {args : Array Value} {below : List Frame} {meth : Method} {c : Code} {R : Room} {H : Heap} {locs : List Loc} {cb sb pc nL : Nat} {Q : State → Prop} {ls : Array Slot} {rest : List Value} {cc : ByteArray} {E : hEnv} {A : Nat → Prop} {w : hW} {a0 : Nat} {Q' : hO → Prop} {c1 s1 : Nat} (F : CallFix p m c cc nL s args lw_all RX1) (hK : hK E A s) (S : hS E A s.heap cb sb w H locs) (h1 : c1 ≤ w.2.1) (h2 : s1 ≤ w.2.2) (h : hf_X2_init E.2.2 (w.1, c1, s1) a0 Q') (hrc : R.cells = cb) (hrs : R.slots = sb) (hls : ls.size = nL) (hWt : (rest.map fun v => v.category).sum ≤ 8) (hR : 1 + 1 ≤ R.frames ∧ 8 + (1 + 11) + 20 ≤ R.locals) (hdg : decode cc pc = .ok (.invokespecial 12, 3))
    (kk : ∀ (o : hO) (w' : hW) (H1 : Heap) (locs1 : List Loc), w' = (o, w.2.1 - c1, w.2.2 - s1) → Q' o → hS E A s.heap cb sb w' H1 locs1 → W p l e R s m args below meth c H1 locs1 (cb - w'.2.1) (sb - w'.2.2) Q (F0 m (pc + 3) ls (rest))) : W p l e R s m args below meth c H locs (cb - w.2.1) (sb - w.2.2) Q (F0 m pc ls (.ref a0 :: rest)) :=
  h_kv (g_runIN F hK (hKm E A) S.1 (hmet_X2_init l E A (w.1, c1, s1) a0 Q' h) ⟨va_cnB 0 F.2.2.2.2 (lw_meth q160) rfl rfl rfl (hK.2.1.2.1 _ (List.mem_of_getElem? (i := 0) rfl)) (F.2.2.2.2 _ q112) (by decide +kernel) hR, rfl, F.2.2.2.2 _ q159⟩ rfl hls rfl hWt hdg ⟨by rw [hrc]; exact (h_left S h1 h2).1, by rw [hrs]; exact (h_left S h1 h2).2⟩) S h1 h2 kk
theorem hp_X1_13 {p : Program} {l : Launch} {e : Env} {s : State} {m : MethodId} {args : Array Value} {below : List Frame} {meth : Method} {c : Code} {R : Room} {H : Heap} {locs : List Loc} {cb sb pc nL : Nat} {Q : State → Prop} {ls : Array Slot} {rest : List Value} {cc : ByteArray} {E : hEnv} {A : Nat → Prop} {w : hW} {a : Nat} {w' : hW} {v : Nat} (F : CallFix p m c cc nL s args lw_all RX1) (hK : hK E A s) (S : hS E A s.heap cb sb w H locs) (hin : meth.name = "<init>") (h : hpV w a 1 0 (.ref v) = some w') (hdg : decode cc pc = .ok (.putfield 13, 3)) (kk : ∀ (H1 : Heap) (locs1 : List Loc), hS E A s.heap cb sb w' H1 locs1 → W p l e R s m args below meth c H1 locs1 (cb - w'.2.1) (sb - w'.2.2) Q (F0 m (pc + 3) ls rest)) : W p l e R s m args below meth c H locs (cb - w.2.1) (sb - w.2.2) Q (F0 m pc ls (.ref v :: .ref a :: rest)) :=
  h_putF F hK S h (ci := 1) (C := RX1) (T := TX1) (N := 7) (k := 0) rfl in_X1 tyX1 tyX1_ok nmX1 (by decide) q468 (fun x h => h) rfl hin rfl (ty := (.object "MirrorDoors$Ray")) (by decide +kernel) rfl rfl hdg kk
theorem hp_X1_19 {p : Program} {l : Launch} {e : Env} {s : State} {m : MethodId} {args : Array Value} {below : List Frame} {meth : Method} {c : Code} {R : Room} {H : Heap} {locs : List Loc} {cb sb pc nL : Nat} {Q : State → Prop} {ls : Array Slot} {rest : List Value} {cc : ByteArray} {E : hEnv} {A : Nat → Prop} {w : hW} {a : Nat} {w' : hW} {v : Nat} (F : CallFix p m c cc nL s args lw_all RX1) (hK : hK E A s) (S : hS E A s.heap cb sb w H locs) (hin : meth.name = "<init>") (h : hpV w a 1 1 (.ref v) = some w') (hdg : decode cc pc = .ok (.putfield 19, 3)) (kk : ∀ (H1 : Heap) (locs1 : List Loc), hS E A s.heap cb sb w' H1 locs1 → W p l e R s m args below meth c H1 locs1 (cb - w'.2.1) (sb - w'.2.2) Q (F0 m (pc + 3) ls rest)) : W p l e R s m args below meth c H locs (cb - w.2.1) (sb - w.2.2) Q (F0 m pc ls (.ref v :: .ref a :: rest)) :=
  h_putF F hK S h (ci := 1) (C := RX1) (T := TX1) (N := 7) (k := 1) rfl in_X1 tyX1 tyX1_ok nmX1 (by decide) q471 (fun x h => h) rfl hin rfl (ty := (.array (.byte))) (by decide +kernel) rfl rfl hdg kk
theorem hn_X1_23 {p : Program} {l : Launch} {e : Env} {s : State} {m : MethodId} {args : Array Value} {below : List Frame} {meth : Method} {c : Code} {R : Room} {H : Heap} {locs : List Loc} {cb sb pc nL : Nat} {Q : State → Prop} {ls : Array Slot} {rest : List Value} {cc : ByteArray} {E : hEnv} {A : Nat → Prop} {w : hW} (F : CallFix p m c cc nL s args lw_all RX1) (hK : hK E A s) (S : hS E A s.heap cb sb w H locs) (hrc : R.cells = cb) (hrs : R.slots = sb) {f : Nat → hW → Prop} (h : hNew w (.inl (12, [.null, .int 0, .int 0])) 3 f) (hdg : decode cc pc = .ok (.new 23, 3)) (kk : ∀ (q : Nat) (w' : hW) (H1 : Heap), f q w' → hS E A s.heap cb sb w' H1 locs → W p l e R s m args below meth c H1 locs (cb - w'.2.1) (sb - w'.2.2) Q (F0 m (pc + 3) ls (.ref q :: rest))) : W p l e R s m args below meth c H locs (cb - w.2.1) (sb - w.2.2) Q (F0 m pc ls rest) :=
  h_new F hK S hrc hrs (C := RJ1) (T := TJ1) (N := 3) tyJ1 tyJ1_ok q203 q204 q114 in_J1 rfl (fun j hj => by match j, hj with | 0, _ => rfl | 1, _ => rfl | 2, _ => rfl) h hdg kk
theorem hcl_J1_init_X1_25 {p : Program} {l : Launch} {e : Env} {s : State} {m : MethodId} {args : Array Value} {below : List Frame} {meth : Method} {c : Code} {R : Room} {H : Heap} {locs : List Loc} {cb sb pc nL : Nat} {Q : State → Prop} {ls : Array Slot} {rest : List Value} {cc : ByteArray} {E : hEnv} {A : Nat → Prop} {w : hW} {a0 : Nat} {x1 : Int32} {Q' : hO → Prop} {c1 s1 : Nat} (F : CallFix p m c cc nL s args lw_all RX1) (hK : hK E A s) (S : hS E A s.heap cb sb w H locs) (h1 : c1 ≤ w.2.1) (h2 : s1 ≤ w.2.2) (h : hf_J1_init E.2.2 (w.1, c1, s1) a0 x1 Q') (hrc : R.cells = cb) (hrs : R.slots = sb) (hls : ls.size = nL) (hWt : (rest.map fun v => v.category).sum ≤ 8) (hR : 2 + 1 ≤ R.frames ∧ 8 + (2 + 11) + 40 ≤ R.locals) (hdg : decode cc pc = .ok (.invokespecial 25, 3))
    (kk : ∀ (o : hO) (w' : hW) (H1 : Heap) (locs1 : List Loc), w' = (o, w.2.1 - c1, w.2.2 - s1) → Q' o → hS E A s.heap cb sb w' H1 locs1 → W p l e R s m args below meth c H1 locs1 (cb - w'.2.1) (sb - w'.2.2) Q (F0 m (pc + 3) ls (rest))) : W p l e R s m args below meth c H locs (cb - w.2.1) (sb - w.2.2) Q (F0 m pc ls (.int x1 :: .ref a0 :: rest)) :=
  h_kv (g_runI F hK (hKm E A) S.1 (hmet_J1_init l E A (w.1, c1, s1) a0 x1 Q' h) (cwI 1 F.2.2.2.2 (lw_meth q207) rfl rfl rfl (F.2.2.2.2 _ q114) (F.2.2.2.2 _ q205) (F.2.2.2.2 _ q206) rfl (by decide +kernel) hR) rfl hls rfl hWt hdg ⟨by rw [hrc]; exact (h_left S h1 h2).1, by rw [hrs]; exact (h_left S h1 h2).2⟩) S h1 h2 kk
theorem hp_X1_28 {p : Program} {l : Launch} {e : Env} {s : State} {m : MethodId} {args : Array Value} {below : List Frame} {meth : Method} {c : Code} {R : Room} {H : Heap} {locs : List Loc} {cb sb pc nL : Nat} {Q : State → Prop} {ls : Array Slot} {rest : List Value} {cc : ByteArray} {E : hEnv} {A : Nat → Prop} {w : hW} {a : Nat} {w' : hW} {v : Nat} (F : CallFix p m c cc nL s args lw_all RX1) (hK : hK E A s) (S : hS E A s.heap cb sb w H locs) (hin : meth.name = "<init>") (h : hpV w a 1 4 (.ref v) = some w') (hdg : decode cc pc = .ok (.putfield 28, 3)) (kk : ∀ (H1 : Heap) (locs1 : List Loc), hS E A s.heap cb sb w' H1 locs1 → W p l e R s m args below meth c H1 locs1 (cb - w'.2.1) (sb - w'.2.2) Q (F0 m (pc + 3) ls rest)) : W p l e R s m args below meth c H locs (cb - w.2.1) (sb - w.2.2) Q (F0 m pc ls (.ref v :: .ref a :: rest)) :=
  h_putF F hK S h (ci := 1) (C := RX1) (T := TX1) (N := 7) (k := 4) rfl in_X1 tyX1 tyX1_ok nmX1 (by decide) q474 (fun x h => h) rfl hin rfl (ty := (.object "java/util/ArrayDeque")) (by decide +kernel) rfl rfl hdg kk
theorem hp_X1_34 {p : Program} {l : Launch} {e : Env} {s : State} {m : MethodId} {args : Array Value} {below : List Frame} {meth : Method} {c : Code} {R : Room} {H : Heap} {locs : List Loc} {cb sb pc nL : Nat} {Q : State → Prop} {ls : Array Slot} {rest : List Value} {cc : ByteArray} {E : hEnv} {A : Nat → Prop} {w : hW} {a : Nat} {w' : hW} {v : Nat} (F : CallFix p m c cc nL s args lw_all RX1) (hK : hK E A s) (S : hS E A s.heap cb sb w H locs) (hin : meth.name = "<init>") (h : hpV w a 1 5 (.ref v) = some w') (hdg : decode cc pc = .ok (.putfield 34, 3)) (kk : ∀ (H1 : Heap) (locs1 : List Loc), hS E A s.heap cb sb w' H1 locs1 → W p l e R s m args below meth c H1 locs1 (cb - w'.2.1) (sb - w'.2.2) Q (F0 m (pc + 3) ls rest)) : W p l e R s m args below meth c H locs (cb - w.2.1) (sb - w.2.2) Q (F0 m pc ls (.ref v :: .ref a :: rest)) :=
  h_putF F hK S h (ci := 1) (C := RX1) (T := TX1) (N := 7) (k := 5) rfl in_X1 tyX1 tyX1_ok nmX1 (by decide) q475 (fun x h => h) rfl hin rfl (ty := (.array (.object "MirrorDoors$World"))) (by decide +kernel) rfl rfl hdg kk
theorem hp_X1_40 {p : Program} {l : Launch} {e : Env} {s : State} {m : MethodId} {args : Array Value} {below : List Frame} {meth : Method} {c : Code} {R : Room} {H : Heap} {locs : List Loc} {cb sb pc nL : Nat} {Q : State → Prop} {ls : Array Slot} {rest : List Value} {cc : ByteArray} {E : hEnv} {A : Nat → Prop} {w : hW} {a : Nat} {w' : hW} {v : Nat} (F : CallFix p m c cc nL s args lw_all RX1) (hK : hK E A s) (S : hS E A s.heap cb sb w H locs) (h : hpV w a 1 6 (.ref v) = some w') (hdg : decode cc pc = .ok (.putfield 40, 3)) (kk : ∀ (H1 : Heap) (locs1 : List Loc), hS E A s.heap cb sb w' H1 locs1 → W p l e R s m args below meth c H1 locs1 (cb - w'.2.1) (sb - w'.2.2) Q (F0 m (pc + 3) ls rest)) : W p l e R s m args below meth c H locs (cb - w.2.1) (sb - w.2.2) Q (F0 m pc ls (.ref v :: .ref a :: rest)) :=
  h_put F hK S h (ci := 1) (C := RX1) (T := TX1) (N := 7) (k := 6) rfl in_X1 tyX1 tyX1_ok nmX1 (by decide) q476 (fun x h => h) rfl (ty := (.object "java/lang/String")) (by decide +kernel) rfl rfl hdg kk
theorem hg_X1_13 {p : Program} {l : Launch} {e : Env} {s : State} {m : MethodId} {args : Array Value} {below : List Frame} {meth : Method} {c : Code} {R : Room} {H : Heap} {locs : List Loc} {cb sb pc nL : Nat} {Q : State → Prop} {ls : Array Slot} {rest : List Value} {cc : ByteArray} {E : hEnv} {A : Nat → Prop} {w : hW} {a : Nat} {v : Nat} (F : CallFix p m c cc nL s args lw_all RX1) (hK : hK E A s) (S : hS E A s.heap cb sb w H locs) (h : hgP w a 1 0 = some v) (hdg : decode cc pc = .ok (.getfield 13, 3)) (kk : W p l e R s m args below meth c H locs (cb - w.2.1) (sb - w.2.2) Q (F0 m (pc + 3) ls (.ref v :: rest))) : W p l e R s m args below meth c H locs (cb - w.2.1) (sb - w.2.2) Q (F0 m pc ls (.ref a :: rest)) := by
  obtain ⟨b, fs, ho, hv⟩ := hgP_inv h
  exact h_get F hK S ho (ci := 1) (C := RX1) (T := TX1) (N := 7) (k := 0) rfl in_X1 (by decide) q468 (fun x h => h) hv hdg kk
theorem hcl_X3_init_X1_44 {p : Program} {l : Launch} {e : Env} {s : State} {m : MethodId} {args : Array Value} {below : List Frame} {meth : Method} {c : Code} {R : Room} {H : Heap} {locs : List Loc} {cb sb pc nL : Nat} {Q : State → Prop} {ls : Array Slot} {rest : List Value} {cc : ByteArray} {E : hEnv} {A : Nat → Prop} {w : hW} {a0 : Nat} {x1 : Nat} {x2 : Int32} {x3 : Int32} {x4 : Int32} {x5 : Int32} {Q' : hO → Prop} {c1 s1 : Nat} (F : CallFix p m c cc nL s args lw_all RX1) (hK : hK E A s) (S : hS E A s.heap cb sb w H locs) (h1 : c1 ≤ w.2.1) (h2 : s1 ≤ w.2.2) (h : hf_X3_init E.2.2 (w.1, c1, s1) a0 x1 x2 x3 x4 x5 Q') (hrc : R.cells = cb) (hrs : R.slots = sb) (hls : ls.size = nL) (hWt : (rest.map fun v => v.category).sum ≤ 8) (hR : 3 + 1 ≤ R.frames ∧ 8 + (7 + 11) + 63 ≤ R.locals) (hdg : decode cc pc = .ok (.invokespecial 44, 3))
    (kk : ∀ (o : hO) (w' : hW) (H1 : Heap) (locs1 : List Loc), w' = (o, w.2.1 - c1, w.2.2 - s1) → Q' o → hS E A s.heap cb sb w' H1 locs1 → W p l e R s m args below meth c H1 locs1 (cb - w'.2.1) (sb - w'.2.2) Q (F0 m (pc + 3) ls (rest))) : W p l e R s m args below meth c H locs (cb - w.2.1) (sb - w.2.2) Q (F0 m pc ls (.int x5 :: .int x4 :: .int x3 :: .int x2 :: .ref x1 :: .ref a0 :: rest)) :=
  h_kv (g_runI F hK (hKm E A) S.1 (hmet_X3_init l E A (w.1, c1, s1) a0 x1 x2 x3 x4 x5 Q' h) (cwI 5 F.2.2.2.2 (lw_meth q232) rfl rfl rfl (F.2.2.2.2 _ q115) (F.2.2.2.2 _ q230) (F.2.2.2.2 _ q231) rfl (by decide +kernel) hR) rfl hls rfl hWt hdg ⟨by rw [hrc]; exact (h_left S h1 h2).1, by rw [hrs]; exact (h_left S h1 h2).2⟩) S h1 h2 kk
theorem hn_X1_53 {p : Program} {l : Launch} {e : Env} {s : State} {m : MethodId} {args : Array Value} {below : List Frame} {meth : Method} {c : Code} {R : Room} {H : Heap} {locs : List Loc} {cb sb pc nL : Nat} {Q : State → Prop} {ls : Array Slot} {rest : List Value} {cc : ByteArray} {E : hEnv} {A : Nat → Prop} {w : hW} (F : CallFix p m c cc nL s args lw_all RX1) (hK : hK E A s) (S : hS E A s.heap cb sb w H locs) (hrc : R.cells = cb) (hrs : R.slots = sb) {f : Nat → hW → Prop} (h : hNew w (.inl (6, [.int 0, .int 0, .int 0, .int 0, .int 0, .int 0])) 6 f) (hdg : decode cc pc = .ok (.new 53, 3)) (kk : ∀ (q : Nat) (w' : hW) (H1 : Heap), f q w' → hS E A s.heap cb sb w' H1 locs → W p l e R s m args below meth c H1 locs (cb - w'.2.1) (sb - w'.2.2) Q (F0 m (pc + 3) ls (.ref q :: rest))) : W p l e R s m args below meth c H locs (cb - w.2.1) (sb - w.2.2) Q (F0 m pc ls rest) :=
  h_new F hK S hrc hrs (C := RX7) (T := TX7) (N := 6) tyX7 tyX7_ok q318 q319 q119 in_X7 rfl (fun j hj => by match j, hj with | 0, _ => rfl | 1, _ => rfl | 2, _ => rfl | 3, _ => rfl | 4, _ => rfl | 5, _ => rfl) h hdg kk
theorem hcl_X7_init_X1_55 {p : Program} {l : Launch} {e : Env} {s : State} {m : MethodId} {args : Array Value} {below : List Frame} {meth : Method} {c : Code} {R : Room} {H : Heap} {locs : List Loc} {cb sb pc nL : Nat} {Q : State → Prop} {ls : Array Slot} {rest : List Value} {cc : ByteArray} {E : hEnv} {A : Nat → Prop} {w : hW} {a0 : Nat} {x1 : Int32} {x2 : Int32} {x3 : Int32} {x4 : Int32} {Q' : hO → Prop} {c1 s1 : Nat} (F : CallFix p m c cc nL s args lw_all RX1) (hK : hK E A s) (S : hS E A s.heap cb sb w H locs) (h1 : c1 ≤ w.2.1) (h2 : s1 ≤ w.2.2) (h : hf_X7_init E.2.2 (w.1, c1, s1) a0 x1 x2 x3 x4 Q') (hrc : R.cells = cb) (hrs : R.slots = sb) (hls : ls.size = nL) (hWt : (rest.map fun v => v.category).sum ≤ 8) (hR : 2 + 1 ≤ R.frames ∧ 8 + (5 + 11) + 41 ≤ R.locals) (hdg : decode cc pc = .ok (.invokespecial 55, 3))
    (kk : ∀ (o : hO) (w' : hW) (H1 : Heap) (locs1 : List Loc), w' = (o, w.2.1 - c1, w.2.2 - s1) → Q' o → hS E A s.heap cb sb w' H1 locs1 → W p l e R s m args below meth c H1 locs1 (cb - w'.2.1) (sb - w'.2.2) Q (F0 m (pc + 3) ls (rest))) : W p l e R s m args below meth c H locs (cb - w.2.1) (sb - w.2.2) Q (F0 m pc ls (.int x4 :: .int x3 :: .int x2 :: .int x1 :: .ref a0 :: rest)) :=
  h_kv (g_runI F hK (hKm E A) S.1 (hmet_X7_init l E A (w.1, c1, s1) a0 x1 x2 x3 x4 Q' h) (cwI 4 F.2.2.2.2 (lw_meth q322) rfl rfl rfl (F.2.2.2.2 _ q119) (F.2.2.2.2 _ q320) (F.2.2.2.2 _ q321) rfl (by decide +kernel) hR) rfl hls rfl hWt hdg ⟨by rw [hrc]; exact (h_left S h1 h2).1, by rw [hrs]; exact (h_left S h1 h2).2⟩) S h1 h2 kk
theorem hn_X1_58 {p : Program} {l : Launch} {e : Env} {s : State} {m : MethodId} {args : Array Value} {below : List Frame} {meth : Method} {c : Code} {R : Room} {H : Heap} {locs : List Loc} {cb sb pc nL : Nat} {Q : State → Prop} {ls : Array Slot} {rest : List Value} {cc : ByteArray} {E : hEnv} {A : Nat → Prop} {w : hW} (F : CallFix p m c cc nL s args lw_all RX1) (hK : hK E A s) (S : hS E A s.heap cb sb w H locs) (hrc : R.cells = cb) (hrs : R.slots = sb) {f : Nat → hW → Prop} (h : hNew w (.inl (7, [.int 0, .int 0, .int 0])) 3 f) (hdg : decode cc pc = .ok (.new 58, 3)) (kk : ∀ (q : Nat) (w' : hW) (H1 : Heap), f q w' → hS E A s.heap cb sb w' H1 locs → W p l e R s m args below meth c H1 locs (cb - w'.2.1) (sb - w'.2.2) Q (F0 m (pc + 3) ls (.ref q :: rest))) : W p l e R s m args below meth c H locs (cb - w.2.1) (sb - w.2.2) Q (F0 m pc ls rest) :=
  h_new F hK S hrc hrs (C := RX8) (T := TX8) (N := 3) tyX8 tyX8_ok q350 q351 q120 in_X8 rfl (fun j hj => by match j, hj with | 0, _ => rfl | 1, _ => rfl | 2, _ => rfl) h hdg kk
theorem hcl_X8_init_X1_60 {p : Program} {l : Launch} {e : Env} {s : State} {m : MethodId} {args : Array Value} {below : List Frame} {meth : Method} {c : Code} {R : Room} {H : Heap} {locs : List Loc} {cb sb pc nL : Nat} {Q : State → Prop} {ls : Array Slot} {rest : List Value} {cc : ByteArray} {E : hEnv} {A : Nat → Prop} {w : hW} {a0 : Nat} {x1 : Int32} {x2 : Int32} {Q' : hO → Prop} {c1 s1 : Nat} (F : CallFix p m c cc nL s args lw_all RX1) (hK : hK E A s) (S : hS E A s.heap cb sb w H locs) (h1 : c1 ≤ w.2.1) (h2 : s1 ≤ w.2.2) (h : hf_X8_init E.2.2 (w.1, c1, s1) a0 x1 x2 Q') (hrc : R.cells = cb) (hrs : R.slots = sb) (hls : ls.size = nL) (hWt : (rest.map fun v => v.category).sum ≤ 8) (hR : 2 + 1 ≤ R.frames ∧ 8 + (3 + 11) + 41 ≤ R.locals) (hdg : decode cc pc = .ok (.invokespecial 60, 3))
    (kk : ∀ (o : hO) (w' : hW) (H1 : Heap) (locs1 : List Loc), w' = (o, w.2.1 - c1, w.2.2 - s1) → Q' o → hS E A s.heap cb sb w' H1 locs1 → W p l e R s m args below meth c H1 locs1 (cb - w'.2.1) (sb - w'.2.2) Q (F0 m (pc + 3) ls (rest))) : W p l e R s m args below meth c H locs (cb - w.2.1) (sb - w.2.2) Q (F0 m pc ls (.int x2 :: .int x1 :: .ref a0 :: rest)) :=
  h_kv (g_runI F hK (hKm E A) S.1 (hmet_X8_init l E A (w.1, c1, s1) a0 x1 x2 Q' h) (cwI 2 F.2.2.2.2 (lw_meth q354) rfl rfl rfl (F.2.2.2.2 _ q120) (F.2.2.2.2 _ q352) (F.2.2.2.2 _ q353) rfl (by decide +kernel) hR) rfl hls rfl hWt hdg ⟨by rw [hrc]; exact (h_left S h1 h2).1, by rw [hrs]; exact (h_left S h1 h2).2⟩) S h1 h2 kk
theorem hp_X1_67 {p : Program} {l : Launch} {e : Env} {s : State} {m : MethodId} {args : Array Value} {below : List Frame} {meth : Method} {c : Code} {R : Room} {H : Heap} {locs : List Loc} {cb sb pc nL : Nat} {Q : State → Prop} {ls : Array Slot} {rest : List Value} {cc : ByteArray} {E : hEnv} {A : Nat → Prop} {w : hW} {a : Nat} {w' : hW} {v : Int32} (F : CallFix p m c cc nL s args lw_all RX1) (hK : hK E A s) (S : hS E A s.heap cb sb w H locs) (h : hpV w a 3 6 (.int v) = some w') (hdg : decode cc pc = .ok (.putfield 67, 3)) (kk : ∀ (H1 : Heap) (locs1 : List Loc), hS E A s.heap cb sb w' H1 locs1 → W p l e R s m args below meth c H1 locs1 (cb - w'.2.1) (sb - w'.2.2) Q (F0 m (pc + 3) ls rest)) : W p l e R s m args below meth c H locs (cb - w.2.1) (sb - w.2.2) Q (F0 m pc ls (.int v :: .ref a :: rest)) :=
  h_putN F hK S h (ci := 3) (C := RX3) (T := TX3) (N := 9) (k := 6) rfl in_X3 tyX3 tyX3_ok nmX3 (by decide) (hK.2.1.1 _ (List.mem_of_getElem? (i := 0) rfl)) (fun x h => h) rfl (ty := .int) (by decide +kernel) rfl rfl hdg kk
def hf_X1_init (pl : Nat → Nat) (w : hW) (a0 : Nat) (Q : hO → Prop) : Prop :=
  hNew w (.inl (2, [.null, .null, .null, .null, .int 0, .int 0, .null, .int 0, .int 0, .null, .null, .int 0])) 12 fun q1 w2 =>
  hcall w2 fun n3 n4 => hf_X2_init pl (w2.1, n3, n4) q1 fun o6 => hret w2 n3 n4 o6 fun w5 =>
  obd (hpV w5 a0 1 0 (.ref q1)) fun w7 =>
  hNewI 2 w7 600 fun q9 w10 =>
  obd (hpV w10 a0 1 1 (.ref q9)) fun w11 =>
  hNew w11 (.inl (12, [.null, .int 0, .int 0])) 3 fun q13 w14 =>
  hcall w14 fun n15 n16 => hf_J1_init pl (w14.1, n15, n16) q13 10 fun o18 => hret w14 n15 n16 o18 fun w17 =>
  obd (hpV w17 a0 1 4 (.ref q13)) fun w19 =>
  hNewR 5 w19 2 fun q21 w22 =>
  obd (hpV w22 a0 1 5 (.ref q21)) fun w23 =>
  obd (hpV w23 a0 1 6 (.ref (pl 10))) fun w25 =>
  hNew w25 (.inl (3, [.null, .int 0, .int 0, .null, .int 0, .int 0, .int 0, .int 0, .int 0])) 9 fun q27 w28 =>
  obd (hgP w28 a0 1 0) fun v29 =>
  hcall w28 fun n31 n32 => hf_X3_init pl (w28.1, n31, n32) q27 v29 5 4 10 1 fun o34 => hret w28 n31 n32 o34 fun w33 =>
  obd (hpV w33 a0 1 3 (.ref q27)) fun w35 =>
  hNewR 6 w35 5 fun q37 w38 =>
  hNew w38 (.inl (6, [.int 0, .int 0, .int 0, .int 0, .int 0, .int 0])) 6 fun q39 w40 =>
  hcall w40 fun n41 n42 => hf_X7_init pl (w40.1, n41, n42) q39 13 0 1 0 fun o44 => hret w40 n41 n42 o44 fun w43 =>
  obd (hsR w43 q37 0 (some q39)) fun w45 =>
  hNew w45 (.inl (6, [.int 0, .int 0, .int 0, .int 0, .int 0, .int 0])) 6 fun q47 w48 =>
  hcall w48 fun n49 n50 => hf_X7_init pl (w48.1, n49, n50) q47 33 0 1 1 fun o52 => hret w48 n49 n50 o52 fun w51 =>
  obd (hsR w51 q37 1 (some q47)) fun w53 =>
  hNew w53 (.inl (6, [.int 0, .int 0, .int 0, .int 0, .int 0, .int 0])) 6 fun q55 w56 =>
  hcall w56 fun n57 n58 => hf_X7_init pl (w56.1, n57, n58) q55 11 1 1 0 fun o60 => hret w56 n57 n58 o60 fun w59 =>
  obd (hsR w59 q37 2 (some q55)) fun w61 =>
  hNew w61 (.inl (7, [.int 0, .int 0, .int 0])) 3 fun q63 w64 =>
  hcall w64 fun n65 n66 => hf_X8_init pl (w64.1, n65, n66) q63 1 2 fun o68 => hret w64 n65 n66 o68 fun w67 =>
  obd (hsR w67 q37 3 (some q63)) fun w69 =>
  hNew w69 (.inl (7, [.int 0, .int 0, .int 0])) 3 fun q71 w72 =>
  hcall w72 fun n73 n74 => hf_X8_init pl (w72.1, n73, n74) q71 30 1 fun o76 => hret w72 n73 n74 o76 fun w75 =>
  obd (hsR w75 q37 4 (some q71)) fun w77 =>
  obd (hIs w77 a0 1) fun u79 =>
  hcall w77 fun n81 n82 => hf_X1_lays pl (w77.1, n81, n82) a0 q37 fun o84 => hret w77 n81 n82 o84 fun w83 =>
  obd (hgP w83 a0 1 3) fun v85 =>
  obd (hpV w83 v85 3 6 (.int 30)) fun w87 =>
  obd (hgP w87 a0 1 3) fun v89 =>
  ∃ (d91 : hD) (g92 : mS), hRel d91 g92 w87.1 ∧ d91.1 100 = v89 ∧ obd (fc_X3_laysOpen g92 100) fun v95 => hpret w87 d91 v95 fun w93 =>
  Q w93.1
abbrev hrm_X1_init (c s : Nat) : Room := { frames := 8, cells := c, slots := s, locals := 179 }
set_option maxHeartbeats 4000000 in
set_option maxRecDepth 100000 in
theorem hmet_X1_init (l : Launch) (E : hEnv) (A : Nat → Prop) (w : hW) (a0 : Nat) (Q : hO → Prop) (h : hf_X1_init E.2.2 w a0 Q) : Met l yX1_init (ws_ yX1_init cX1_init 1 (none)) (hrm_X1_init w.2.1 w.2.2) (va_Pc [.ref a0] (gPre (hK E A) (hP E A w.1))) (hQv E A Q) w.2.1 w.2.2 A := by
  refine h_metI (own := RX1) (by decide +kernel) rfl (by rfl) (Nat.le_of_ble_eq_true rfl) ?_
  intro p e s m args below meth c ls cb sb F hr hlk hin hK S hl
  have hx := F.1
  have hb := F.2.1
  have hl : lv_has ls 1 [(0, .ref a0)] := hl
  unfold hf_X1_init at h
  refine lv_aload_n hx hb dX1_init_0 rfl (lv_at hl 0 rfl) ?_
  refine h_obj F q153 hl.1 dX1_init_1 (Nat.le_of_ble_eq_true rfl) (Nat.le_of_ble_eq_true rfl) ?_
  refine lv_aload_n hx hb dX1_init_4 rfl (lv_at hl 0 rfl) ?_
  refine hn_X1_10 F hK S rfl rfl h dX1_init_5 (fun q1 w2 H h S => ?_)
  refine lv_dup hx hb dX1_init_8 rfl ?_
  obtain ⟨n3, n4, h1, h2, h⟩ := hcall_inv h
  refine hcl_X2_init_X1_12 F hK S h1 h2 h rfl rfl hl.1 (Nat.le_of_ble_eq_true rfl) ⟨Nat.le_of_ble_eq_true rfl, Nat.le_of_ble_eq_true rfl⟩ dX1_init_9 (fun o6 w5 H locs hw h S => ?_)
  replace h := hret_mp h hw
  clear hw h1 h2
  obtain ⟨w7, e8, h⟩ := obd_inv h
  refine hp_X1_13 F hK S (by assumption) e8 dX1_init_12 (fun H locs S => ?_)
  refine lv_aload_n hx hb dX1_init_15 rfl (lv_at hl 0 rfl) ?_
  refine lv_sipush (v := 600) hx hb dX1_init_16 (by decide) ?_
  refine h_newaB F hK S rfl rfl h dX1_init_19 (fun q9 w10 H h S => ?_)
  obtain ⟨w11, e12, h⟩ := obd_inv h
  refine hp_X1_19 F hK S (by assumption) e12 dX1_init_21 (fun H locs S => ?_)
  refine lv_aload_n hx hb dX1_init_24 rfl (lv_at hl 0 rfl) ?_
  refine hn_X1_23 F hK S rfl rfl h dX1_init_25 (fun q13 w14 H h S => ?_)
  refine lv_dup hx hb dX1_init_28 rfl ?_
  refine lv_bipush (v := 10) hx hb dX1_init_29 (by decide) ?_
  obtain ⟨n15, n16, h1, h2, h⟩ := hcall_inv h
  refine hcl_J1_init_X1_25 F hK S h1 h2 h rfl rfl hl.1 (Nat.le_of_ble_eq_true rfl) ⟨Nat.le_of_ble_eq_true rfl, Nat.le_of_ble_eq_true rfl⟩ dX1_init_31 (fun o18 w17 H locs hw h S => ?_)
  replace h := hret_mp h hw
  clear hw h1 h2
  obtain ⟨w19, e20, h⟩ := obd_inv h
  refine hp_X1_28 F hK S (by assumption) e20 dX1_init_34 (fun H locs S => ?_)
  refine lv_aload_n hx hb dX1_init_37 rfl (lv_at hl 0 rfl) ?_
  refine lv_iconst (v := 2) hx hb dX1_init_38 (by decide) ?_
  refine h_newR 5 rfl rfl F hK S rfl rfl h q226 hK.2.1.2.2.2.2.2.2.1 dX1_init_39 (fun q21 w22 H h S => ?_)
  obtain ⟨w23, e24, h⟩ := obd_inv h
  refine hp_X1_34 F hK S (by assumption) e24 dX1_init_42 (fun H locs S => ?_)
  refine lv_aload_n hx hb dX1_init_45 rfl (lv_at hl 0 rfl) ?_
  refine va_ldcS F.1 F.2.1 F.2.2.2.1 (hK.2.2.1.2.2.2.2.1 _ (List.mem_of_getElem? (i := 0) rfl)) dX1_init_46 ?_
  obtain ⟨w25, e26, h⟩ := obd_inv h
  refine hp_X1_40 F hK S e26 dX1_init_48 (fun H locs S => ?_)
  refine lv_aload_n hx hb dX1_init_51 rfl (lv_at hl 0 rfl) ?_
  refine hn_X1_32 F hK S rfl rfl h dX1_init_52 (fun q27 w28 H h S => ?_)
  refine lv_dup hx hb dX1_init_55 rfl ?_
  refine lv_aload_n hx hb dX1_init_56 rfl (lv_at hl 0 rfl) ?_
  obtain ⟨v29, e30, h⟩ := obd_inv h
  refine hg_X1_13 F hK S e30 dX1_init_57 ?_
  refine lv_iconst (v := 5) hx hb dX1_init_60 (by decide) ?_
  refine lv_iconst (v := 4) hx hb dX1_init_61 (by decide) ?_
  refine lv_bipush (v := 10) hx hb dX1_init_62 (by decide) ?_
  refine lv_iconst (v := 1) hx hb dX1_init_64 (by decide) ?_
  obtain ⟨n31, n32, h1, h2, h⟩ := hcall_inv h
  refine hcl_X3_init_X1_44 F hK S h1 h2 h rfl rfl hl.1 (Nat.le_of_ble_eq_true rfl) ⟨Nat.le_of_ble_eq_true rfl, Nat.le_of_ble_eq_true rfl⟩ dX1_init_65 (fun o34 w33 H locs hw h S => ?_)
  replace h := hret_mp h hw
  clear hw h1 h2
  obtain ⟨w35, e36, h⟩ := obd_inv h
  refine hp_X1_47 F hK S e36 dX1_init_68 (fun H locs S => ?_)
  refine lv_aload_n hx hb dX1_init_71 rfl (lv_at hl 0 rfl) ?_
  refine lv_iconst (v := 5) hx hb dX1_init_72 (by decide) ?_
  refine h_newR 6 rfl rfl F hK S rfl rfl h q317 hK.2.1.2.2.2.2.2.2.2.1 dX1_init_73 (fun q37 w38 H h S => ?_)
  refine lv_dup hx hb dX1_init_76 rfl ?_
  refine lv_iconst (v := 0) hx hb dX1_init_77 (by decide) ?_
  refine hn_X1_53 F hK S rfl rfl h dX1_init_78 (fun q39 w40 H h S => ?_)
  refine lv_dup hx hb dX1_init_81 rfl ?_
  refine lv_bipush (v := 13) hx hb dX1_init_82 (by decide) ?_
  refine lv_iconst (v := 0) hx hb dX1_init_84 (by decide) ?_
  refine lv_iconst (v := 1) hx hb dX1_init_85 (by decide) ?_
  refine lv_iconst (v := 0) hx hb dX1_init_86 (by decide) ?_
  obtain ⟨n41, n42, h1, h2, h⟩ := hcall_inv h
  refine hcl_X7_init_X1_55 F hK S h1 h2 h rfl rfl hl.1 (Nat.le_of_ble_eq_true rfl) ⟨Nat.le_of_ble_eq_true rfl, Nat.le_of_ble_eq_true rfl⟩ dX1_init_87 (fun o44 w43 H locs hw h S => ?_)
  replace h := hret_mp h hw
  clear hw h1 h2
  obtain ⟨w45, e46, h⟩ := obd_inv h
  refine h_aast F hK S e46 dX1_init_90 (fun H locs S => ?_)
  refine lv_dup hx hb dX1_init_91 rfl ?_
  refine lv_iconst (v := 1) hx hb dX1_init_92 (by decide) ?_
  refine hn_X1_53 F hK S rfl rfl h dX1_init_93 (fun q47 w48 H h S => ?_)
  refine lv_dup hx hb dX1_init_96 rfl ?_
  refine lv_bipush (v := 33) hx hb dX1_init_97 (by decide) ?_
  refine lv_iconst (v := 0) hx hb dX1_init_99 (by decide) ?_
  refine lv_iconst (v := 1) hx hb dX1_init_100 (by decide) ?_
  refine lv_iconst (v := 1) hx hb dX1_init_101 (by decide) ?_
  obtain ⟨n49, n50, h1, h2, h⟩ := hcall_inv h
  refine hcl_X7_init_X1_55 F hK S h1 h2 h rfl rfl hl.1 (Nat.le_of_ble_eq_true rfl) ⟨Nat.le_of_ble_eq_true rfl, Nat.le_of_ble_eq_true rfl⟩ dX1_init_102 (fun o52 w51 H locs hw h S => ?_)
  replace h := hret_mp h hw
  clear hw h1 h2
  obtain ⟨w53, e54, h⟩ := obd_inv h
  refine h_aast F hK S e54 dX1_init_105 (fun H locs S => ?_)
  refine lv_dup hx hb dX1_init_106 rfl ?_
  refine lv_iconst (v := 2) hx hb dX1_init_107 (by decide) ?_
  refine hn_X1_53 F hK S rfl rfl h dX1_init_108 (fun q55 w56 H h S => ?_)
  refine lv_dup hx hb dX1_init_111 rfl ?_
  refine lv_bipush (v := 11) hx hb dX1_init_112 (by decide) ?_
  refine lv_iconst (v := 1) hx hb dX1_init_114 (by decide) ?_
  refine lv_iconst (v := 1) hx hb dX1_init_115 (by decide) ?_
  refine lv_iconst (v := 0) hx hb dX1_init_116 (by decide) ?_
  obtain ⟨n57, n58, h1, h2, h⟩ := hcall_inv h
  refine hcl_X7_init_X1_55 F hK S h1 h2 h rfl rfl hl.1 (Nat.le_of_ble_eq_true rfl) ⟨Nat.le_of_ble_eq_true rfl, Nat.le_of_ble_eq_true rfl⟩ dX1_init_117 (fun o60 w59 H locs hw h S => ?_)
  replace h := hret_mp h hw
  clear hw h1 h2
  obtain ⟨w61, e62, h⟩ := obd_inv h
  refine h_aast F hK S e62 dX1_init_120 (fun H locs S => ?_)
  refine lv_dup hx hb dX1_init_121 rfl ?_
  refine lv_iconst (v := 3) hx hb dX1_init_122 (by decide) ?_
  refine hn_X1_58 F hK S rfl rfl h dX1_init_123 (fun q63 w64 H h S => ?_)
  refine lv_dup hx hb dX1_init_126 rfl ?_
  refine lv_iconst (v := 1) hx hb dX1_init_127 (by decide) ?_
  refine lv_iconst (v := 2) hx hb dX1_init_128 (by decide) ?_
  obtain ⟨n65, n66, h1, h2, h⟩ := hcall_inv h
  refine hcl_X8_init_X1_60 F hK S h1 h2 h rfl rfl hl.1 (Nat.le_of_ble_eq_true rfl) ⟨Nat.le_of_ble_eq_true rfl, Nat.le_of_ble_eq_true rfl⟩ dX1_init_129 (fun o68 w67 H locs hw h S => ?_)
  replace h := hret_mp h hw
  clear hw h1 h2
  obtain ⟨w69, e70, h⟩ := obd_inv h
  refine h_aast F hK S e70 dX1_init_132 (fun H locs S => ?_)
  refine lv_dup hx hb dX1_init_133 rfl ?_
  refine lv_iconst (v := 4) hx hb dX1_init_134 (by decide) ?_
  refine hn_X1_58 F hK S rfl rfl h dX1_init_135 (fun q71 w72 H h S => ?_)
  refine lv_dup hx hb dX1_init_138 rfl ?_
  refine lv_bipush (v := 30) hx hb dX1_init_139 (by decide) ?_
  refine lv_iconst (v := 1) hx hb dX1_init_141 (by decide) ?_
  obtain ⟨n73, n74, h1, h2, h⟩ := hcall_inv h
  refine hcl_X8_init_X1_60 F hK S h1 h2 h rfl rfl hl.1 (Nat.le_of_ble_eq_true rfl) ⟨Nat.le_of_ble_eq_true rfl, Nat.le_of_ble_eq_true rfl⟩ dX1_init_142 (fun o76 w75 H locs hw h S => ?_)
  replace h := hret_mp h hw
  clear hw h1 h2
  obtain ⟨w77, e78, h⟩ := obd_inv h
  refine h_aast F hK S e78 dX1_init_145 (fun H locs S => ?_)
  obtain ⟨u79, e80, h⟩ := obd_inv h
  obtain ⟨n81, n82, h1, h2, h⟩ := hcall_inv h
  refine hcl_X1_lays_X1_63 F hK S (hIs_inv e80) h1 h2 h rfl rfl hl.1 (Nat.le_of_ble_eq_true rfl) ⟨Nat.le_of_ble_eq_true rfl, Nat.le_of_ble_eq_true rfl⟩ dX1_init_146 (fun o84 w83 H locs hw h S => ?_)
  replace h := hret_mp h hw
  clear hw h1 h2
  refine lv_aload_n hx hb dX1_init_149 rfl (lv_at hl 0 rfl) ?_
  obtain ⟨v85, e86, h⟩ := obd_inv h
  refine hg_X1_47 F hK S e86 dX1_init_150 ?_
  refine lv_bipush (v := 30) hx hb dX1_init_153 (by decide) ?_
  obtain ⟨w87, e88, h⟩ := obd_inv h
  refine hp_X1_67 F hK S e88 dX1_init_155 (fun H locs S => ?_)
  refine lv_aload_n hx hb dX1_init_158 rfl (lv_at hl 0 rfl) ?_
  obtain ⟨v89, e90, h⟩ := obd_inv h
  refine hg_X1_47 F hK S e90 dX1_init_159 ?_
  obtain ⟨d91, g92, hrl, hdl, h⟩ := h
  obtain ⟨v95, e94, h⟩ := obd_inv h
  refine hpc_X3_laysOpen_X1_71 F hK S hrl hdl e94 rfl rfl hl.1 (Nat.le_of_ble_eq_true rfl) ⟨Nat.le_of_ble_eq_true rfl, Nat.le_of_ble_eq_true rfl⟩ dX1_init_162 (fun w93 H locs hw hz S => ?_)
  replace h := hpret_mp h hw hz
  clear hw hz
  exact h_vret F hr hlk S h dX1_init_165
theorem hpc_X3_isOver_X1_205 {p : Program} {l : Launch} {e : Env} {s : State} {m : MethodId} {args : Array Value} {below : List Frame} {meth : Method} {c : Code} {R : Room} {H : Heap} {locs : List Loc} {cb sb pc nL : Nat} {Q : State → Prop} {ls : Array Slot} {rest : List Value} {cc : ByteArray} {E : hEnv} {A : Nat → Prop} {w : hW} {d : hD} {g : mS} {a : Nat} {r : Int32} (F : CallFix p m c cc nL s args lw_all RX1) (hK : hK E A s) (S : hS E A s.heap cb sb w H locs) (hr : hRel d g w.1) (hd : d.1 100 = a) (h : fc_X3_isOver g 100 = some r) (hrc : R.cells = cb) (hrs : R.slots = sb) (hls : ls.size = nL) (hWt : (rest.map fun v => v.category).sum ≤ 8) (hR : rm_c_X3_isOver.frames + 1 ≤ R.frames ∧ 8 + (1 + 11) + rm_c_X3_isOver.locals ≤ R.locals) (hdg : decode cc pc = .ok (.invokevirtual 205, 3))
    (kk : ∀ (H1 : Heap) (locs1 : List Loc), hS E A s.heap cb sb w H1 locs1 → W p l e R s m args below meth c H1 locs1 (cb - w.2.1) (sb - w.2.2) Q (F0 m (pc + 3) ls (.int r :: rest))) : W p l e R s m args below meth c H locs (cb - w.2.1) (sb - w.2.2) Q (F0 m pc ls (.ref a :: rest)) := by
  subst hd
  refine hb_ki hK S hr (gZ := g) (va_runV (g := F0 m pc ls _) F (met_c_X3_isOver l (hDE E d g H.size) g 100 hOk100 r h) (cwV 0 F.2.2.2.2 (lw_V q1287 q1095 q1096 q115 q1097) rfl rfl rfl (by decide +kernel) hR) ⟨gBlind (cKm (hDE E d g H.size)), h_recv hK S (ci := 3) rfl (hRel_w hr), fun U hU hW => ⟨rfl, hB_pre hK S hr U hU hW⟩⟩ rfl rfl hls rfl (lv_room hWt) hdg ⟨by rw [hrc]; exact Nat.sub_le _ _, by rw [hrs]; exact Nat.sub_le _ _⟩) (fun w' H1 locs1 hw _ S1 => ?_)
  rw [hPut_self hr] at hw
  subst hw
  exact kk H1 locs1 S1
theorem hpc_X3_canTurn_X1_209 {p : Program} {l : Launch} {e : Env} {s : State} {m : MethodId} {args : Array Value} {below : List Frame} {meth : Method} {c : Code} {R : Room} {H : Heap} {locs : List Loc} {cb sb pc nL : Nat} {Q : State → Prop} {ls : Array Slot} {rest : List Value} {cc : ByteArray} {E : hEnv} {A : Nat → Prop} {w : hW} {d : hD} {g : mS} {a : Nat} {r : Int32} (F : CallFix p m c cc nL s args lw_all RX1) (hK : hK E A s) (S : hS E A s.heap cb sb w H locs) (hr : hRel d g w.1) (hd : d.1 100 = a) (h : fc_X3_canTurn g 100 = some r) (hrc : R.cells = cb) (hrs : R.slots = sb) (hls : ls.size = nL) (hWt : (rest.map fun v => v.category).sum ≤ 8) (hR : rm_c_X3_canTurn.frames + 1 ≤ R.frames ∧ 8 + (5 + 11) + rm_c_X3_canTurn.locals ≤ R.locals) (hdg : decode cc pc = .ok (.invokevirtual 209, 3))
    (kk : ∀ (H1 : Heap) (locs1 : List Loc), hS E A s.heap cb sb w H1 locs1 → W p l e R s m args below meth c H1 locs1 (cb - w.2.1) (sb - w.2.2) Q (F0 m (pc + 3) ls (.int r :: rest))) : W p l e R s m args below meth c H locs (cb - w.2.1) (sb - w.2.2) Q (F0 m pc ls (.ref a :: rest)) := by
  subst hd
  refine hb_ki hK S hr (gZ := g) (va_runV (g := F0 m pc ls _) F (met_c_X3_canTurn l (hDE E d g H.size) g 100 hOk100 r h) (cwV 0 F.2.2.2.2 (lw_V q1288 q1289 q1290 q115 q1291) rfl rfl rfl (by decide +kernel) hR) ⟨gBlind (cKm (hDE E d g H.size)), h_recv hK S (ci := 3) rfl (hRel_w hr), fun U hU hW => ⟨rfl, hB_pre hK S hr U hU hW⟩⟩ rfl rfl hls rfl (lv_room hWt) hdg ⟨by rw [hrc]; exact Nat.sub_le _ _, by rw [hrs]; exact Nat.sub_le _ _⟩) (fun w' H1 locs1 hw _ S1 => ?_)
  rw [hPut_self hr] at hw
  subst hw
  exact kk H1 locs1 S1
theorem hpc_X3_movesN_X1_202 {p : Program} {l : Launch} {e : Env} {s : State} {m : MethodId} {args : Array Value} {below : List Frame} {meth : Method} {c : Code} {R : Room} {H : Heap} {locs : List Loc} {cb sb pc nL : Nat} {Q : State → Prop} {ls : Array Slot} {rest : List Value} {cc : ByteArray} {E : hEnv} {A : Nat → Prop} {w : hW} {d : hD} {g : mS} {a : Nat} {r : Int32 × mS} (F : CallFix p m c cc nL s args lw_all RX1) (hK : hK E A s) (S : hS E A s.heap cb sb w H locs) (hr : hRel d g w.1) (hd : d.1 100 = a) (h : fc_X3_movesN g 100 = some r) (hrc : R.cells = cb) (hrs : R.slots = sb) (hls : ls.size = nL) (hWt : (rest.map fun v => v.category).sum ≤ 8) (hR : rm_c_X3_movesN.frames + 1 ≤ R.frames ∧ 8 + (7 + 11) + rm_c_X3_movesN.locals ≤ R.locals) (hdg : decode cc pc = .ok (.invokevirtual 202, 3))
    (kk : ∀ (w' : hW) (H1 : Heap) (locs1 : List Loc), w' = (hPut d r.2 w.1, w.2) → hRel d r.2 (hPut d r.2 w.1) → hS E A s.heap cb sb w' H1 locs1 → W p l e R s m args below meth c H1 locs1 (cb - w'.2.1) (sb - w'.2.2) Q (F0 m (pc + 3) ls (.int r.1 :: rest))) : W p l e R s m args below meth c H locs (cb - w.2.1) (sb - w.2.2) Q (F0 m pc ls (.null :: .ref a :: rest)) := by
  subst hd
  obtain ⟨r, gZ⟩ := r
  exact hb_ki hK S hr (va_runV (g := F0 m pc ls _) F (met_c_X3_movesN l (hDE E d g H.size) g 100 hOk100 r gZ h) (cwV 1 F.2.2.2.2 (lw_V q1328 q1134 q1135 q115 q1136) rfl rfl rfl (by decide +kernel) hR) ⟨gBlind (cKm (hDE E d g H.size)), h_recv hK S (ci := 3) rfl (hRel_w hr), fun U hU hW => ⟨rfl, hB_pre hK S hr U hU hW⟩⟩ rfl rfl hls rfl (lv_room hWt) hdg ⟨by rw [hrc]; exact Nat.sub_le _ _, by rw [hrs]; exact Nat.sub_le _ _⟩) kk
def hf_X1_pass (pl : Nat → Nat) (w : hW) (a0 : Nat) (Q : Int32 → hO → Prop) : Prop :=
  obd (hgP w a0 1 3) fun v1 =>
  ∃ (d3 : hD) (g4 : mS), hRel d3 g4 w.1 ∧ d3.1 100 = v1 ∧ obd (fc_X3_isOver g4 100) fun v7 =>
  hIf (v7 = 0) (
    obd (hgP w a0 1 3) fun v20 =>
    ∃ (d22 : hD) (g23 : mS), hRel d22 g23 w.1 ∧ d22.1 100 = v20 ∧ obd (fc_X3_canTurn g23 100) fun v26 =>
    hIf (v26 = 0) (
      obd (hIs w a0 1) fun u28 =>
      hcall w fun n30 n31 => hf_X1_change_2 pl (w.1, n30, n31) a0 fun v34 o33 => hret w n30 n31 o33 fun w32 =>
      ∃ (d35 : hD) (g36 : mS), hRel d35 g36 w32.1 ∧ d35.1 100 = v34 ∧ obd (fc_X3_movesN g36 100) fun v39 => hpret w32 d35 v39.2 fun w37 =>
      Q v39.1 w37.1) <|
      obd (hgP w a0 1 3) fun v40 =>
      ∃ (d42 : hD) (g43 : mS), hRel d42 g43 w.1 ∧ d42.1 100 = v40 ∧ obd (fc_X3_isOver g43 100) fun v46 =>
      hjoin (fun (v48 : Int32) =>
        Q v48 w.1) fun k50 =>
      hIf (v46 = 0) (
        k50 (-10)) <|
        k50 (-6)) <|
    obd (hgP w a0 1 3) fun v9 =>
    ∃ (d11 : hD) (g12 : mS), hRel d11 g12 w.1 ∧ d11.1 100 = v9 ∧ obd (fc_X3_isOver g12 100) fun v15 =>
    hjoin (fun (v17 : Int32) =>
      Q v17 w.1) fun k19 =>
    hIf (v15 = 0) (
      k19 (-10)) <|
      k19 (-6)
abbrev hrm_X1_pass (c s : Nat) : Room := { frames := 9, cells := c, slots := s, locals := 206 }
set_option maxHeartbeats 4000000 in
set_option maxRecDepth 100000 in
theorem hmet_X1_pass (l : Launch) (E : hEnv) (A : Nat → Prop) (w : hW) (a0 : Nat) (Q : Int32 → hO → Prop) (h : hf_X1_pass E.2.2 w a0 Q) : Met l yX1_pass (ws_ yX1_pass cX1_pass 1 (some .int)) (hrm_X1_pass w.2.1 w.2.2) (va_Pc [.ref a0] (gPre (hK E A) (hP E A w.1))) (hQi E A Q) w.2.1 w.2.2 A := by
  refine h_met (own := RX1) (by decide +kernel) rfl (Nat.le_of_ble_eq_true rfl) ?_
  intro p e s m args below meth c ls cb sb F hr hlk hK S hl
  have hx := F.1
  have hb := F.2.1
  have hl : lv_has ls 1 [(0, .ref a0)] := hl
  unfold hf_X1_pass at h
  refine lv_aload_n hx hb dX1_pass_0 rfl (lv_at hl 0 rfl) ?_
  obtain ⟨v1, e2, h⟩ := obd_inv h
  refine hg_X1_47 F hK S e2 dX1_pass_1 ?_
  obtain ⟨d3, g4, hrl, hdl, h⟩ := h
  obtain ⟨v7, e6, h⟩ := obd_inv h
  refine hpc_X3_isOver_X1_205 F hK S hrl hdl e6 rfl rfl hl.1 (Nat.le_of_ble_eq_true rfl) ⟨Nat.le_of_ble_eq_true rfl, Nat.le_of_ble_eq_true rfl⟩ dX1_pass_4 (fun H locs S => ?_)
  refine lv_if_ne (tgt := 20) hx hb dX1_pass_7 (by decide) (fun c8 => ?_) (fun c8 => ?_)
  · rw [hIf_neg c8] at h
    refine lv_aload_n hx hb dX1_pass_20 rfl (lv_at hl 0 rfl) ?_
    obtain ⟨v9, e10, h⟩ := obd_inv h
    refine hg_X1_47 F hK S e10 dX1_pass_21 ?_
    obtain ⟨d11, g12, hrl, hdl, h⟩ := h
    obtain ⟨v15, e14, h⟩ := obd_inv h
    refine hpc_X3_isOver_X1_205 F hK S hrl hdl e14 rfl rfl hl.1 (Nat.le_of_ble_eq_true rfl) ⟨Nat.le_of_ble_eq_true rfl, Nat.le_of_ble_eq_true rfl⟩ dX1_pass_24 (fun H locs S => ?_)
    obtain ⟨k19, hk19, h⟩ := hj1_inv h
    have hJ37 : ∀ (v17 : Int32) (H : Heap) (locs : List Loc) (ls : Array Slot), k19 v17 → hS E A s.heap cb sb w H locs → lv_has ls 1 [] → W p l e (hrm_X1_pass cb sb) s m args below meth c H locs (cb - w.2.1) (sb - w.2.2) (MQ below (hQi E A Q) args s cb sb A) (F0 m 37 ls [.int v17]) := by
      intro v17 H locs ls h S hl
      replace h := hk19 _ h
      exact h_iret F hr hlk S h dX1_pass_37
    clear hk19
    refine lv_if_eq (tgt := 35) hx hb dX1_pass_27 (by decide) (fun c16 => ?_) (fun c16 => ?_)
    · rw [hIf_pos c16] at h
      refine lv_bipush (v := (-10)) hx hb dX1_pass_35 (by decide) ?_
      exact hJ37 _ _ _ _ h S (lv_sub hl [] rfl)
    · rw [hIf_neg c16] at h
      refine lv_bipush (v := (-6)) hx hb dX1_pass_30 (by decide) ?_
      refine lv_goto (tgt := 37) hx hb dX1_pass_32 (by decide) ?_
      exact hJ37 _ _ _ _ h S (lv_sub hl [] rfl)
  · rw [hIf_pos c8] at h
    refine lv_aload_n hx hb dX1_pass_10 rfl (lv_at hl 0 rfl) ?_
    obtain ⟨v20, e21, h⟩ := obd_inv h
    refine hg_X1_47 F hK S e21 dX1_pass_11 ?_
    obtain ⟨d22, g23, hrl, hdl, h⟩ := h
    obtain ⟨v26, e25, h⟩ := obd_inv h
    refine hpc_X3_canTurn_X1_209 F hK S hrl hdl e25 rfl rfl hl.1 (Nat.le_of_ble_eq_true rfl) ⟨Nat.le_of_ble_eq_true rfl, Nat.le_of_ble_eq_true rfl⟩ dX1_pass_14 (fun H locs S => ?_)
    refine lv_if_eq (tgt := 38) hx hb dX1_pass_17 (by decide) (fun c27 => ?_) (fun c27 => ?_)
    · rw [hIf_pos c27] at h
      refine lv_aload_n hx hb dX1_pass_38 rfl (lv_at hl 0 rfl) ?_
      obtain ⟨u28, e29, h⟩ := obd_inv h
      obtain ⟨n30, n31, h1, h2, h⟩ := hcall_inv h
      refine hcl_X1_change_2_X1_117 F hK S (hIs_inv e29) h1 h2 h rfl rfl hl.1 (Nat.le_of_ble_eq_true rfl) ⟨Nat.le_of_ble_eq_true rfl, Nat.le_of_ble_eq_true rfl⟩ dX1_pass_39 (fun v34 o33 w32 H locs hw h S => ?_)
      replace h := hret_mp h hw
      clear hw h1 h2
      refine lv_null hx hb dX1_pass_42 ?_
      obtain ⟨d35, g36, hrl, hdl, h⟩ := h
      obtain ⟨v39, e38, h⟩ := obd_inv h
      refine hpc_X3_movesN_X1_202 F hK S hrl hdl e38 rfl rfl hl.1 (Nat.le_of_ble_eq_true rfl) ⟨Nat.le_of_ble_eq_true rfl, Nat.le_of_ble_eq_true rfl⟩ dX1_pass_43 (fun w37 H locs hw hz S => ?_)
      replace h := hpret_mp h hw hz
      clear hw hz
      exact h_iret F hr hlk S h dX1_pass_46
    · rw [hIf_neg c27] at h
      refine lv_aload_n hx hb dX1_pass_20 rfl (lv_at hl 0 rfl) ?_
      obtain ⟨v40, e41, h⟩ := obd_inv h
      refine hg_X1_47 F hK S e41 dX1_pass_21 ?_
      obtain ⟨d42, g43, hrl, hdl, h⟩ := h
      obtain ⟨v46, e45, h⟩ := obd_inv h
      refine hpc_X3_isOver_X1_205 F hK S hrl hdl e45 rfl rfl hl.1 (Nat.le_of_ble_eq_true rfl) ⟨Nat.le_of_ble_eq_true rfl, Nat.le_of_ble_eq_true rfl⟩ dX1_pass_24 (fun H locs S => ?_)
      obtain ⟨k50, hk50, h⟩ := hj1_inv h
      have hJ37 : ∀ (v48 : Int32) (H : Heap) (locs : List Loc) (ls : Array Slot), k50 v48 → hS E A s.heap cb sb w H locs → lv_has ls 1 [] → W p l e (hrm_X1_pass cb sb) s m args below meth c H locs (cb - w.2.1) (sb - w.2.2) (MQ below (hQi E A Q) args s cb sb A) (F0 m 37 ls [.int v48]) := by
        intro v48 H locs ls h S hl
        replace h := hk50 _ h
        exact h_iret F hr hlk S h dX1_pass_37
      clear hk50
      refine lv_if_eq (tgt := 35) hx hb dX1_pass_27 (by decide) (fun c47 => ?_) (fun c47 => ?_)
      · rw [hIf_pos c47] at h
        refine lv_bipush (v := (-10)) hx hb dX1_pass_35 (by decide) ?_
        exact hJ37 _ _ _ _ h S (lv_sub hl [] rfl)
      · rw [hIf_neg c47] at h
        refine lv_bipush (v := (-6)) hx hb dX1_pass_30 (by decide) ?_
        refine lv_goto (tgt := 37) hx hb dX1_pass_32 (by decide) ?_
        exact hJ37 _ _ _ _ h S (lv_sub hl [] rfl)
theorem hcl_J1_isEmpty_X1_212 {p : Program} {l : Launch} {e : Env} {s : State} {m : MethodId} {args : Array Value} {below : List Frame} {meth : Method} {c : Code} {R : Room} {H : Heap} {locs : List Loc} {cb sb pc nL : Nat} {Q : State → Prop} {ls : Array Slot} {rest : List Value} {cc : ByteArray} {E : hEnv} {A : Nat → Prop} {w : hW} {a0 : Nat} {Q' : Int32 → hO → Prop} {c1 s1 : Nat} (F : CallFix p m c cc nL s args lw_all RX1) (hK : hK E A s) (S : hS E A s.heap cb sb w H locs) (hrv : ∃ (b : Bool) (fs : List Value), w.1 a0 = some (b, .inl (12, fs))) (h1 : c1 ≤ w.2.1) (h2 : s1 ≤ w.2.2) (h : hf_J1_isEmpty E.2.2 (w.1, c1, s1) a0 Q') (hrc : R.cells = cb) (hrs : R.slots = sb) (hls : ls.size = nL) (hWt : (rest.map fun v => v.category).sum ≤ 8) (hR : 0 + 1 ≤ R.frames ∧ 8 + (1 + 11) + 0 ≤ R.locals) (hdg : decode cc pc = .ok (.invokevirtual 212, 3))
    (kk : ∀ (v : Int32) (o : hO) (w' : hW) (H1 : Heap) (locs1 : List Loc), w' = (o, w.2.1 - c1, w.2.2 - s1) → Q' v o → hS E A s.heap cb sb w' H1 locs1 → W p l e R s m args below meth c H1 locs1 (cb - w'.2.1) (sb - w'.2.2) Q (F0 m (pc + 3) ls (.int v :: rest))) : W p l e R s m args below meth c H locs (cb - w.2.1) (sb - w.2.2) Q (F0 m pc ls (.ref a0 :: rest)) :=
  h_ki (g_runV F hK (hKm E A) S.1 (hmet_J1_isEmpty l E A (w.1, c1, s1) a0 Q' h) (cwV 0 F.2.2.2.2 (lw_V q1333 q1334 q1335 q114 q1336) rfl rfl rfl (by decide +kernel) hR) (h_recv hK S (ci := 12) rfl hrv) rfl hls rfl hWt hdg ⟨by rw [hrc]; exact (h_left S h1 h2).1, by rw [hrs]; exact (h_left S h1 h2).2⟩) S h1 h2 kk
theorem hcl_J1_removeLast_X1_214 {p : Program} {l : Launch} {e : Env} {s : State} {m : MethodId} {args : Array Value} {below : List Frame} {meth : Method} {c : Code} {R : Room} {H : Heap} {locs : List Loc} {cb sb pc nL : Nat} {Q : State → Prop} {ls : Array Slot} {rest : List Value} {cc : ByteArray} {E : hEnv} {A : Nat → Prop} {w : hW} {a0 : Nat} {Q' : Nat → hO → Prop} {c1 s1 : Nat} (F : CallFix p m c cc nL s args lw_all RX1) (hK : hK E A s) (S : hS E A s.heap cb sb w H locs) (hrv : ∃ (b : Bool) (fs : List Value), w.1 a0 = some (b, .inl (12, fs))) (h1 : c1 ≤ w.2.1) (h2 : s1 ≤ w.2.2) (h : hf_J1_removeLast E.2.2 (w.1, c1, s1) a0 Q') (hrc : R.cells = cb) (hrs : R.slots = sb) (hls : ls.size = nL) (hWt : (rest.map fun v => v.category).sum ≤ 8) (hR : 2 + 1 ≤ R.frames ∧ 8 + (2 + 11) + 44 ≤ R.locals) (hdg : decode cc pc = .ok (.invokevirtual 214, 3))
    (kk : ∀ (v : Nat) (o : hO) (w' : hW) (H1 : Heap) (locs1 : List Loc), w' = (o, w.2.1 - c1, w.2.2 - s1) → Q' v o → hS E A s.heap cb sb w' H1 locs1 → W p l e R s m args below meth c H1 locs1 (cb - w'.2.1) (sb - w'.2.2) Q (F0 m (pc + 3) ls (.ref v :: rest))) : W p l e R s m args below meth c H locs (cb - w.2.1) (sb - w.2.2) Q (F0 m pc ls (.ref a0 :: rest)) :=
  h_kp (g_runV F hK (hKm E A) S.1 (hmet_J1_removeLast l E A (w.1, c1, s1) a0 Q' h) (cwV 0 F.2.2.2.2 (lw_V q1337 q1338 q1339 q114 q1340) rfl rfl rfl (by decide +kernel) hR) (h_recv hK S (ci := 12) rfl hrv) rfl hls rfl hWt hdg ⟨by rw [hrc]; exact (h_left S h1 h2).1, by rw [hrs]; exact (h_left S h1 h2).2⟩) S h1 h2 kk
def hf_X1_undo (pl : Nat → Nat) (w : hW) (a0 : Nat) (Q : Int32 → hO → Prop) : Prop :=
  obd (hgP w a0 1 4) fun v1 =>
  obd (hIs w v1 12) fun u3 =>
  hcall w fun n5 n6 => hf_J1_isEmpty pl (w.1, n5, n6) v1 fun v9 o8 => hret w n5 n6 o8 fun w7 =>
  hIf (v9 = 0) (
    obd (hgP w7 a0 1 4) fun v11 =>
    obd (hIs w7 v11 12) fun u13 =>
    hcall w7 fun n15 n16 => hf_J1_removeLast pl (w7.1, n15, n16) v11 fun v19 o18 => hret w7 n15 n16 o18 fun w17 =>
    obd (hIs w17 v19 3) fun u20 =>
    obd (hpV w17 a0 1 3 (.ref v19)) fun w22 =>
    obd (hgP w22 a0 1 4) fun v24 =>
    obd (hIs w22 v24 12) fun u26 =>
    hcall w22 fun n28 n29 => hf_J1_size pl (w22.1, n28, n29) v24 fun v32 o31 => hret w22 n28 n29 o31 fun w30 =>
    Q v32 w30.1) <|
    Q (-1) w7.1
abbrev hrm_X1_undo (c s : Nat) : Room := { frames := 3, cells := c, slots := s, locals := 65 }
set_option maxHeartbeats 4000000 in
set_option maxRecDepth 100000 in
theorem hmet_X1_undo (l : Launch) (E : hEnv) (A : Nat → Prop) (w : hW) (a0 : Nat) (Q : Int32 → hO → Prop) (h : hf_X1_undo E.2.2 w a0 Q) : Met l yX1_undo (ws_ yX1_undo cX1_undo 1 (some .int)) (hrm_X1_undo w.2.1 w.2.2) (va_Pc [.ref a0] (gPre (hK E A) (hP E A w.1))) (hQi E A Q) w.2.1 w.2.2 A := by
  refine h_met (own := RX1) (by decide +kernel) rfl (Nat.le_of_ble_eq_true rfl) ?_
  intro p e s m args below meth c ls cb sb F hr hlk hK S hl
  have hx := F.1
  have hb := F.2.1
  have hl : lv_has ls 1 [(0, .ref a0)] := hl
  unfold hf_X1_undo at h
  refine lv_aload_n hx hb dX1_undo_0 rfl (lv_at hl 0 rfl) ?_
  obtain ⟨v1, e2, h⟩ := obd_inv h
  refine hg_X1_28 F hK S e2 dX1_undo_1 ?_
  obtain ⟨u3, e4, h⟩ := obd_inv h
  obtain ⟨n5, n6, h1, h2, h⟩ := hcall_inv h
  refine hcl_J1_isEmpty_X1_212 F hK S (hIs_inv e4) h1 h2 h rfl rfl hl.1 (Nat.le_of_ble_eq_true rfl) ⟨Nat.le_of_ble_eq_true rfl, Nat.le_of_ble_eq_true rfl⟩ dX1_undo_4 (fun v9 o8 w7 H locs hw h S => ?_)
  replace h := hret_mp h hw
  clear hw h1 h2
  refine lv_if_eq (tgt := 12) hx hb dX1_undo_7 (by decide) (fun c10 => ?_) (fun c10 => ?_)
  · rw [hIf_pos c10] at h
    refine lv_aload_n hx hb dX1_undo_12 rfl (lv_at hl 0 rfl) ?_
    refine lv_aload_n hx hb dX1_undo_13 rfl (lv_at hl 0 rfl) ?_
    obtain ⟨v11, e12, h⟩ := obd_inv h
    refine hg_X1_28 F hK S e12 dX1_undo_14 ?_
    obtain ⟨u13, e14, h⟩ := obd_inv h
    obtain ⟨n15, n16, h1, h2, h⟩ := hcall_inv h
    refine hcl_J1_removeLast_X1_214 F hK S (hIs_inv e14) h1 h2 h rfl rfl hl.1 (Nat.le_of_ble_eq_true rfl) ⟨Nat.le_of_ble_eq_true rfl, Nat.le_of_ble_eq_true rfl⟩ dX1_undo_17 (fun v19 o18 w17 H locs hw h S => ?_)
    replace h := hret_mp h hw
    clear hw h1 h2
    obtain ⟨u20, e21, h⟩ := obd_inv h
    refine h_cast F hK S e21 rfl q226 dX1_undo_20 ?_
    obtain ⟨w22, e23, h⟩ := obd_inv h
    refine hp_X1_47 F hK S e23 dX1_undo_23 (fun H locs S => ?_)
    refine lv_aload_n hx hb dX1_undo_26 rfl (lv_at hl 0 rfl) ?_
    obtain ⟨v24, e25, h⟩ := obd_inv h
    refine hg_X1_28 F hK S e25 dX1_undo_27 ?_
    obtain ⟨u26, e27, h⟩ := obd_inv h
    obtain ⟨n28, n29, h1, h2, h⟩ := hcall_inv h
    refine hcl_J1_size_X1_81 F hK S (hIs_inv e27) h1 h2 h rfl rfl hl.1 (Nat.le_of_ble_eq_true rfl) ⟨Nat.le_of_ble_eq_true rfl, Nat.le_of_ble_eq_true rfl⟩ dX1_undo_30 (fun v32 o31 w30 H locs hw h S => ?_)
    replace h := hret_mp h hw
    clear hw h1 h2
    exact h_iret F hr hlk S h dX1_undo_33
  · rw [hIf_neg c10] at h
    refine lv_iconst (v := (-1)) hx hb dX1_undo_10 (by decide) ?_
    exact h_iret F hr hlk S h dX1_undo_11
theorem hg_X1_19 {p : Program} {l : Launch} {e : Env} {s : State} {m : MethodId} {args : Array Value} {below : List Frame} {meth : Method} {c : Code} {R : Room} {H : Heap} {locs : List Loc} {cb sb pc nL : Nat} {Q : State → Prop} {ls : Array Slot} {rest : List Value} {cc : ByteArray} {E : hEnv} {A : Nat → Prop} {w : hW} {a : Nat} {v : Nat} (F : CallFix p m c cc nL s args lw_all RX1) (hK : hK E A s) (S : hS E A s.heap cb sb w H locs) (h : hgP w a 1 1 = some v) (hdg : decode cc pc = .ok (.getfield 19, 3)) (kk : W p l e R s m args below meth c H locs (cb - w.2.1) (sb - w.2.2) Q (F0 m (pc + 3) ls (.ref v :: rest))) : W p l e R s m args below meth c H locs (cb - w.2.1) (sb - w.2.2) Q (F0 m pc ls (.ref a :: rest)) := by
  obtain ⟨b, fs, ho, hv⟩ := hgP_inv h
  exact h_get F hK S ho (ci := 1) (C := RX1) (T := TX1) (N := 7) (k := 1) rfl in_X1 (by decide) q471 (fun x h => h) hv hdg kk
theorem hg_X1_120 {p : Program} {l : Launch} {e : Env} {s : State} {m : MethodId} {args : Array Value} {below : List Frame} {meth : Method} {c : Code} {R : Room} {H : Heap} {locs : List Loc} {cb sb pc nL : Nat} {Q : State → Prop} {ls : Array Slot} {rest : List Value} {cc : ByteArray} {E : hEnv} {A : Nat → Prop} {w : hW} {a : Nat} {v : Int32} (F : CallFix p m c cc nL s args lw_all RX1) (hK : hK E A s) (S : hS E A s.heap cb sb w H locs) (h : hgI w a 1 2 = some v) (hdg : decode cc pc = .ok (.getfield 120, 3)) (kk : W p l e R s m args below meth c H locs (cb - w.2.1) (sb - w.2.2) Q (F0 m (pc + 3) ls (.int v :: rest))) : W p l e R s m args below meth c H locs (cb - w.2.1) (sb - w.2.2) Q (F0 m pc ls (.ref a :: rest)) := by
  obtain ⟨b, fs, ho, hv⟩ := hgI_inv h
  exact h_get F hK S ho (ci := 1) (C := RX1) (T := TX1) (N := 7) (k := 2) rfl in_X1 (by decide) q472 (fun x h => h) hv hdg kk
theorem hp_X1_120 {p : Program} {l : Launch} {e : Env} {s : State} {m : MethodId} {args : Array Value} {below : List Frame} {meth : Method} {c : Code} {R : Room} {H : Heap} {locs : List Loc} {cb sb pc nL : Nat} {Q : State → Prop} {ls : Array Slot} {rest : List Value} {cc : ByteArray} {E : hEnv} {A : Nat → Prop} {w : hW} {a : Nat} {w' : hW} {v : Int32} (F : CallFix p m c cc nL s args lw_all RX1) (hK : hK E A s) (S : hS E A s.heap cb sb w H locs) (h : hpV w a 1 2 (.int v) = some w') (hdg : decode cc pc = .ok (.putfield 120, 3)) (kk : ∀ (H1 : Heap) (locs1 : List Loc), hS E A s.heap cb sb w' H1 locs1 → W p l e R s m args below meth c H1 locs1 (cb - w'.2.1) (sb - w'.2.2) Q (F0 m (pc + 3) ls rest)) : W p l e R s m args below meth c H locs (cb - w.2.1) (sb - w.2.2) Q (F0 m pc ls (.int v :: .ref a :: rest)) :=
  h_put F hK S h (ci := 1) (C := RX1) (T := TX1) (N := 7) (k := 2) rfl in_X1 tyX1 tyX1_ok nmX1 (by decide) q472 (fun x h => h) rfl (ty := .int) (by decide +kernel) rfl rfl hdg kk
def hL_X1_put_1 (pl : Nat → Nat) (Q : hO → Prop) (K : hW → Prop) (y0 : Nat) (y1 : Int32) : Nat → hW → Int32 → Prop
  | 0, _, _ => False
  | n + 1, w, y2 =>
    hIf (y2 < 0) (
      K w) <|
      obd (hgP w y0 1 1) fun v2 =>
      obd (hgI w y0 1 2) fun v4 =>
      obd (hsB w v2 v4 ((y1 >>> (y2 &&& 31)).toInt8.toInt32)) fun w6 =>
      obd (hgI w6 y0 1 2) fun v8 =>
      obd (hpV w6 y0 1 2 (.int (v8 + 1))) fun w10 =>
      hL_X1_put_1 pl Q K y0 y1 n w10 (y2 + (-8))
def hf_X1_put (pl : Nat → Nat) (w : hW) (a0 : Nat) (x1 : Int32) (Q : hO → Prop) : Prop :=
  hL_X1_put_1 pl Q (fun (w12 : hW) =>
    Q w12.1) a0 x1 FUEL w 24
abbrev hrm_X1_put (c s : Nat) : Room := { frames := 0, cells := c, slots := s, locals := 0 }
set_option maxHeartbeats 4000000 in
set_option maxRecDepth 100000 in
theorem hloop_X1_put_1 {p : Program} {l : Launch} {e : Env} {s : State} {m : MethodId} {args : Array Value} {below : List Frame} {meth : Method} {c : Code} {cb sb : Nat} {E : hEnv} {A : Nat → Prop} {Q : hO → Prop} {K : hW → Prop} {y0 : Nat} {y1 : Int32} (F : CallFix p m c cX1_put 3 s args lw_all RX1) (hr : meth.sig.returnType = none) (hlk : meth.locks = false) (hK : hK E A s) : ∀ (n : Nat) (w : hW) (y2 : Int32), hL_X1_put_1 E.2.2 Q K y0 y1 n w y2 → ∀ (H : Heap) (locs : List Loc) (ls : Array Slot), hS E A s.heap cb sb w H locs → lv_has ls 3 [(0, .ref y0), (1, .int y1), (2, .int y2)] → (∀ (wz : hW) (H : Heap) (locs : List Loc) (ls : Array Slot), K wz → hS E A s.heap cb sb wz H locs → lv_has ls 3 [] → W p l e (hrm_X1_put cb sb) s m args below meth c H locs (cb - wz.2.1) (sb - wz.2.2) (MQ below (hQv E A Q) args s cb sb A) (F0 m 36 ls [])) → W p l e (hrm_X1_put cb sb) s m args below meth c H locs (cb - w.2.1) (sb - w.2.2) (MQ below (hQv E A Q) args s cb sb A) (F0 m 3 ls []) := by
  have hx := F.1
  have hb := F.2.1
  intro n
  induction n with
  | zero =>
    intro w y2 h
    exact False.elim h
  | succ n ih =>
    intro w y2 h H locs ls S hl kx
    rw [hL_X1_put_1] at h
    refine lv_iload_n hx hb dX1_put_3 rfl (lv_at hl 2 rfl) ?_
    refine lv_if_lt (tgt := 36) hx hb dX1_put_4 (by decide) (fun c1 => ?_) (fun c1 => ?_)
    · rw [hIf_pos c1] at h
      exact kx _ _ _ _ h S (lv_sub hl [] rfl)
    · rw [hIf_neg c1] at h
      refine lv_aload_n hx hb dX1_put_7 rfl (lv_at hl 0 rfl) ?_
      obtain ⟨v2, e3, h⟩ := obd_inv h
      refine hg_X1_19 F hK S e3 dX1_put_8 ?_
      refine lv_aload_n hx hb dX1_put_11 rfl (lv_at hl 0 rfl) ?_
      obtain ⟨v4, e5, h⟩ := obd_inv h
      refine hg_X1_120 F hK S e5 dX1_put_12 ?_
      refine lv_iload_n hx hb dX1_put_15 rfl (lv_at hl 1 rfl) ?_
      refine lv_iload_n hx hb dX1_put_16 rfl (lv_at hl 2 rfl) ?_
      refine lv_ishr hx hb dX1_put_17 ?_
      refine lv_i2b hx hb dX1_put_18 rfl ?_
      obtain ⟨w6, e7, h⟩ := obd_inv h
      refine h_bast F hK S e7 dX1_put_19 (fun H locs S => ?_)
      refine lv_aload_n hx hb dX1_put_20 rfl (lv_at hl 0 rfl) ?_
      refine lv_dup hx hb dX1_put_21 rfl ?_
      obtain ⟨v8, e9, h⟩ := obd_inv h
      refine hg_X1_120 F hK S e9 dX1_put_22 ?_
      refine lv_iconst (v := 1) hx hb dX1_put_25 (by decide) ?_
      refine lv_iadd hx hb dX1_put_26 ?_
      obtain ⟨w10, e11, h⟩ := obd_inv h
      refine hp_X1_120 F hK S e11 dX1_put_27 (fun H locs S => ?_)
      refine lv_iinc (v := (y2 + (-8))) (lv' := [(2, .int (y2 + (-8))), (0, .ref y0), (1, .int y1)]) hx hb dX1_put_30 hl (k := 2) rfl rfl (by decide) rfl (fun ls hl => ?_)
      refine lv_goto (tgt := 3) hx hb dX1_put_33 (by decide) ?_
      exact ih _ _ h _ _ _ S (lv_sub hl [1, 2, 0] rfl) kx
set_option maxHeartbeats 4000000 in
set_option maxRecDepth 100000 in
theorem hmet_X1_put (l : Launch) (E : hEnv) (A : Nat → Prop) (w : hW) (a0 : Nat) (x1 : Int32) (Q : hO → Prop) (h : hf_X1_put E.2.2 w a0 x1 Q) : Met l yX1_put (ws_ yX1_put cX1_put 3 (none)) (hrm_X1_put w.2.1 w.2.2) (va_Pc [.ref a0, .int x1] (gPre (hK E A) (hP E A w.1))) (hQv E A Q) w.2.1 w.2.2 A := by
  refine h_met (own := RX1) (by decide +kernel) rfl (Nat.le_of_ble_eq_true rfl) ?_
  intro p e s m args below meth c ls cb sb F hr hlk hK S hl
  have hx := F.1
  have hb := F.2.1
  have hl : lv_has ls 3 [(0, .ref a0), (1, .int x1)] := hl
  unfold hf_X1_put at h
  refine lv_bipush (v := 24) hx hb dX1_put_0 (by decide) ?_
  refine lv_istore_n (lv' := [(2, .int 24), (0, .ref a0), (1, .int x1)]) hx hb dX1_put_2 rfl hl (by decide) rfl (fun ls hl => ?_)
  refine hloop_X1_put_1 F hr hlk hK _ _ _ h _ _ _ S (lv_sub hl [1, 2, 0] rfl) (fun w12 H locs ls h S hl => ?_)
  exact h_vret F hr hlk S h dX1_put_36
theorem hcl_X1_put_X1_220 {p : Program} {l : Launch} {e : Env} {s : State} {m : MethodId} {args : Array Value} {below : List Frame} {meth : Method} {c : Code} {R : Room} {H : Heap} {locs : List Loc} {cb sb pc nL : Nat} {Q : State → Prop} {ls : Array Slot} {rest : List Value} {cc : ByteArray} {E : hEnv} {A : Nat → Prop} {w : hW} {a0 : Nat} {x1 : Int32} {Q' : hO → Prop} {c1 s1 : Nat} (F : CallFix p m c cc nL s args lw_all RX1) (hK : hK E A s) (S : hS E A s.heap cb sb w H locs) (hrv : ∃ (b : Bool) (fs : List Value), w.1 a0 = some (b, .inl (1, fs))) (h1 : c1 ≤ w.2.1) (h2 : s1 ≤ w.2.2) (h : hf_X1_put E.2.2 (w.1, c1, s1) a0 x1 Q') (hrc : R.cells = cb) (hrs : R.slots = sb) (hls : ls.size = nL) (hWt : (rest.map fun v => v.category).sum ≤ 8) (hR : 0 + 1 ≤ R.frames ∧ 8 + (3 + 11) + 0 ≤ R.locals) (hdg : decode cc pc = .ok (.invokevirtual 220, 3))
    (kk : ∀ (o : hO) (w' : hW) (H1 : Heap) (locs1 : List Loc), w' = (o, w.2.1 - c1, w.2.2 - s1) → Q' o → hS E A s.heap cb sb w' H1 locs1 → W p l e R s m args below meth c H1 locs1 (cb - w'.2.1) (sb - w'.2.2) Q (F0 m (pc + 3) ls (rest))) : W p l e R s m args below meth c H locs (cb - w.2.1) (sb - w.2.2) Q (F0 m pc ls (.int x1 :: .ref a0 :: rest)) :=
  h_kv (g_runV F hK (hKm E A) S.1 (hmet_X1_put l E A (w.1, c1, s1) a0 x1 Q' h) (cwV 1 F.2.2.2.2 (lw_V q1352 q1354 qs28 q111 q1355) rfl rfl rfl (by decide +kernel) hR) (h_recv hK S (ci := 1) rfl hrv) rfl hls rfl hWt hdg ⟨by rw [hrc]; exact (h_left S h1 h2).1, by rw [hrs]; exact (h_left S h1 h2).2⟩) S h1 h2 kk
def hf_X1_append (pl : Nat → Nat) (w : hW) (a0 : Nat) (x1 : Int32) (x2 : Int32) (x3 : Int32) (x4 : Int32) (x5 : Int32) (Q : Int32 → hO → Prop) : Prop :=
  obd (hgI w a0 1 2) fun v1 =>
  hIf ((v1 + 20) ≤ 600) (
    obd (hIs w a0 1) fun u4 =>
    hcall w fun n6 n7 => hf_X1_put pl (w.1, n6, n7) a0 x1 fun o9 => hret w n6 n7 o9 fun w8 =>
    obd (hIs w8 a0 1) fun u10 =>
    hcall w8 fun n12 n13 => hf_X1_put pl (w8.1, n12, n13) a0 x2 fun o15 => hret w8 n12 n13 o15 fun w14 =>
    obd (hIs w14 a0 1) fun u16 =>
    hcall w14 fun n18 n19 => hf_X1_put pl (w14.1, n18, n19) a0 x3 fun o21 => hret w14 n18 n19 o21 fun w20 =>
    obd (hIs w20 a0 1) fun u22 =>
    hcall w20 fun n24 n25 => hf_X1_put pl (w20.1, n24, n25) a0 x4 fun o27 => hret w20 n24 n25 o27 fun w26 =>
    obd (hIs w26 a0 1) fun u28 =>
    hcall w26 fun n30 n31 => hf_X1_put pl (w26.1, n30, n31) a0 x5 fun o33 => hret w26 n30 n31 o33 fun w32 =>
    obd (hgI w32 a0 1 2) fun v34 =>
    Q v34 w32.1) <|
    Q (-20) w.1
abbrev hrm_X1_append (c s : Nat) : Room := { frames := 1, cells := c, slots := s, locals := 22 }
set_option maxHeartbeats 4000000 in
set_option maxRecDepth 100000 in
theorem hmet_X1_append (l : Launch) (E : hEnv) (A : Nat → Prop) (w : hW) (a0 : Nat) (x1 : Int32) (x2 : Int32) (x3 : Int32) (x4 : Int32) (x5 : Int32) (Q : Int32 → hO → Prop) (h : hf_X1_append E.2.2 w a0 x1 x2 x3 x4 x5 Q) : Met l yX1_append (ws_ yX1_append cX1_append 6 (some .int)) (hrm_X1_append w.2.1 w.2.2) (va_Pc [.ref a0, .int x1, .int x2, .int x3, .int x4, .int x5] (gPre (hK E A) (hP E A w.1))) (hQi E A Q) w.2.1 w.2.2 A := by
  refine h_met (own := RX1) (by decide +kernel) rfl (Nat.le_of_ble_eq_true rfl) ?_
  intro p e s m args below meth c ls cb sb F hr hlk hK S hl
  have hx := F.1
  have hb := F.2.1
  have hl : lv_has ls 6 [(0, .ref a0), (1, .int x1), (2, .int x2), (3, .int x3), (4, .int x4), (5, .int x5)] := hl
  unfold hf_X1_append at h
  refine lv_aload_n hx hb dX1_append_0 rfl (lv_at hl 0 rfl) ?_
  obtain ⟨v1, e2, h⟩ := obd_inv h
  refine hg_X1_120 F hK S e2 dX1_append_1 ?_
  refine lv_bipush (v := 20) hx hb dX1_append_4 (by decide) ?_
  refine lv_iadd hx hb dX1_append_6 ?_
  refine lv_sipush (v := 600) hx hb dX1_append_7 (by decide) ?_
  refine lv_icmp_le (tgt := 16) hx hb dX1_append_10 (by decide) (fun c3 => ?_) (fun c3 => ?_)
  · rw [hIf_pos c3] at h
    refine lv_aload_n hx hb dX1_append_16 rfl (lv_at hl 0 rfl) ?_
    refine lv_iload_n hx hb dX1_append_17 rfl (lv_at hl 1 rfl) ?_
    obtain ⟨u4, e5, h⟩ := obd_inv h
    obtain ⟨n6, n7, h1, h2, h⟩ := hcall_inv h
    refine hcl_X1_put_X1_220 F hK S (hIs_inv e5) h1 h2 h rfl rfl hl.1 (Nat.le_of_ble_eq_true rfl) ⟨Nat.le_of_ble_eq_true rfl, Nat.le_of_ble_eq_true rfl⟩ dX1_append_18 (fun o9 w8 H locs hw h S => ?_)
    replace h := hret_mp h hw
    clear hw h1 h2
    refine lv_aload_n hx hb dX1_append_21 rfl (lv_at hl 0 rfl) ?_
    refine lv_iload_n hx hb dX1_append_22 rfl (lv_at hl 2 rfl) ?_
    obtain ⟨u10, e11, h⟩ := obd_inv h
    obtain ⟨n12, n13, h1, h2, h⟩ := hcall_inv h
    refine hcl_X1_put_X1_220 F hK S (hIs_inv e11) h1 h2 h rfl rfl hl.1 (Nat.le_of_ble_eq_true rfl) ⟨Nat.le_of_ble_eq_true rfl, Nat.le_of_ble_eq_true rfl⟩ dX1_append_23 (fun o15 w14 H locs hw h S => ?_)
    replace h := hret_mp h hw
    clear hw h1 h2
    refine lv_aload_n hx hb dX1_append_26 rfl (lv_at hl 0 rfl) ?_
    refine lv_iload_n hx hb dX1_append_27 rfl (lv_at hl 3 rfl) ?_
    obtain ⟨u16, e17, h⟩ := obd_inv h
    obtain ⟨n18, n19, h1, h2, h⟩ := hcall_inv h
    refine hcl_X1_put_X1_220 F hK S (hIs_inv e17) h1 h2 h rfl rfl hl.1 (Nat.le_of_ble_eq_true rfl) ⟨Nat.le_of_ble_eq_true rfl, Nat.le_of_ble_eq_true rfl⟩ dX1_append_28 (fun o21 w20 H locs hw h S => ?_)
    replace h := hret_mp h hw
    clear hw h1 h2
    refine lv_aload_n hx hb dX1_append_31 rfl (lv_at hl 0 rfl) ?_
    refine lv_iload hx hb dX1_append_32 (lv_at hl 4 rfl) ?_
    obtain ⟨u22, e23, h⟩ := obd_inv h
    obtain ⟨n24, n25, h1, h2, h⟩ := hcall_inv h
    refine hcl_X1_put_X1_220 F hK S (hIs_inv e23) h1 h2 h rfl rfl hl.1 (Nat.le_of_ble_eq_true rfl) ⟨Nat.le_of_ble_eq_true rfl, Nat.le_of_ble_eq_true rfl⟩ dX1_append_34 (fun o27 w26 H locs hw h S => ?_)
    replace h := hret_mp h hw
    clear hw h1 h2
    refine lv_aload_n hx hb dX1_append_37 rfl (lv_at hl 0 rfl) ?_
    refine lv_iload hx hb dX1_append_38 (lv_at hl 5 rfl) ?_
    obtain ⟨u28, e29, h⟩ := obd_inv h
    obtain ⟨n30, n31, h1, h2, h⟩ := hcall_inv h
    refine hcl_X1_put_X1_220 F hK S (hIs_inv e29) h1 h2 h rfl rfl hl.1 (Nat.le_of_ble_eq_true rfl) ⟨Nat.le_of_ble_eq_true rfl, Nat.le_of_ble_eq_true rfl⟩ dX1_append_40 (fun o33 w32 H locs hw h S => ?_)
    replace h := hret_mp h hw
    clear hw h1 h2
    refine lv_aload_n hx hb dX1_append_43 rfl (lv_at hl 0 rfl) ?_
    obtain ⟨v34, e35, h⟩ := obd_inv h
    refine hg_X1_120 F hK S e35 dX1_append_44 ?_
    exact h_iret F hr hlk S h dX1_append_47
  · rw [hIf_neg c3] at h
    refine lv_bipush (v := (-20)) hx hb dX1_append_13 (by decide) ?_
    exact h_iret F hr hlk S h dX1_append_15
theorem hpc_X3_ray_X1_240 {p : Program} {l : Launch} {e : Env} {s : State} {m : MethodId} {args : Array Value} {below : List Frame} {meth : Method} {c : Code} {R : Room} {H : Heap} {locs : List Loc} {cb sb pc nL : Nat} {Q : State → Prop} {ls : Array Slot} {rest : List Value} {cc : ByteArray} {E : hEnv} {A : Nat → Prop} {w : hW} {d : hD} {g : mS} {a : Nat} {r : mS} (F : CallFix p m c cc nL s args lw_all RX1) (hK : hK E A s) (S : hS E A s.heap cb sb w H locs) (hr : hRel d g w.1) (hd : d.1 100 = a) (h : fc_X3_ray g 100 = some r) (hrc : R.cells = cb) (hrs : R.slots = sb) (hls : ls.size = nL) (hWt : (rest.map fun v => v.category).sum ≤ 8) (hR : rm_c_X3_ray.frames + 1 ≤ R.frames ∧ 8 + (1 + 11) + rm_c_X3_ray.locals ≤ R.locals) (hdg : decode cc pc = .ok (.invokevirtual 240, 3))
    (kk : ∀ (w' : hW) (H1 : Heap) (locs1 : List Loc), w' = (hPut d r w.1, w.2) → hRel d r (hPut d r w.1) → hS E A s.heap cb sb w' H1 locs1 → W p l e R s m args below meth c H1 locs1 (cb - w'.2.1) (sb - w'.2.2) Q (F0 m (pc + 3) ls (.ref (d.1 0) :: rest))) : W p l e R s m args below meth c H locs (cb - w.2.1) (sb - w.2.2) Q (F0 m pc ls (.ref a :: rest)) := by
  subst hd
  exact hb_kr hK S hr (va_runV (g := F0 m pc ls _) F (met_c_X3_ray l (hDE E d g H.size) g 100 hOk100 r h) (cwV 0 F.2.2.2.2 (lw_V q1360 q376 q377 q115 q378) rfl rfl rfl (by decide +kernel) hR) ⟨gBlind (cKm (hDE E d g H.size)), h_recv hK S (ci := 3) rfl (hRel_w hr), fun U hU hW => ⟨rfl, hB_pre hK S hr U hU hW⟩⟩ rfl rfl hls rfl (lv_room hWt) hdg ⟨by rw [hrc]; exact Nat.sub_le _ _, by rw [hrs]; exact Nat.sub_le _ _⟩) kk
theorem hpc_X2_lights_X1_243 {p : Program} {l : Launch} {e : Env} {s : State} {m : MethodId} {args : Array Value} {below : List Frame} {meth : Method} {c : Code} {R : Room} {H : Heap} {locs : List Loc} {cb sb pc nL : Nat} {Q : State → Prop} {ls : Array Slot} {rest : List Value} {cc : ByteArray} {E : hEnv} {A : Nat → Prop} {w : hW} {d : hD} {g : mS} {a : Nat} {x1 : Int32} {r : Int32} (F : CallFix p m c cc nL s args lw_all RX1) (hK : hK E A s) (S : hS E A s.heap cb sb w H locs) (hr : hRel d g w.1) (hd : d.1 0 = a) (h : fc_X2_lights g x1 = some r) (hrc : R.cells = cb) (hrs : R.slots = sb) (hls : ls.size = nL) (hWt : (rest.map fun v => v.category).sum ≤ 8) (hR : rm_c_X2_lights.frames + 1 ≤ R.frames ∧ 8 + (4 + 11) + rm_c_X2_lights.locals ≤ R.locals) (hdg : decode cc pc = .ok (.invokevirtual 243, 3))
    (kk : ∀ (H1 : Heap) (locs1 : List Loc), hS E A s.heap cb sb w H1 locs1 → W p l e R s m args below meth c H1 locs1 (cb - w.2.1) (sb - w.2.2) Q (F0 m (pc + 3) ls (.int r :: rest))) : W p l e R s m args below meth c H locs (cb - w.2.1) (sb - w.2.2) Q (F0 m pc ls (.int x1 :: .ref a :: rest)) := by
  subst hd
  refine hb_ki hK S hr (gZ := g) (va_runV (g := F0 m pc ls _) F (met_c_X2_lights l (hDE E d g H.size) g x1 r h) (cwV 1 F.2.2.2.2 (lw_V q1383 q465 q466 q112 q467) rfl rfl rfl (by decide +kernel) hR) ⟨gBlind (cKm (hDE E d g H.size)), h_recv hK S (ci := 2) rfl (hRel_ray hr), fun U hU hW => ⟨rfl, hB_pre hK S hr U hU hW⟩⟩ rfl rfl hls rfl (lv_room hWt) hdg ⟨by rw [hrc]; exact Nat.sub_le _ _, by rw [hrs]; exact Nat.sub_le _ _⟩) (fun w' H1 locs1 hw _ S1 => ?_)
  rw [hPut_self hr] at hw
  subst hw
  exact kk H1 locs1 S1
def hf_X1_beamsAt (pl : Nat → Nat) (w : hW) (a0 : Nat) (x1 : Int32) (Q : Int32 → hO → Prop) : Prop :=
  obd (hgP w a0 1 3) fun v1 =>
  ∃ (d3 : hD) (g4 : mS), hRel d3 g4 w.1 ∧ d3.1 100 = v1 ∧ obd (fc_X3_ray g4 100) fun v7 => hpret w d3 v7 fun w5 =>
  ∃ (d8 : hD) (g9 : mS), hRel d8 g9 w5.1 ∧ d8.1 0 = (d3.1 0) ∧ obd (fc_X2_lights g9 x1) fun v12 =>
  obd (fp_bitCount g00 v12) fun v13 =>
  Q v13 w5.1
abbrev hrm_X1_beamsAt (c s : Nat) : Room := { frames := 7, cells := c, slots := s, locals := 155 }
set_option maxHeartbeats 4000000 in
set_option maxRecDepth 100000 in
theorem hmet_X1_beamsAt (l : Launch) (E : hEnv) (A : Nat → Prop) (w : hW) (a0 : Nat) (x1 : Int32) (Q : Int32 → hO → Prop) (h : hf_X1_beamsAt E.2.2 w a0 x1 Q) : Met l yX1_beamsAt (ws_ yX1_beamsAt cX1_beamsAt 2 (some .int)) (hrm_X1_beamsAt w.2.1 w.2.2) (va_Pc [.ref a0, .int x1] (gPre (hK E A) (hP E A w.1))) (hQi E A Q) w.2.1 w.2.2 A := by
  refine h_met (own := RX1) (by decide +kernel) rfl (Nat.le_of_ble_eq_true rfl) ?_
  intro p e s m args below meth c ls cb sb F hr hlk hK S hl
  have hx := F.1
  have hb := F.2.1
  have hl : lv_has ls 2 [(0, .ref a0), (1, .int x1)] := hl
  unfold hf_X1_beamsAt at h
  refine lv_aload_n hx hb dX1_beamsAt_0 rfl (lv_at hl 0 rfl) ?_
  obtain ⟨v1, e2, h⟩ := obd_inv h
  refine hg_X1_47 F hK S e2 dX1_beamsAt_1 ?_
  obtain ⟨d3, g4, hrl, hdl, h⟩ := h
  obtain ⟨v7, e6, h⟩ := obd_inv h
  refine hpc_X3_ray_X1_240 F hK S hrl hdl e6 rfl rfl hl.1 (Nat.le_of_ble_eq_true rfl) ⟨Nat.le_of_ble_eq_true rfl, Nat.le_of_ble_eq_true rfl⟩ dX1_beamsAt_4 (fun w5 H locs hw hz S => ?_)
  replace h := hpret_mp h hw hz
  clear hw hz
  refine lv_iload_n hx hb dX1_beamsAt_7 rfl (lv_at hl 1 rfl) ?_
  obtain ⟨d8, g9, hrl, hdl, h⟩ := h
  obtain ⟨v12, e11, h⟩ := obd_inv h
  refine hpc_X2_lights_X1_243 F hK S hrl hdl e11 rfl rfl hl.1 (Nat.le_of_ble_eq_true rfl) ⟨Nat.le_of_ble_eq_true rfl, Nat.le_of_ble_eq_true rfl⟩ dX1_beamsAt_8 (fun H locs S => ?_)
  obtain ⟨v13, e14, h⟩ := obd_inv h
  refine call_p_bitCount_X1_253 (hKm E A) F hK S.1 e14 hl.1 (Nat.le_of_ble_eq_true rfl) ⟨Nat.le_of_ble_eq_true rfl, Nat.le_of_ble_eq_true rfl⟩ ⟨Nat.sub_le _ _, Nat.sub_le _ _⟩ dX1_beamsAt_11 (fun H1 locs1 S1 => ?_)
  have S : hS E A s.heap _ _ _ _ _ := ⟨S1, S.2⟩
  exact h_iret F hr hlk S h dX1_beamsAt_14
def hL_X1_lit_1 (pl : Nat → Nat) (Q : Int32 → hO → Prop) (K : Int32 → hW → Prop) (y0 : Nat) (y1 : Int32) (y3 : Nat) (y4 : Int32) : Nat → hW → Int32 → Int32 → Prop
  | 0, _, _, _ => False
  | n + 1, w, y2, y5 =>
    hIf (y4 ≤ y5) (
      K y2 w) <|
      obd (haP w y3 y5) fun v15 =>
      obd (hgP w y0 1 0) fun v17 =>
      obd (hgC w v15) fun v19 =>
      ∃ (d21 : hD) (g22 : mS), hRel d21 g22 w.1 ∧ d21.1 0 = v17 ∧ obd (fc_X2_lights g22 v19) fun v25 =>
      hjoin (fun (v31 : Int32) =>
        hL_X1_lit_1 pl Q K y0 y1 y3 y4 n w (y2 + v31) (y5 + 1)) fun k33 =>
      hIf (v25 = 0) (
        k33 0) <|
        hIf (y1 = 0) (
          k33 1) <|
          obd (hInst 6 w v15) fun v28 =>
          hIf (v28 = 0) (
            k33 0) <|
            k33 1
def hf_X1_lit (pl : Nat → Nat) (w : hW) (a0 : Nat) (x1 : Int32) (Q : Int32 → hO → Prop) : Prop :=
  obd (hgP w a0 1 3) fun v1 =>
  ∃ (d3 : hD) (g4 : mS), hRel d3 g4 w.1 ∧ d3.1 100 = v1 ∧ obd (fc_X3_ray g4 100) fun v7 => hpret w d3 v7 fun w5 =>
  obd (hgP w5 a0 1 3) fun v8 =>
  obd (hgP w5 v8 3 3) fun v10 =>
  obd (hLen w5 v10) fun v12 =>
  hL_X1_lit_1 pl Q (fun (v34 : Int32) (w35 : hW) =>
    Q v34 w35.1) a0 x1 v10 v12 FUEL w5 0 0
abbrev hrm_X1_lit (c s : Nat) : Room := { frames := 7, cells := c, slots := s, locals := 155 }
set_option maxHeartbeats 4000000 in
set_option maxRecDepth 100000 in
theorem hloop_X1_lit_1 {p : Program} {l : Launch} {e : Env} {s : State} {m : MethodId} {args : Array Value} {below : List Frame} {meth : Method} {c : Code} {cb sb : Nat} {E : hEnv} {A : Nat → Prop} {Q : Int32 → hO → Prop} {K : Int32 → hW → Prop} {y0 : Nat} {y1 : Int32} {y3 : Nat} {y4 : Int32} (F : CallFix p m c cX1_lit 7 s args lw_all RX1) (hr : meth.sig.returnType = some .int) (hlk : meth.locks = false) (hK : hK E A s) : ∀ (n : Nat) (w : hW) (y2 : Int32) (y5 : Int32), hL_X1_lit_1 E.2.2 Q K y0 y1 y3 y4 n w y2 y5 → ∀ (H : Heap) (locs : List Loc) (ls : Array Slot), hS E A s.heap cb sb w H locs → lv_has ls 7 [(0, .ref y0), (1, .int y1), (2, .int y2), (3, .ref y3), (4, .int y4), (5, .int y5)] → (∀ (z2 : Int32) (wz : hW) (H : Heap) (locs : List Loc) (ls : Array Slot), K z2 wz → hS E A s.heap cb sb wz H locs → lv_has ls 7 [(2, .int z2)] → W p l e (hrm_X1_lit cb sb) s m args below meth c H locs (cb - wz.2.1) (sb - wz.2.2) (MQ below (hQi E A Q) args s cb sb A) (F0 m 79 ls [])) → W p l e (hrm_X1_lit cb sb) s m args below meth c H locs (cb - w.2.1) (sb - w.2.2) (MQ below (hQi E A Q) args s cb sb A) (F0 m 25 ls []) := by
  have hx := F.1
  have hb := F.2.1
  intro n
  induction n with
  | zero =>
    intro w y2 y5 h
    exact False.elim h
  | succ n ih =>
    intro w y2 y5 h H locs ls S hl kx
    rw [hL_X1_lit_1] at h
    refine lv_iload hx hb dX1_lit_25 (lv_at hl 5 rfl) ?_
    refine lv_iload hx hb dX1_lit_27 (lv_at hl 4 rfl) ?_
    refine lv_icmp_ge (tgt := 79) hx hb dX1_lit_29 (by decide) (fun c14 => ?_) (fun c14 => ?_)
    · rw [hIf_pos c14] at h
      exact kx _ _ _ _ _ h S (lv_sub hl [2] rfl)
    · rw [hIf_neg c14] at h
      refine lv_aload_n hx hb dX1_lit_32 rfl (lv_at hl 3 rfl) ?_
      refine lv_iload hx hb dX1_lit_33 (lv_at hl 5 rfl) ?_
      obtain ⟨v15, e16, h⟩ := obd_inv h
      refine h_aald F hK S e16 dX1_lit_35 ?_
      refine lv_astore (lv' := [(6, .ref v15), (0, .ref y0), (1, .int y1), (2, .int y2), (3, .ref y3), (4, .int y4), (5, .int y5)]) hx hb dX1_lit_36 hl (by decide) rfl (fun ls hl => ?_)
      refine lv_iload_n hx hb dX1_lit_38 rfl (lv_at hl 3 rfl) ?_
      refine lv_aload_n hx hb dX1_lit_39 rfl (lv_at hl 1 rfl) ?_
      obtain ⟨v17, e18, h⟩ := obd_inv h
      refine hg_X1_13 F hK S e18 dX1_lit_40 ?_
      refine lv_aload hx hb dX1_lit_43 (lv_at hl 0 rfl) ?_
      obtain ⟨v19, e20, h⟩ := obd_inv h
      refine hg_X1_78 F hK S e20 dX1_lit_45 ?_
      obtain ⟨d21, g22, hrl, hdl, h⟩ := h
      obtain ⟨v25, e24, h⟩ := obd_inv h
      refine hpc_X2_lights_X1_243 F hK S hrl hdl e24 rfl rfl hl.1 (Nat.le_of_ble_eq_true rfl) ⟨Nat.le_of_ble_eq_true rfl, Nat.le_of_ble_eq_true rfl⟩ dX1_lit_48 (fun H locs S => ?_)
      obtain ⟨k33, hk33, h⟩ := hj1_inv h
      have hJ71 : ∀ (v31 : Int32) (H : Heap) (locs : List Loc) (ls : Array Slot), k33 v31 → hS E A s.heap cb sb w H locs → lv_has ls 7 [(0, .ref y0), (1, .int y1), (3, .ref y3), (4, .int y4), (5, .int y5)] → W p l e (hrm_X1_lit cb sb) s m args below meth c H locs (cb - w.2.1) (sb - w.2.2) (MQ below (hQi E A Q) args s cb sb A) (F0 m 71 ls [.int v31, .int y2]) := by
        intro v31 H locs ls h S hl
        replace h := hk33 _ h
        refine lv_iadd hx hb dX1_lit_71 ?_
        refine lv_istore_n (lv' := [(2, .int (y2 + v31)), (0, .ref y0), (1, .int y1), (3, .ref y3), (4, .int y4), (5, .int y5)]) hx hb dX1_lit_72 rfl hl (by decide) rfl (fun ls hl => ?_)
        refine lv_iinc (v := (y5 + 1)) (lv' := [(5, .int (y5 + 1)), (2, .int (y2 + v31)), (0, .ref y0), (1, .int y1), (3, .ref y3), (4, .int y4)]) hx hb dX1_lit_73 hl (k := 5) rfl rfl (by decide) rfl (fun ls hl => ?_)
        refine lv_goto (tgt := 25) hx hb dX1_lit_76 (by decide) ?_
        exact ih _ _ _ h _ _ _ S (lv_sub hl [2, 3, 1, 4, 5, 0] rfl) kx
      clear hk33
      refine lv_if_eq (tgt := 70) hx hb dX1_lit_51 (by decide) (fun c26 => ?_) (fun c26 => ?_)
      · rw [hIf_pos c26] at h
        refine lv_iconst (v := 0) hx hb dX1_lit_70 (by decide) ?_
        exact hJ71 _ _ _ _ h S (lv_sub hl [1, 2, 4, 5, 6] rfl)
      · rw [hIf_neg c26] at h
        refine lv_iload_n hx hb dX1_lit_54 rfl (lv_at hl 2 rfl) ?_
        refine lv_if_eq (tgt := 66) hx hb dX1_lit_55 (by decide) (fun c27 => ?_) (fun c27 => ?_)
        · rw [hIf_pos c27] at h
          refine lv_iconst (v := 1) hx hb dX1_lit_66 (by decide) ?_
          refine lv_goto (tgt := 71) hx hb dX1_lit_67 (by decide) ?_
          exact hJ71 _ _ _ _ h S (lv_sub hl [1, 2, 4, 5, 6] rfl)
        · rw [hIf_neg c27] at h
          refine lv_aload hx hb dX1_lit_58 (lv_at hl 0 rfl) ?_
          obtain ⟨v28, e29, h⟩ := obd_inv h
          refine h_inst6 F hK S e29 q318 dX1_lit_60 ?_
          refine lv_if_eq (tgt := 70) hx hb dX1_lit_63 (by decide) (fun c30 => ?_) (fun c30 => ?_)
          · rw [hIf_pos c30] at h
            refine lv_iconst (v := 0) hx hb dX1_lit_70 (by decide) ?_
            exact hJ71 _ _ _ _ h S (lv_sub hl [1, 2, 4, 5, 6] rfl)
          · rw [hIf_neg c30] at h
            refine lv_iconst (v := 1) hx hb dX1_lit_66 (by decide) ?_
            refine lv_goto (tgt := 71) hx hb dX1_lit_67 (by decide) ?_
            exact hJ71 _ _ _ _ h S (lv_sub hl [1, 2, 4, 5, 6] rfl)
set_option maxHeartbeats 4000000 in
set_option maxRecDepth 100000 in
theorem hmet_X1_lit (l : Launch) (E : hEnv) (A : Nat → Prop) (w : hW) (a0 : Nat) (x1 : Int32) (Q : Int32 → hO → Prop) (h : hf_X1_lit E.2.2 w a0 x1 Q) : Met l yX1_lit (ws_ yX1_lit cX1_lit 7 (some .int)) (hrm_X1_lit w.2.1 w.2.2) (va_Pc [.ref a0, .int x1] (gPre (hK E A) (hP E A w.1))) (hQi E A Q) w.2.1 w.2.2 A := by
  refine h_met (own := RX1) (by decide +kernel) rfl (Nat.le_of_ble_eq_true rfl) ?_
  intro p e s m args below meth c ls cb sb F hr hlk hK S hl
  have hx := F.1
  have hb := F.2.1
  have hl : lv_has ls 7 [(0, .ref a0), (1, .int x1)] := hl
  unfold hf_X1_lit at h
  refine lv_aload_n hx hb dX1_lit_0 rfl (lv_at hl 0 rfl) ?_
  obtain ⟨v1, e2, h⟩ := obd_inv h
  refine hg_X1_47 F hK S e2 dX1_lit_1 ?_
  obtain ⟨d3, g4, hrl, hdl, h⟩ := h
  obtain ⟨v7, e6, h⟩ := obd_inv h
  refine hpc_X3_ray_X1_240 F hK S hrl hdl e6 rfl rfl hl.1 (Nat.le_of_ble_eq_true rfl) ⟨Nat.le_of_ble_eq_true rfl, Nat.le_of_ble_eq_true rfl⟩ dX1_lit_4 (fun w5 H locs hw hz S => ?_)
  replace h := hpret_mp h hw hz
  clear hw hz
  refine lv_pop hx hb dX1_lit_7 rfl ?_
  refine lv_iconst (v := 0) hx hb dX1_lit_8 (by decide) ?_
  refine lv_istore_n (lv' := [(2, .int 0), (0, .ref a0), (1, .int x1)]) hx hb dX1_lit_9 rfl hl (by decide) rfl (fun ls hl => ?_)
  refine lv_aload_n hx hb dX1_lit_10 rfl (lv_at hl 1 rfl) ?_
  obtain ⟨v8, e9, h⟩ := obd_inv h
  refine hg_X1_47 F hK S e9 dX1_lit_11 ?_
  obtain ⟨v10, e11, h⟩ := obd_inv h
  refine hg_X1_74 F hK S e11 dX1_lit_14 ?_
  refine lv_astore_n (lv' := [(3, .ref v10), (2, .int 0), (0, .ref a0), (1, .int x1)]) hx hb dX1_lit_17 rfl hl (by decide) rfl (fun ls hl => ?_)
  refine lv_aload_n hx hb dX1_lit_18 rfl (lv_at hl 0 rfl) ?_
  obtain ⟨v12, e13, h⟩ := obd_inv h
  refine h_alen F hK S e13 dX1_lit_19 ?_
  refine lv_istore (lv' := [(4, .int v12), (3, .ref v10), (2, .int 0), (0, .ref a0), (1, .int x1)]) hx hb dX1_lit_20 hl (by decide) rfl (fun ls hl => ?_)
  refine lv_iconst (v := 0) hx hb dX1_lit_22 (by decide) ?_
  refine lv_istore (lv' := [(5, .int 0), (4, .int v12), (3, .ref v10), (2, .int 0), (0, .ref a0), (1, .int x1)]) hx hb dX1_lit_23 hl (by decide) rfl (fun ls hl => ?_)
  refine hloop_X1_lit_1 F hr hlk hK _ _ _ _ h _ _ _ S (lv_sub hl [4, 5, 3, 2, 1, 0] rfl) (fun v34 w35 H locs ls h S hl => ?_)
  refine lv_iload_n hx hb dX1_lit_79 rfl (lv_at hl 0 rfl) ?_
  exact h_iret F hr hlk S h dX1_lit_80
theorem hpc_X2_gap_X1_321 {p : Program} {l : Launch} {e : Env} {s : State} {m : MethodId} {args : Array Value} {below : List Frame} {meth : Method} {c : Code} {R : Room} {H : Heap} {locs : List Loc} {cb sb pc nL : Nat} {Q : State → Prop} {ls : Array Slot} {rest : List Value} {cc : ByteArray} {E : hEnv} {A : Nat → Prop} {w : hW} {d : hD} {g : mS} {a : Nat} {r : Int32 × mS} (F : CallFix p m c cc nL s args lw_all RX1) (hK : hK E A s) (S : hS E A s.heap cb sb w H locs) (hr : hRel d g w.1) (hd : d.1 0 = a) (h : fc_X2_gap g = some r) (hrc : R.cells = cb) (hrs : R.slots = sb) (hls : ls.size = nL) (hWt : (rest.map fun v => v.category).sum ≤ 8) (hR : rm_c_X2_gap.frames + 1 ≤ R.frames ∧ 8 + (6 + 11) + rm_c_X2_gap.locals ≤ R.locals) (hdg : decode cc pc = .ok (.invokevirtual 321, 3))
    (kk : ∀ (w' : hW) (H1 : Heap) (locs1 : List Loc), w' = (hPut d r.2 w.1, w.2) → hRel d r.2 (hPut d r.2 w.1) → hS E A s.heap cb sb w' H1 locs1 → W p l e R s m args below meth c H1 locs1 (cb - w'.2.1) (sb - w'.2.2) Q (F0 m (pc + 3) ls (.int r.1 :: rest))) : W p l e R s m args below meth c H locs (cb - w.2.1) (sb - w.2.2) Q (F0 m pc ls (.ref a :: rest)) := by
  subst hd
  obtain ⟨r, gZ⟩ := r
  exact hb_ki hK S hr (va_runV (g := F0 m pc ls _) F (met_c_X2_gap l (hDE E d g H.size) g r gZ h) (cwV 0 F.2.2.2.2 (lw_V q1361 q1362 q1363 q112 q1364) rfl rfl rfl (by decide +kernel) hR) ⟨gBlind (cKm (hDE E d g H.size)), h_recv hK S (ci := 2) rfl (hRel_ray hr), fun U hU hW => ⟨rfl, hB_pre hK S hr U hU hW⟩⟩ rfl rfl hls rfl (lv_room hWt) hdg ⟨by rw [hrc]; exact Nat.sub_le _ _, by rw [hrs]; exact Nat.sub_le _ _⟩) kk
theorem hg_X1_268 {p : Program} {l : Launch} {e : Env} {s : State} {m : MethodId} {args : Array Value} {below : List Frame} {meth : Method} {c : Code} {R : Room} {H : Heap} {locs : List Loc} {cb sb pc nL : Nat} {Q : State → Prop} {ls : Array Slot} {rest : List Value} {cc : ByteArray} {E : hEnv} {A : Nat → Prop} {w : hW} {a : Nat} {v : Int32} (F : CallFix p m c cc nL s args lw_all RX1) (hK : hK E A s) (S : hS E A s.heap cb sb w H locs) (h : hgI w a 6 4 = some v) (hdg : decode cc pc = .ok (.getfield 268, 3)) (kk : W p l e R s m args below meth c H locs (cb - w.2.1) (sb - w.2.2) Q (F0 m (pc + 3) ls (.int v :: rest))) : W p l e R s m args below meth c H locs (cb - w.2.1) (sb - w.2.2) Q (F0 m pc ls (.ref a :: rest)) := by
  obtain ⟨b, fs, ho, hv⟩ := hgI_inv h
  exact h_getN F hK S ho (ci := 6) (C := RX7) (T := TX7) (N := 6) (k := 4) rfl in_X7 (by decide) (hK.2.1.1 _ (List.mem_of_getElem? (i := 11) rfl)) (fun x h => h) hv hdg kk
theorem hg_X1_196 {p : Program} {l : Launch} {e : Env} {s : State} {m : MethodId} {args : Array Value} {below : List Frame} {meth : Method} {c : Code} {R : Room} {H : Heap} {locs : List Loc} {cb sb pc nL : Nat} {Q : State → Prop} {ls : Array Slot} {rest : List Value} {cc : ByteArray} {E : hEnv} {A : Nat → Prop} {w : hW} {a : Nat} {v : Int32} (F : CallFix p m c cc nL s args lw_all RX1) (hK : hK E A s) (S : hS E A s.heap cb sb w H locs) (h : hgI w a 3 5 = some v) (hdg : decode cc pc = .ok (.getfield 196, 3)) (kk : W p l e R s m args below meth c H locs (cb - w.2.1) (sb - w.2.2) Q (F0 m (pc + 3) ls (.int v :: rest))) : W p l e R s m args below meth c H locs (cb - w.2.1) (sb - w.2.2) Q (F0 m pc ls (.ref a :: rest)) := by
  obtain ⟨b, fs, ho, hv⟩ := hgI_inv h
  exact h_getN F hK S ho (ci := 3) (C := RX3) (T := TX3) (N := 9) (k := 5) rfl in_X3 (by decide) (hK.2.1.1 _ (List.mem_of_getElem? (i := 6) rfl)) (fun x h => h) hv hdg kk
theorem hcl_X8_isOpen_X1_281 {p : Program} {l : Launch} {e : Env} {s : State} {m : MethodId} {args : Array Value} {below : List Frame} {meth : Method} {c : Code} {R : Room} {H : Heap} {locs : List Loc} {cb sb pc nL : Nat} {Q : State → Prop} {ls : Array Slot} {rest : List Value} {cc : ByteArray} {E : hEnv} {A : Nat → Prop} {w : hW} {a0 : Nat} {Q' : Int32 → hO → Prop} {c1 s1 : Nat} (F : CallFix p m c cc nL s args lw_all RX1) (hK : hK E A s) (S : hS E A s.heap cb sb w H locs) (hrv : ∃ (b : Bool) (fs : List Value), w.1 a0 = some (b, .inl (7, fs))) (h1 : c1 ≤ w.2.1) (h2 : s1 ≤ w.2.2) (h : hf_X8_isOpen E.2.2 (w.1, c1, s1) a0 Q') (hrc : R.cells = cb) (hrs : R.slots = sb) (hls : ls.size = nL) (hWt : (rest.map fun v => v.category).sum ≤ 8) (hR : 0 + 1 ≤ R.frames ∧ 8 + (1 + 11) + 0 ≤ R.locals) (hdg : decode cc pc = .ok (.invokevirtual 281, 3))
    (kk : ∀ (v : Int32) (o : hO) (w' : hW) (H1 : Heap) (locs1 : List Loc), w' = (o, w.2.1 - c1, w.2.2 - s1) → Q' v o → hS E A s.heap cb sb w' H1 locs1 → W p l e R s m args below meth c H1 locs1 (cb - w'.2.1) (sb - w'.2.2) Q (F0 m (pc + 3) ls (.int v :: rest))) : W p l e R s m args below meth c H locs (cb - w.2.1) (sb - w.2.2) Q (F0 m pc ls (.ref a0 :: rest)) :=
  h_ki (g_runV F hK (hKm E A) S.1 (hmet_X8_isOpen l E A (w.1, c1, s1) a0 Q' h) (cwV 0 F.2.2.2.2 (lw_V q1370 q1125 q1126 q120 q1127) rfl rfl rfl (by decide +kernel) hR) (h_recv hK S (ci := 7) rfl hrv) rfl hls rfl hWt hdg ⟨by rw [hrc]; exact (h_left S h1 h2).1, by rw [hrs]; exact (h_left S h1 h2).2⟩) S h1 h2 kk
theorem hg_X1_284 {p : Program} {l : Launch} {e : Env} {s : State} {m : MethodId} {args : Array Value} {below : List Frame} {meth : Method} {c : Code} {R : Room} {H : Heap} {locs : List Loc} {cb sb pc nL : Nat} {Q : State → Prop} {ls : Array Slot} {rest : List Value} {cc : ByteArray} {E : hEnv} {A : Nat → Prop} {w : hW} {a : Nat} {v : Int32} (F : CallFix p m c cc nL s args lw_all RX1) (hK : hK E A s) (S : hS E A s.heap cb sb w H locs) (h : hgI w a 7 2 = some v) (hdg : decode cc pc = .ok (.getfield 284, 3)) (kk : W p l e R s m args below meth c H locs (cb - w.2.1) (sb - w.2.2) Q (F0 m (pc + 3) ls (.int v :: rest))) : W p l e R s m args below meth c H locs (cb - w.2.1) (sb - w.2.2) Q (F0 m pc ls (.ref a :: rest)) := by
  obtain ⟨b, fs, ho, hv⟩ := hgI_inv h
  exact h_getN F hK S ho (ci := 7) (C := RX8) (T := TX8) (N := 3) (k := 2) rfl in_X8 (by decide) (hK.2.1.1 _ (List.mem_of_getElem? (i := 15) rfl)) (fun x h => h) hv hdg kk
theorem hpc_X3_points_X1_234 {p : Program} {l : Launch} {e : Env} {s : State} {m : MethodId} {args : Array Value} {below : List Frame} {meth : Method} {c : Code} {R : Room} {H : Heap} {locs : List Loc} {cb sb pc nL : Nat} {Q : State → Prop} {ls : Array Slot} {rest : List Value} {cc : ByteArray} {E : hEnv} {A : Nat → Prop} {w : hW} {d : hD} {g : mS} {a : Nat} {x1 : Int32} {r : Int32} (F : CallFix p m c cc nL s args lw_all RX1) (hK : hK E A s) (S : hS E A s.heap cb sb w H locs) (hr : hRel d g w.1) (hd : d.1 100 = a) (h : fc_X3_points g 100 x1 = some r) (hrc : R.cells = cb) (hrs : R.slots = sb) (hls : ls.size = nL) (hWt : (rest.map fun v => v.category).sum ≤ 8) (hR : rm_c_X3_points.frames + 1 ≤ R.frames ∧ 8 + (7 + 11) + rm_c_X3_points.locals ≤ R.locals) (hdg : decode cc pc = .ok (.invokevirtual 234, 3))
    (kk : ∀ (H1 : Heap) (locs1 : List Loc), hS E A s.heap cb sb w H1 locs1 → W p l e R s m args below meth c H1 locs1 (cb - w.2.1) (sb - w.2.2) Q (F0 m (pc + 3) ls (.int r :: rest))) : W p l e R s m args below meth c H locs (cb - w.2.1) (sb - w.2.2) Q (F0 m pc ls (.int x1 :: .ref a :: rest)) := by
  subst hd
  refine hb_ki hK S hr (gZ := g) (va_runV (g := F0 m pc ls _) F (met_c_X3_points l (hDE E d g H.size) g 100 x1 hOk100 r h) (cwV 1 F.2.2.2.2 (lw_V q1371 q1121 q1122 q115 q1123) rfl rfl rfl (by decide +kernel) hR) ⟨gBlind (cKm (hDE E d g H.size)), h_recv hK S (ci := 3) rfl (hRel_w hr), fun U hU hW => ⟨rfl, hB_pre hK S hr U hU hW⟩⟩ rfl rfl hls rfl (lv_room hWt) hdg ⟨by rw [hrc]; exact Nat.sub_le _ _, by rw [hrs]; exact Nat.sub_le _ _⟩) (fun w' H1 locs1 hw _ S1 => ?_)
  rw [hPut_self hr] at hw
  subst hw
  exact kk H1 locs1 S1
def hL_X1_gap_1 (pl : Nat → Nat) (Q : Int32 → hO → Prop) (K : Int32 → Int32 → hW → Prop) (y0 : Nat) (y3 : Nat) (y4 : Int32) : Nat → hW → Int32 → Int32 → Int32 → Prop
  | 0, _, _, _, _ => False
  | n + 1, w, y1, y2, y5 =>
    hIf (y4 ≤ y5) (
      K y1 y2 w) <|
      obd (haP w y3 y5) fun v20 =>
      obd (hInst 7 w v20) fun v22 =>
      hjoin (fun (v65 : Int32) (v66 : Int32) (g67 : hW) =>
        hL_X1_gap_1 pl Q K y0 y3 y4 n g67 v65 v66 (y5 + 1)) fun k69 =>
      hIf (v22 = 0) (
        obd (hInst 6 w v20) fun v25 =>
        hIf (v25 = 0) (
          k69 y1 y2 w) <|
          obd (hIs w v20 6) fun u28 =>
          obd (hgI w v20 6 4) fun v30 =>
          obd (hgP w y0 1 3) fun v32 =>
          obd (hgI w v32 3 5) fun v34 =>
          hjoin (fun (v37 : Int32) =>
            k69 (y1 + v37) y2 w) fun k39 =>
          hIf (v30 ≤ v34) (
            k39 0) <|
            k39 1) <|
        obd (hIs w v20 7) fun u40 =>
        obd (hIs w v20 7) fun u42 =>
        hcall w fun n44 n45 => hf_X8_isOpen pl (w.1, n44, n45) v20 fun v48 o47 => hret w n44 n45 o47 fun w46 =>
        hjoin (fun (v50 : Int32) =>
          obd (hIs w46 v20 7) fun u51 =>
          obd (hgI w46 v20 7 2) fun v53 =>
          obd (hgP w46 y0 1 3) fun v55 =>
          obd (hgI w46 v55 3 7) fun v57 =>
          hjoin (fun (v60 : Int32) =>
            k69 (y1 + v60) (y2 + v50) w46) fun k62 =>
          hIf (v53 ≤ v57) (
            k62 0) <|
            k62 1) fun k64 =>
        hIf (v48 = 0) (
          k64 0) <|
          k64 1
def hf_X1_gap (pl : Nat → Nat) (w : hW) (a0 : Nat) (Q : Int32 → hO → Prop) : Prop :=
  obd (hgP w a0 1 3) fun v1 =>
  ∃ (d3 : hD) (g4 : mS), hRel d3 g4 w.1 ∧ d3.1 100 = v1 ∧ obd (fc_X3_ray g4 100) fun v7 => hpret w d3 v7 fun w5 =>
  ∃ (d8 : hD) (g9 : mS), hRel d8 g9 w5.1 ∧ d8.1 0 = (d3.1 0) ∧ obd (fc_X2_gap g9) fun v12 => hpret w5 d8 v12.2 fun w10 =>
  obd (hgP w10 a0 1 3) fun v13 =>
  obd (hgP w10 v13 3 3) fun v15 =>
  obd (hLen w10 v15) fun v17 =>
  hL_X1_gap_1 pl Q (fun (v70 : Int32) (v71 : Int32) (w72 : hW) =>
    obd (hgP w72 a0 1 3) fun v73 =>
    ∃ (d75 : hD) (g76 : mS), hRel d75 g76 w72.1 ∧ d75.1 100 = v73 ∧ obd (fc_X3_points g76 100 1) fun v79 =>
    obd (hgP w72 a0 1 3) fun v80 =>
    ∃ (d82 : hD) (g83 : mS), hRel d82 g83 w72.1 ∧ d82.1 100 = v80 ∧ obd (fc_X3_points g83 100 2) fun v86 =>
    Q (v70 + (if 0 ≤ ((v71 - v79) - v86) then ((v71 - v79) - v86) else 0 - ((v71 - v79) - v86))) w72.1) a0 v15 v17 FUEL w10 v12.1 0 0
abbrev hrm_X1_gap (c s : Nat) : Room := { frames := 7, cells := c, slots := s, locals := 155 }
set_option maxHeartbeats 4000000 in
set_option maxRecDepth 100000 in
theorem hloop_X1_gap_1 {p : Program} {l : Launch} {e : Env} {s : State} {m : MethodId} {args : Array Value} {below : List Frame} {meth : Method} {c : Code} {cb sb : Nat} {E : hEnv} {A : Nat → Prop} {Q : Int32 → hO → Prop} {K : Int32 → Int32 → hW → Prop} {y0 : Nat} {y3 : Nat} {y4 : Int32} (F : CallFix p m c cX1_gap 7 s args lw_all RX1) (hr : meth.sig.returnType = some .int) (hlk : meth.locks = false) (hK : hK E A s) : ∀ (n : Nat) (w : hW) (y1 : Int32) (y2 : Int32) (y5 : Int32), hL_X1_gap_1 E.2.2 Q K y0 y3 y4 n w y1 y2 y5 → ∀ (H : Heap) (locs : List Loc) (ls : Array Slot), hS E A s.heap cb sb w H locs → lv_has ls 7 [(0, .ref y0), (1, .int y1), (2, .int y2), (3, .ref y3), (4, .int y4), (5, .int y5)] → (∀ (z1 : Int32) (z2 : Int32) (wz : hW) (H : Heap) (locs : List Loc) (ls : Array Slot), K z1 z2 wz → hS E A s.heap cb sb wz H locs → lv_has ls 7 [(0, .ref y0), (1, .int z1), (2, .int z2)] → W p l e (hrm_X1_gap cb sb) s m args below meth c H locs (cb - wz.2.1) (sb - wz.2.2) (MQ below (hQi E A Q) args s cb sb A) (F0 m 137 ls [])) → W p l e (hrm_X1_gap cb sb) s m args below meth c H locs (cb - w.2.1) (sb - w.2.2) (MQ below (hQi E A Q) args s cb sb A) (F0 m 28 ls []) := by
  have hx := F.1
  have hb := F.2.1
  intro n
  induction n with
  | zero =>
    intro w y1 y2 y5 h
    exact False.elim h
  | succ n ih =>
    intro w y1 y2 y5 h H locs ls S hl kx
    rw [hL_X1_gap_1] at h
    refine lv_iload hx hb dX1_gap_28 (lv_at hl 5 rfl) ?_
    refine lv_iload hx hb dX1_gap_30 (lv_at hl 4 rfl) ?_
    refine lv_icmp_ge (tgt := 137) hx hb dX1_gap_32 (by decide) (fun c19 => ?_) (fun c19 => ?_)
    · rw [hIf_pos c19] at h
      exact kx _ _ _ _ _ _ h S (lv_sub hl [0, 1, 2] rfl)
    · rw [hIf_neg c19] at h
      refine lv_aload_n hx hb dX1_gap_35 rfl (lv_at hl 3 rfl) ?_
      refine lv_iload hx hb dX1_gap_36 (lv_at hl 5 rfl) ?_
      obtain ⟨v20, e21, h⟩ := obd_inv h
      refine h_aald F hK S e21 dX1_gap_38 ?_
      refine lv_astore (lv' := [(6, .ref v20), (0, .ref y0), (1, .int y1), (2, .int y2), (3, .ref y3), (4, .int y4), (5, .int y5)]) hx hb dX1_gap_39 hl (by decide) rfl (fun ls hl => ?_)
      refine lv_aload hx hb dX1_gap_41 (lv_at hl 0 rfl) ?_
      obtain ⟨v22, e23, h⟩ := obd_inv h
      refine h_inst7 F hK S e23 q350 dX1_gap_43 ?_
      obtain ⟨k69, hk69, h⟩ := hj3_inv h
      have hJ131 : ∀ (v65 : Int32) (v66 : Int32) (g67 : hW) (H : Heap) (locs : List Loc) (ls : Array Slot), k69 v65 v66 g67 → hS E A s.heap cb sb g67 H locs → lv_has ls 7 [(0, .ref y0), (1, .int v65), (2, .int v66), (3, .ref y3), (4, .int y4), (5, .int y5)] → W p l e (hrm_X1_gap cb sb) s m args below meth c H locs (cb - g67.2.1) (sb - g67.2.2) (MQ below (hQi E A Q) args s cb sb A) (F0 m 131 ls []) := by
        intro v65 v66 g67 H locs ls h S hl
        replace h := hk69 _ _ _ h
        refine lv_iinc (v := (y5 + 1)) (lv' := [(5, .int (y5 + 1)), (0, .ref y0), (1, .int v65), (2, .int v66), (3, .ref y3), (4, .int y4)]) hx hb dX1_gap_131 hl (k := 5) rfl rfl (by decide) rfl (fun ls hl => ?_)
        refine lv_goto (tgt := 28) hx hb dX1_gap_134 (by decide) ?_
        exact ih _ _ _ _ h _ _ _ S (lv_sub hl [1, 2, 3, 4, 5, 0] rfl) kx
      clear hk69
      refine lv_if_eq (tgt := 97) hx hb dX1_gap_46 (by decide) (fun c24 => ?_) (fun c24 => ?_)
      · rw [hIf_pos c24] at h
        refine lv_aload hx hb dX1_gap_97 (lv_at hl 0 rfl) ?_
        obtain ⟨v25, e26, h⟩ := obd_inv h
        refine h_inst6 F hK S e26 q318 dX1_gap_99 ?_
        refine lv_if_eq (tgt := 131) hx hb dX1_gap_102 (by decide) (fun c27 => ?_) (fun c27 => ?_)
        · rw [hIf_pos c27] at h
          exact hJ131 _ _ _ _ _ _ h S (lv_sub hl [1, 2, 3, 4, 5, 6] rfl)
        · rw [hIf_neg c27] at h
          refine lv_iload_n hx hb dX1_gap_105 rfl (lv_at hl 2 rfl) ?_
          refine lv_aload hx hb dX1_gap_106 (lv_at hl 0 rfl) ?_
          obtain ⟨u28, e29, h⟩ := obd_inv h
          refine h_cast F hK S e29 rfl q318 dX1_gap_108 ?_
          obtain ⟨v30, e31, h⟩ := obd_inv h
          refine hg_X1_268 F hK S e31 dX1_gap_111 ?_
          refine lv_aload_n hx hb dX1_gap_114 rfl (lv_at hl 1 rfl) ?_
          obtain ⟨v32, e33, h⟩ := obd_inv h
          refine hg_X1_47 F hK S e33 dX1_gap_115 ?_
          obtain ⟨v34, e35, h⟩ := obd_inv h
          refine hg_X1_196 F hK S e35 dX1_gap_118 ?_
          obtain ⟨k39, hk39, h⟩ := hj1_inv h
          have hJ129 : ∀ (v37 : Int32) (H : Heap) (locs : List Loc) (ls : Array Slot), k39 v37 → hS E A s.heap cb sb w H locs → lv_has ls 7 [(0, .ref y0), (2, .int y2), (3, .ref y3), (4, .int y4), (5, .int y5)] → W p l e (hrm_X1_gap cb sb) s m args below meth c H locs (cb - w.2.1) (sb - w.2.2) (MQ below (hQi E A Q) args s cb sb A) (F0 m 129 ls [.int v37, .int y1]) := by
            intro v37 H locs ls h S hl
            replace h := hk39 _ h
            refine lv_iadd hx hb dX1_gap_129 ?_
            refine lv_istore_n (lv' := [(1, .int (y1 + v37)), (0, .ref y0), (2, .int y2), (3, .ref y3), (4, .int y4), (5, .int y5)]) hx hb dX1_gap_130 rfl hl (by decide) rfl (fun ls hl => ?_)
            exact hJ131 _ _ _ _ _ _ h S (lv_sub hl [1, 0, 2, 3, 4, 5] rfl)
          clear hk39
          refine lv_icmp_le (tgt := 128) hx hb dX1_gap_121 (by decide) (fun c36 => ?_) (fun c36 => ?_)
          · rw [hIf_pos c36] at h
            refine lv_iconst (v := 0) hx hb dX1_gap_128 (by decide) ?_
            exact hJ129 _ _ _ _ h S (lv_sub hl [1, 3, 4, 5, 6] rfl)
          · rw [hIf_neg c36] at h
            refine lv_iconst (v := 1) hx hb dX1_gap_124 (by decide) ?_
            refine lv_goto (tgt := 129) hx hb dX1_gap_125 (by decide) ?_
            exact hJ129 _ _ _ _ h S (lv_sub hl [1, 3, 4, 5, 6] rfl)
      · rw [hIf_neg c24] at h
        refine lv_iload_n hx hb dX1_gap_49 rfl (lv_at hl 3 rfl) ?_
        refine lv_aload hx hb dX1_gap_50 (lv_at hl 0 rfl) ?_
        obtain ⟨u40, e41, h⟩ := obd_inv h
        refine h_cast F hK S e41 rfl q350 dX1_gap_52 ?_
        obtain ⟨u42, e43, h⟩ := obd_inv h
        obtain ⟨n44, n45, h1, h2, h⟩ := hcall_inv h
        refine hcl_X8_isOpen_X1_281 F hK S (hIs_inv e43) h1 h2 h rfl rfl hl.1 (Nat.le_of_ble_eq_true rfl) ⟨Nat.le_of_ble_eq_true rfl, Nat.le_of_ble_eq_true rfl⟩ dX1_gap_55 (fun v48 o47 w46 H locs hw h S => ?_)
        replace h := hret_mp h hw
        clear hw h1 h2
        obtain ⟨k64, hk64, h⟩ := hj1_inv h
        have hJ66 : ∀ (v50 : Int32) (H : Heap) (locs : List Loc) (ls : Array Slot), k64 v50 → hS E A s.heap cb sb w46 H locs → lv_has ls 7 [(0, .ref y0), (1, .int y1), (3, .ref y3), (4, .int y4), (5, .int y5), (6, .ref v20)] → W p l e (hrm_X1_gap cb sb) s m args below meth c H locs (cb - w46.2.1) (sb - w46.2.2) (MQ below (hQi E A Q) args s cb sb A) (F0 m 66 ls [.int v50, .int y2]) := by
          intro v50 H locs ls h S hl
          replace h := hk64 _ h
          refine lv_iadd hx hb dX1_gap_66 ?_
          refine lv_istore_n (lv' := [(2, .int (y2 + v50)), (0, .ref y0), (1, .int y1), (3, .ref y3), (4, .int y4), (5, .int y5), (6, .ref v20)]) hx hb dX1_gap_67 rfl hl (by decide) rfl (fun ls hl => ?_)
          refine lv_iload_n hx hb dX1_gap_68 rfl (lv_at hl 2 rfl) ?_
          refine lv_aload hx hb dX1_gap_69 (lv_at hl 6 rfl) ?_
          obtain ⟨u51, e52, h⟩ := obd_inv h
          refine h_cast F hK S e52 rfl q350 dX1_gap_71 ?_
          obtain ⟨v53, e54, h⟩ := obd_inv h
          refine hg_X1_284 F hK S e54 dX1_gap_74 ?_
          refine lv_aload_n hx hb dX1_gap_77 rfl (lv_at hl 1 rfl) ?_
          obtain ⟨v55, e56, h⟩ := obd_inv h
          refine hg_X1_47 F hK S e56 dX1_gap_78 ?_
          obtain ⟨v57, e58, h⟩ := obd_inv h
          refine hg_X1_110 F hK S e58 dX1_gap_81 ?_
          obtain ⟨k62, hk62, h⟩ := hj1_inv h
          have hJ92 : ∀ (v60 : Int32) (H : Heap) (locs : List Loc) (ls : Array Slot), k62 v60 → hS E A s.heap cb sb w46 H locs → lv_has ls 7 [(0, .ref y0), (2, .int (y2 + v50)), (3, .ref y3), (4, .int y4), (5, .int y5)] → W p l e (hrm_X1_gap cb sb) s m args below meth c H locs (cb - w46.2.1) (sb - w46.2.2) (MQ below (hQi E A Q) args s cb sb A) (F0 m 92 ls [.int v60, .int y1]) := by
            intro v60 H locs ls h S hl
            replace h := hk62 _ h
            refine lv_iadd hx hb dX1_gap_92 ?_
            refine lv_istore_n (lv' := [(1, .int (y1 + v60)), (0, .ref y0), (2, .int (y2 + v50)), (3, .ref y3), (4, .int y4), (5, .int y5)]) hx hb dX1_gap_93 rfl hl (by decide) rfl (fun ls hl => ?_)
            refine lv_goto (tgt := 131) hx hb dX1_gap_94 (by decide) ?_
            exact hJ131 _ _ _ _ _ _ h S (lv_sub hl [1, 0, 2, 3, 4, 5] rfl)
          clear hk62
          refine lv_icmp_le (tgt := 91) hx hb dX1_gap_84 (by decide) (fun c59 => ?_) (fun c59 => ?_)
          · rw [hIf_pos c59] at h
            refine lv_iconst (v := 0) hx hb dX1_gap_91 (by decide) ?_
            exact hJ92 _ _ _ _ h S (lv_sub hl [1, 0, 3, 4, 5] rfl)
          · rw [hIf_neg c59] at h
            refine lv_iconst (v := 1) hx hb dX1_gap_87 (by decide) ?_
            refine lv_goto (tgt := 92) hx hb dX1_gap_88 (by decide) ?_
            exact hJ92 _ _ _ _ h S (lv_sub hl [1, 0, 3, 4, 5] rfl)
        clear hk64
        refine lv_if_eq (tgt := 65) hx hb dX1_gap_58 (by decide) (fun c49 => ?_) (fun c49 => ?_)
        · rw [hIf_pos c49] at h
          refine lv_iconst (v := 0) hx hb dX1_gap_65 (by decide) ?_
          exact hJ66 _ _ _ _ h S (lv_sub hl [1, 2, 4, 5, 6, 0] rfl)
        · rw [hIf_neg c49] at h
          refine lv_iconst (v := 1) hx hb dX1_gap_61 (by decide) ?_
          refine lv_goto (tgt := 66) hx hb dX1_gap_62 (by decide) ?_
          exact hJ66 _ _ _ _ h S (lv_sub hl [1, 2, 4, 5, 6, 0] rfl)
set_option maxHeartbeats 4000000 in
set_option maxRecDepth 100000 in
theorem hmet_X1_gap (l : Launch) (E : hEnv) (A : Nat → Prop) (w : hW) (a0 : Nat) (Q : Int32 → hO → Prop) (h : hf_X1_gap E.2.2 w a0 Q) : Met l yX1_gap (ws_ yX1_gap cX1_gap 7 (some .int)) (hrm_X1_gap w.2.1 w.2.2) (va_Pc [.ref a0] (gPre (hK E A) (hP E A w.1))) (hQi E A Q) w.2.1 w.2.2 A := by
  refine h_met (own := RX1) (by decide +kernel) rfl (Nat.le_of_ble_eq_true rfl) ?_
  intro p e s m args below meth c ls cb sb F hr hlk hK S hl
  have hx := F.1
  have hb := F.2.1
  have hl : lv_has ls 7 [(0, .ref a0)] := hl
  unfold hf_X1_gap at h
  refine lv_aload_n hx hb dX1_gap_0 rfl (lv_at hl 0 rfl) ?_
  obtain ⟨v1, e2, h⟩ := obd_inv h
  refine hg_X1_47 F hK S e2 dX1_gap_1 ?_
  obtain ⟨d3, g4, hrl, hdl, h⟩ := h
  obtain ⟨v7, e6, h⟩ := obd_inv h
  refine hpc_X3_ray_X1_240 F hK S hrl hdl e6 rfl rfl hl.1 (Nat.le_of_ble_eq_true rfl) ⟨Nat.le_of_ble_eq_true rfl, Nat.le_of_ble_eq_true rfl⟩ dX1_gap_4 (fun w5 H locs hw hz S => ?_)
  replace h := hpret_mp h hw hz
  clear hw hz
  obtain ⟨d8, g9, hrl, hdl, h⟩ := h
  obtain ⟨v12, e11, h⟩ := obd_inv h
  refine hpc_X2_gap_X1_321 F hK S hrl hdl e11 rfl rfl hl.1 (Nat.le_of_ble_eq_true rfl) ⟨Nat.le_of_ble_eq_true rfl, Nat.le_of_ble_eq_true rfl⟩ dX1_gap_7 (fun w10 H locs hw hz S => ?_)
  replace h := hpret_mp h hw hz
  clear hw hz
  refine lv_istore_n (lv' := [(1, .int v12.1), (0, .ref a0)]) hx hb dX1_gap_10 rfl hl (by decide) rfl (fun ls hl => ?_)
  refine lv_iconst (v := 0) hx hb dX1_gap_11 (by decide) ?_
  refine lv_istore_n (lv' := [(2, .int 0), (1, .int v12.1), (0, .ref a0)]) hx hb dX1_gap_12 rfl hl (by decide) rfl (fun ls hl => ?_)
  refine lv_aload_n hx hb dX1_gap_13 rfl (lv_at hl 2 rfl) ?_
  obtain ⟨v13, e14, h⟩ := obd_inv h
  refine hg_X1_47 F hK S e14 dX1_gap_14 ?_
  obtain ⟨v15, e16, h⟩ := obd_inv h
  refine hg_X1_74 F hK S e16 dX1_gap_17 ?_
  refine lv_astore_n (lv' := [(3, .ref v15), (2, .int 0), (1, .int v12.1), (0, .ref a0)]) hx hb dX1_gap_20 rfl hl (by decide) rfl (fun ls hl => ?_)
  refine lv_aload_n hx hb dX1_gap_21 rfl (lv_at hl 0 rfl) ?_
  obtain ⟨v17, e18, h⟩ := obd_inv h
  refine h_alen F hK S e18 dX1_gap_22 ?_
  refine lv_istore (lv' := [(4, .int v17), (3, .ref v15), (2, .int 0), (1, .int v12.1), (0, .ref a0)]) hx hb dX1_gap_23 hl (by decide) rfl (fun ls hl => ?_)
  refine lv_iconst (v := 0) hx hb dX1_gap_25 (by decide) ?_
  refine lv_istore (lv' := [(5, .int 0), (4, .int v17), (3, .ref v15), (2, .int 0), (1, .int v12.1), (0, .ref a0)]) hx hb dX1_gap_26 hl (by decide) rfl (fun ls hl => ?_)
  refine hloop_X1_gap_1 F hr hlk hK _ _ _ _ _ h _ _ _ S (lv_sub hl [5, 4, 3, 2, 1, 0] rfl) (fun v70 v71 w72 H locs ls h S hl => ?_)
  refine lv_iload_n hx hb dX1_gap_137 rfl (lv_at hl 1 rfl) ?_
  refine lv_iload_n hx hb dX1_gap_138 rfl (lv_at hl 2 rfl) ?_
  refine lv_aload_n hx hb dX1_gap_139 rfl (lv_at hl 0 rfl) ?_
  obtain ⟨v73, e74, h⟩ := obd_inv h
  refine hg_X1_47 F hK S e74 dX1_gap_140 ?_
  refine lv_iconst (v := 1) hx hb dX1_gap_143 (by decide) ?_
  obtain ⟨d75, g76, hrl, hdl, h⟩ := h
  obtain ⟨v79, e78, h⟩ := obd_inv h
  refine hpc_X3_points_X1_234 F hK S hrl hdl e78 rfl rfl hl.1 (Nat.le_of_ble_eq_true rfl) ⟨Nat.le_of_ble_eq_true rfl, Nat.le_of_ble_eq_true rfl⟩ dX1_gap_144 (fun H locs S => ?_)
  refine lv_isub hx hb dX1_gap_147 ?_
  refine lv_aload_n hx hb dX1_gap_148 rfl (lv_at hl 0 rfl) ?_
  obtain ⟨v80, e81, h⟩ := obd_inv h
  refine hg_X1_47 F hK S e81 dX1_gap_149 ?_
  refine lv_iconst (v := 2) hx hb dX1_gap_152 (by decide) ?_
  obtain ⟨d82, g83, hrl, hdl, h⟩ := h
  obtain ⟨v86, e85, h⟩ := obd_inv h
  refine hpc_X3_points_X1_234 F hK S hrl hdl e85 rfl rfl hl.1 (Nat.le_of_ble_eq_true rfl) ⟨Nat.le_of_ble_eq_true rfl, Nat.le_of_ble_eq_true rfl⟩ dX1_gap_153 (fun H locs S => ?_)
  refine lv_isub hx hb dX1_gap_156 ?_
  refine va_mabs hx hb (F.2.2.1.trans hl.1.symm) F.2.2.2.1 (F.2.2.2.2 _ q1372) (F.2.2.2.2 _ q1373) (F.2.2.2.2 _ q128) (F.2.2.2.2 _ q1374) (Nat.le_of_ble_eq_true rfl) (Nat.le_of_ble_eq_true rfl) (Nat.sub_le _ _) (Nat.sub_le _ _) dX1_gap_157 ?_
  refine lv_iadd hx hb dX1_gap_160 ?_
  exact h_iret F hr hlk S h dX1_gap_161
theorem hcl_X1_lit_X1_298 {p : Program} {l : Launch} {e : Env} {s : State} {m : MethodId} {args : Array Value} {below : List Frame} {meth : Method} {c : Code} {R : Room} {H : Heap} {locs : List Loc} {cb sb pc nL : Nat} {Q : State → Prop} {ls : Array Slot} {rest : List Value} {cc : ByteArray} {E : hEnv} {A : Nat → Prop} {w : hW} {a0 : Nat} {x1 : Int32} {Q' : Int32 → hO → Prop} {c1 s1 : Nat} (F : CallFix p m c cc nL s args lw_all RX1) (hK : hK E A s) (S : hS E A s.heap cb sb w H locs) (hrv : ∃ (b : Bool) (fs : List Value), w.1 a0 = some (b, .inl (1, fs))) (h1 : c1 ≤ w.2.1) (h2 : s1 ≤ w.2.2) (h : hf_X1_lit E.2.2 (w.1, c1, s1) a0 x1 Q') (hrc : R.cells = cb) (hrs : R.slots = sb) (hls : ls.size = nL) (hWt : (rest.map fun v => v.category).sum ≤ 8) (hR : 7 + 1 ≤ R.frames ∧ 8 + (7 + 11) + 155 ≤ R.locals) (hdg : decode cc pc = .ok (.invokevirtual 298, 3))
    (kk : ∀ (v : Int32) (o : hO) (w' : hW) (H1 : Heap) (locs1 : List Loc), w' = (o, w.2.1 - c1, w.2.2 - s1) → Q' v o → hS E A s.heap cb sb w' H1 locs1 → W p l e R s m args below meth c H1 locs1 (cb - w'.2.1) (sb - w'.2.2) Q (F0 m (pc + 3) ls (.int v :: rest))) : W p l e R s m args below meth c H locs (cb - w.2.1) (sb - w.2.2) Q (F0 m pc ls (.int x1 :: .ref a0 :: rest)) :=
  h_ki (g_runV F hK (hKm E A) S.1 (hmet_X1_lit l E A (w.1, c1, s1) a0 x1 Q' h) (cwV 1 F.2.2.2.2 (lw_V q1379 q1381 qs29 q111 q1382) rfl rfl rfl (by decide +kernel) hR) (h_recv hK S (ci := 1) rfl hrv) rfl hls rfl hWt hdg ⟨by rw [hrc]; exact (h_left S h1 h2).1, by rw [hrs]; exact (h_left S h1 h2).2⟩) S h1 h2 kk
theorem hg_X1_222 {p : Program} {l : Launch} {e : Env} {s : State} {m : MethodId} {args : Array Value} {below : List Frame} {meth : Method} {c : Code} {R : Room} {H : Heap} {locs : List Loc} {cb sb pc nL : Nat} {Q : State → Prop} {ls : Array Slot} {rest : List Value} {cc : ByteArray} {E : hEnv} {A : Nat → Prop} {w : hW} {a : Nat} {v : Int32} (F : CallFix p m c cc nL s args lw_all RX1) (hK : hK E A s) (S : hS E A s.heap cb sb w H locs) (h : hgI w a 3 1 = some v) (hdg : decode cc pc = .ok (.getfield 222, 3)) (kk : W p l e R s m args below meth c H locs (cb - w.2.1) (sb - w.2.2) Q (F0 m (pc + 3) ls (.int v :: rest))) : W p l e R s m args below meth c H locs (cb - w.2.1) (sb - w.2.2) Q (F0 m pc ls (.ref a :: rest)) := by
  obtain ⟨b, fs, ho, hv⟩ := hgI_inv h
  exact h_getN F hK S ho (ci := 3) (C := RX3) (T := TX3) (N := 9) (k := 1) rfl in_X3 (by decide) (hK.2.1.1 _ (List.mem_of_getElem? (i := 7) rfl)) (fun x h => h) hv hdg kk
theorem hg_X1_225 {p : Program} {l : Launch} {e : Env} {s : State} {m : MethodId} {args : Array Value} {below : List Frame} {meth : Method} {c : Code} {R : Room} {H : Heap} {locs : List Loc} {cb sb pc nL : Nat} {Q : State → Prop} {ls : Array Slot} {rest : List Value} {cc : ByteArray} {E : hEnv} {A : Nat → Prop} {w : hW} {a : Nat} {v : Int32} (F : CallFix p m c cc nL s args lw_all RX1) (hK : hK E A s) (S : hS E A s.heap cb sb w H locs) (h : hgI w a 3 2 = some v) (hdg : decode cc pc = .ok (.getfield 225, 3)) (kk : W p l e R s m args below meth c H locs (cb - w.2.1) (sb - w.2.2) Q (F0 m (pc + 3) ls (.int v :: rest))) : W p l e R s m args below meth c H locs (cb - w.2.1) (sb - w.2.2) Q (F0 m pc ls (.ref a :: rest)) := by
  obtain ⟨b, fs, ho, hv⟩ := hgI_inv h
  exact h_getN F hK S ho (ci := 3) (C := RX3) (T := TX3) (N := 9) (k := 2) rfl in_X3 (by decide) (hK.2.1.1 _ (List.mem_of_getElem? (i := 8) rfl)) (fun x h => h) hv hdg kk
def hf_X1_litShare (pl : Nat → Nat) (w : hW) (a0 : Nat) (Q : UInt32 → hO → Prop) : Prop :=
  obd (hIs w a0 1) fun u1 =>
  hcall w fun n3 n4 => hf_X1_lit pl (w.1, n3, n4) a0 0 fun v7 o6 => hret w n3 n4 o6 fun w5 =>
  obd (hgP w5 a0 1 3) fun v8 =>
  obd (hgI w5 v8 3 1) fun v10 =>
  obd (hgP w5 a0 1 3) fun v12 =>
  obd (hgI w5 v12 3 2) fun v14 =>
  obd (ck32 (FP.fdiv (FP.i2f v7) (FP.i2f (v10 * v14)))) fun v16 =>
  Q v16 w5.1
abbrev hrm_X1_litShare (c s : Nat) : Room := { frames := 8, cells := c, slots := s, locals := 181 }
set_option maxHeartbeats 4000000 in
set_option maxRecDepth 100000 in
theorem hmet_X1_litShare (l : Launch) (E : hEnv) (A : Nat → Prop) (w : hW) (a0 : Nat) (Q : UInt32 → hO → Prop) (h : hf_X1_litShare E.2.2 w a0 Q) : Met l yX1_litShare (ws_ yX1_litShare cX1_litShare 1 (some .float)) (hrm_X1_litShare w.2.1 w.2.2) (va_Pc [.ref a0] (gPre (hK E A) (hP E A w.1))) (hQf E A Q) w.2.1 w.2.2 A := by
  refine h_met (own := RX1) (by decide +kernel) rfl (Nat.le_of_ble_eq_true rfl) ?_
  intro p e s m args below meth c ls cb sb F hr hlk hK S hl
  have hx := F.1
  have hb := F.2.1
  have hl : lv_has ls 1 [(0, .ref a0)] := hl
  unfold hf_X1_litShare at h
  refine lv_aload_n hx hb dX1_litShare_0 rfl (lv_at hl 0 rfl) ?_
  refine lv_iconst (v := 0) hx hb dX1_litShare_1 (by decide) ?_
  obtain ⟨u1, e2, h⟩ := obd_inv h
  obtain ⟨n3, n4, h1, h2, h⟩ := hcall_inv h
  refine hcl_X1_lit_X1_298 F hK S (hIs_inv e2) h1 h2 h rfl rfl hl.1 (Nat.le_of_ble_eq_true rfl) ⟨Nat.le_of_ble_eq_true rfl, Nat.le_of_ble_eq_true rfl⟩ dX1_litShare_2 (fun v7 o6 w5 H locs hw h S => ?_)
  replace h := hret_mp h hw
  clear hw h1 h2
  refine lv_i2f hx hb dX1_litShare_5 ?_
  refine lv_aload_n hx hb dX1_litShare_6 rfl (lv_at hl 0 rfl) ?_
  obtain ⟨v8, e9, h⟩ := obd_inv h
  refine hg_X1_47 F hK S e9 dX1_litShare_7 ?_
  obtain ⟨v10, e11, h⟩ := obd_inv h
  refine hg_X1_222 F hK S e11 dX1_litShare_10 ?_
  refine lv_aload_n hx hb dX1_litShare_13 rfl (lv_at hl 0 rfl) ?_
  obtain ⟨v12, e13, h⟩ := obd_inv h
  refine hg_X1_47 F hK S e13 dX1_litShare_14 ?_
  obtain ⟨v14, e15, h⟩ := obd_inv h
  refine hg_X1_225 F hK S e15 dX1_litShare_17 ?_
  refine lv_imul hx hb dX1_litShare_20 ?_
  refine lv_i2f hx hb dX1_litShare_21 ?_
  obtain ⟨v16, e17, h⟩ := obd_inv h
  obtain ⟨e17f, rfl⟩ := ck32_inv e17
  refine lv_fdiv hx hb dX1_litShare_22 e17f ?_
  exact h_fret F hr hlk S h dX1_litShare_23
theorem hpc_X2_stepsTo_X1_318 {p : Program} {l : Launch} {e : Env} {s : State} {m : MethodId} {args : Array Value} {below : List Frame} {meth : Method} {c : Code} {R : Room} {H : Heap} {locs : List Loc} {cb sb pc nL : Nat} {Q : State → Prop} {ls : Array Slot} {rest : List Value} {cc : ByteArray} {E : hEnv} {A : Nat → Prop} {w : hW} {d : hD} {g : mS} {a : Nat} {x1 : Int32} {r : Int32} (F : CallFix p m c cc nL s args lw_all RX1) (hK : hK E A s) (S : hS E A s.heap cb sb w H locs) (hr : hRel d g w.1) (hd : d.1 0 = a) (h : fc_X2_stepsTo g x1 = some r) (hrc : R.cells = cb) (hrs : R.slots = sb) (hls : ls.size = nL) (hWt : (rest.map fun v => v.category).sum ≤ 8) (hR : rm_c_X2_stepsTo.frames + 1 ≤ R.frames ∧ 8 + (5 + 11) + rm_c_X2_stepsTo.locals ≤ R.locals) (hdg : decode cc pc = .ok (.invokevirtual 318, 3))
    (kk : ∀ (H1 : Heap) (locs1 : List Loc), hS E A s.heap cb sb w H1 locs1 → W p l e R s m args below meth c H1 locs1 (cb - w.2.1) (sb - w.2.2) Q (F0 m (pc + 3) ls (.int r :: rest))) : W p l e R s m args below meth c H locs (cb - w.2.1) (sb - w.2.2) Q (F0 m pc ls (.int x1 :: .ref a :: rest)) := by
  subst hd
  refine hb_ki hK S hr (gZ := g) (va_runV (g := F0 m pc ls _) F (met_c_X2_stepsTo l (hDE E d g H.size) g x1 r h) (cwV 1 F.2.2.2.2 (lw_V q1388 q1389 q1390 q112 q1391) rfl rfl rfl (by decide +kernel) hR) ⟨gBlind (cKm (hDE E d g H.size)), h_recv hK S (ci := 2) rfl (hRel_ray hr), fun U hU hW => ⟨rfl, hB_pre hK S hr U hU hW⟩⟩ rfl rfl hls rfl (lv_room hWt) hdg ⟨by rw [hrc]; exact Nat.sub_le _ _, by rw [hrs]; exact Nat.sub_le _ _⟩) (fun w' H1 locs1 hw _ S1 => ?_)
  rw [hPut_self hr] at hw
  subst hw
  exact kk H1 locs1 S1
def hL_X1_meanSteps_1 (pl : Nat → Nat) (Q : UInt64 → hO → Prop) (K : Int32 → Int32 → hW → Prop) (y0 : Nat) (y3 : Nat) (y4 : Int32) : Nat → hW → Int32 → Int32 → Int32 → Prop
  | 0, _, _, _, _ => False
  | n + 1, w, y1, y2, y5 =>
    hIf (y4 ≤ y5) (
      K y1 y2 w) <|
      obd (haP w y3 y5) fun v15 =>
      obd (hInst 7 w v15) fun v17 =>
      hjoin (fun (v39 : Int32) (v40 : Int32) =>
        hL_X1_meanSteps_1 pl Q K y0 y3 y4 n w v39 v40 (y5 + 1)) fun k42 =>
      hIf (v17 = 0) (
        k42 y1 y2) <|
        obd (hgP w y0 1 0) fun v20 =>
        obd (hgC w v15) fun v22 =>
        ∃ (d24 : hD) (g25 : mS), hRel d24 g25 w.1 ∧ d24.1 0 = v20 ∧ obd (fc_X2_lights g25 v22) fun v28 =>
        hIf (v28 = 0) (
          k42 y1 y2) <|
          obd (hgP w y0 1 0) fun v30 =>
          obd (hgC w v15) fun v32 =>
          ∃ (d34 : hD) (g35 : mS), hRel d34 g35 w.1 ∧ d34.1 0 = v30 ∧ obd (fc_X2_stepsTo g35 v32) fun v38 =>
          k42 (y1 + v38) (y2 + 1)
def hf_X1_meanSteps (pl : Nat → Nat) (w : hW) (a0 : Nat) (Q : UInt64 → hO → Prop) : Prop :=
  obd (hgP w a0 1 3) fun v1 =>
  ∃ (d3 : hD) (g4 : mS), hRel d3 g4 w.1 ∧ d3.1 100 = v1 ∧ obd (fc_X3_ray g4 100) fun v7 => hpret w d3 v7 fun w5 =>
  obd (hgP w5 a0 1 3) fun v8 =>
  obd (hgP w5 v8 3 3) fun v10 =>
  obd (hLen w5 v10) fun v12 =>
  hL_X1_meanSteps_1 pl Q (fun (v43 : Int32) (v44 : Int32) (w45 : hW) =>
    hjoin (fun (v49 : UInt64) =>
      Q v49 w45.1) fun k51 =>
    hIf (v44 = 0) (
      k51 FP.dconst0) <|
      obd (ck64 (FP.ddiv (FP.i2d v43) (FP.i2d v44))) fun v47 =>
      k51 v47) a0 v10 v12 FUEL w5 0 0 0
abbrev hrm_X1_meanSteps (c s : Nat) : Room := { frames := 7, cells := c, slots := s, locals := 155 }
set_option maxHeartbeats 4000000 in
set_option maxRecDepth 100000 in
theorem hloop_X1_meanSteps_1 {p : Program} {l : Launch} {e : Env} {s : State} {m : MethodId} {args : Array Value} {below : List Frame} {meth : Method} {c : Code} {cb sb : Nat} {E : hEnv} {A : Nat → Prop} {Q : UInt64 → hO → Prop} {K : Int32 → Int32 → hW → Prop} {y0 : Nat} {y3 : Nat} {y4 : Int32} (F : CallFix p m c cX1_meanSteps 7 s args lw_all RX1) (hr : meth.sig.returnType = some .double) (hlk : meth.locks = false) (hK : hK E A s) : ∀ (n : Nat) (w : hW) (y1 : Int32) (y2 : Int32) (y5 : Int32), hL_X1_meanSteps_1 E.2.2 Q K y0 y3 y4 n w y1 y2 y5 → ∀ (H : Heap) (locs : List Loc) (ls : Array Slot), hS E A s.heap cb sb w H locs → lv_has ls 7 [(0, .ref y0), (1, .int y1), (2, .int y2), (3, .ref y3), (4, .int y4), (5, .int y5)] → (∀ (z1 : Int32) (z2 : Int32) (wz : hW) (H : Heap) (locs : List Loc) (ls : Array Slot), K z1 z2 wz → hS E A s.heap cb sb wz H locs → lv_has ls 7 [(1, .int z1), (2, .int z2)] → W p l e (hrm_X1_meanSteps cb sb) s m args below meth c H locs (cb - wz.2.1) (sb - wz.2.2) (MQ below (hQd E A Q) args s cb sb A) (F0 m 87 ls [])) → W p l e (hrm_X1_meanSteps cb sb) s m args below meth c H locs (cb - w.2.1) (sb - w.2.2) (MQ below (hQd E A Q) args s cb sb A) (F0 m 27 ls []) := by
  have hx := F.1
  have hb := F.2.1
  intro n
  induction n with
  | zero =>
    intro w y1 y2 y5 h
    exact False.elim h
  | succ n ih =>
    intro w y1 y2 y5 h H locs ls S hl kx
    rw [hL_X1_meanSteps_1] at h
    refine lv_iload hx hb dX1_meanSteps_27 (lv_at hl 5 rfl) ?_
    refine lv_iload hx hb dX1_meanSteps_29 (lv_at hl 4 rfl) ?_
    refine lv_icmp_ge (tgt := 87) hx hb dX1_meanSteps_31 (by decide) (fun c14 => ?_) (fun c14 => ?_)
    · rw [hIf_pos c14] at h
      exact kx _ _ _ _ _ _ h S (lv_sub hl [1, 2] rfl)
    · rw [hIf_neg c14] at h
      refine lv_aload_n hx hb dX1_meanSteps_34 rfl (lv_at hl 3 rfl) ?_
      refine lv_iload hx hb dX1_meanSteps_35 (lv_at hl 5 rfl) ?_
      obtain ⟨v15, e16, h⟩ := obd_inv h
      refine h_aald F hK S e16 dX1_meanSteps_37 ?_
      refine lv_astore (lv' := [(6, .ref v15), (0, .ref y0), (1, .int y1), (2, .int y2), (3, .ref y3), (4, .int y4), (5, .int y5)]) hx hb dX1_meanSteps_38 hl (by decide) rfl (fun ls hl => ?_)
      refine lv_aload hx hb dX1_meanSteps_40 (lv_at hl 0 rfl) ?_
      obtain ⟨v17, e18, h⟩ := obd_inv h
      refine h_inst7 F hK S e18 q350 dX1_meanSteps_42 ?_
      obtain ⟨k42, hk42, h⟩ := hj2_inv h
      have hJ81 : ∀ (v39 : Int32) (v40 : Int32) (H : Heap) (locs : List Loc) (ls : Array Slot), k42 v39 v40 → hS E A s.heap cb sb w H locs → lv_has ls 7 [(0, .ref y0), (1, .int v39), (2, .int v40), (3, .ref y3), (4, .int y4), (5, .int y5)] → W p l e (hrm_X1_meanSteps cb sb) s m args below meth c H locs (cb - w.2.1) (sb - w.2.2) (MQ below (hQd E A Q) args s cb sb A) (F0 m 81 ls []) := by
        intro v39 v40 H locs ls h S hl
        replace h := hk42 _ _ h
        refine lv_iinc (v := (y5 + 1)) (lv' := [(5, .int (y5 + 1)), (0, .ref y0), (1, .int v39), (2, .int v40), (3, .ref y3), (4, .int y4)]) hx hb dX1_meanSteps_81 hl (k := 5) rfl rfl (by decide) rfl (fun ls hl => ?_)
        refine lv_goto (tgt := 27) hx hb dX1_meanSteps_84 (by decide) ?_
        exact ih _ _ _ _ h _ _ _ S (lv_sub hl [1, 2, 3, 4, 5, 0] rfl) kx
      clear hk42
      refine lv_if_eq (tgt := 81) hx hb dX1_meanSteps_45 (by decide) (fun c19 => ?_) (fun c19 => ?_)
      · rw [hIf_pos c19] at h
        exact hJ81 _ _ _ _ _ h S (lv_sub hl [1, 2, 3, 4, 5, 6] rfl)
      · rw [hIf_neg c19] at h
        refine lv_aload_n hx hb dX1_meanSteps_48 rfl (lv_at hl 1 rfl) ?_
        obtain ⟨v20, e21, h⟩ := obd_inv h
        refine hg_X1_13 F hK S e21 dX1_meanSteps_49 ?_
        refine lv_aload hx hb dX1_meanSteps_52 (lv_at hl 0 rfl) ?_
        obtain ⟨v22, e23, h⟩ := obd_inv h
        refine hg_X1_78 F hK S e23 dX1_meanSteps_54 ?_
        obtain ⟨d24, g25, hrl, hdl, h⟩ := h
        obtain ⟨v28, e27, h⟩ := obd_inv h
        refine hpc_X2_lights_X1_243 F hK S hrl hdl e27 rfl rfl hl.1 (Nat.le_of_ble_eq_true rfl) ⟨Nat.le_of_ble_eq_true rfl, Nat.le_of_ble_eq_true rfl⟩ dX1_meanSteps_57 (fun H locs S => ?_)
        refine lv_if_eq (tgt := 81) hx hb dX1_meanSteps_60 (by decide) (fun c29 => ?_) (fun c29 => ?_)
        · rw [hIf_pos c29] at h
          exact hJ81 _ _ _ _ _ h S (lv_sub hl [1, 2, 3, 4, 5, 6] rfl)
        · rw [hIf_neg c29] at h
          refine lv_iload_n hx hb dX1_meanSteps_63 rfl (lv_at hl 2 rfl) ?_
          refine lv_aload_n hx hb dX1_meanSteps_64 rfl (lv_at hl 1 rfl) ?_
          obtain ⟨v30, e31, h⟩ := obd_inv h
          refine hg_X1_13 F hK S e31 dX1_meanSteps_65 ?_
          refine lv_aload hx hb dX1_meanSteps_68 (lv_at hl 0 rfl) ?_
          obtain ⟨v32, e33, h⟩ := obd_inv h
          refine hg_X1_78 F hK S e33 dX1_meanSteps_70 ?_
          obtain ⟨d34, g35, hrl, hdl, h⟩ := h
          obtain ⟨v38, e37, h⟩ := obd_inv h
          refine hpc_X2_stepsTo_X1_318 F hK S hrl hdl e37 rfl rfl hl.1 (Nat.le_of_ble_eq_true rfl) ⟨Nat.le_of_ble_eq_true rfl, Nat.le_of_ble_eq_true rfl⟩ dX1_meanSteps_73 (fun H locs S => ?_)
          refine lv_iadd hx hb dX1_meanSteps_76 ?_
          refine lv_istore_n (lv' := [(1, .int (y1 + v38)), (6, .ref v15), (0, .ref y0), (2, .int y2), (3, .ref y3), (4, .int y4), (5, .int y5)]) hx hb dX1_meanSteps_77 rfl hl (by decide) rfl (fun ls hl => ?_)
          refine lv_iinc (v := (y2 + 1)) (lv' := [(2, .int (y2 + 1)), (1, .int (y1 + v38)), (6, .ref v15), (0, .ref y0), (3, .ref y3), (4, .int y4), (5, .int y5)]) hx hb dX1_meanSteps_78 hl (k := 3) rfl rfl (by decide) rfl (fun ls hl => ?_)
          exact hJ81 _ _ _ _ _ h S (lv_sub hl [3, 1, 0, 4, 5, 6] rfl)
set_option maxHeartbeats 4000000 in
set_option maxRecDepth 100000 in
theorem hmet_X1_meanSteps (l : Launch) (E : hEnv) (A : Nat → Prop) (w : hW) (a0 : Nat) (Q : UInt64 → hO → Prop) (h : hf_X1_meanSteps E.2.2 w a0 Q) : Met l yX1_meanSteps (ws_ yX1_meanSteps cX1_meanSteps 7 (some .double)) (hrm_X1_meanSteps w.2.1 w.2.2) (va_Pc [.ref a0] (gPre (hK E A) (hP E A w.1))) (hQd E A Q) w.2.1 w.2.2 A := by
  refine h_met (own := RX1) (by decide +kernel) rfl (Nat.le_of_ble_eq_true rfl) ?_
  intro p e s m args below meth c ls cb sb F hr hlk hK S hl
  have hx := F.1
  have hb := F.2.1
  have hl : lv_has ls 7 [(0, .ref a0)] := hl
  unfold hf_X1_meanSteps at h
  refine lv_aload_n hx hb dX1_meanSteps_0 rfl (lv_at hl 0 rfl) ?_
  obtain ⟨v1, e2, h⟩ := obd_inv h
  refine hg_X1_47 F hK S e2 dX1_meanSteps_1 ?_
  obtain ⟨d3, g4, hrl, hdl, h⟩ := h
  obtain ⟨v7, e6, h⟩ := obd_inv h
  refine hpc_X3_ray_X1_240 F hK S hrl hdl e6 rfl rfl hl.1 (Nat.le_of_ble_eq_true rfl) ⟨Nat.le_of_ble_eq_true rfl, Nat.le_of_ble_eq_true rfl⟩ dX1_meanSteps_4 (fun w5 H locs hw hz S => ?_)
  replace h := hpret_mp h hw hz
  clear hw hz
  refine lv_pop hx hb dX1_meanSteps_7 rfl ?_
  refine lv_iconst (v := 0) hx hb dX1_meanSteps_8 (by decide) ?_
  refine lv_istore_n (lv' := [(1, .int 0), (0, .ref a0)]) hx hb dX1_meanSteps_9 rfl hl (by decide) rfl (fun ls hl => ?_)
  refine lv_iconst (v := 0) hx hb dX1_meanSteps_10 (by decide) ?_
  refine lv_istore_n (lv' := [(2, .int 0), (1, .int 0), (0, .ref a0)]) hx hb dX1_meanSteps_11 rfl hl (by decide) rfl (fun ls hl => ?_)
  refine lv_aload_n hx hb dX1_meanSteps_12 rfl (lv_at hl 2 rfl) ?_
  obtain ⟨v8, e9, h⟩ := obd_inv h
  refine hg_X1_47 F hK S e9 dX1_meanSteps_13 ?_
  obtain ⟨v10, e11, h⟩ := obd_inv h
  refine hg_X1_74 F hK S e11 dX1_meanSteps_16 ?_
  refine lv_astore_n (lv' := [(3, .ref v10), (2, .int 0), (1, .int 0), (0, .ref a0)]) hx hb dX1_meanSteps_19 rfl hl (by decide) rfl (fun ls hl => ?_)
  refine lv_aload_n hx hb dX1_meanSteps_20 rfl (lv_at hl 0 rfl) ?_
  obtain ⟨v12, e13, h⟩ := obd_inv h
  refine h_alen F hK S e13 dX1_meanSteps_21 ?_
  refine lv_istore (lv' := [(4, .int v12), (3, .ref v10), (2, .int 0), (1, .int 0), (0, .ref a0)]) hx hb dX1_meanSteps_22 hl (by decide) rfl (fun ls hl => ?_)
  refine lv_iconst (v := 0) hx hb dX1_meanSteps_24 (by decide) ?_
  refine lv_istore (lv' := [(5, .int 0), (4, .int v12), (3, .ref v10), (2, .int 0), (1, .int 0), (0, .ref a0)]) hx hb dX1_meanSteps_25 hl (by decide) rfl (fun ls hl => ?_)
  refine hloop_X1_meanSteps_1 F hr hlk hK _ _ _ _ _ h _ _ _ S (lv_sub hl [5, 4, 3, 2, 1, 0] rfl) (fun v43 v44 w45 H locs ls h S hl => ?_)
  refine lv_iload_n hx hb dX1_meanSteps_87 rfl (lv_at hl 1 rfl) ?_
  obtain ⟨k51, hk51, h⟩ := hj1_inv h
  have hJ100 : ∀ (v49 : UInt64) (H : Heap) (locs : List Loc) (ls : Array Slot), k51 v49 → hS E A s.heap cb sb w45 H locs → lv_has ls 7 [] → W p l e (hrm_X1_meanSteps cb sb) s m args below meth c H locs (cb - w45.2.1) (sb - w45.2.2) (MQ below (hQd E A Q) args s cb sb A) (F0 m 100 ls [.double v49]) := by
    intro v49 H locs ls h S hl
    replace h := hk51 _ h
    exact h_dret F hr hlk S h dX1_meanSteps_100
  clear hk51
  refine lv_if_ne (tgt := 95) hx hb dX1_meanSteps_88 (by decide) (fun c46 => ?_) (fun c46 => ?_)
  · rw [hIf_neg c46] at h
    refine lv_iload_n hx hb dX1_meanSteps_95 rfl (lv_at hl 0 rfl) ?_
    refine lv_i2d hx hb dX1_meanSteps_96 ?_
    refine lv_iload_n hx hb dX1_meanSteps_97 rfl (lv_at hl 1 rfl) ?_
    refine lv_i2d hx hb dX1_meanSteps_98 ?_
    obtain ⟨v47, e48, h⟩ := obd_inv h
    obtain ⟨e48f, rfl⟩ := ck64_inv e48
    refine lv_ddiv hx hb dX1_meanSteps_99 e48f ?_
    exact hJ100 _ _ _ _ h S (lv_sub hl [] rfl)
  · rw [hIf_pos c46] at h
    refine lv_dconst0 hx hb dX1_meanSteps_91 ?_
    refine lv_goto (tgt := 100) hx hb dX1_meanSteps_92 (by decide) ?_
    exact hJ100 _ _ _ _ h S (lv_sub hl [] rfl)
theorem hcl_X3_turns_X1_329 {p : Program} {l : Launch} {e : Env} {s : State} {m : MethodId} {args : Array Value} {below : List Frame} {meth : Method} {c : Code} {R : Room} {H : Heap} {locs : List Loc} {cb sb pc nL : Nat} {Q : State → Prop} {ls : Array Slot} {rest : List Value} {cc : ByteArray} {E : hEnv} {A : Nat → Prop} {w : hW} {a0 : Nat} {x1 : Nat} {x2 : Int32} {Q' : hO → Prop} {c1 s1 : Nat} (F : CallFix p m c cc nL s args lw_all RX1) (hK : hK E A s) (S : hS E A s.heap cb sb w H locs) (hrv : ∃ (b : Bool) (fs : List Value), w.1 a0 = some (b, .inl (3, fs))) (h1 : c1 ≤ w.2.1) (h2 : s1 ≤ w.2.2) (h : hf_X3_turns E.2.2 (w.1, c1, s1) a0 x1 x2 Q') (hrc : R.cells = cb) (hrs : R.slots = sb) (hls : ls.size = nL) (hWt : (rest.map fun v => v.category).sum ≤ 8) (hR : 3 + 1 ≤ R.frames ∧ 8 + (5 + 11) + 64 ≤ R.locals) (hdg : decode cc pc = .ok (.invokevirtual 329, 3))
    (kk : ∀ (o : hO) (w' : hW) (H1 : Heap) (locs1 : List Loc), w' = (o, w.2.1 - c1, w.2.2 - s1) → Q' o → hS E A s.heap cb sb w' H1 locs1 → W p l e R s m args below meth c H1 locs1 (cb - w'.2.1) (sb - w'.2.2) Q (F0 m (pc + 3) ls (rest))) : W p l e R s m args below meth c H locs (cb - w.2.1) (sb - w.2.2) Q (F0 m pc ls (.int x2 :: .ref x1 :: .ref a0 :: rest)) :=
  h_kv (g_runV F hK (hKm E A) S.1 (hmet_X3_turns l E A (w.1, c1, s1) a0 x1 x2 Q' h) (cwV 2 F.2.2.2.2 (lw_V q1750 q1751 q1752 q115 q1753) rfl rfl rfl (by decide +kernel) hR) (h_recv hK S (ci := 3) rfl hrv) rfl hls rfl hWt hdg ⟨by rw [hrc]; exact (h_left S h1 h2).1, by rw [hrs]; exact (h_left S h1 h2).2⟩) S h1 h2 kk
def hf_X1_isHitBy (pl : Nat → Nat) (w : hW) (a0 : Nat) (x1 : Nat) (x2 : Nat) (x3 : Int32) (x4 : Int32) (Q : Int32 → hO → Prop) : Prop :=
  obd (hIs w x1 3) fun u1 =>
  hcall w fun n3 n4 => hf_X3_turns pl (w.1, n3, n4) x1 x2 x3 fun o6 => hret w n3 n4 o6 fun w5 =>
  ∃ (d7 : hD) (g8 : mS), hRel d7 g8 w5.1 ∧ d7.1 100 = x1 ∧ obd (fc_X3_ray g8 100) fun v11 => hpret w5 d7 v11 fun w9 =>
  ∃ (d12 : hD) (g13 : mS), hRel d12 g13 w9.1 ∧ d12.1 0 = (d7.1 0) ∧ obd (fc_X2_lights g13 x4) fun v16 =>
  hjoin (fun (v18 : Int32) =>
    obd (hIs w9 x1 3) fun u19 =>
    hcall w9 fun n21 n22 => hf_X3_turns pl (w9.1, n21, n22) x1 x2 x3 fun o24 => hret w9 n21 n22 o24 fun w23 =>
    Q (zN v18) w23.1) fun k26 =>
  hIf (v16 = 0) (
    k26 0) <|
    k26 1
abbrev hrm_X1_isHitBy (c s : Nat) : Room := { frames := 7, cells := c, slots := s, locals := 155 }
set_option maxHeartbeats 4000000 in
set_option maxRecDepth 100000 in
theorem hmet_X1_isHitBy (l : Launch) (E : hEnv) (A : Nat → Prop) (w : hW) (a0 : Nat) (x1 : Nat) (x2 : Nat) (x3 : Int32) (x4 : Int32) (Q : Int32 → hO → Prop) (h : hf_X1_isHitBy E.2.2 w a0 x1 x2 x3 x4 Q) : Met l yX1_isHitBy (ws_ yX1_isHitBy cX1_isHitBy 6 (some .boolean)) (hrm_X1_isHitBy w.2.1 w.2.2) (va_Pc [.ref a0, .ref x1, .ref x2, .int x3, .int x4] (gPre (hK E A) (hP E A w.1))) (hQi E A Q) w.2.1 w.2.2 A := by
  refine h_met (own := RX1) (by decide +kernel) rfl (Nat.le_of_ble_eq_true rfl) ?_
  intro p e s m args below meth c ls cb sb F hr hlk hK S hl
  have hx := F.1
  have hb := F.2.1
  have hl : lv_has ls 6 [(0, .ref a0), (1, .ref x1), (2, .ref x2), (3, .int x3), (4, .int x4)] := hl
  unfold hf_X1_isHitBy at h
  refine lv_aload_n hx hb dX1_isHitBy_0 rfl (lv_at hl 1 rfl) ?_
  refine lv_aload_n hx hb dX1_isHitBy_1 rfl (lv_at hl 2 rfl) ?_
  refine lv_iload_n hx hb dX1_isHitBy_2 rfl (lv_at hl 3 rfl) ?_
  obtain ⟨u1, e2, h⟩ := obd_inv h
  obtain ⟨n3, n4, h1, h2, h⟩ := hcall_inv h
  refine hcl_X3_turns_X1_329 F hK S (hIs_inv e2) h1 h2 h rfl rfl hl.1 (Nat.le_of_ble_eq_true rfl) ⟨Nat.le_of_ble_eq_true rfl, Nat.le_of_ble_eq_true rfl⟩ dX1_isHitBy_3 (fun o6 w5 H locs hw h S => ?_)
  replace h := hret_mp h hw
  clear hw h1 h2
  refine lv_aload_n hx hb dX1_isHitBy_6 rfl (lv_at hl 1 rfl) ?_
  obtain ⟨d7, g8, hrl, hdl, h⟩ := h
  obtain ⟨v11, e10, h⟩ := obd_inv h
  refine hpc_X3_ray_X1_240 F hK S hrl hdl e10 rfl rfl hl.1 (Nat.le_of_ble_eq_true rfl) ⟨Nat.le_of_ble_eq_true rfl, Nat.le_of_ble_eq_true rfl⟩ dX1_isHitBy_7 (fun w9 H locs hw hz S => ?_)
  replace h := hpret_mp h hw hz
  clear hw hz
  refine lv_iload hx hb dX1_isHitBy_10 (lv_at hl 4 rfl) ?_
  obtain ⟨d12, g13, hrl, hdl, h⟩ := h
  obtain ⟨v16, e15, h⟩ := obd_inv h
  refine hpc_X2_lights_X1_243 F hK S hrl hdl e15 rfl rfl hl.1 (Nat.le_of_ble_eq_true rfl) ⟨Nat.le_of_ble_eq_true rfl, Nat.le_of_ble_eq_true rfl⟩ dX1_isHitBy_12 (fun H locs S => ?_)
  obtain ⟨k26, hk26, h⟩ := hj1_inv h
  have hJ23 : ∀ (v18 : Int32) (H : Heap) (locs : List Loc) (ls : Array Slot), k26 v18 → hS E A s.heap cb sb w9 H locs → lv_has ls 6 [(1, .ref x1), (2, .ref x2), (3, .int x3)] → W p l e (hrm_X1_isHitBy cb sb) s m args below meth c H locs (cb - w9.2.1) (sb - w9.2.2) (MQ below (hQi E A Q) args s cb sb A) (F0 m 23 ls [.int v18]) := by
    intro v18 H locs ls h S hl
    replace h := hk26 _ h
    refine lv_istore (lv' := [(5, .int v18), (1, .ref x1), (2, .ref x2), (3, .int x3)]) hx hb dX1_isHitBy_23 hl (by decide) rfl (fun ls hl => ?_)
    refine lv_aload_n hx hb dX1_isHitBy_25 rfl (lv_at hl 1 rfl) ?_
    refine lv_aload_n hx hb dX1_isHitBy_26 rfl (lv_at hl 2 rfl) ?_
    refine lv_iload_n hx hb dX1_isHitBy_27 rfl (lv_at hl 3 rfl) ?_
    obtain ⟨u19, e20, h⟩ := obd_inv h
    obtain ⟨n21, n22, h1, h2, h⟩ := hcall_inv h
    refine hcl_X3_turns_X1_329 F hK S (hIs_inv e20) h1 h2 h rfl rfl hl.1 (Nat.le_of_ble_eq_true rfl) ⟨Nat.le_of_ble_eq_true rfl, Nat.le_of_ble_eq_true rfl⟩ dX1_isHitBy_28 (fun o24 w23 H locs hw h S => ?_)
    replace h := hret_mp h hw
    clear hw h1 h2
    refine lv_iload hx hb dX1_isHitBy_31 (lv_at hl 0 rfl) ?_
    exact h_zret F hr hlk S h dX1_isHitBy_33
  clear hk26
  refine lv_if_eq (tgt := 22) hx hb dX1_isHitBy_15 (by decide) (fun c17 => ?_) (fun c17 => ?_)
  · rw [hIf_pos c17] at h
    refine lv_iconst (v := 0) hx hb dX1_isHitBy_22 (by decide) ?_
    exact hJ23 _ _ _ _ h S (lv_sub hl [1, 2, 3] rfl)
  · rw [hIf_neg c17] at h
    refine lv_iconst (v := 1) hx hb dX1_isHitBy_18 (by decide) ?_
    refine lv_goto (tgt := 23) hx hb dX1_isHitBy_19 (by decide) ?_
    exact hJ23 _ _ _ _ h S (lv_sub hl [1, 2, 3] rfl)
def hv_form (pl : Nat → Nat) (w : hW) (a0 : Nat) (Q : Int32 → hO → Prop) : Prop := (hCls w a0 = some 4 ∧ hf_X4_form pl w a0 Q) ∨ (hCls w a0 = some 5 ∧ hf_X6_form pl w a0 Q) ∨ (hCls w a0 = some 6 ∧ hf_X7_form pl w a0 Q) ∨ (hCls w a0 = some 7 ∧ hf_X4_form pl w a0 Q) ∨ (hCls w a0 = some 8 ∧ hf_X12_form pl w a0 Q) ∨ (hCls w a0 = some 9 ∧ hf_X13_form pl w a0 Q)
theorem hcv_form_X1_183 {p : Program} {l : Launch} {e : Env} {s : State} {m : MethodId} {args : Array Value} {below : List Frame} {meth : Method} {c : Code} {R : Room} {H : Heap} {locs : List Loc} {cb sb pc nL : Nat} {Q : State → Prop} {ls : Array Slot} {rest : List Value} {cc : ByteArray} {E : hEnv} {A : Nat → Prop} {w : hW} {a0 : Nat} {Q' : Int32 → hO → Prop} {c1 s1 : Nat} (F : CallFix p m c cc nL s args lw_all RX1) (hK : hK E A s) (S : hS E A s.heap cb sb w H locs) (h1 : c1 ≤ w.2.1) (h2 : s1 ≤ w.2.2) (h : hv_form E.2.2 (w.1, c1, s1) a0 Q') (hrc : R.cells = cb) (hrs : R.slots = sb) (hls : ls.size = nL) (hWt : (rest.map fun v => v.category).sum ≤ 8) (hR : 0 + 1 ≤ R.frames ∧ 8 + (1 + 11) + 0 ≤ R.locals) (hdg : decode cc pc = .ok (.invokevirtual 183, 3))
    (kk : ∀ (v : Int32) (o : hO) (w' : hW) (H1 : Heap) (locs1 : List Loc), w' = (o, w.2.1 - c1, w.2.2 - s1) → Q' v o → hS E A s.heap cb sb w' H1 locs1 → W p l e R s m args below meth c H1 locs1 (cb - w'.2.1) (sb - w'.2.2) Q (F0 m (pc + 3) ls (.int v :: rest))) : W p l e R s m args below meth c H locs (cb - w.2.1) (sb - w.2.2) Q (F0 m pc ls (.ref a0 :: rest)) := by
  rcases h with ⟨hc, h⟩ | ⟨hc, h⟩ | ⟨hc, h⟩ | ⟨hc, h⟩ | ⟨hc, h⟩ | ⟨hc, h⟩
  · exact h_ki (g_runU F hK (hKm E A) S.1 (hmet_X4_form l E A (w.1, c1, s1) a0 Q' h) (va_cwU 0 F.2.2.2.2 (gw_U q1407 q389 q391 q388 q116 q404) rfl rfl rfl rfl (by decide +kernel) ⟨Nat.le_trans (Nat.le_of_ble_eq_true rfl) hR.1, Nat.le_trans (Nat.le_of_ble_eq_true rfl) hR.2⟩) (h_recv hK S (ci := 4) rfl (hCls_inv hc)) rfl hls rfl hWt hdg ⟨by rw [hrc]; exact (h_left S h1 h2).1, by rw [hrs]; exact (h_left S h1 h2).2⟩) S h1 h2 kk
  · exact h_ki (g_runU F hK (hKm E A) S.1 (hmet_X6_form l E A (w.1, c1, s1) a0 Q' h) (va_cwO 0 F.2.2.2.2 (gw_O q1407 q389 q388 q401 q402 q118 q403) rfl rfl rfl q404 (by decide +kernel) ⟨Nat.le_trans (Nat.le_of_ble_eq_true rfl) hR.1, Nat.le_trans (Nat.le_of_ble_eq_true rfl) hR.2⟩) (h_recv hK S (ci := 5) rfl (hCls_inv hc)) rfl hls rfl hWt hdg ⟨by rw [hrc]; exact (h_left S h1 h2).1, by rw [hrs]; exact (h_left S h1 h2).2⟩) S h1 h2 kk
  · exact h_ki (g_runU F hK (hKm E A) S.1 (hmet_X7_form l E A (w.1, c1, s1) a0 Q' h) (va_cwO 0 F.2.2.2.2 (gw_O q1407 q389 q388 q395 q396 q119 q397) rfl rfl rfl q404 (by decide +kernel) ⟨Nat.le_trans (Nat.le_of_ble_eq_true rfl) hR.1, Nat.le_trans (Nat.le_of_ble_eq_true rfl) hR.2⟩) (h_recv hK S (ci := 6) rfl (hCls_inv hc)) rfl hls rfl hWt hdg ⟨by rw [hrc]; exact (h_left S h1 h2).1, by rw [hrs]; exact (h_left S h1 h2).2⟩) S h1 h2 kk
  · exact h_ki (g_runU F hK (hKm E A) S.1 (hmet_X4_form l E A (w.1, c1, s1) a0 Q' h) (va_cwU 0 F.2.2.2.2 (gw_U q1407 q389 q390 q388 q116 q404) rfl rfl rfl rfl (by decide +kernel) ⟨Nat.le_trans (Nat.le_of_ble_eq_true rfl) hR.1, Nat.le_trans (Nat.le_of_ble_eq_true rfl) hR.2⟩) (h_recv hK S (ci := 7) rfl (hCls_inv hc)) rfl hls rfl hWt hdg ⟨by rw [hrc]; exact (h_left S h1 h2).1, by rw [hrs]; exact (h_left S h1 h2).2⟩) S h1 h2 kk
  · exact h_ki (g_runU F hK (hKm E A) S.1 (hmet_X12_form l E A (w.1, c1, s1) a0 Q' h) (va_cwO 0 F.2.2.2.2 (gw_O q1407 q389 q388 q392 q393 q140 q394) rfl rfl rfl q404 (by decide +kernel) ⟨Nat.le_trans (Nat.le_of_ble_eq_true rfl) hR.1, Nat.le_trans (Nat.le_of_ble_eq_true rfl) hR.2⟩) (h_recv hK S (ci := 8) rfl (hCls_inv hc)) rfl hls rfl hWt hdg ⟨by rw [hrc]; exact (h_left S h1 h2).1, by rw [hrs]; exact (h_left S h1 h2).2⟩) S h1 h2 kk
  · exact h_ki (g_runU F hK (hKm E A) S.1 (hmet_X13_form l E A (w.1, c1, s1) a0 Q' h) (va_cwO 0 F.2.2.2.2 (gw_O q1407 q389 q388 q398 q399 q141 q400) rfl rfl rfl q404 (by decide +kernel) ⟨Nat.le_trans (Nat.le_of_ble_eq_true rfl) hR.1, Nat.le_trans (Nat.le_of_ble_eq_true rfl) hR.2⟩) (h_recv hK S (ci := 9) rfl (hCls_inv hc)) rfl hls rfl hWt hdg ⟨by rw [hrc]; exact (h_left S h1 h2).1, by rw [hrs]; exact (h_left S h1 h2).2⟩) S h1 h2 kk
theorem hcl_J4_charAt_X1_345 {p : Program} {l : Launch} {e : Env} {s : State} {m : MethodId} {args : Array Value} {below : List Frame} {meth : Method} {c : Code} {R : Room} {H : Heap} {locs : List Loc} {cb sb pc nL : Nat} {Q : State → Prop} {ls : Array Slot} {rest : List Value} {cc : ByteArray} {E : hEnv} {A : Nat → Prop} {w : hW} {a0 : Nat} {x1 : Int32} {Q' : Int32 → hO → Prop} {c1 s1 : Nat} (F : CallFix p m c cc nL s args lw_all RX1) (hK : hK E A s) (S : hS E A s.heap cb sb w H locs) (hrv : ∃ (b : Bool) (fs : List Value), w.1 a0 = some (b, .inl (15, fs))) (h1 : c1 ≤ w.2.1) (h2 : s1 ≤ w.2.2) (h : hf_J4_charAt E.2.2 (w.1, c1, s1) a0 x1 Q') (hrc : R.cells = cb) (hrs : R.slots = sb) (hls : ls.size = nL) (hWt : (rest.map fun v => v.category).sum ≤ 8) (hR : 3 + 1 ≤ R.frames ∧ 8 + (2 + 11) + 64 ≤ R.locals) (hdg : decode cc pc = .ok (.invokevirtual 345, 3))
    (kk : ∀ (v : Int32) (o : hO) (w' : hW) (H1 : Heap) (locs1 : List Loc), w' = (o, w.2.1 - c1, w.2.2 - s1) → Q' v o → hS E A s.heap cb sb w' H1 locs1 → W p l e R s m args below meth c H1 locs1 (cb - w'.2.1) (sb - w'.2.2) Q (F0 m (pc + 3) ls (.int v :: rest))) : W p l e R s m args below meth c H locs (cb - w.2.1) (sb - w.2.2) Q (F0 m pc ls (.int x1 :: .ref a0 :: rest)) :=
  h_ki (g_runV F hK (hKm E A) S.1 (hmet_J4_charAt l E A (w.1, c1, s1) a0 x1 Q' h) (cwV 1 F.2.2.2.2 (lw_V q1408 q1409 q1410 q125 q1411) rfl rfl rfl (by decide +kernel) hR) (h_recv hK S (ci := 15) rfl hrv) rfl hls rfl hWt hdg ⟨by rw [hrc]; exact (h_left S h1 h2).1, by rw [hrs]; exact (h_left S h1 h2).2⟩) S h1 h2 kk
def hf_X1_sign (pl : Nat → Nat) (w : hW) (a0 : Nat) (x1 : Nat) (Q : Int32 → hO → Prop) : Prop :=
  hcall w fun n1 n2 => hv_kind pl (w.1, n1, n2) x1 fun v5 o4 => hret w n1 n2 o4 fun w3 =>
  hIf (v5 = 0) (
    obd (hgP w3 a0 1 0) fun v7 =>
    obd (hgC w3 x1) fun v9 =>
    ∃ (d11 : hD) (g12 : mS), hRel d11 g12 w3.1 ∧ d11.1 0 = v7 ∧ obd (fc_X2_lights g12 v9) fun v15 =>
    hjoin (fun (v17 : Int32) =>
      Q (chN v17) w3.1) fun k19 =>
    hIf (v15 = 0) (
      k19 46) <|
      k19 43) <|
  hIf (v5 = 1) (
    Q (chN 35) w3.1) <|
  hIf (v5 = 2) (
    hcall w3 fun n22 n23 => hv_form pl (w3.1, n22, n23) x1 fun v26 o25 => hret w3 n22 n23 o25 fun w24 =>
    obd (hIs w24 (pl 26) 15) fun u27 =>
    hcall w24 fun n29 n30 => hf_J4_charAt pl (w24.1, n29, n30) (pl 26) v26 fun v33 o32 => hret w24 n29 n30 o32 fun w31 =>
    Q (chN v33) w31.1) <|
  hIf (v5 = 3) (
    hcall w3 fun n35 n36 => hv_form pl (w3.1, n35, n36) x1 fun v39 o38 => hret w3 n35 n36 o38 fun w37 =>
    obd (hIs w37 (pl 27) 15) fun u40 =>
    hcall w37 fun n42 n43 => hf_J4_charAt pl (w37.1, n42, n43) (pl 27) v39 fun v46 o45 => hret w37 n42 n43 o45 fun w44 =>
    Q (chN v46) w44.1) <|
  hIf (v5 = 4) (
    obd (hIs w3 x1 7) fun u48 =>
    obd (hIs w3 x1 7) fun u50 =>
    hcall w3 fun n52 n53 => hf_X8_isOpen pl (w3.1, n52, n53) x1 fun v56 o55 => hret w3 n52 n53 o55 fun w54 =>
    hjoin (fun (v58 : Int32) =>
      Q (chN v58) w54.1) fun k60 =>
    hIf (v56 = 0) (
      k60 68) <|
      k60 79) <|
  hIf (v5 = 5) (
    hcall w3 fun n62 n63 => hv_form pl (w3.1, n62, n63) x1 fun v66 o65 => hret w3 n62 n63 o65 fun w64 =>
    obd (hIs w64 (pl 28) 15) fun u67 =>
    hcall w64 fun n69 n70 => hf_J4_charAt pl (w64.1, n69, n70) (pl 28) v66 fun v73 o72 => hret w64 n69 n70 o72 fun w71 =>
    Q (chN v73) w71.1) <|
  hIf (v5 = 6) (
    Q (chN 111) w3.1) <|
    Q (chN 42) w3.1
abbrev hrm_X1_sign (c s : Nat) : Room := { frames := 4, cells := c, slots := s, locals := 85 }
set_option maxHeartbeats 4000000 in
set_option maxRecDepth 100000 in
theorem hmet_X1_sign (l : Launch) (E : hEnv) (A : Nat → Prop) (w : hW) (a0 : Nat) (x1 : Nat) (Q : Int32 → hO → Prop) (h : hf_X1_sign E.2.2 w a0 x1 Q) : Met l yX1_sign (ws_ yX1_sign cX1_sign 2 (some .char)) (hrm_X1_sign w.2.1 w.2.2) (va_Pc [.ref a0, .ref x1] (gPre (hK E A) (hP E A w.1))) (hQi E A Q) w.2.1 w.2.2 A := by
  refine h_met (own := RX1) (by decide +kernel) rfl (Nat.le_of_ble_eq_true rfl) ?_
  intro p e s m args below meth c ls cb sb F hr hlk hK S hl
  have hx := F.1
  have hb := F.2.1
  have hl : lv_has ls 2 [(0, .ref a0), (1, .ref x1)] := hl
  unfold hf_X1_sign at h
  refine lv_aload_n hx hb dX1_sign_0 rfl (lv_at hl 1 rfl) ?_
  obtain ⟨n1, n2, h1, h2, h⟩ := hcall_inv h
  refine hcv_kind_X1_107 F hK S h1 h2 h rfl rfl hl.1 (Nat.le_of_ble_eq_true rfl) ⟨Nat.le_of_ble_eq_true rfl, Nat.le_of_ble_eq_true rfl⟩ dX1_sign_1 (fun v5 o4 w3 H locs hw h S => ?_)
  replace h := hret_mp h hw
  clear hw h1 h2
  by_cases c6 : v5 = 0
  · rw [hIf_pos c6] at h
    refine lv_tableIn (tgt := 48) (off := 44) hx hb dX1_sign_4 (by rw [c6]; decide) (by rw [c6]; decide) (by rw [c6]; rfl) (by decide) ?_
    refine lv_aload_n hx hb dX1_sign_48 rfl (lv_at hl 0 rfl) ?_
    obtain ⟨v7, e8, h⟩ := obd_inv h
    refine hg_X1_13 F hK S e8 dX1_sign_49 ?_
    refine lv_aload_n hx hb dX1_sign_52 rfl (lv_at hl 1 rfl) ?_
    obtain ⟨v9, e10, h⟩ := obd_inv h
    refine hg_X1_78 F hK S e10 dX1_sign_53 ?_
    obtain ⟨d11, g12, hrl, hdl, h⟩ := h
    obtain ⟨v15, e14, h⟩ := obd_inv h
    refine hpc_X2_lights_X1_243 F hK S hrl hdl e14 rfl rfl hl.1 (Nat.le_of_ble_eq_true rfl) ⟨Nat.le_of_ble_eq_true rfl, Nat.le_of_ble_eq_true rfl⟩ dX1_sign_56 (fun H locs S => ?_)
    obtain ⟨k19, hk19, h⟩ := hj1_inv h
    have hJ69 : ∀ (v17 : Int32) (H : Heap) (locs : List Loc) (ls : Array Slot), k19 v17 → hS E A s.heap cb sb w3 H locs → lv_has ls 2 [] → W p l e (hrm_X1_sign cb sb) s m args below meth c H locs (cb - w3.2.1) (sb - w3.2.2) (MQ below (hQi E A Q) args s cb sb A) (F0 m 69 ls [.int v17]) := by
      intro v17 H locs ls h S hl
      replace h := hk19 _ h
      exact h_cret F hr hlk S h dX1_sign_69
    clear hk19
    refine lv_if_ne (tgt := 67) hx hb dX1_sign_59 (by decide) (fun c16 => ?_) (fun c16 => ?_)
    · rw [hIf_neg c16] at h
      refine lv_bipush (v := 43) hx hb dX1_sign_67 (by decide) ?_
      exact hJ69 _ _ _ _ h S (lv_sub hl [] rfl)
    · rw [hIf_pos c16] at h
      refine lv_bipush (v := 46) hx hb dX1_sign_62 (by decide) ?_
      refine lv_goto (tgt := 69) hx hb dX1_sign_64 (by decide) ?_
      exact hJ69 _ _ _ _ h S (lv_sub hl [] rfl)
  rw [hIf_neg c6] at h
  by_cases c20 : v5 = 1
  · rw [hIf_pos c20] at h
    refine lv_tableIn (tgt := 70) (off := 66) hx hb dX1_sign_4 (by rw [c20]; decide) (by rw [c20]; decide) (by rw [c20]; rfl) (by decide) ?_
    refine lv_bipush (v := 35) hx hb dX1_sign_70 (by decide) ?_
    exact h_cret F hr hlk S h dX1_sign_72
  rw [hIf_neg c20] at h
  by_cases c21 : v5 = 2
  · rw [hIf_pos c21] at h
    refine lv_tableIn (tgt := 73) (off := 69) hx hb dX1_sign_4 (by rw [c21]; decide) (by rw [c21]; decide) (by rw [c21]; rfl) (by decide) ?_
    refine h_ldcwS F.1 F.2.1 F.2.2.2.1 (hK.2.2.1.2.2.2.2.1 _ (List.mem_of_getElem? (i := 16) rfl)) dX1_sign_73 ?_
    refine lv_aload_n hx hb dX1_sign_76 rfl (lv_at hl 1 rfl) ?_
    obtain ⟨n22, n23, h1, h2, h⟩ := hcall_inv h
    refine hcv_form_X1_183 F hK S h1 h2 h rfl rfl hl.1 (Nat.le_of_ble_eq_true rfl) ⟨Nat.le_of_ble_eq_true rfl, Nat.le_of_ble_eq_true rfl⟩ dX1_sign_77 (fun v26 o25 w24 H locs hw h S => ?_)
    replace h := hret_mp h hw
    clear hw h1 h2
    obtain ⟨u27, e28, h⟩ := obd_inv h
    obtain ⟨n29, n30, h1, h2, h⟩ := hcall_inv h
    refine hcl_J4_charAt_X1_345 F hK S (hIs_inv e28) h1 h2 h rfl rfl hl.1 (Nat.le_of_ble_eq_true rfl) ⟨Nat.le_of_ble_eq_true rfl, Nat.le_of_ble_eq_true rfl⟩ dX1_sign_80 (fun v33 o32 w31 H locs hw h S => ?_)
    replace h := hret_mp h hw
    clear hw h1 h2
    exact h_cret F hr hlk S h dX1_sign_83
  rw [hIf_neg c21] at h
  by_cases c34 : v5 = 3
  · rw [hIf_pos c34] at h
    refine lv_tableIn (tgt := 84) (off := 80) hx hb dX1_sign_4 (by rw [c34]; decide) (by rw [c34]; decide) (by rw [c34]; rfl) (by decide) ?_
    refine h_ldcwS F.1 F.2.1 F.2.2.2.1 (hK.2.2.1.2.2.2.2.1 _ (List.mem_of_getElem? (i := 17) rfl)) dX1_sign_84 ?_
    refine lv_aload_n hx hb dX1_sign_87 rfl (lv_at hl 1 rfl) ?_
    obtain ⟨n35, n36, h1, h2, h⟩ := hcall_inv h
    refine hcv_form_X1_183 F hK S h1 h2 h rfl rfl hl.1 (Nat.le_of_ble_eq_true rfl) ⟨Nat.le_of_ble_eq_true rfl, Nat.le_of_ble_eq_true rfl⟩ dX1_sign_88 (fun v39 o38 w37 H locs hw h S => ?_)
    replace h := hret_mp h hw
    clear hw h1 h2
    obtain ⟨u40, e41, h⟩ := obd_inv h
    obtain ⟨n42, n43, h1, h2, h⟩ := hcall_inv h
    refine hcl_J4_charAt_X1_345 F hK S (hIs_inv e41) h1 h2 h rfl rfl hl.1 (Nat.le_of_ble_eq_true rfl) ⟨Nat.le_of_ble_eq_true rfl, Nat.le_of_ble_eq_true rfl⟩ dX1_sign_91 (fun v46 o45 w44 H locs hw h S => ?_)
    replace h := hret_mp h hw
    clear hw h1 h2
    exact h_cret F hr hlk S h dX1_sign_94
  rw [hIf_neg c34] at h
  by_cases c47 : v5 = 4
  · rw [hIf_pos c47] at h
    refine lv_tableIn (tgt := 95) (off := 91) hx hb dX1_sign_4 (by rw [c47]; decide) (by rw [c47]; decide) (by rw [c47]; rfl) (by decide) ?_
    refine lv_aload_n hx hb dX1_sign_95 rfl (lv_at hl 1 rfl) ?_
    obtain ⟨u48, e49, h⟩ := obd_inv h
    refine h_cast F hK S e49 rfl q350 dX1_sign_96 ?_
    obtain ⟨u50, e51, h⟩ := obd_inv h
    obtain ⟨n52, n53, h1, h2, h⟩ := hcall_inv h
    refine hcl_X8_isOpen_X1_281 F hK S (hIs_inv e51) h1 h2 h rfl rfl hl.1 (Nat.le_of_ble_eq_true rfl) ⟨Nat.le_of_ble_eq_true rfl, Nat.le_of_ble_eq_true rfl⟩ dX1_sign_99 (fun v56 o55 w54 H locs hw h S => ?_)
    replace h := hret_mp h hw
    clear hw h1 h2
    obtain ⟨k60, hk60, h⟩ := hj1_inv h
    have hJ112 : ∀ (v58 : Int32) (H : Heap) (locs : List Loc) (ls : Array Slot), k60 v58 → hS E A s.heap cb sb w54 H locs → lv_has ls 2 [] → W p l e (hrm_X1_sign cb sb) s m args below meth c H locs (cb - w54.2.1) (sb - w54.2.2) (MQ below (hQi E A Q) args s cb sb A) (F0 m 112 ls [.int v58]) := by
      intro v58 H locs ls h S hl
      replace h := hk60 _ h
      exact h_cret F hr hlk S h dX1_sign_112
    clear hk60
    refine lv_if_eq (tgt := 110) hx hb dX1_sign_102 (by decide) (fun c57 => ?_) (fun c57 => ?_)
    · rw [hIf_pos c57] at h
      refine lv_bipush (v := 68) hx hb dX1_sign_110 (by decide) ?_
      exact hJ112 _ _ _ _ h S (lv_sub hl [] rfl)
    · rw [hIf_neg c57] at h
      refine lv_bipush (v := 79) hx hb dX1_sign_105 (by decide) ?_
      refine lv_goto (tgt := 112) hx hb dX1_sign_107 (by decide) ?_
      exact hJ112 _ _ _ _ h S (lv_sub hl [] rfl)
  rw [hIf_neg c47] at h
  by_cases c61 : v5 = 5
  · rw [hIf_pos c61] at h
    refine lv_tableIn (tgt := 113) (off := 109) hx hb dX1_sign_4 (by rw [c61]; decide) (by rw [c61]; decide) (by rw [c61]; rfl) (by decide) ?_
    refine h_ldcwS F.1 F.2.1 F.2.2.2.1 (hK.2.2.1.2.2.2.2.1 _ (List.mem_of_getElem? (i := 18) rfl)) dX1_sign_113 ?_
    refine lv_aload_n hx hb dX1_sign_116 rfl (lv_at hl 1 rfl) ?_
    obtain ⟨n62, n63, h1, h2, h⟩ := hcall_inv h
    refine hcv_form_X1_183 F hK S h1 h2 h rfl rfl hl.1 (Nat.le_of_ble_eq_true rfl) ⟨Nat.le_of_ble_eq_true rfl, Nat.le_of_ble_eq_true rfl⟩ dX1_sign_117 (fun v66 o65 w64 H locs hw h S => ?_)
    replace h := hret_mp h hw
    clear hw h1 h2
    obtain ⟨u67, e68, h⟩ := obd_inv h
    obtain ⟨n69, n70, h1, h2, h⟩ := hcall_inv h
    refine hcl_J4_charAt_X1_345 F hK S (hIs_inv e68) h1 h2 h rfl rfl hl.1 (Nat.le_of_ble_eq_true rfl) ⟨Nat.le_of_ble_eq_true rfl, Nat.le_of_ble_eq_true rfl⟩ dX1_sign_120 (fun v73 o72 w71 H locs hw h S => ?_)
    replace h := hret_mp h hw
    clear hw h1 h2
    exact h_cret F hr hlk S h dX1_sign_123
  rw [hIf_neg c61] at h
  by_cases c74 : v5 = 6
  · rw [hIf_pos c74] at h
    refine lv_tableIn (tgt := 124) (off := 120) hx hb dX1_sign_4 (by rw [c74]; decide) (by rw [c74]; decide) (by rw [c74]; rfl) (by decide) ?_
    refine lv_bipush (v := 111) hx hb dX1_sign_124 (by decide) ?_
    exact h_cret F hr hlk S h dX1_sign_126
  rw [hIf_neg c74] at h
  refine lv_tableOut (tgt := 127) hx hb dX1_sign_4 (by have t0 := lv_neT (a := 0) c6 (by decide); have t1 := lv_neT (a := 1) c20 (by decide); have t2 := lv_neT (a := 2) c21 (by decide); have t3 := lv_neT (a := 3) c34 (by decide); have t4 := lv_neT (a := 4) c47 (by decide); have t5 := lv_neT (a := 5) c61 (by decide); have t6 := lv_neT (a := 6) c74 (by decide); omega) (by decide) ?_
  refine lv_bipush (v := 42) hx hb dX1_sign_127 (by decide) ?_
  exact h_cret F hr hlk S h dX1_sign_129
theorem hn_X1_355 {p : Program} {l : Launch} {e : Env} {s : State} {m : MethodId} {args : Array Value} {below : List Frame} {meth : Method} {c : Code} {R : Room} {H : Heap} {locs : List Loc} {cb sb pc nL : Nat} {Q : State → Prop} {ls : Array Slot} {rest : List Value} {cc : ByteArray} {E : hEnv} {A : Nat → Prop} {w : hW} (F : CallFix p m c cc nL s args lw_all RX1) (hK : hK E A s) (S : hS E A s.heap cb sb w H locs) (hrc : R.cells = cb) (hrs : R.slots = sb) {f : Nat → hW → Prop} (h : hNew w (.inl (14, [.null, .int 0, .int 0, .int 0])) 4 f) (hdg : decode cc pc = .ok (.new 355, 3)) (kk : ∀ (q : Nat) (w' : hW) (H1 : Heap), f q w' → hS E A s.heap cb sb w' H1 locs → W p l e R s m args below meth c H1 locs (cb - w'.2.1) (sb - w'.2.2) Q (F0 m (pc + 3) ls (.ref q :: rest))) : W p l e R s m args below meth c H locs (cb - w.2.1) (sb - w.2.2) Q (F0 m pc ls rest) :=
  h_new F hK S hrc hrs (C := RJ3) (T := TJ3) (N := 4) tyJ3 tyJ3_ok q1397 q544 q124 in_J3 rfl (fun j hj => by match j, hj with | 0, _ => rfl | 1, _ => rfl | 2, _ => rfl | 3, _ => rfl) h hdg kk
theorem hcl_J3_init_X1_357 {p : Program} {l : Launch} {e : Env} {s : State} {m : MethodId} {args : Array Value} {below : List Frame} {meth : Method} {c : Code} {R : Room} {H : Heap} {locs : List Loc} {cb sb pc nL : Nat} {Q : State → Prop} {ls : Array Slot} {rest : List Value} {cc : ByteArray} {E : hEnv} {A : Nat → Prop} {w : hW} {a0 : Nat} {Q' : hO → Prop} {c1 s1 : Nat} (F : CallFix p m c cc nL s args lw_all RX1) (hK : hK E A s) (S : hS E A s.heap cb sb w H locs) (h1 : c1 ≤ w.2.1) (h2 : s1 ≤ w.2.2) (h : hf_J3_init E.2.2 (w.1, c1, s1) a0 Q') (hrc : R.cells = cb) (hrs : R.slots = sb) (hls : ls.size = nL) (hWt : (rest.map fun v => v.category).sum ≤ 8) (hR : 2 + 1 ≤ R.frames ∧ 8 + (1 + 11) + 41 ≤ R.locals) (hdg : decode cc pc = .ok (.invokespecial 357, 3))
    (kk : ∀ (o : hO) (w' : hW) (H1 : Heap) (locs1 : List Loc), w' = (o, w.2.1 - c1, w.2.2 - s1) → Q' o → hS E A s.heap cb sb w' H1 locs1 → W p l e R s m args below meth c H1 locs1 (cb - w'.2.1) (sb - w'.2.2) Q (F0 m (pc + 3) ls (rest))) : W p l e R s m args below meth c H locs (cb - w.2.1) (sb - w.2.2) Q (F0 m pc ls (.ref a0 :: rest)) :=
  h_kv (g_runI F hK (hKm E A) S.1 (hmet_J3_init l E A (w.1, c1, s1) a0 Q' h) (cwI 0 F.2.2.2.2 (lw_meth q547) rfl rfl rfl (F.2.2.2.2 _ q124) (F.2.2.2.2 _ q1398) (F.2.2.2.2 _ q546) rfl (by decide +kernel) hR) rfl hls rfl hWt hdg ⟨by rw [hrc]; exact (h_left S h1 h2).1, by rw [hrs]; exact (h_left S h1 h2).2⟩) S h1 h2 kk
theorem hcl_J3_append_3_X1_360 {p : Program} {l : Launch} {e : Env} {s : State} {m : MethodId} {args : Array Value} {below : List Frame} {meth : Method} {c : Code} {R : Room} {H : Heap} {locs : List Loc} {cb sb pc nL : Nat} {Q : State → Prop} {ls : Array Slot} {rest : List Value} {cc : ByteArray} {E : hEnv} {A : Nat → Prop} {w : hW} {a0 : Nat} {x1 : Nat} {Q' : Nat → hO → Prop} {c1 s1 : Nat} (F : CallFix p m c cc nL s args lw_all RX1) (hK : hK E A s) (S : hS E A s.heap cb sb w H locs) (hrv : ∃ (b : Bool) (fs : List Value), w.1 a0 = some (b, .inl (14, fs))) (h1 : c1 ≤ w.2.1) (h2 : s1 ≤ w.2.2) (h : hf_J3_append_3 E.2.2 (w.1, c1, s1) a0 x1 Q') (hrc : R.cells = cb) (hrs : R.slots = sb) (hls : ls.size = nL) (hWt : (rest.map fun v => v.category).sum ≤ 8) (hR : 5 + 1 ≤ R.frames ∧ 8 + (2 + 11) + 113 ≤ R.locals) (hdg : decode cc pc = .ok (.invokevirtual 360, 3))
    (kk : ∀ (v : Nat) (o : hO) (w' : hW) (H1 : Heap) (locs1 : List Loc), w' = (o, w.2.1 - c1, w.2.2 - s1) → Q' v o → hS E A s.heap cb sb w' H1 locs1 → W p l e R s m args below meth c H1 locs1 (cb - w'.2.1) (sb - w'.2.2) Q (F0 m (pc + 3) ls (.ref v :: rest))) : W p l e R s m args below meth c H locs (cb - w.2.1) (sb - w.2.2) Q (F0 m pc ls (.ref x1 :: .ref a0 :: rest)) :=
  h_kp (g_runV F hK (hKm E A) S.1 (hmet_J3_append_3 l E A (w.1, c1, s1) a0 x1 Q' h) (cwV 1 F.2.2.2.2 (lw_V q1400 q787 q788 q124 q789) rfl rfl rfl (by decide +kernel) hR) (h_recv hK S (ci := 14) rfl hrv) rfl hls rfl hWt hdg ⟨by rw [hrc]; exact (h_left S h1 h2).1, by rw [hrs]; exact (h_left S h1 h2).2⟩) S h1 h2 kk
theorem hcl_X1_sign_X1_364 {p : Program} {l : Launch} {e : Env} {s : State} {m : MethodId} {args : Array Value} {below : List Frame} {meth : Method} {c : Code} {R : Room} {H : Heap} {locs : List Loc} {cb sb pc nL : Nat} {Q : State → Prop} {ls : Array Slot} {rest : List Value} {cc : ByteArray} {E : hEnv} {A : Nat → Prop} {w : hW} {a0 : Nat} {x1 : Nat} {Q' : Int32 → hO → Prop} {c1 s1 : Nat} (F : CallFix p m c cc nL s args lw_all RX1) (hK : hK E A s) (S : hS E A s.heap cb sb w H locs) (hrv : ∃ (b : Bool) (fs : List Value), w.1 a0 = some (b, .inl (1, fs))) (h1 : c1 ≤ w.2.1) (h2 : s1 ≤ w.2.2) (h : hf_X1_sign E.2.2 (w.1, c1, s1) a0 x1 Q') (hrc : R.cells = cb) (hrs : R.slots = sb) (hls : ls.size = nL) (hWt : (rest.map fun v => v.category).sum ≤ 8) (hR : 4 + 1 ≤ R.frames ∧ 8 + (2 + 11) + 85 ≤ R.locals) (hdg : decode cc pc = .ok (.invokevirtual 364, 3))
    (kk : ∀ (v : Int32) (o : hO) (w' : hW) (H1 : Heap) (locs1 : List Loc), w' = (o, w.2.1 - c1, w.2.2 - s1) → Q' v o → hS E A s.heap cb sb w' H1 locs1 → W p l e R s m args below meth c H1 locs1 (cb - w'.2.1) (sb - w'.2.2) Q (F0 m (pc + 3) ls (.int v :: rest))) : W p l e R s m args below meth c H locs (cb - w.2.1) (sb - w.2.2) Q (F0 m pc ls (.ref x1 :: .ref a0 :: rest)) :=
  h_ki (g_runV F hK (hKm E A) S.1 (hmet_X1_sign l E A (w.1, c1, s1) a0 x1 Q' h) (cwV 1 F.2.2.2.2 (lw_V q1401 q1403 qs30 q111 q1404) rfl rfl rfl (by decide +kernel) hR) (h_recv hK S (ci := 1) rfl hrv) rfl hls rfl hWt hdg ⟨by rw [hrc]; exact (h_left S h1 h2).1, by rw [hrs]; exact (h_left S h1 h2).2⟩) S h1 h2 kk
theorem hcl_J3_append_X1_368 {p : Program} {l : Launch} {e : Env} {s : State} {m : MethodId} {args : Array Value} {below : List Frame} {meth : Method} {c : Code} {R : Room} {H : Heap} {locs : List Loc} {cb sb pc nL : Nat} {Q : State → Prop} {ls : Array Slot} {rest : List Value} {cc : ByteArray} {E : hEnv} {A : Nat → Prop} {w : hW} {a0 : Nat} {x1 : Int32} {Q' : Nat → hO → Prop} {c1 s1 : Nat} (F : CallFix p m c cc nL s args lw_all RX1) (hK : hK E A s) (S : hS E A s.heap cb sb w H locs) (hrv : ∃ (b : Bool) (fs : List Value), w.1 a0 = some (b, .inl (14, fs))) (h1 : c1 ≤ w.2.1) (h2 : s1 ≤ w.2.2) (h : hf_J3_append E.2.2 (w.1, c1, s1) a0 x1 Q') (hrc : R.cells = cb) (hrs : R.slots = sb) (hls : ls.size = nL) (hWt : (rest.map fun v => v.category).sum ≤ 8) (hR : 5 + 1 ≤ R.frames ∧ 8 + (2 + 11) + 112 ≤ R.locals) (hdg : decode cc pc = .ok (.invokevirtual 368, 3))
    (kk : ∀ (v : Nat) (o : hO) (w' : hW) (H1 : Heap) (locs1 : List Loc), w' = (o, w.2.1 - c1, w.2.2 - s1) → Q' v o → hS E A s.heap cb sb w' H1 locs1 → W p l e R s m args below meth c H1 locs1 (cb - w'.2.1) (sb - w'.2.2) Q (F0 m (pc + 3) ls (.ref v :: rest))) : W p l e R s m args below meth c H locs (cb - w.2.1) (sb - w.2.2) Q (F0 m pc ls (.int x1 :: .ref a0 :: rest)) :=
  h_kp (g_runV F hK (hKm E A) S.1 (hmet_J3_append l E A (w.1, c1, s1) a0 x1 Q' h) (cwV 1 F.2.2.2.2 (lw_V q1421 q576 q577 q124 q578) rfl rfl rfl (by decide +kernel) hR) (h_recv hK S (ci := 14) rfl hrv) rfl hls rfl hWt hdg ⟨by rw [hrc]; exact (h_left S h1 h2).1, by rw [hrs]; exact (h_left S h1 h2).2⟩) S h1 h2 kk
theorem hcl_J3_toString_X1_371 {p : Program} {l : Launch} {e : Env} {s : State} {m : MethodId} {args : Array Value} {below : List Frame} {meth : Method} {c : Code} {R : Room} {H : Heap} {locs : List Loc} {cb sb pc nL : Nat} {Q : State → Prop} {ls : Array Slot} {rest : List Value} {cc : ByteArray} {E : hEnv} {A : Nat → Prop} {w : hW} {a0 : Nat} {Q' : Nat → hO → Prop} {c1 s1 : Nat} (F : CallFix p m c cc nL s args lw_all RX1) (hK : hK E A s) (S : hS E A s.heap cb sb w H locs) (hrv : ∃ (b : Bool) (fs : List Value), w.1 a0 = some (b, .inl (14, fs))) (h1 : c1 ≤ w.2.1) (h2 : s1 ≤ w.2.2) (h : hf_J3_toString E.2.2 (w.1, c1, s1) a0 Q') (hrc : R.cells = cb) (hrs : R.slots = sb) (hls : ls.size = nL) (hWt : (rest.map fun v => v.category).sum ≤ 8) (hR : 5 + 1 ≤ R.frames ∧ 8 + (1 + 11) + 130 ≤ R.locals) (hdg : decode cc pc = .ok (.invokevirtual 371, 3))
    (kk : ∀ (v : Nat) (o : hO) (w' : hW) (H1 : Heap) (locs1 : List Loc), w' = (o, w.2.1 - c1, w.2.2 - s1) → Q' v o → hS E A s.heap cb sb w' H1 locs1 → W p l e R s m args below meth c H1 locs1 (cb - w'.2.1) (sb - w'.2.2) Q (F0 m (pc + 3) ls (.ref v :: rest))) : W p l e R s m args below meth c H locs (cb - w.2.1) (sb - w.2.2) Q (F0 m pc ls (.ref a0 :: rest)) :=
  h_kp (g_runV F hK (hKm E A) S.1 (hmet_J3_toString l E A (w.1, c1, s1) a0 Q' h) (cwV 0 F.2.2.2.2 (lw_V q1422 q671 q672 q124 q673) rfl rfl rfl (by decide +kernel) hR) (h_recv hK S (ci := 14) rfl hrv) rfl hls rfl hWt hdg ⟨by rw [hrc]; exact (h_left S h1 h2).1, by rw [hrs]; exact (h_left S h1 h2).2⟩) S h1 h2 kk
theorem hg_X1_40 {p : Program} {l : Launch} {e : Env} {s : State} {m : MethodId} {args : Array Value} {below : List Frame} {meth : Method} {c : Code} {R : Room} {H : Heap} {locs : List Loc} {cb sb pc nL : Nat} {Q : State → Prop} {ls : Array Slot} {rest : List Value} {cc : ByteArray} {E : hEnv} {A : Nat → Prop} {w : hW} {a : Nat} {v : Nat} (F : CallFix p m c cc nL s args lw_all RX1) (hK : hK E A s) (S : hS E A s.heap cb sb w H locs) (h : hgP w a 1 6 = some v) (hdg : decode cc pc = .ok (.getfield 40, 3)) (kk : W p l e R s m args below meth c H locs (cb - w.2.1) (sb - w.2.2) Q (F0 m (pc + 3) ls (.ref v :: rest))) : W p l e R s m args below meth c H locs (cb - w.2.1) (sb - w.2.2) Q (F0 m pc ls (.ref a :: rest)) := by
  obtain ⟨b, fs, ho, hv⟩ := hgP_inv h
  exact h_get F hK S ho (ci := 1) (C := RX1) (T := TX1) (N := 7) (k := 6) rfl in_X1 (by decide) q476 (fun x h => h) hv hdg kk
theorem hcl_J4_length_X1_375 {p : Program} {l : Launch} {e : Env} {s : State} {m : MethodId} {args : Array Value} {below : List Frame} {meth : Method} {c : Code} {R : Room} {H : Heap} {locs : List Loc} {cb sb pc nL : Nat} {Q : State → Prop} {ls : Array Slot} {rest : List Value} {cc : ByteArray} {E : hEnv} {A : Nat → Prop} {w : hW} {a0 : Nat} {Q' : Int32 → hO → Prop} {c1 s1 : Nat} (F : CallFix p m c cc nL s args lw_all RX1) (hK : hK E A s) (S : hS E A s.heap cb sb w H locs) (hrv : ∃ (b : Bool) (fs : List Value), w.1 a0 = some (b, .inl (15, fs))) (h1 : c1 ≤ w.2.1) (h2 : s1 ≤ w.2.2) (h : hf_J4_length E.2.2 (w.1, c1, s1) a0 Q') (hrc : R.cells = cb) (hrs : R.slots = sb) (hls : ls.size = nL) (hWt : (rest.map fun v => v.category).sum ≤ 8) (hR : 1 + 1 ≤ R.frames ∧ 8 + (1 + 11) + 20 ≤ R.locals) (hdg : decode cc pc = .ok (.invokevirtual 375, 3))
    (kk : ∀ (v : Int32) (o : hO) (w' : hW) (H1 : Heap) (locs1 : List Loc), w' = (o, w.2.1 - c1, w.2.2 - s1) → Q' v o → hS E A s.heap cb sb w' H1 locs1 → W p l e R s m args below meth c H1 locs1 (cb - w'.2.1) (sb - w'.2.2) Q (F0 m (pc + 3) ls (.int v :: rest))) : W p l e R s m args below meth c H locs (cb - w.2.1) (sb - w.2.2) Q (F0 m pc ls (.ref a0 :: rest)) :=
  h_ki (g_runV F hK (hKm E A) S.1 (hmet_J4_length l E A (w.1, c1, s1) a0 Q' h) (cwV 0 F.2.2.2.2 (lw_V q1423 q801 q802 q125 q803) rfl rfl rfl (by decide +kernel) hR) (h_recv hK S (ci := 15) rfl hrv) rfl hls rfl hWt hdg ⟨by rw [hrc]; exact (h_left S h1 h2).1, by rw [hrs]; exact (h_left S h1 h2).2⟩) S h1 h2 kk
def hL_X1_writeBoard_2 (pl : Nat → Nat) (Q : Int32 → hO → Prop) (K : hW → Prop) (y0 : Nat) (y1 : Nat) (y2 : Int32) : Nat → hW → Int32 → Prop
  | 0, _, _ => False
  | n + 1, w, y3 =>
    obd (hgP w y0 1 3) fun v28 =>
    obd (hgI w v28 3 1) fun v30 =>
    hIf (v30 ≤ y3) (
      K w) <|
      obd (hgP w y0 1 3) fun v33 =>
      obd (hgP w v33 3 3) fun v35 =>
      obd (haP w v35 ((10 * y2) + y3)) fun v37 =>
      obd (hIs w y0 1) fun u39 =>
      hcall w fun n41 n42 => hf_X1_sign pl (w.1, n41, n42) y0 v37 fun v45 o44 => hret w n41 n42 o44 fun w43 =>
      obd (hIs w43 y1 14) fun u46 =>
      hcall w43 fun n48 n49 => hf_J3_append pl (w43.1, n48, n49) y1 v45 fun v52 o51 => hret w43 n48 n49 o51 fun w50 =>
      hL_X1_writeBoard_2 pl Q K y0 y1 y2 n w50 (y3 + 1)
def hL_X1_writeBoard_1 (pl : Nat → Nat) (Q : Int32 → hO → Prop) (K : hW → Prop) (y0 : Nat) (y1 : Nat) : Nat → hW → Int32 → Prop
  | 0, _, _ => False
  | n + 1, w, y2 =>
    obd (hgP w y0 1 3) fun v14 =>
    obd (hgI w v14 3 2) fun v16 =>
    hIf (v16 ≤ y2) (
      K w) <|
      hjoin (fun (v20 : Nat) =>
        obd (hIs w y1 14) fun u21 =>
        hcall w fun n23 n24 => hf_J3_append_3 pl (w.1, n23, n24) y1 v20 fun v27 o26 => hret w n23 n24 o26 fun w25 =>
        hL_X1_writeBoard_2 pl Q (fun (w53 : hW) =>
          hL_X1_writeBoard_1 pl Q K y0 y1 n w53 (y2 + 1)) y0 y1 y2 FUEL w25 0) fun k55 =>
      hIf (y2 ≤ 0) (
        k55 (pl 10)) <|
        k55 (pl 25)
def hf_X1_writeBoard (pl : Nat → Nat) (w : hW) (a0 : Nat) (Q : Int32 → hO → Prop) : Prop :=
  obd (hgP w a0 1 3) fun v1 =>
  ∃ (d3 : hD) (g4 : mS), hRel d3 g4 w.1 ∧ d3.1 100 = v1 ∧ obd (fc_X3_ray g4 100) fun v7 => hpret w d3 v7 fun w5 =>
  hNew w5 (.inl (14, [.null, .int 0, .int 0, .int 0])) 4 fun q8 w9 =>
  hcall w9 fun n10 n11 => hf_J3_init pl (w9.1, n10, n11) q8 fun o13 => hret w9 n10 n11 o13 fun w12 =>
  hL_X1_writeBoard_1 pl Q (fun (w56 : hW) =>
    obd (hIs w56 q8 14) fun u57 =>
    hcall w56 fun n59 n60 => hf_J3_toString pl (w56.1, n59, n60) q8 fun v63 o62 => hret w56 n59 n60 o62 fun w61 =>
    obd (hpV w61 a0 1 6 (.ref v63)) fun w64 =>
    obd (hgP w64 a0 1 6) fun v66 =>
    obd (hIs w64 v66 15) fun u68 =>
    hcall w64 fun n70 n71 => hf_J4_length pl (w64.1, n70, n71) v66 fun v74 o73 => hret w64 n70 n71 o73 fun w72 =>
    Q v74 w72.1) a0 q8 FUEL w12 0
abbrev hrm_X1_writeBoard (c s : Nat) : Room := { frames := 7, cells := c, slots := s, locals := 155 }
set_option maxHeartbeats 4000000 in
set_option maxRecDepth 100000 in
theorem hloop_X1_writeBoard_2 {p : Program} {l : Launch} {e : Env} {s : State} {m : MethodId} {args : Array Value} {below : List Frame} {meth : Method} {c : Code} {cb sb : Nat} {E : hEnv} {A : Nat → Prop} {Q : Int32 → hO → Prop} {K : hW → Prop} {y0 : Nat} {y1 : Nat} {y2 : Int32} (F : CallFix p m c cX1_writeBoard 4 s args lw_all RX1) (hr : meth.sig.returnType = some .int) (hlk : meth.locks = false) (hK : hK E A s) : ∀ (n : Nat) (w : hW) (y3 : Int32), hL_X1_writeBoard_2 E.2.2 Q K y0 y1 y2 n w y3 → ∀ (H : Heap) (locs : List Loc) (ls : Array Slot), hS E A s.heap cb sb w H locs → lv_has ls 4 [(0, .ref y0), (1, .ref y1), (2, .int y2), (3, .int y3)] → (∀ (wz : hW) (H : Heap) (locs : List Loc) (ls : Array Slot), K wz → hS E A s.heap cb sb wz H locs → lv_has ls 4 [(0, .ref y0), (1, .ref y1), (2, .int y2)] → W p l e (hrm_X1_writeBoard cb sb) s m args below meth c H locs (cb - wz.2.1) (sb - wz.2.2) (MQ below (hQi E A Q) args s cb sb A) (F0 m 88 ls [])) → W p l e (hrm_X1_writeBoard cb sb) s m args below meth c H locs (cb - w.2.1) (sb - w.2.2) (MQ below (hQi E A Q) args s cb sb A) (F0 m 48 ls []) := by
  have hx := F.1
  have hb := F.2.1
  intro n
  induction n with
  | zero =>
    intro w y3 h
    exact False.elim h
  | succ n ih =>
    intro w y3 h H locs ls S hl kx
    rw [hL_X1_writeBoard_2] at h
    refine lv_iload_n hx hb dX1_writeBoard_48 rfl (lv_at hl 3 rfl) ?_
    refine lv_aload_n hx hb dX1_writeBoard_49 rfl (lv_at hl 0 rfl) ?_
    obtain ⟨v28, e29, h⟩ := obd_inv h
    refine hg_X1_47 F hK S e29 dX1_writeBoard_50 ?_
    obtain ⟨v30, e31, h⟩ := obd_inv h
    refine hg_X1_222 F hK S e31 dX1_writeBoard_53 ?_
    refine lv_icmp_ge (tgt := 88) hx hb dX1_writeBoard_56 (by decide) (fun c32 => ?_) (fun c32 => ?_)
    · rw [hIf_pos c32] at h
      exact kx _ _ _ _ h S (lv_sub hl [0, 1, 2] rfl)
    · rw [hIf_neg c32] at h
      refine lv_aload_n hx hb dX1_writeBoard_59 rfl (lv_at hl 1 rfl) ?_
      refine lv_aload_n hx hb dX1_writeBoard_60 rfl (lv_at hl 0 rfl) ?_
      refine lv_aload_n hx hb dX1_writeBoard_61 rfl (lv_at hl 0 rfl) ?_
      obtain ⟨v33, e34, h⟩ := obd_inv h
      refine hg_X1_47 F hK S e34 dX1_writeBoard_62 ?_
      obtain ⟨v35, e36, h⟩ := obd_inv h
      refine hg_X1_74 F hK S e36 dX1_writeBoard_65 ?_
      refine lv_bipush (v := 10) hx hb dX1_writeBoard_68 (by decide) ?_
      refine lv_iload_n hx hb dX1_writeBoard_70 rfl (lv_at hl 2 rfl) ?_
      refine lv_imul hx hb dX1_writeBoard_71 ?_
      refine lv_iload_n hx hb dX1_writeBoard_72 rfl (lv_at hl 3 rfl) ?_
      refine lv_iadd hx hb dX1_writeBoard_73 ?_
      obtain ⟨v37, e38, h⟩ := obd_inv h
      refine h_aald F hK S e38 dX1_writeBoard_74 ?_
      obtain ⟨u39, e40, h⟩ := obd_inv h
      obtain ⟨n41, n42, h1, h2, h⟩ := hcall_inv h
      refine hcl_X1_sign_X1_364 F hK S (hIs_inv e40) h1 h2 h rfl rfl hl.1 (Nat.le_of_ble_eq_true rfl) ⟨Nat.le_of_ble_eq_true rfl, Nat.le_of_ble_eq_true rfl⟩ dX1_writeBoard_75 (fun v45 o44 w43 H locs hw h S => ?_)
      replace h := hret_mp h hw
      clear hw h1 h2
      obtain ⟨u46, e47, h⟩ := obd_inv h
      obtain ⟨n48, n49, h1, h2, h⟩ := hcall_inv h
      refine hcl_J3_append_X1_368 F hK S (hIs_inv e47) h1 h2 h rfl rfl hl.1 (Nat.le_of_ble_eq_true rfl) ⟨Nat.le_of_ble_eq_true rfl, Nat.le_of_ble_eq_true rfl⟩ dX1_writeBoard_78 (fun v52 o51 w50 H locs hw h S => ?_)
      replace h := hret_mp h hw
      clear hw h1 h2
      refine lv_pop hx hb dX1_writeBoard_81 rfl ?_
      refine lv_iinc (v := (y3 + 1)) (lv' := [(3, .int (y3 + 1)), (0, .ref y0), (1, .ref y1), (2, .int y2)]) hx hb dX1_writeBoard_82 hl (k := 3) rfl rfl (by decide) rfl (fun ls hl => ?_)
      refine lv_goto (tgt := 48) hx hb dX1_writeBoard_85 (by decide) ?_
      exact ih _ _ h _ _ _ S (lv_sub hl [1, 2, 3, 0] rfl) kx
set_option maxHeartbeats 4000000 in
set_option maxRecDepth 100000 in
theorem hloop_X1_writeBoard_1 {p : Program} {l : Launch} {e : Env} {s : State} {m : MethodId} {args : Array Value} {below : List Frame} {meth : Method} {c : Code} {cb sb : Nat} {E : hEnv} {A : Nat → Prop} {Q : Int32 → hO → Prop} {K : hW → Prop} {y0 : Nat} {y1 : Nat} (F : CallFix p m c cX1_writeBoard 4 s args lw_all RX1) (hr : meth.sig.returnType = some .int) (hlk : meth.locks = false) (hK : hK E A s) : ∀ (n : Nat) (w : hW) (y2 : Int32), hL_X1_writeBoard_1 E.2.2 Q K y0 y1 n w y2 → ∀ (H : Heap) (locs : List Loc) (ls : Array Slot), hS E A s.heap cb sb w H locs → lv_has ls 4 [(0, .ref y0), (1, .ref y1), (2, .int y2)] → (∀ (wz : hW) (H : Heap) (locs : List Loc) (ls : Array Slot), K wz → hS E A s.heap cb sb wz H locs → lv_has ls 4 [(0, .ref y0), (1, .ref y1)] → W p l e (hrm_X1_writeBoard cb sb) s m args below meth c H locs (cb - wz.2.1) (sb - wz.2.2) (MQ below (hQi E A Q) args s cb sb A) (F0 m 94 ls [])) → W p l e (hrm_X1_writeBoard cb sb) s m args below meth c H locs (cb - w.2.1) (sb - w.2.2) (MQ below (hQi E A Q) args s cb sb A) (F0 m 18 ls []) := by
  have hx := F.1
  have hb := F.2.1
  intro n
  induction n with
  | zero =>
    intro w y2 h
    exact False.elim h
  | succ n ih =>
    intro w y2 h H locs ls S hl kx
    rw [hL_X1_writeBoard_1] at h
    refine lv_iload_n hx hb dX1_writeBoard_18 rfl (lv_at hl 2 rfl) ?_
    refine lv_aload_n hx hb dX1_writeBoard_19 rfl (lv_at hl 0 rfl) ?_
    obtain ⟨v14, e15, h⟩ := obd_inv h
    refine hg_X1_47 F hK S e15 dX1_writeBoard_20 ?_
    obtain ⟨v16, e17, h⟩ := obd_inv h
    refine hg_X1_225 F hK S e17 dX1_writeBoard_23 ?_
    refine lv_icmp_ge (tgt := 94) hx hb dX1_writeBoard_26 (by decide) (fun c18 => ?_) (fun c18 => ?_)
    · rw [hIf_pos c18] at h
      exact kx _ _ _ _ h S (lv_sub hl [0, 1] rfl)
    · rw [hIf_neg c18] at h
      refine lv_aload_n hx hb dX1_writeBoard_29 rfl (lv_at hl 1 rfl) ?_
      refine lv_iload_n hx hb dX1_writeBoard_30 rfl (lv_at hl 2 rfl) ?_
      obtain ⟨k55, hk55, h⟩ := hj1_inv h
      have hJ42 : ∀ (v20 : Nat) (H : Heap) (locs : List Loc) (ls : Array Slot), k55 v20 → hS E A s.heap cb sb w H locs → lv_has ls 4 [(0, .ref y0), (1, .ref y1), (2, .int y2)] → W p l e (hrm_X1_writeBoard cb sb) s m args below meth c H locs (cb - w.2.1) (sb - w.2.2) (MQ below (hQi E A Q) args s cb sb A) (F0 m 42 ls [.ref v20, .ref y1]) := by
        intro v20 H locs ls h S hl
        replace h := hk55 _ h
        obtain ⟨u21, e22, h⟩ := obd_inv h
        obtain ⟨n23, n24, h1, h2, h⟩ := hcall_inv h
        refine hcl_J3_append_3_X1_360 F hK S (hIs_inv e22) h1 h2 h rfl rfl hl.1 (Nat.le_of_ble_eq_true rfl) ⟨Nat.le_of_ble_eq_true rfl, Nat.le_of_ble_eq_true rfl⟩ dX1_writeBoard_42 (fun v27 o26 w25 H locs hw h S => ?_)
        replace h := hret_mp h hw
        clear hw h1 h2
        refine lv_pop hx hb dX1_writeBoard_45 rfl ?_
        refine lv_iconst (v := 0) hx hb dX1_writeBoard_46 (by decide) ?_
        refine lv_istore_n (lv' := [(3, .int 0), (0, .ref y0), (1, .ref y1), (2, .int y2)]) hx hb dX1_writeBoard_47 rfl hl (by decide) rfl (fun ls hl => ?_)
        refine hloop_X1_writeBoard_2 F hr hlk hK _ _ _ h _ _ _ S (lv_sub hl [1, 2, 3, 0] rfl) (fun w53 H locs ls h S hl => ?_)
        refine lv_iinc (v := (y2 + 1)) (lv' := [(2, .int (y2 + 1)), (0, .ref y0), (1, .ref y1)]) hx hb dX1_writeBoard_88 hl (k := 2) rfl rfl (by decide) rfl (fun ls hl => ?_)
        refine lv_goto (tgt := 18) hx hb dX1_writeBoard_91 (by decide) ?_
        exact ih _ _ h _ _ _ S (lv_sub hl [1, 2, 0] rfl) kx
      clear hk55
      refine lv_if_le (tgt := 40) hx hb dX1_writeBoard_31 (by decide) (fun c19 => ?_) (fun c19 => ?_)
      · rw [hIf_pos c19] at h
        refine va_ldcS F.1 F.2.1 F.2.2.2.1 (hK.2.2.1.2.2.2.2.1 _ (List.mem_of_getElem? (i := 0) rfl)) dX1_writeBoard_40 ?_
        exact hJ42 _ _ _ _ h S (lv_sub hl [0, 1, 2] rfl)
      · rw [hIf_neg c19] at h
        refine h_ldcwS F.1 F.2.1 F.2.2.2.1 (hK.2.2.1.2.2.2.2.1 _ (List.mem_of_getElem? (i := 15) rfl)) dX1_writeBoard_34 ?_
        refine lv_goto (tgt := 42) hx hb dX1_writeBoard_37 (by decide) ?_
        exact hJ42 _ _ _ _ h S (lv_sub hl [0, 1, 2] rfl)
set_option maxHeartbeats 4000000 in
set_option maxRecDepth 100000 in
theorem hmet_X1_writeBoard (l : Launch) (E : hEnv) (A : Nat → Prop) (w : hW) (a0 : Nat) (Q : Int32 → hO → Prop) (h : hf_X1_writeBoard E.2.2 w a0 Q) : Met l yX1_writeBoard (ws_ yX1_writeBoard cX1_writeBoard 4 (some .int)) (hrm_X1_writeBoard w.2.1 w.2.2) (va_Pc [.ref a0] (gPre (hK E A) (hP E A w.1))) (hQi E A Q) w.2.1 w.2.2 A := by
  refine h_met (own := RX1) (by decide +kernel) rfl (Nat.le_of_ble_eq_true rfl) ?_
  intro p e s m args below meth c ls cb sb F hr hlk hK S hl
  have hx := F.1
  have hb := F.2.1
  have hl : lv_has ls 4 [(0, .ref a0)] := hl
  unfold hf_X1_writeBoard at h
  refine lv_aload_n hx hb dX1_writeBoard_0 rfl (lv_at hl 0 rfl) ?_
  obtain ⟨v1, e2, h⟩ := obd_inv h
  refine hg_X1_47 F hK S e2 dX1_writeBoard_1 ?_
  obtain ⟨d3, g4, hrl, hdl, h⟩ := h
  obtain ⟨v7, e6, h⟩ := obd_inv h
  refine hpc_X3_ray_X1_240 F hK S hrl hdl e6 rfl rfl hl.1 (Nat.le_of_ble_eq_true rfl) ⟨Nat.le_of_ble_eq_true rfl, Nat.le_of_ble_eq_true rfl⟩ dX1_writeBoard_4 (fun w5 H locs hw hz S => ?_)
  replace h := hpret_mp h hw hz
  clear hw hz
  refine lv_pop hx hb dX1_writeBoard_7 rfl ?_
  refine hn_X1_355 F hK S rfl rfl h dX1_writeBoard_8 (fun q8 w9 H h S => ?_)
  refine lv_dup hx hb dX1_writeBoard_11 rfl ?_
  obtain ⟨n10, n11, h1, h2, h⟩ := hcall_inv h
  refine hcl_J3_init_X1_357 F hK S h1 h2 h rfl rfl hl.1 (Nat.le_of_ble_eq_true rfl) ⟨Nat.le_of_ble_eq_true rfl, Nat.le_of_ble_eq_true rfl⟩ dX1_writeBoard_12 (fun o13 w12 H locs hw h S => ?_)
  replace h := hret_mp h hw
  clear hw h1 h2
  refine lv_astore_n (lv' := [(1, .ref q8), (0, .ref a0)]) hx hb dX1_writeBoard_15 rfl hl (by decide) rfl (fun ls hl => ?_)
  refine lv_iconst (v := 0) hx hb dX1_writeBoard_16 (by decide) ?_
  refine lv_istore_n (lv' := [(2, .int 0), (1, .ref q8), (0, .ref a0)]) hx hb dX1_writeBoard_17 rfl hl (by decide) rfl (fun ls hl => ?_)
  refine hloop_X1_writeBoard_1 F hr hlk hK _ _ _ h _ _ _ S (lv_sub hl [2, 1, 0] rfl) (fun w56 H locs ls h S hl => ?_)
  refine lv_aload_n hx hb dX1_writeBoard_94 rfl (lv_at hl 0 rfl) ?_
  refine lv_aload_n hx hb dX1_writeBoard_95 rfl (lv_at hl 1 rfl) ?_
  obtain ⟨u57, e58, h⟩ := obd_inv h
  obtain ⟨n59, n60, h1, h2, h⟩ := hcall_inv h
  refine hcl_J3_toString_X1_371 F hK S (hIs_inv e58) h1 h2 h rfl rfl hl.1 (Nat.le_of_ble_eq_true rfl) ⟨Nat.le_of_ble_eq_true rfl, Nat.le_of_ble_eq_true rfl⟩ dX1_writeBoard_96 (fun v63 o62 w61 H locs hw h S => ?_)
  replace h := hret_mp h hw
  clear hw h1 h2
  obtain ⟨w64, e65, h⟩ := obd_inv h
  refine hp_X1_40 F hK S e65 dX1_writeBoard_99 (fun H locs S => ?_)
  refine lv_aload_n hx hb dX1_writeBoard_102 rfl (lv_at hl 0 rfl) ?_
  obtain ⟨v66, e67, h⟩ := obd_inv h
  refine hg_X1_40 F hK S e67 dX1_writeBoard_103 ?_
  obtain ⟨u68, e69, h⟩ := obd_inv h
  obtain ⟨n70, n71, h1, h2, h⟩ := hcall_inv h
  refine hcl_J4_length_X1_375 F hK S (hIs_inv e69) h1 h2 h rfl rfl hl.1 (Nat.le_of_ble_eq_true rfl) ⟨Nat.le_of_ble_eq_true rfl, Nat.le_of_ble_eq_true rfl⟩ dX1_writeBoard_106 (fun v74 o73 w72 H locs hw h S => ?_)
  replace h := hret_mp h hw
  clear hw h1 h2
  exact h_iret F hr hlk S h dX1_writeBoard_109
def hf_X1_reportByte (pl : Nat → Nat) (w : hW) (a0 : Nat) (x1 : Int32) (Q : Int32 → hO → Prop) : Prop :=
  obd (hgP w a0 1 6) fun v1 =>
  obd (hIs w v1 15) fun u3 =>
  hcall w fun n5 n6 => hf_J4_length pl (w.1, n5, n6) v1 fun v9 o8 => hret w n5 n6 o8 fun w7 =>
  obd (fp_isIn g00 x1 0 (v9 - 1)) fun v10 =>
  hjoin (fun (v22 : Int32) (g23 : hW) =>
    Q v22 g23.1) fun k25 =>
  hIf (v10 = 0) (
    k25 (-1) w7) <|
    obd (hgP w7 a0 1 6) fun v13 =>
    obd (hIs w7 v13 15) fun u15 =>
    hcall w7 fun n17 n18 => hf_J4_charAt pl (w7.1, n17, n18) v13 x1 fun v21 o20 => hret w7 n17 n18 o20 fun w19 =>
    k25 v21 w19
abbrev hrm_X1_reportByte (c s : Nat) : Room := { frames := 4, cells := c, slots := s, locals := 85 }
set_option maxHeartbeats 4000000 in
set_option maxRecDepth 100000 in
theorem hmet_X1_reportByte (l : Launch) (E : hEnv) (A : Nat → Prop) (w : hW) (a0 : Nat) (x1 : Int32) (Q : Int32 → hO → Prop) (h : hf_X1_reportByte E.2.2 w a0 x1 Q) : Met l yX1_reportByte (ws_ yX1_reportByte cX1_reportByte 2 (some .int)) (hrm_X1_reportByte w.2.1 w.2.2) (va_Pc [.ref a0, .int x1] (gPre (hK E A) (hP E A w.1))) (hQi E A Q) w.2.1 w.2.2 A := by
  refine h_met (own := RX1) (by decide +kernel) rfl (Nat.le_of_ble_eq_true rfl) ?_
  intro p e s m args below meth c ls cb sb F hr hlk hK S hl
  have hx := F.1
  have hb := F.2.1
  have hl : lv_has ls 2 [(0, .ref a0), (1, .int x1)] := hl
  unfold hf_X1_reportByte at h
  refine lv_iload_n hx hb dX1_reportByte_0 rfl (lv_at hl 1 rfl) ?_
  refine lv_iconst (v := 0) hx hb dX1_reportByte_1 (by decide) ?_
  refine lv_aload_n hx hb dX1_reportByte_2 rfl (lv_at hl 0 rfl) ?_
  obtain ⟨v1, e2, h⟩ := obd_inv h
  refine hg_X1_40 F hK S e2 dX1_reportByte_3 ?_
  obtain ⟨u3, e4, h⟩ := obd_inv h
  obtain ⟨n5, n6, h1, h2, h⟩ := hcall_inv h
  refine hcl_J4_length_X1_375 F hK S (hIs_inv e4) h1 h2 h rfl rfl hl.1 (Nat.le_of_ble_eq_true rfl) ⟨Nat.le_of_ble_eq_true rfl, Nat.le_of_ble_eq_true rfl⟩ dX1_reportByte_6 (fun v9 o8 w7 H locs hw h S => ?_)
  replace h := hret_mp h hw
  clear hw h1 h2
  refine lv_iconst (v := 1) hx hb dX1_reportByte_9 (by decide) ?_
  refine lv_isub hx hb dX1_reportByte_10 ?_
  obtain ⟨v10, e11, h⟩ := obd_inv h
  refine call_p_isIn_X1_165 (hKm E A) F hK S.1 e11 hl.1 (Nat.le_of_ble_eq_true rfl) ⟨Nat.le_of_ble_eq_true rfl, Nat.le_of_ble_eq_true rfl⟩ ⟨Nat.sub_le _ _, Nat.sub_le _ _⟩ dX1_reportByte_11 (fun H1 locs1 S1 => ?_)
  have S : hS E A s.heap _ _ _ _ _ := ⟨S1, S.2⟩
  obtain ⟨k25, hk25, h⟩ := hj2_inv h
  have hJ29 : ∀ (v22 : Int32) (g23 : hW) (H : Heap) (locs : List Loc) (ls : Array Slot), k25 v22 g23 → hS E A s.heap cb sb g23 H locs → lv_has ls 2 [] → W p l e (hrm_X1_reportByte cb sb) s m args below meth c H locs (cb - g23.2.1) (sb - g23.2.2) (MQ below (hQi E A Q) args s cb sb A) (F0 m 29 ls [.int v22]) := by
    intro v22 g23 H locs ls h S hl
    replace h := hk25 _ _ h
    exact h_iret F hr hlk S h dX1_reportByte_29
  clear hk25
  refine lv_if_eq (tgt := 28) hx hb dX1_reportByte_14 (by decide) (fun c12 => ?_) (fun c12 => ?_)
  · rw [hIf_pos c12] at h
    refine lv_iconst (v := (-1)) hx hb dX1_reportByte_28 (by decide) ?_
    exact hJ29 _ _ _ _ _ h S (lv_sub hl [] rfl)
  · rw [hIf_neg c12] at h
    refine lv_aload_n hx hb dX1_reportByte_17 rfl (lv_at hl 0 rfl) ?_
    obtain ⟨v13, e14, h⟩ := obd_inv h
    refine hg_X1_40 F hK S e14 dX1_reportByte_18 ?_
    refine lv_iload_n hx hb dX1_reportByte_21 rfl (lv_at hl 1 rfl) ?_
    obtain ⟨u15, e16, h⟩ := obd_inv h
    obtain ⟨n17, n18, h1, h2, h⟩ := hcall_inv h
    refine hcl_J4_charAt_X1_345 F hK S (hIs_inv e16) h1 h2 h rfl rfl hl.1 (Nat.le_of_ble_eq_true rfl) ⟨Nat.le_of_ble_eq_true rfl, Nat.le_of_ble_eq_true rfl⟩ dX1_reportByte_22 (fun v21 o20 w19 H locs hw h S => ?_)
    replace h := hret_mp h hw
    clear hw h1 h2
    refine lv_goto (tgt := 29) hx hb dX1_reportByte_25 (by decide) ?_
    exact hJ29 _ _ _ _ _ h S (lv_sub hl [] rfl)
