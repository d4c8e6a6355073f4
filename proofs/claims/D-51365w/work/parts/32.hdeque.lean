/-! HEAP MODE: the deque -/
set_option maxRecDepth 100000
theorem hcl_J0_init_J1_42 {p : Program} {l : Launch} {e : Env} {s : State} {m : MethodId} {args : Array Value} {below : List Frame} {meth : Method} {c : Code} {R : Room} {H : Heap} {locs : List Loc} {cb sb pc nL : Nat} {Q : State → Prop} {ls : Array Slot} {rest : List Value} {cc : ByteArray} {E : hEnv} {A : Nat → Prop} {w : hW} {a0 : Nat} {Q' : hO → Prop} {c1 s1 : Nat} (F : CallFix p m c cc nL s args lw_all RJ1) (hK : hK E A s) (S : hS E A s.heap cb sb w H locs) (h1 : c1 ≤ w.2.1) (h2 : s1 ≤ w.2.2) (h : hf_J0_init E.2.2 (w.1, c1, s1) a0 Q') (hrc : R.cells = cb) (hrs : R.slots = sb) (hls : ls.size = nL) (hWt : (rest.map fun v => v.category).sum ≤ 8) (hR : 1 + 1 ≤ R.frames ∧ 8 + (1 + 11) + 20 ≤ R.locals) (hdg : decode cc pc = .ok (.invokespecial 42, 3))
    (kk : ∀ (o : hO) (w' : hW) (H1 : Heap) (locs1 : List Loc), w' = (o, w.2.1 - c1, w.2.2 - s1) → Q' o → hS E A s.heap cb sb w' H1 locs1 → W p l e R s m args below meth c H1 locs1 (cb - w'.2.1) (sb - w'.2.2) Q (F0 m (pc + 3) ls (rest))) : W p l e R s m args below meth c H locs (cb - w.2.1) (sb - w.2.2) Q (F0 m pc ls (.ref a0 :: rest)) :=
  h_kv (g_runI F hK (hKm E A) S.1 (hmet_J0_init l E A (w.1, c1, s1) a0 Q' h) (cwI 0 F.2.2.2.2 (lw_meth q210) rfl rfl rfl (F.2.2.2.2 _ q113) (F.2.2.2.2 _ q208) (F.2.2.2.2 _ q209) rfl (by decide +kernel) hR) rfl hls rfl hWt hdg ⟨by rw [hrc]; exact (h_left S h1 h2).1, by rw [hrs]; exact (h_left S h1 h2).2⟩) S h1 h2 kk
theorem hp_J1_3 {p : Program} {l : Launch} {e : Env} {s : State} {m : MethodId} {args : Array Value} {below : List Frame} {meth : Method} {c : Code} {R : Room} {H : Heap} {locs : List Loc} {cb sb pc nL : Nat} {Q : State → Prop} {ls : Array Slot} {rest : List Value} {cc : ByteArray} {E : hEnv} {A : Nat → Prop} {w : hW} {a : Nat} {w' : hW} {v : Nat} (F : CallFix p m c cc nL s args lw_all RJ1) (hK : hK E A s) (S : hS E A s.heap cb sb w H locs) (h : hpV w a 12 0 (.ref v) = some w') (hdg : decode cc pc = .ok (.putfield 3, 3)) (kk : ∀ (H1 : Heap) (locs1 : List Loc), hS E A s.heap cb sb w' H1 locs1 → W p l e R s m args below meth c H1 locs1 (cb - w'.2.1) (sb - w'.2.2) Q (F0 m (pc + 3) ls rest)) : W p l e R s m args below meth c H locs (cb - w.2.1) (sb - w.2.2) Q (F0 m pc ls (.ref v :: .ref a :: rest)) :=
  h_put F hK S h (ci := 12) (C := RJ1) (T := TJ1) (N := 3) (k := 0) rfl in_J1 tyJ1 tyJ1_ok nmJ1 (by decide) q215 (fun x h => h) rfl (ty := (.array (.object "java/lang/Object"))) (by decide +kernel) rfl rfl hdg kk
def hf_J1_init (pl : Nat → Nat) (w : hW) (a0 : Nat) (x1 : Int32) (Q : hO → Prop) : Prop :=
  hcall w fun n1 n2 => hf_J0_init pl (w.1, n1, n2) a0 fun o4 => hret w n1 n2 o4 fun w3 =>
  hjoin (fun (v7 : Int32) =>
    hNewR 4 w3 v7 fun q8 w9 =>
    obd (hpV w9 a0 12 0 (.ref q8)) fun w10 =>
    Q w10.1) fun k13 =>
  hIf (1 ≤ x1) (
    hIf (x1 = 2147483647) (
      k13 2147483647) <|
      k13 (x1 + 1)) <|
    k13 1
abbrev hrm_J1_init (c s : Nat) : Room := { frames := 2, cells := c, slots := s, locals := 40 }
set_option maxHeartbeats 4000000 in
set_option maxRecDepth 100000 in
theorem hmet_J1_init (l : Launch) (E : hEnv) (A : Nat → Prop) (w : hW) (a0 : Nat) (x1 : Int32) (Q : hO → Prop) (h : hf_J1_init E.2.2 w a0 x1 Q) : Met l yJ1_init (ws_ yJ1_init cJ1_init 2 (none)) (hrm_J1_init w.2.1 w.2.2) (va_Pc [.ref a0, .int x1] (gPre (hK E A) (hP E A w.1))) (hQv E A Q) w.2.1 w.2.2 A := by
  refine h_metI (own := RJ1) (by decide +kernel) rfl (by rfl) (Nat.le_of_ble_eq_true rfl) ?_
  intro p e s m args below meth c ls cb sb F hr hlk hin hK S hl
  have hx := F.1
  have hb := F.2.1
  have hl : lv_has ls 2 [(0, .ref a0), (1, .int x1)] := hl
  unfold hf_J1_init at h
  refine lv_aload_n hx hb dJ1_init_0 rfl (lv_at hl 0 rfl) ?_
  obtain ⟨n1, n2, h1, h2, h⟩ := hcall_inv h
  refine hcl_J0_init_J1_42 F hK S h1 h2 h rfl rfl hl.1 (Nat.le_of_ble_eq_true rfl) ⟨Nat.le_of_ble_eq_true rfl, Nat.le_of_ble_eq_true rfl⟩ dJ1_init_1 (fun o4 w3 H locs hw h S => ?_)
  replace h := hret_mp h hw
  clear hw h1 h2
  refine lv_aload_n hx hb dJ1_init_4 rfl (lv_at hl 0 rfl) ?_
  refine lv_iload_n hx hb dJ1_init_5 rfl (lv_at hl 1 rfl) ?_
  refine lv_iconst (v := 1) hx hb dJ1_init_6 (by decide) ?_
  obtain ⟨k13, hk13, h⟩ := hj1_inv h
  have hJ28 : ∀ (v7 : Int32) (H : Heap) (locs : List Loc) (ls : Array Slot), k13 v7 → hS E A s.heap cb sb w3 H locs → lv_has ls 2 [] → W p l e (hrm_J1_init cb sb) s m args below meth c H locs (cb - w3.2.1) (sb - w3.2.2) (MQ below (hQv E A Q) args s cb sb A) (F0 m 28 ls [.int v7, .ref a0]) := by
    intro v7 H locs ls h S hl
    replace h := hk13 _ h
    refine h_newR 4 rfl rfl F hK S rfl rfl h q213 hK.2.1.2.2.2.2.2.1 dJ1_init_28 (fun q8 w9 H h S => ?_)
    obtain ⟨w10, e11, h⟩ := obd_inv h
    refine hp_J1_3 F hK S e11 dJ1_init_31 (fun H locs S => ?_)
    exact h_vret F hr hlk S h dJ1_init_34
  clear hk13
  refine lv_icmp_ge (tgt := 14) hx hb dJ1_init_7 (by decide) (fun c5 => ?_) (fun c5 => ?_)
  · rw [hIf_pos c5] at h
    refine lv_iload_n hx hb dJ1_init_14 rfl (lv_at hl 1 rfl) ?_
    refine lv_ldc (v := 2147483647) hx hb F.2.2.2.1 (F.2.2.2.2 _ q212) dJ1_init_15 ?_
    refine lv_icmp_ne (tgt := 25) hx hb dJ1_init_17 (by decide) (fun c6 => ?_) (fun c6 => ?_)
    · rw [hIf_neg c6] at h
      refine lv_iload_n hx hb dJ1_init_25 rfl (lv_at hl 1 rfl) ?_
      refine lv_iconst (v := 1) hx hb dJ1_init_26 (by decide) ?_
      refine lv_iadd hx hb dJ1_init_27 ?_
      exact hJ28 _ _ _ _ h S (lv_sub hl [] rfl)
    · rw [hIf_pos c6] at h
      refine lv_ldc (v := 2147483647) hx hb F.2.2.2.1 (F.2.2.2.2 _ q212) dJ1_init_20 ?_
      refine lv_goto (tgt := 28) hx hb dJ1_init_22 (by decide) ?_
      exact hJ28 _ _ _ _ h S (lv_sub hl [] rfl)
  · rw [hIf_neg c5] at h
    refine lv_iconst (v := 1) hx hb dJ1_init_10 (by decide) ?_
    refine lv_goto (tgt := 28) hx hb dJ1_init_11 (by decide) ?_
    exact hJ28 _ _ _ _ h S (lv_sub hl [] rfl)
def hf_J1_inc (pl : Nat → Nat) (w : hW) (x1 : Int32) (x2 : Int32) (Q : Int32 → hO → Prop) : Prop :=
  hjoin (fun (v2 : Int32) =>
    Q v2 w.1) fun k4 =>
  hIf ((x1 + 1) < x2) (
    k4 (x1 + 1)) <|
    k4 0
abbrev hrm_J1_inc (c s : Nat) : Room := { frames := 0, cells := c, slots := s, locals := 0 }
set_option maxHeartbeats 4000000 in
set_option maxRecDepth 100000 in
theorem hmet_J1_inc (l : Launch) (E : hEnv) (A : Nat → Prop) (w : hW) (x1 : Int32) (x2 : Int32) (Q : Int32 → hO → Prop) (h : hf_J1_inc E.2.2 w x1 x2 Q) : Met l yJ1_inc (ws_ yJ1_inc cJ1_inc 2 (some .int)) (hrm_J1_inc w.2.1 w.2.2) (va_Pc [.int x1, .int x2] (gPre (hK E A) (hP E A w.1))) (hQi E A Q) w.2.1 w.2.2 A := by
  refine h_met (own := RJ1) (by decide +kernel) rfl (Nat.le_of_ble_eq_true rfl) ?_
  intro p e s m args below meth c ls cb sb F hr hlk hK S hl
  have hx := F.1
  have hb := F.2.1
  have hl : lv_has ls 2 [(0, .int x1), (1, .int x2)] := hl
  unfold hf_J1_inc at h
  refine lv_iinc (v := (x1 + 1)) (lv' := [(0, .int (x1 + 1)), (1, .int x2)]) hx hb dJ1_inc_0 hl (k := 0) rfl rfl (by decide) rfl (fun ls hl => ?_)
  refine lv_iload_n hx hb dJ1_inc_3 rfl (lv_at hl 0 rfl) ?_
  refine lv_iload_n hx hb dJ1_inc_4 rfl (lv_at hl 1 rfl) ?_
  obtain ⟨k4, hk4, h⟩ := hj1_inv h
  have hJ10 : ∀ (v2 : Int32) (H : Heap) (locs : List Loc) (ls : Array Slot), k4 v2 → hS E A s.heap cb sb w H locs → lv_has ls 2 [(0, .int v2)] → W p l e (hrm_J1_inc cb sb) s m args below meth c H locs (cb - w.2.1) (sb - w.2.2) (MQ below (hQi E A Q) args s cb sb A) (F0 m 10 ls []) := by
    intro v2 H locs ls h S hl
    replace h := hk4 _ h
    refine lv_iload_n hx hb dJ1_inc_10 rfl (lv_at hl 0 rfl) ?_
    exact h_iret F hr hlk S h dJ1_inc_11
  clear hk4
  refine lv_icmp_lt (tgt := 10) hx hb dJ1_inc_5 (by decide) (fun c1 => ?_) (fun c1 => ?_)
  · rw [hIf_pos c1] at h
    exact hJ10 _ _ _ _ h S (lv_sub hl [0] rfl)
  · rw [hIf_neg c1] at h
    refine lv_iconst (v := 0) hx hb dJ1_inc_8 (by decide) ?_
    refine lv_istore_n (lv' := [(0, .int 0), (1, .int x2)]) hx hb dJ1_inc_9 rfl hl (by decide) rfl (fun ls hl => ?_)
    exact hJ10 _ _ _ _ h S (lv_sub hl [0] rfl)
def hf_J1_dec (pl : Nat → Nat) (w : hW) (x1 : Int32) (x2 : Int32) (Q : Int32 → hO → Prop) : Prop :=
  hjoin (fun (v2 : Int32) =>
    Q v2 w.1) fun k4 =>
  hIf (0 ≤ (x1 + (-1))) (
    k4 (x1 + (-1))) <|
    k4 (x2 - 1)
abbrev hrm_J1_dec (c s : Nat) : Room := { frames := 0, cells := c, slots := s, locals := 0 }
set_option maxHeartbeats 4000000 in
set_option maxRecDepth 100000 in
theorem hmet_J1_dec (l : Launch) (E : hEnv) (A : Nat → Prop) (w : hW) (x1 : Int32) (x2 : Int32) (Q : Int32 → hO → Prop) (h : hf_J1_dec E.2.2 w x1 x2 Q) : Met l yJ1_dec (ws_ yJ1_dec cJ1_dec 2 (some .int)) (hrm_J1_dec w.2.1 w.2.2) (va_Pc [.int x1, .int x2] (gPre (hK E A) (hP E A w.1))) (hQi E A Q) w.2.1 w.2.2 A := by
  refine h_met (own := RJ1) (by decide +kernel) rfl (Nat.le_of_ble_eq_true rfl) ?_
  intro p e s m args below meth c ls cb sb F hr hlk hK S hl
  have hx := F.1
  have hb := F.2.1
  have hl : lv_has ls 2 [(0, .int x1), (1, .int x2)] := hl
  unfold hf_J1_dec at h
  refine lv_iinc (v := (x1 + (-1))) (lv' := [(0, .int (x1 + (-1))), (1, .int x2)]) hx hb dJ1_dec_0 hl (k := 0) rfl rfl (by decide) rfl (fun ls hl => ?_)
  refine lv_iload_n hx hb dJ1_dec_3 rfl (lv_at hl 0 rfl) ?_
  obtain ⟨k4, hk4, h⟩ := hj1_inv h
  have hJ11 : ∀ (v2 : Int32) (H : Heap) (locs : List Loc) (ls : Array Slot), k4 v2 → hS E A s.heap cb sb w H locs → lv_has ls 2 [(0, .int v2)] → W p l e (hrm_J1_dec cb sb) s m args below meth c H locs (cb - w.2.1) (sb - w.2.2) (MQ below (hQi E A Q) args s cb sb A) (F0 m 11 ls []) := by
    intro v2 H locs ls h S hl
    replace h := hk4 _ h
    refine lv_iload_n hx hb dJ1_dec_11 rfl (lv_at hl 0 rfl) ?_
    exact h_iret F hr hlk S h dJ1_dec_12
  clear hk4
  refine lv_if_ge (tgt := 11) hx hb dJ1_dec_4 (by decide) (fun c1 => ?_) (fun c1 => ?_)
  · rw [hIf_pos c1] at h
    exact hJ11 _ _ _ _ h S (lv_sub hl [0] rfl)
  · rw [hIf_neg c1] at h
    refine lv_iload_n hx hb dJ1_dec_7 rfl (lv_at hl 1 rfl) ?_
    refine lv_iconst (v := 1) hx hb dJ1_dec_8 (by decide) ?_
    refine lv_isub hx hb dJ1_dec_9 ?_
    refine lv_istore_n (lv' := [(0, .int (x2 - 1)), (1, .int x2)]) hx hb dJ1_dec_10 rfl hl (by decide) rfl (fun ls hl => ?_)
    exact hJ11 _ _ _ _ h S (lv_sub hl [0] rfl)
def hf_J1_sub (pl : Nat → Nat) (w : hW) (x1 : Int32) (x2 : Int32) (x3 : Int32) (Q : Int32 → hO → Prop) : Prop :=
  hjoin (fun (v2 : Int32) =>
    Q v2 w.1) fun k4 =>
  hIf (0 ≤ (x1 - x2)) (
    k4 (x1 - x2)) <|
    k4 ((x1 - x2) + x3)
abbrev hrm_J1_sub (c s : Nat) : Room := { frames := 0, cells := c, slots := s, locals := 0 }
set_option maxHeartbeats 4000000 in
set_option maxRecDepth 100000 in
theorem hmet_J1_sub (l : Launch) (E : hEnv) (A : Nat → Prop) (w : hW) (x1 : Int32) (x2 : Int32) (x3 : Int32) (Q : Int32 → hO → Prop) (h : hf_J1_sub E.2.2 w x1 x2 x3 Q) : Met l yJ1_sub (ws_ yJ1_sub cJ1_sub 3 (some .int)) (hrm_J1_sub w.2.1 w.2.2) (va_Pc [.int x1, .int x2, .int x3] (gPre (hK E A) (hP E A w.1))) (hQi E A Q) w.2.1 w.2.2 A := by
  refine h_met (own := RJ1) (by decide +kernel) rfl (Nat.le_of_ble_eq_true rfl) ?_
  intro p e s m args below meth c ls cb sb F hr hlk hK S hl
  have hx := F.1
  have hb := F.2.1
  have hl : lv_has ls 3 [(0, .int x1), (1, .int x2), (2, .int x3)] := hl
  unfold hf_J1_sub at h
  refine lv_iload_n hx hb dJ1_sub_0 rfl (lv_at hl 0 rfl) ?_
  refine lv_iload_n hx hb dJ1_sub_1 rfl (lv_at hl 1 rfl) ?_
  refine lv_isub hx hb dJ1_sub_2 ?_
  refine lv_dup hx hb dJ1_sub_3 rfl ?_
  refine lv_istore_n (lv' := [(0, .int (x1 - x2)), (1, .int x2), (2, .int x3)]) hx hb dJ1_sub_4 rfl hl (by decide) rfl (fun ls hl => ?_)
  obtain ⟨k4, hk4, h⟩ := hj1_inv h
  have hJ12 : ∀ (v2 : Int32) (H : Heap) (locs : List Loc) (ls : Array Slot), k4 v2 → hS E A s.heap cb sb w H locs → lv_has ls 3 [(0, .int v2)] → W p l e (hrm_J1_sub cb sb) s m args below meth c H locs (cb - w.2.1) (sb - w.2.2) (MQ below (hQi E A Q) args s cb sb A) (F0 m 12 ls []) := by
    intro v2 H locs ls h S hl
    replace h := hk4 _ h
    refine lv_iload_n hx hb dJ1_sub_12 rfl (lv_at hl 0 rfl) ?_
    exact h_iret F hr hlk S h dJ1_sub_13
  clear hk4
  refine lv_if_ge (tgt := 12) hx hb dJ1_sub_5 (by decide) (fun c1 => ?_) (fun c1 => ?_)
  · rw [hIf_pos c1] at h
    exact hJ12 _ _ _ _ h S (lv_sub hl [0] rfl)
  · rw [hIf_neg c1] at h
    refine lv_iload_n hx hb dJ1_sub_8 rfl (lv_at hl 0 rfl) ?_
    refine lv_iload_n hx hb dJ1_sub_9 rfl (lv_at hl 2 rfl) ?_
    refine lv_iadd hx hb dJ1_sub_10 ?_
    refine lv_istore_n (lv' := [(0, .int ((x1 - x2) + x3)), (1, .int x2), (2, .int x3)]) hx hb dJ1_sub_11 rfl hl (by decide) rfl (fun ls hl => ?_)
    exact hJ12 _ _ _ _ h S (lv_sub hl [0] rfl)
def hf_J1_elementAt (pl : Nat → Nat) (w : hW) (x1 : Nat) (x2 : Int32) (Q : Nat → hO → Prop) : Prop :=
  obd (haP w x1 x2) fun v1 =>
  Q v1 w.1
abbrev hrm_J1_elementAt (c s : Nat) : Room := { frames := 0, cells := c, slots := s, locals := 0 }
set_option maxHeartbeats 4000000 in
set_option maxRecDepth 100000 in
theorem hmet_J1_elementAt (l : Launch) (E : hEnv) (A : Nat → Prop) (w : hW) (x1 : Nat) (x2 : Int32) (Q : Nat → hO → Prop) (h : hf_J1_elementAt E.2.2 w x1 x2 Q) : Met l yJ1_elementAt (ws_ yJ1_elementAt cJ1_elementAt 2 (some (.object "java/lang/Object"))) (hrm_J1_elementAt w.2.1 w.2.2) (va_Pc [.ref x1, .int x2] (gPre (hK E A) (hP E A w.1))) (hQp E A Q) w.2.1 w.2.2 A := by
  refine h_met (own := RJ1) (by decide +kernel) rfl (Nat.le_of_ble_eq_true rfl) ?_
  intro p e s m args below meth c ls cb sb F hr hlk hK S hl
  have hx := F.1
  have hb := F.2.1
  have hl : lv_has ls 2 [(0, .ref x1), (1, .int x2)] := hl
  unfold hf_J1_elementAt at h
  refine lv_aload_n hx hb dJ1_elementAt_0 rfl (lv_at hl 0 rfl) ?_
  refine lv_iload_n hx hb dJ1_elementAt_1 rfl (lv_at hl 1 rfl) ?_
  obtain ⟨v1, e2, h⟩ := obd_inv h
  refine h_aald F hK S e2 dJ1_elementAt_2 ?_
  exact h_aret F hr (Or.inl ⟨_, rfl⟩) hlk S h dJ1_elementAt_3
theorem hg_J1_20 {p : Program} {l : Launch} {e : Env} {s : State} {m : MethodId} {args : Array Value} {below : List Frame} {meth : Method} {c : Code} {R : Room} {H : Heap} {locs : List Loc} {cb sb pc nL : Nat} {Q : State → Prop} {ls : Array Slot} {rest : List Value} {cc : ByteArray} {E : hEnv} {A : Nat → Prop} {w : hW} {a : Nat} {v : Int32} (F : CallFix p m c cc nL s args lw_all RJ1) (hK : hK E A s) (S : hS E A s.heap cb sb w H locs) (h : hgI w a 12 2 = some v) (hdg : decode cc pc = .ok (.getfield 20, 3)) (kk : W p l e R s m args below meth c H locs (cb - w.2.1) (sb - w.2.2) Q (F0 m (pc + 3) ls (.int v :: rest))) : W p l e R s m args below meth c H locs (cb - w.2.1) (sb - w.2.2) Q (F0 m pc ls (.ref a :: rest)) := by
  obtain ⟨b, fs, ho, hv⟩ := hgI_inv h
  exact h_get F hK S ho (ci := 12) (C := RJ1) (T := TJ1) (N := 3) (k := 2) rfl in_J1 (by decide) q217 (fun x h => h) hv hdg kk
theorem hg_J1_24 {p : Program} {l : Launch} {e : Env} {s : State} {m : MethodId} {args : Array Value} {below : List Frame} {meth : Method} {c : Code} {R : Room} {H : Heap} {locs : List Loc} {cb sb pc nL : Nat} {Q : State → Prop} {ls : Array Slot} {rest : List Value} {cc : ByteArray} {E : hEnv} {A : Nat → Prop} {w : hW} {a : Nat} {v : Int32} (F : CallFix p m c cc nL s args lw_all RJ1) (hK : hK E A s) (S : hS E A s.heap cb sb w H locs) (h : hgI w a 12 1 = some v) (hdg : decode cc pc = .ok (.getfield 24, 3)) (kk : W p l e R s m args below meth c H locs (cb - w.2.1) (sb - w.2.2) Q (F0 m (pc + 3) ls (.int v :: rest))) : W p l e R s m args below meth c H locs (cb - w.2.1) (sb - w.2.2) Q (F0 m pc ls (.ref a :: rest)) := by
  obtain ⟨b, fs, ho, hv⟩ := hgI_inv h
  exact h_get F hK S ho (ci := 12) (C := RJ1) (T := TJ1) (N := 3) (k := 1) rfl in_J1 (by decide) q216 (fun x h => h) hv hdg kk
theorem hg_J1_3 {p : Program} {l : Launch} {e : Env} {s : State} {m : MethodId} {args : Array Value} {below : List Frame} {meth : Method} {c : Code} {R : Room} {H : Heap} {locs : List Loc} {cb sb pc nL : Nat} {Q : State → Prop} {ls : Array Slot} {rest : List Value} {cc : ByteArray} {E : hEnv} {A : Nat → Prop} {w : hW} {a : Nat} {v : Nat} (F : CallFix p m c cc nL s args lw_all RJ1) (hK : hK E A s) (S : hS E A s.heap cb sb w H locs) (h : hgP w a 12 0 = some v) (hdg : decode cc pc = .ok (.getfield 3, 3)) (kk : W p l e R s m args below meth c H locs (cb - w.2.1) (sb - w.2.2) Q (F0 m (pc + 3) ls (.ref v :: rest))) : W p l e R s m args below meth c H locs (cb - w.2.1) (sb - w.2.2) Q (F0 m pc ls (.ref a :: rest)) := by
  obtain ⟨b, fs, ho, hv⟩ := hgP_inv h
  exact h_get F hK S ho (ci := 12) (C := RJ1) (T := TJ1) (N := 3) (k := 0) rfl in_J1 (by decide) q215 (fun x h => h) hv hdg kk
theorem hcl_J1_sub_J1_127 {p : Program} {l : Launch} {e : Env} {s : State} {m : MethodId} {args : Array Value} {below : List Frame} {meth : Method} {c : Code} {R : Room} {H : Heap} {locs : List Loc} {cb sb pc nL : Nat} {Q : State → Prop} {ls : Array Slot} {rest : List Value} {cc : ByteArray} {E : hEnv} {A : Nat → Prop} {w : hW} {x1 : Int32} {x2 : Int32} {x3 : Int32} {Q' : Int32 → hO → Prop} {c1 s1 : Nat} (F : CallFix p m c cc nL s args lw_all RJ1) (hK : hK E A s) (S : hS E A s.heap cb sb w H locs) (h1 : c1 ≤ w.2.1) (h2 : s1 ≤ w.2.2) (h : hf_J1_sub E.2.2 (w.1, c1, s1) x1 x2 x3 Q') (hrc : R.cells = cb) (hrs : R.slots = sb) (hls : ls.size = nL) (hWt : (rest.map fun v => v.category).sum ≤ 8) (hR : 0 + 1 ≤ R.frames ∧ 8 + (3 + 11) + 0 ≤ R.locals) (hdg : decode cc pc = .ok (.invokestatic 127, 3))
    (kk : ∀ (v : Int32) (o : hO) (w' : hW) (H1 : Heap) (locs1 : List Loc), w' = (o, w.2.1 - c1, w.2.2 - s1) → Q' v o → hS E A s.heap cb sb w' H1 locs1 → W p l e R s m args below meth c H1 locs1 (cb - w'.2.1) (sb - w'.2.2) Q (F0 m (pc + 3) ls (.int v :: rest))) : W p l e R s m args below meth c H locs (cb - w.2.1) (sb - w.2.2) Q (F0 m pc ls (.int x3 :: .int x2 :: .int x1 :: rest)) :=
  h_ki (g_runS F hK (hKm E A) S.1 (hmet_J1_sub l E A (w.1, c1, s1) x1 x2 x3 Q' h) (va_cwS 3 F.2.2.2.2 (lw_S q1150 q1151 q114 q1152) rfl rfl rfl (by decide +kernel) hR) rfl hls rfl hWt hdg ⟨by rw [hrc]; exact (h_left S h1 h2).1, by rw [hrs]; exact (h_left S h1 h2).2⟩) S h1 h2 kk
def hf_J1_size (pl : Nat → Nat) (w : hW) (a0 : Nat) (Q : Int32 → hO → Prop) : Prop :=
  obd (hgI w a0 12 2) fun v1 =>
  obd (hgI w a0 12 1) fun v3 =>
  obd (hgP w a0 12 0) fun v5 =>
  obd (hLen w v5) fun v7 =>
  hcall w fun n9 n10 => hf_J1_sub pl (w.1, n9, n10) v1 v3 v7 fun v13 o12 => hret w n9 n10 o12 fun w11 =>
  Q v13 w11.1
abbrev hrm_J1_size (c s : Nat) : Room := { frames := 1, cells := c, slots := s, locals := 22 }
set_option maxHeartbeats 4000000 in
set_option maxRecDepth 100000 in
theorem hmet_J1_size (l : Launch) (E : hEnv) (A : Nat → Prop) (w : hW) (a0 : Nat) (Q : Int32 → hO → Prop) (h : hf_J1_size E.2.2 w a0 Q) : Met l yJ1_size (ws_ yJ1_size cJ1_size 1 (some .int)) (hrm_J1_size w.2.1 w.2.2) (va_Pc [.ref a0] (gPre (hK E A) (hP E A w.1))) (hQi E A Q) w.2.1 w.2.2 A := by
  refine h_met (own := RJ1) (by decide +kernel) rfl (Nat.le_of_ble_eq_true rfl) ?_
  intro p e s m args below meth c ls cb sb F hr hlk hK S hl
  have hx := F.1
  have hb := F.2.1
  have hl : lv_has ls 1 [(0, .ref a0)] := hl
  unfold hf_J1_size at h
  refine lv_aload_n hx hb dJ1_size_0 rfl (lv_at hl 0 rfl) ?_
  obtain ⟨v1, e2, h⟩ := obd_inv h
  refine hg_J1_20 F hK S e2 dJ1_size_1 ?_
  refine lv_aload_n hx hb dJ1_size_4 rfl (lv_at hl 0 rfl) ?_
  obtain ⟨v3, e4, h⟩ := obd_inv h
  refine hg_J1_24 F hK S e4 dJ1_size_5 ?_
  refine lv_aload_n hx hb dJ1_size_8 rfl (lv_at hl 0 rfl) ?_
  obtain ⟨v5, e6, h⟩ := obd_inv h
  refine hg_J1_3 F hK S e6 dJ1_size_9 ?_
  obtain ⟨v7, e8, h⟩ := obd_inv h
  refine h_alen F hK S e8 dJ1_size_12 ?_
  obtain ⟨n9, n10, h1, h2, h⟩ := hcall_inv h
  refine hcl_J1_sub_J1_127 F hK S h1 h2 h rfl rfl hl.1 (Nat.le_of_ble_eq_true rfl) ⟨Nat.le_of_ble_eq_true rfl, Nat.le_of_ble_eq_true rfl⟩ dJ1_size_13 (fun v13 o12 w11 H locs hw h S => ?_)
  replace h := hret_mp h hw
  clear hw h1 h2
  exact h_iret F hr hlk S h dJ1_size_16
def hf_J1_isEmpty (pl : Nat → Nat) (w : hW) (a0 : Nat) (Q : Int32 → hO → Prop) : Prop :=
  obd (hgI w a0 12 1) fun v1 =>
  obd (hgI w a0 12 2) fun v3 =>
  hjoin (fun (v6 : Int32) =>
    Q (zN v6) w.1) fun k8 =>
  hIf (v1 = v3) (
    k8 1) <|
    k8 0
abbrev hrm_J1_isEmpty (c s : Nat) : Room := { frames := 0, cells := c, slots := s, locals := 0 }
set_option maxHeartbeats 4000000 in
set_option maxRecDepth 100000 in
theorem hmet_J1_isEmpty (l : Launch) (E : hEnv) (A : Nat → Prop) (w : hW) (a0 : Nat) (Q : Int32 → hO → Prop) (h : hf_J1_isEmpty E.2.2 w a0 Q) : Met l yJ1_isEmpty (ws_ yJ1_isEmpty cJ1_isEmpty 1 (some .boolean)) (hrm_J1_isEmpty w.2.1 w.2.2) (va_Pc [.ref a0] (gPre (hK E A) (hP E A w.1))) (hQi E A Q) w.2.1 w.2.2 A := by
  refine h_met (own := RJ1) (by decide +kernel) rfl (Nat.le_of_ble_eq_true rfl) ?_
  intro p e s m args below meth c ls cb sb F hr hlk hK S hl
  have hx := F.1
  have hb := F.2.1
  have hl : lv_has ls 1 [(0, .ref a0)] := hl
  unfold hf_J1_isEmpty at h
  refine lv_aload_n hx hb dJ1_isEmpty_0 rfl (lv_at hl 0 rfl) ?_
  obtain ⟨v1, e2, h⟩ := obd_inv h
  refine hg_J1_24 F hK S e2 dJ1_isEmpty_1 ?_
  refine lv_aload_n hx hb dJ1_isEmpty_4 rfl (lv_at hl 0 rfl) ?_
  obtain ⟨v3, e4, h⟩ := obd_inv h
  refine hg_J1_20 F hK S e4 dJ1_isEmpty_5 ?_
  obtain ⟨k8, hk8, h⟩ := hj1_inv h
  have hJ16 : ∀ (v6 : Int32) (H : Heap) (locs : List Loc) (ls : Array Slot), k8 v6 → hS E A s.heap cb sb w H locs → lv_has ls 1 [] → W p l e (hrm_J1_isEmpty cb sb) s m args below meth c H locs (cb - w.2.1) (sb - w.2.2) (MQ below (hQi E A Q) args s cb sb A) (F0 m 16 ls [.int v6]) := by
    intro v6 H locs ls h S hl
    replace h := hk8 _ h
    exact h_zret F hr hlk S h dJ1_isEmpty_16
  clear hk8
  refine lv_icmp_ne (tgt := 15) hx hb dJ1_isEmpty_8 (by decide) (fun c5 => ?_) (fun c5 => ?_)
  · rw [hIf_neg c5] at h
    refine lv_iconst (v := 0) hx hb dJ1_isEmpty_15 (by decide) ?_
    exact hJ16 _ _ _ _ h S (lv_sub hl [] rfl)
  · rw [hIf_pos c5] at h
    refine lv_iconst (v := 1) hx hb dJ1_isEmpty_11 (by decide) ?_
    refine lv_goto (tgt := 16) hx hb dJ1_isEmpty_12 (by decide) ?_
    exact hJ16 _ _ _ _ h S (lv_sub hl [] rfl)
theorem hcl_J1_inc_J1_74 {p : Program} {l : Launch} {e : Env} {s : State} {m : MethodId} {args : Array Value} {below : List Frame} {meth : Method} {c : Code} {R : Room} {H : Heap} {locs : List Loc} {cb sb pc nL : Nat} {Q : State → Prop} {ls : Array Slot} {rest : List Value} {cc : ByteArray} {E : hEnv} {A : Nat → Prop} {w : hW} {x1 : Int32} {x2 : Int32} {Q' : Int32 → hO → Prop} {c1 s1 : Nat} (F : CallFix p m c cc nL s args lw_all RJ1) (hK : hK E A s) (S : hS E A s.heap cb sb w H locs) (h1 : c1 ≤ w.2.1) (h2 : s1 ≤ w.2.2) (h : hf_J1_inc E.2.2 (w.1, c1, s1) x1 x2 Q') (hrc : R.cells = cb) (hrs : R.slots = sb) (hls : ls.size = nL) (hWt : (rest.map fun v => v.category).sum ≤ 8) (hR : 0 + 1 ≤ R.frames ∧ 8 + (2 + 11) + 0 ≤ R.locals) (hdg : decode cc pc = .ok (.invokestatic 74, 3))
    (kk : ∀ (v : Int32) (o : hO) (w' : hW) (H1 : Heap) (locs1 : List Loc), w' = (o, w.2.1 - c1, w.2.2 - s1) → Q' v o → hS E A s.heap cb sb w' H1 locs1 → W p l e R s m args below meth c H1 locs1 (cb - w'.2.1) (sb - w'.2.2) Q (F0 m (pc + 3) ls (.int v :: rest))) : W p l e R s m args below meth c H locs (cb - w.2.1) (sb - w.2.2) Q (F0 m pc ls (.int x2 :: .int x1 :: rest)) :=
  h_ki (g_runS F hK (hKm E A) S.1 (hmet_J1_inc l E A (w.1, c1, s1) x1 x2 Q' h) (va_cwS 2 F.2.2.2.2 (lw_S q1164 q1165 q114 q1166) rfl rfl rfl (by decide +kernel) hR) rfl hls rfl hWt hdg ⟨by rw [hrc]; exact (h_left S h1 h2).1, by rw [hrs]; exact (h_left S h1 h2).2⟩) S h1 h2 kk
theorem hp_J1_20 {p : Program} {l : Launch} {e : Env} {s : State} {m : MethodId} {args : Array Value} {below : List Frame} {meth : Method} {c : Code} {R : Room} {H : Heap} {locs : List Loc} {cb sb pc nL : Nat} {Q : State → Prop} {ls : Array Slot} {rest : List Value} {cc : ByteArray} {E : hEnv} {A : Nat → Prop} {w : hW} {a : Nat} {w' : hW} {v : Int32} (F : CallFix p m c cc nL s args lw_all RJ1) (hK : hK E A s) (S : hS E A s.heap cb sb w H locs) (h : hpV w a 12 2 (.int v) = some w') (hdg : decode cc pc = .ok (.putfield 20, 3)) (kk : ∀ (H1 : Heap) (locs1 : List Loc), hS E A s.heap cb sb w' H1 locs1 → W p l e R s m args below meth c H1 locs1 (cb - w'.2.1) (sb - w'.2.2) Q (F0 m (pc + 3) ls rest)) : W p l e R s m args below meth c H locs (cb - w.2.1) (sb - w.2.2) Q (F0 m pc ls (.int v :: .ref a :: rest)) :=
  h_put F hK S h (ci := 12) (C := RJ1) (T := TJ1) (N := 3) (k := 2) rfl in_J1 tyJ1 tyJ1_ok nmJ1 (by decide) q217 (fun x h => h) rfl (ty := .int) (by decide +kernel) rfl rfl hdg kk
def hf_J1_addLast (pl : Nat → Nat) (w : hW) (a0 : Nat) (x1 : Nat) (Q : hO → Prop) : Prop :=
  obd (hgP w a0 12 0) fun v1 =>
  obd (hgI w a0 12 2) fun v3 =>
  obd (hsR w v1 v3 (some x1)) fun w5 =>
  obd (hgI w5 a0 12 1) fun v7 =>
  obd (hgI w5 a0 12 2) fun v9 =>
  obd (hLen w5 v1) fun v11 =>
  hcall w5 fun n13 n14 => hf_J1_inc pl (w5.1, n13, n14) v9 v11 fun v17 o16 => hret w5 n13 n14 o16 fun w15 =>
  obd (hpV w15 a0 12 2 (.int v17)) fun w18 =>
  hIf (v7 = v17) (
    False) <|
    Q w18.1
abbrev hrm_J1_addLast (c s : Nat) : Room := { frames := 1, cells := c, slots := s, locals := 21 }
set_option maxHeartbeats 4000000 in
set_option maxRecDepth 100000 in
theorem hmet_J1_addLast (l : Launch) (E : hEnv) (A : Nat → Prop) (w : hW) (a0 : Nat) (x1 : Nat) (Q : hO → Prop) (h : hf_J1_addLast E.2.2 w a0 x1 Q) : Met l yJ1_addLast (ws_ yJ1_addLast cJ1_addLast 3 (none)) (hrm_J1_addLast w.2.1 w.2.2) (va_Pc [.ref a0, .ref x1] (gPre (hK E A) (hP E A w.1))) (hQv E A Q) w.2.1 w.2.2 A := by
  refine h_met (own := RJ1) (by decide +kernel) rfl (Nat.le_of_ble_eq_true rfl) ?_
  intro p e s m args below meth c ls cb sb F hr hlk hK S hl
  have hx := F.1
  have hb := F.2.1
  have hl : lv_has ls 3 [(0, .ref a0), (1, .ref x1)] := hl
  unfold hf_J1_addLast at h
  refine lv_aload_n hx hb dJ1_addLast_0 rfl (lv_at hl 1 rfl) ?_
  refine lv_ifnonnull (tgt := 12) hx hb dJ1_addLast_1 (by decide) ?_
  refine lv_aload_n hx hb dJ1_addLast_12 rfl (lv_at hl 0 rfl) ?_
  obtain ⟨v1, e2, h⟩ := obd_inv h
  refine hg_J1_3 F hK S e2 dJ1_addLast_13 ?_
  refine lv_astore_n (lv' := [(2, .ref v1), (0, .ref a0), (1, .ref x1)]) hx hb dJ1_addLast_16 rfl hl (by decide) rfl (fun ls hl => ?_)
  refine lv_aload_n hx hb dJ1_addLast_17 rfl (lv_at hl 0 rfl) ?_
  refine lv_aload_n hx hb dJ1_addLast_18 rfl (lv_at hl 1 rfl) ?_
  obtain ⟨v3, e4, h⟩ := obd_inv h
  refine hg_J1_20 F hK S e4 dJ1_addLast_19 ?_
  refine lv_aload_n hx hb dJ1_addLast_22 rfl (lv_at hl 2 rfl) ?_
  obtain ⟨w5, e6, h⟩ := obd_inv h
  refine h_aast F hK S e6 dJ1_addLast_23 (fun H locs S => ?_)
  refine lv_aload_n hx hb dJ1_addLast_24 rfl (lv_at hl 1 rfl) ?_
  obtain ⟨v7, e8, h⟩ := obd_inv h
  refine hg_J1_24 F hK S e8 dJ1_addLast_25 ?_
  refine lv_aload_n hx hb dJ1_addLast_28 rfl (lv_at hl 1 rfl) ?_
  refine lv_aload_n hx hb dJ1_addLast_29 rfl (lv_at hl 1 rfl) ?_
  obtain ⟨v9, e10, h⟩ := obd_inv h
  refine hg_J1_20 F hK S e10 dJ1_addLast_30 ?_
  refine lv_aload_n hx hb dJ1_addLast_33 rfl (lv_at hl 0 rfl) ?_
  obtain ⟨v11, e12, h⟩ := obd_inv h
  refine h_alen F hK S e12 dJ1_addLast_34 ?_
  obtain ⟨n13, n14, h1, h2, h⟩ := hcall_inv h
  refine hcl_J1_inc_J1_74 F hK S h1 h2 h rfl rfl hl.1 (Nat.le_of_ble_eq_true rfl) ⟨Nat.le_of_ble_eq_true rfl, Nat.le_of_ble_eq_true rfl⟩ dJ1_addLast_35 (fun v17 o16 w15 H locs hw h S => ?_)
  replace h := hret_mp h hw
  clear hw h1 h2
  refine lv_dup_x1 hx hb dJ1_addLast_38 rfl rfl ?_
  obtain ⟨w18, e19, h⟩ := obd_inv h
  refine hp_J1_20 F hK S e19 dJ1_addLast_39 (fun H locs S => ?_)
  refine lv_icmp_ne (tgt := 50) hx hb dJ1_addLast_42 (by decide) (fun c20 => ?_) (fun c20 => ?_)
  · rw [hIf_neg c20] at h
    exact h_vret F hr hlk S h dJ1_addLast_50
  · rw [hIf_pos c20] at h
    refine lv_aload_n hx hb dJ1_addLast_45 rfl (lv_at hl 1 rfl) ?_
    refine lv_iconst (v := 1) hx hb dJ1_addLast_46 (by decide) ?_
    exact False.elim h
theorem hcl_J1_elementAt_J1_103 {p : Program} {l : Launch} {e : Env} {s : State} {m : MethodId} {args : Array Value} {below : List Frame} {meth : Method} {c : Code} {R : Room} {H : Heap} {locs : List Loc} {cb sb pc nL : Nat} {Q : State → Prop} {ls : Array Slot} {rest : List Value} {cc : ByteArray} {E : hEnv} {A : Nat → Prop} {w : hW} {x1 : Nat} {x2 : Int32} {Q' : Nat → hO → Prop} {c1 s1 : Nat} (F : CallFix p m c cc nL s args lw_all RJ1) (hK : hK E A s) (S : hS E A s.heap cb sb w H locs) (h1 : c1 ≤ w.2.1) (h2 : s1 ≤ w.2.2) (h : hf_J1_elementAt E.2.2 (w.1, c1, s1) x1 x2 Q') (hrc : R.cells = cb) (hrs : R.slots = sb) (hls : ls.size = nL) (hWt : (rest.map fun v => v.category).sum ≤ 8) (hR : 0 + 1 ≤ R.frames ∧ 8 + (2 + 11) + 0 ≤ R.locals) (hdg : decode cc pc = .ok (.invokestatic 103, 3))
    (kk : ∀ (v : Nat) (o : hO) (w' : hW) (H1 : Heap) (locs1 : List Loc), w' = (o, w.2.1 - c1, w.2.2 - s1) → Q' v o → hS E A s.heap cb sb w' H1 locs1 → W p l e R s m args below meth c H1 locs1 (cb - w'.2.1) (sb - w'.2.2) Q (F0 m (pc + 3) ls (.ref v :: rest))) : W p l e R s m args below meth c H locs (cb - w.2.1) (sb - w.2.2) Q (F0 m pc ls (.int x2 :: .ref x1 :: rest)) :=
  h_kp (g_runS F hK (hKm E A) S.1 (hmet_J1_elementAt l E A (w.1, c1, s1) x1 x2 Q' h) (va_cwS 2 F.2.2.2.2 (lw_S q1161 q1162 q114 q1163) rfl rfl rfl (by decide +kernel) hR) rfl hls rfl hWt hdg ⟨by rw [hrc]; exact (h_left S h1 h2).1, by rw [hrs]; exact (h_left S h1 h2).2⟩) S h1 h2 kk
theorem hp_J1_24 {p : Program} {l : Launch} {e : Env} {s : State} {m : MethodId} {args : Array Value} {below : List Frame} {meth : Method} {c : Code} {R : Room} {H : Heap} {locs : List Loc} {cb sb pc nL : Nat} {Q : State → Prop} {ls : Array Slot} {rest : List Value} {cc : ByteArray} {E : hEnv} {A : Nat → Prop} {w : hW} {a : Nat} {w' : hW} {v : Int32} (F : CallFix p m c cc nL s args lw_all RJ1) (hK : hK E A s) (S : hS E A s.heap cb sb w H locs) (h : hpV w a 12 1 (.int v) = some w') (hdg : decode cc pc = .ok (.putfield 24, 3)) (kk : ∀ (H1 : Heap) (locs1 : List Loc), hS E A s.heap cb sb w' H1 locs1 → W p l e R s m args below meth c H1 locs1 (cb - w'.2.1) (sb - w'.2.2) Q (F0 m (pc + 3) ls rest)) : W p l e R s m args below meth c H locs (cb - w.2.1) (sb - w.2.2) Q (F0 m pc ls (.int v :: .ref a :: rest)) :=
  h_put F hK S h (ci := 12) (C := RJ1) (T := TJ1) (N := 3) (k := 1) rfl in_J1 tyJ1 tyJ1_ok nmJ1 (by decide) q216 (fun x h => h) rfl (ty := .int) (by decide +kernel) rfl rfl hdg kk
def hf_J1_pollFirst (pl : Nat → Nat) (w : hW) (a0 : Nat) (Q : Nat → hO → Prop) : Prop :=
  obd (hgP w a0 12 0) fun v1 =>
  obd (hgI w a0 12 1) fun v3 =>
  hcall w fun n5 n6 => hf_J1_elementAt pl (w.1, n5, n6) v1 v3 fun v9 o8 => hret w n5 n6 o8 fun w7 =>
  obd (hsR w7 v1 v3 none) fun w10 =>
  obd (hLen w10 v1) fun v12 =>
  hcall w10 fun n14 n15 => hf_J1_inc pl (w10.1, n14, n15) v3 v12 fun v18 o17 => hret w10 n14 n15 o17 fun w16 =>
  obd (hpV w16 a0 12 1 (.int v18)) fun w19 =>
  Q v9 w19.1
abbrev hrm_J1_pollFirst (c s : Nat) : Room := { frames := 1, cells := c, slots := s, locals := 21 }
set_option maxHeartbeats 4000000 in
set_option maxRecDepth 100000 in
theorem hmet_J1_pollFirst (l : Launch) (E : hEnv) (A : Nat → Prop) (w : hW) (a0 : Nat) (Q : Nat → hO → Prop) (h : hf_J1_pollFirst E.2.2 w a0 Q) : Met l yJ1_pollFirst (ws_ yJ1_pollFirst cJ1_pollFirst 4 (some (.object "java/lang/Object"))) (hrm_J1_pollFirst w.2.1 w.2.2) (va_Pc [.ref a0] (gPre (hK E A) (hP E A w.1))) (hQp E A Q) w.2.1 w.2.2 A := by
  refine h_met (own := RJ1) (by decide +kernel) rfl (Nat.le_of_ble_eq_true rfl) ?_
  intro p e s m args below meth c ls cb sb F hr hlk hK S hl
  have hx := F.1
  have hb := F.2.1
  have hl : lv_has ls 4 [(0, .ref a0)] := hl
  unfold hf_J1_pollFirst at h
  refine lv_aload_n hx hb dJ1_pollFirst_0 rfl (lv_at hl 0 rfl) ?_
  obtain ⟨v1, e2, h⟩ := obd_inv h
  refine hg_J1_3 F hK S e2 dJ1_pollFirst_1 ?_
  refine lv_dup hx hb dJ1_pollFirst_4 rfl ?_
  refine lv_astore_n (lv' := [(1, .ref v1), (0, .ref a0)]) hx hb dJ1_pollFirst_5 rfl hl (by decide) rfl (fun ls hl => ?_)
  refine lv_aload_n hx hb dJ1_pollFirst_6 rfl (lv_at hl 1 rfl) ?_
  obtain ⟨v3, e4, h⟩ := obd_inv h
  refine hg_J1_24 F hK S e4 dJ1_pollFirst_7 ?_
  refine lv_dup hx hb dJ1_pollFirst_10 rfl ?_
  refine lv_istore_n (lv' := [(2, .int v3), (1, .ref v1), (0, .ref a0)]) hx hb dJ1_pollFirst_11 rfl hl (by decide) rfl (fun ls hl => ?_)
  obtain ⟨n5, n6, h1, h2, h⟩ := hcall_inv h
  refine hcl_J1_elementAt_J1_103 F hK S h1 h2 h rfl rfl hl.1 (Nat.le_of_ble_eq_true rfl) ⟨Nat.le_of_ble_eq_true rfl, Nat.le_of_ble_eq_true rfl⟩ dJ1_pollFirst_12 (fun v9 o8 w7 H locs hw h S => ?_)
  replace h := hret_mp h hw
  clear hw h1 h2
  refine lv_astore_n (lv' := [(3, .ref v9), (2, .int v3), (1, .ref v1), (0, .ref a0)]) hx hb dJ1_pollFirst_15 rfl hl (by decide) rfl (fun ls hl => ?_)
  refine lv_aload_n hx hb dJ1_pollFirst_16 rfl (lv_at hl 0 rfl) ?_
  refine lv_ifnull hx hb dJ1_pollFirst_17 ?_
  refine lv_aload_n hx hb dJ1_pollFirst_20 rfl (lv_at hl 2 rfl) ?_
  refine lv_iload_n hx hb dJ1_pollFirst_21 rfl (lv_at hl 1 rfl) ?_
  refine lv_null hx hb dJ1_pollFirst_22 ?_
  obtain ⟨w10, e11, h⟩ := obd_inv h
  refine h_aastN F hK S e11 dJ1_pollFirst_23 (fun H locs S => ?_)
  refine lv_aload_n hx hb dJ1_pollFirst_24 rfl (lv_at hl 3 rfl) ?_
  refine lv_iload_n hx hb dJ1_pollFirst_25 rfl (lv_at hl 1 rfl) ?_
  refine lv_aload_n hx hb dJ1_pollFirst_26 rfl (lv_at hl 2 rfl) ?_
  obtain ⟨v12, e13, h⟩ := obd_inv h
  refine h_alen F hK S e13 dJ1_pollFirst_27 ?_
  obtain ⟨n14, n15, h1, h2, h⟩ := hcall_inv h
  refine hcl_J1_inc_J1_74 F hK S h1 h2 h rfl rfl hl.1 (Nat.le_of_ble_eq_true rfl) ⟨Nat.le_of_ble_eq_true rfl, Nat.le_of_ble_eq_true rfl⟩ dJ1_pollFirst_28 (fun v18 o17 w16 H locs hw h S => ?_)
  replace h := hret_mp h hw
  clear hw h1 h2
  obtain ⟨w19, e20, h⟩ := obd_inv h
  refine hp_J1_24 F hK S e20 dJ1_pollFirst_31 (fun H locs S => ?_)
  refine lv_aload_n hx hb dJ1_pollFirst_34 rfl (lv_at hl 0 rfl) ?_
  exact h_aret F hr (Or.inl ⟨_, rfl⟩) hlk S h dJ1_pollFirst_35
theorem hcl_J1_pollFirst_J1_93 {p : Program} {l : Launch} {e : Env} {s : State} {m : MethodId} {args : Array Value} {below : List Frame} {meth : Method} {c : Code} {R : Room} {H : Heap} {locs : List Loc} {cb sb pc nL : Nat} {Q : State → Prop} {ls : Array Slot} {rest : List Value} {cc : ByteArray} {E : hEnv} {A : Nat → Prop} {w : hW} {a0 : Nat} {Q' : Nat → hO → Prop} {c1 s1 : Nat} (F : CallFix p m c cc nL s args lw_all RJ1) (hK : hK E A s) (S : hS E A s.heap cb sb w H locs) (hrv : ∃ (b : Bool) (fs : List Value), w.1 a0 = some (b, .inl (12, fs))) (h1 : c1 ≤ w.2.1) (h2 : s1 ≤ w.2.2) (h : hf_J1_pollFirst E.2.2 (w.1, c1, s1) a0 Q') (hrc : R.cells = cb) (hrs : R.slots = sb) (hls : ls.size = nL) (hWt : (rest.map fun v => v.category).sum ≤ 8) (hR : 1 + 1 ≤ R.frames ∧ 8 + (4 + 11) + 21 ≤ R.locals) (hdg : decode cc pc = .ok (.invokevirtual 93, 3))
    (kk : ∀ (v : Nat) (o : hO) (w' : hW) (H1 : Heap) (locs1 : List Loc), w' = (o, w.2.1 - c1, w.2.2 - s1) → Q' v o → hS E A s.heap cb sb w' H1 locs1 → W p l e R s m args below meth c H1 locs1 (cb - w'.2.1) (sb - w'.2.2) Q (F0 m (pc + 3) ls (.ref v :: rest))) : W p l e R s m args below meth c H locs (cb - w.2.1) (sb - w.2.2) Q (F0 m pc ls (.ref a0 :: rest)) :=
  h_kp (g_runV F hK (hKm E A) S.1 (hmet_J1_pollFirst l E A (w.1, c1, s1) a0 Q' h) (cwV 0 F.2.2.2.2 (lw_V q1157 q1158 q1159 q114 q1160) rfl rfl rfl (by decide +kernel) hR) (h_recv hK S (ci := 12) rfl hrv) rfl hls rfl hWt hdg ⟨by rw [hrc]; exact (h_left S h1 h2).1, by rw [hrs]; exact (h_left S h1 h2).2⟩) S h1 h2 kk
def hf_J1_removeFirst (pl : Nat → Nat) (w : hW) (a0 : Nat) (Q : Nat → hO → Prop) : Prop :=
  obd (hIs w a0 12) fun u1 =>
  hcall w fun n3 n4 => hf_J1_pollFirst pl (w.1, n3, n4) a0 fun v7 o6 => hret w n3 n4 o6 fun w5 =>
  Q v7 w5.1
abbrev hrm_J1_removeFirst (c s : Nat) : Room := { frames := 2, cells := c, slots := s, locals := 44 }
set_option maxHeartbeats 4000000 in
set_option maxRecDepth 100000 in
theorem hmet_J1_removeFirst (l : Launch) (E : hEnv) (A : Nat → Prop) (w : hW) (a0 : Nat) (Q : Nat → hO → Prop) (h : hf_J1_removeFirst E.2.2 w a0 Q) : Met l yJ1_removeFirst (ws_ yJ1_removeFirst cJ1_removeFirst 2 (some (.object "java/lang/Object"))) (hrm_J1_removeFirst w.2.1 w.2.2) (va_Pc [.ref a0] (gPre (hK E A) (hP E A w.1))) (hQp E A Q) w.2.1 w.2.2 A := by
  refine h_met (own := RJ1) (by decide +kernel) rfl (Nat.le_of_ble_eq_true rfl) ?_
  intro p e s m args below meth c ls cb sb F hr hlk hK S hl
  have hx := F.1
  have hb := F.2.1
  have hl : lv_has ls 2 [(0, .ref a0)] := hl
  unfold hf_J1_removeFirst at h
  refine lv_aload_n hx hb dJ1_removeFirst_0 rfl (lv_at hl 0 rfl) ?_
  obtain ⟨u1, e2, h⟩ := obd_inv h
  obtain ⟨n3, n4, h1, h2, h⟩ := hcall_inv h
  refine hcl_J1_pollFirst_J1_93 F hK S (hIs_inv e2) h1 h2 h rfl rfl hl.1 (Nat.le_of_ble_eq_true rfl) ⟨Nat.le_of_ble_eq_true rfl, Nat.le_of_ble_eq_true rfl⟩ dJ1_removeFirst_1 (fun v7 o6 w5 H locs hw h S => ?_)
  replace h := hret_mp h hw
  clear hw h1 h2
  refine lv_astore_n (lv' := [(1, .ref v7), (0, .ref a0)]) hx hb dJ1_removeFirst_4 rfl hl (by decide) rfl (fun ls hl => ?_)
  refine lv_aload_n hx hb dJ1_removeFirst_5 rfl (lv_at hl 0 rfl) ?_
  refine lv_ifnonnull (tgt := 17) hx hb dJ1_removeFirst_6 (by decide) ?_
  refine lv_aload_n hx hb dJ1_removeFirst_17 rfl (lv_at hl 0 rfl) ?_
  exact h_aret F hr (Or.inl ⟨_, rfl⟩) hlk S h dJ1_removeFirst_18
theorem hcl_J1_dec_J1_68 {p : Program} {l : Launch} {e : Env} {s : State} {m : MethodId} {args : Array Value} {below : List Frame} {meth : Method} {c : Code} {R : Room} {H : Heap} {locs : List Loc} {cb sb pc nL : Nat} {Q : State → Prop} {ls : Array Slot} {rest : List Value} {cc : ByteArray} {E : hEnv} {A : Nat → Prop} {w : hW} {x1 : Int32} {x2 : Int32} {Q' : Int32 → hO → Prop} {c1 s1 : Nat} (F : CallFix p m c cc nL s args lw_all RJ1) (hK : hK E A s) (S : hS E A s.heap cb sb w H locs) (h1 : c1 ≤ w.2.1) (h2 : s1 ≤ w.2.2) (h : hf_J1_dec E.2.2 (w.1, c1, s1) x1 x2 Q') (hrc : R.cells = cb) (hrs : R.slots = sb) (hls : ls.size = nL) (hWt : (rest.map fun v => v.category).sum ≤ 8) (hR : 0 + 1 ≤ R.frames ∧ 8 + (2 + 11) + 0 ≤ R.locals) (hdg : decode cc pc = .ok (.invokestatic 68, 3))
    (kk : ∀ (v : Int32) (o : hO) (w' : hW) (H1 : Heap) (locs1 : List Loc), w' = (o, w.2.1 - c1, w.2.2 - s1) → Q' v o → hS E A s.heap cb sb w' H1 locs1 → W p l e R s m args below meth c H1 locs1 (cb - w'.2.1) (sb - w'.2.2) Q (F0 m (pc + 3) ls (.int v :: rest))) : W p l e R s m args below meth c H locs (cb - w.2.1) (sb - w.2.2) Q (F0 m pc ls (.int x2 :: .int x1 :: rest)) :=
  h_ki (g_runS F hK (hKm E A) S.1 (hmet_J1_dec l E A (w.1, c1, s1) x1 x2 Q' h) (va_cwS 2 F.2.2.2.2 (lw_S q1345 q1346 q114 q1347) rfl rfl rfl (by decide +kernel) hR) rfl hls rfl hWt hdg ⟨by rw [hrc]; exact (h_left S h1 h2).1, by rw [hrs]; exact (h_left S h1 h2).2⟩) S h1 h2 kk
def hf_J1_pollLast (pl : Nat → Nat) (w : hW) (a0 : Nat) (Q : Nat → hO → Prop) : Prop :=
  obd (hgP w a0 12 0) fun v1 =>
  obd (hgI w a0 12 2) fun v3 =>
  obd (hLen w v1) fun v5 =>
  hcall w fun n7 n8 => hf_J1_dec pl (w.1, n7, n8) v3 v5 fun v11 o10 => hret w n7 n8 o10 fun w9 =>
  hcall w9 fun n12 n13 => hf_J1_elementAt pl (w9.1, n12, n13) v1 v11 fun v16 o15 => hret w9 n12 n13 o15 fun w14 =>
  obd (hpV w14 a0 12 2 (.int v11)) fun w17 =>
  obd (hsR w17 v1 v11 none) fun w19 =>
  Q v16 w19.1
abbrev hrm_J1_pollLast (c s : Nat) : Room := { frames := 1, cells := c, slots := s, locals := 21 }
set_option maxHeartbeats 4000000 in
set_option maxRecDepth 100000 in
theorem hmet_J1_pollLast (l : Launch) (E : hEnv) (A : Nat → Prop) (w : hW) (a0 : Nat) (Q : Nat → hO → Prop) (h : hf_J1_pollLast E.2.2 w a0 Q) : Met l yJ1_pollLast (ws_ yJ1_pollLast cJ1_pollLast 4 (some (.object "java/lang/Object"))) (hrm_J1_pollLast w.2.1 w.2.2) (va_Pc [.ref a0] (gPre (hK E A) (hP E A w.1))) (hQp E A Q) w.2.1 w.2.2 A := by
  refine h_met (own := RJ1) (by decide +kernel) rfl (Nat.le_of_ble_eq_true rfl) ?_
  intro p e s m args below meth c ls cb sb F hr hlk hK S hl
  have hx := F.1
  have hb := F.2.1
  have hl : lv_has ls 4 [(0, .ref a0)] := hl
  unfold hf_J1_pollLast at h
  refine lv_aload_n hx hb dJ1_pollLast_0 rfl (lv_at hl 0 rfl) ?_
  obtain ⟨v1, e2, h⟩ := obd_inv h
  refine hg_J1_3 F hK S e2 dJ1_pollLast_1 ?_
  refine lv_dup hx hb dJ1_pollLast_4 rfl ?_
  refine lv_astore_n (lv' := [(1, .ref v1), (0, .ref a0)]) hx hb dJ1_pollLast_5 rfl hl (by decide) rfl (fun ls hl => ?_)
  refine lv_aload_n hx hb dJ1_pollLast_6 rfl (lv_at hl 1 rfl) ?_
  obtain ⟨v3, e4, h⟩ := obd_inv h
  refine hg_J1_20 F hK S e4 dJ1_pollLast_7 ?_
  refine lv_aload_n hx hb dJ1_pollLast_10 rfl (lv_at hl 0 rfl) ?_
  obtain ⟨v5, e6, h⟩ := obd_inv h
  refine h_alen F hK S e6 dJ1_pollLast_11 ?_
  obtain ⟨n7, n8, h1, h2, h⟩ := hcall_inv h
  refine hcl_J1_dec_J1_68 F hK S h1 h2 h rfl rfl hl.1 (Nat.le_of_ble_eq_true rfl) ⟨Nat.le_of_ble_eq_true rfl, Nat.le_of_ble_eq_true rfl⟩ dJ1_pollLast_12 (fun v11 o10 w9 H locs hw h S => ?_)
  replace h := hret_mp h hw
  clear hw h1 h2
  refine lv_dup hx hb dJ1_pollLast_15 rfl ?_
  refine lv_istore_n (lv' := [(2, .int v11), (1, .ref v1), (0, .ref a0)]) hx hb dJ1_pollLast_16 rfl hl (by decide) rfl (fun ls hl => ?_)
  obtain ⟨n12, n13, h1, h2, h⟩ := hcall_inv h
  refine hcl_J1_elementAt_J1_103 F hK S h1 h2 h rfl rfl hl.1 (Nat.le_of_ble_eq_true rfl) ⟨Nat.le_of_ble_eq_true rfl, Nat.le_of_ble_eq_true rfl⟩ dJ1_pollLast_17 (fun v16 o15 w14 H locs hw h S => ?_)
  replace h := hret_mp h hw
  clear hw h1 h2
  refine lv_astore_n (lv' := [(3, .ref v16), (2, .int v11), (1, .ref v1), (0, .ref a0)]) hx hb dJ1_pollLast_20 rfl hl (by decide) rfl (fun ls hl => ?_)
  refine lv_aload_n hx hb dJ1_pollLast_21 rfl (lv_at hl 0 rfl) ?_
  refine lv_ifnull hx hb dJ1_pollLast_22 ?_
  refine lv_aload_n hx hb dJ1_pollLast_25 rfl (lv_at hl 2 rfl) ?_
  refine lv_aload_n hx hb dJ1_pollLast_26 rfl (lv_at hl 3 rfl) ?_
  refine lv_iload_n hx hb dJ1_pollLast_27 rfl (lv_at hl 1 rfl) ?_
  refine lv_dup_x1 hx hb dJ1_pollLast_28 rfl rfl ?_
  obtain ⟨w17, e18, h⟩ := obd_inv h
  refine hp_J1_20 F hK S e18 dJ1_pollLast_29 (fun H locs S => ?_)
  refine lv_null hx hb dJ1_pollLast_32 ?_
  obtain ⟨w19, e20, h⟩ := obd_inv h
  refine h_aastN F hK S e20 dJ1_pollLast_33 (fun H locs S => ?_)
  refine lv_aload_n hx hb dJ1_pollLast_34 rfl (lv_at hl 0 rfl) ?_
  exact h_aret F hr (Or.inl ⟨_, rfl⟩) hlk S h dJ1_pollLast_35
theorem hcl_J1_pollLast_J1_100 {p : Program} {l : Launch} {e : Env} {s : State} {m : MethodId} {args : Array Value} {below : List Frame} {meth : Method} {c : Code} {R : Room} {H : Heap} {locs : List Loc} {cb sb pc nL : Nat} {Q : State → Prop} {ls : Array Slot} {rest : List Value} {cc : ByteArray} {E : hEnv} {A : Nat → Prop} {w : hW} {a0 : Nat} {Q' : Nat → hO → Prop} {c1 s1 : Nat} (F : CallFix p m c cc nL s args lw_all RJ1) (hK : hK E A s) (S : hS E A s.heap cb sb w H locs) (hrv : ∃ (b : Bool) (fs : List Value), w.1 a0 = some (b, .inl (12, fs))) (h1 : c1 ≤ w.2.1) (h2 : s1 ≤ w.2.2) (h : hf_J1_pollLast E.2.2 (w.1, c1, s1) a0 Q') (hrc : R.cells = cb) (hrs : R.slots = sb) (hls : ls.size = nL) (hWt : (rest.map fun v => v.category).sum ≤ 8) (hR : 1 + 1 ≤ R.frames ∧ 8 + (4 + 11) + 21 ≤ R.locals) (hdg : decode cc pc = .ok (.invokevirtual 100, 3))
    (kk : ∀ (v : Nat) (o : hO) (w' : hW) (H1 : Heap) (locs1 : List Loc), w' = (o, w.2.1 - c1, w.2.2 - s1) → Q' v o → hS E A s.heap cb sb w' H1 locs1 → W p l e R s m args below meth c H1 locs1 (cb - w'.2.1) (sb - w'.2.2) Q (F0 m (pc + 3) ls (.ref v :: rest))) : W p l e R s m args below meth c H locs (cb - w.2.1) (sb - w.2.2) Q (F0 m pc ls (.ref a0 :: rest)) :=
  h_kp (g_runV F hK (hKm E A) S.1 (hmet_J1_pollLast l E A (w.1, c1, s1) a0 Q' h) (cwV 0 F.2.2.2.2 (lw_V q1341 q1342 q1343 q114 q1344) rfl rfl rfl (by decide +kernel) hR) (h_recv hK S (ci := 12) rfl hrv) rfl hls rfl hWt hdg ⟨by rw [hrc]; exact (h_left S h1 h2).1, by rw [hrs]; exact (h_left S h1 h2).2⟩) S h1 h2 kk
def hf_J1_removeLast (pl : Nat → Nat) (w : hW) (a0 : Nat) (Q : Nat → hO → Prop) : Prop :=
  obd (hIs w a0 12) fun u1 =>
  hcall w fun n3 n4 => hf_J1_pollLast pl (w.1, n3, n4) a0 fun v7 o6 => hret w n3 n4 o6 fun w5 =>
  Q v7 w5.1
abbrev hrm_J1_removeLast (c s : Nat) : Room := { frames := 2, cells := c, slots := s, locals := 44 }
set_option maxHeartbeats 4000000 in
set_option maxRecDepth 100000 in
theorem hmet_J1_removeLast (l : Launch) (E : hEnv) (A : Nat → Prop) (w : hW) (a0 : Nat) (Q : Nat → hO → Prop) (h : hf_J1_removeLast E.2.2 w a0 Q) : Met l yJ1_removeLast (ws_ yJ1_removeLast cJ1_removeLast 2 (some (.object "java/lang/Object"))) (hrm_J1_removeLast w.2.1 w.2.2) (va_Pc [.ref a0] (gPre (hK E A) (hP E A w.1))) (hQp E A Q) w.2.1 w.2.2 A := by
  refine h_met (own := RJ1) (by decide +kernel) rfl (Nat.le_of_ble_eq_true rfl) ?_
  intro p e s m args below meth c ls cb sb F hr hlk hK S hl
  have hx := F.1
  have hb := F.2.1
  have hl : lv_has ls 2 [(0, .ref a0)] := hl
  unfold hf_J1_removeLast at h
  refine lv_aload_n hx hb dJ1_removeLast_0 rfl (lv_at hl 0 rfl) ?_
  obtain ⟨u1, e2, h⟩ := obd_inv h
  obtain ⟨n3, n4, h1, h2, h⟩ := hcall_inv h
  refine hcl_J1_pollLast_J1_100 F hK S (hIs_inv e2) h1 h2 h rfl rfl hl.1 (Nat.le_of_ble_eq_true rfl) ⟨Nat.le_of_ble_eq_true rfl, Nat.le_of_ble_eq_true rfl⟩ dJ1_removeLast_1 (fun v7 o6 w5 H locs hw h S => ?_)
  replace h := hret_mp h hw
  clear hw h1 h2
  refine lv_astore_n (lv' := [(1, .ref v7), (0, .ref a0)]) hx hb dJ1_removeLast_4 rfl hl (by decide) rfl (fun ls hl => ?_)
  refine lv_aload_n hx hb dJ1_removeLast_5 rfl (lv_at hl 0 rfl) ?_
  refine lv_ifnonnull (tgt := 17) hx hb dJ1_removeLast_6 (by decide) ?_
  refine lv_aload_n hx hb dJ1_removeLast_17 rfl (lv_at hl 0 rfl) ?_
  exact h_aret F hr (Or.inl ⟨_, rfl⟩) hlk S h dJ1_removeLast_18
def hL_J1_circularClear_1 (pl : Nat → Nat) (Q : hO → Prop) (K : hW → Prop) (y0 : Nat) (y2 : Int32) : Nat → hW → Int32 → Int32 → Prop
  | 0, _, _, _ => False
  | n + 1, w, y1, y3 =>
    hIf (y3 ≤ y1) (
      hIf (y3 = y2) (
        K w) <|
        hL_J1_circularClear_1 pl Q K y0 y2 n w 0 y2) <|
      obd (hsR w y0 y1 none) fun w7 =>
      hL_J1_circularClear_1 pl Q K y0 y2 n w7 (y1 + 1) y3
def hf_J1_circularClear (pl : Nat → Nat) (w : hW) (x1 : Nat) (x2 : Int32) (x3 : Int32) (Q : hO → Prop) : Prop :=
  hjoin (fun (v4 : Int32) =>
    hL_J1_circularClear_1 pl Q (fun (w9 : hW) =>
      Q w9.1) x1 x3 FUEL w x2 v4) fun k11 =>
  hIf (x3 < x2) (
    obd (hLen w x1) fun v2 =>
    k11 v2) <|
    k11 x3
abbrev hrm_J1_circularClear (c s : Nat) : Room := { frames := 0, cells := c, slots := s, locals := 0 }
set_option maxHeartbeats 4000000 in
set_option maxRecDepth 100000 in
theorem hloop_J1_circularClear_1 {p : Program} {l : Launch} {e : Env} {s : State} {m : MethodId} {args : Array Value} {below : List Frame} {meth : Method} {c : Code} {cb sb : Nat} {E : hEnv} {A : Nat → Prop} {Q : hO → Prop} {K : hW → Prop} {y0 : Nat} {y2 : Int32} (F : CallFix p m c cJ1_circularClear 4 s args lw_all RJ1) (hr : meth.sig.returnType = none) (hlk : meth.locks = false) (hK : hK E A s) : ∀ (n : Nat) (w : hW) (y1 : Int32) (y3 : Int32), hL_J1_circularClear_1 E.2.2 Q K y0 y2 n w y1 y3 → ∀ (H : Heap) (locs : List Loc) (ls : Array Slot), hS E A s.heap cb sb w H locs → lv_has ls 4 [(0, .ref y0), (1, .int y1), (2, .int y2), (3, .int y3)] → (∀ (wz : hW) (H : Heap) (locs : List Loc) (ls : Array Slot), K wz → hS E A s.heap cb sb wz H locs → lv_has ls 4 [] → W p l e (hrm_J1_circularClear cb sb) s m args below meth c H locs (cb - wz.2.1) (sb - wz.2.2) (MQ below (hQv E A Q) args s cb sb A) (F0 m 32 ls [])) → W p l e (hrm_J1_circularClear cb sb) s m args below meth c H locs (cb - w.2.1) (sb - w.2.2) (MQ below (hQv E A Q) args s cb sb A) (F0 m 12 ls []) := by
  have hx := F.1
  have hb := F.2.1
  intro n
  induction n with
  | zero =>
    intro w y1 y3 h
    exact False.elim h
  | succ n ih =>
    intro w y1 y3 h H locs ls S hl kx
    rw [hL_J1_circularClear_1] at h
    refine lv_iload_n hx hb dJ1_circularClear_12 rfl (lv_at hl 1 rfl) ?_
    refine lv_iload_n hx hb dJ1_circularClear_13 rfl (lv_at hl 3 rfl) ?_
    refine lv_icmp_ge (tgt := 27) hx hb dJ1_circularClear_14 (by decide) (fun c5 => ?_) (fun c5 => ?_)
    · rw [hIf_pos c5] at h
      refine lv_iload_n hx hb dJ1_circularClear_27 rfl (lv_at hl 3 rfl) ?_
      refine lv_iload_n hx hb dJ1_circularClear_28 rfl (lv_at hl 2 rfl) ?_
      refine lv_icmp_ne (tgt := 35) hx hb dJ1_circularClear_29 (by decide) (fun c6 => ?_) (fun c6 => ?_)
      · rw [hIf_neg c6] at h
        refine lv_iconst (v := 0) hx hb dJ1_circularClear_35 (by decide) ?_
        refine lv_istore_n (lv' := [(1, .int 0), (0, .ref y0), (2, .int y2), (3, .int y3)]) hx hb dJ1_circularClear_36 rfl hl (by decide) rfl (fun ls hl => ?_)
        refine lv_iload_n hx hb dJ1_circularClear_37 rfl (lv_at hl 2 rfl) ?_
        refine lv_istore_n (lv' := [(3, .int y2), (1, .int 0), (0, .ref y0), (2, .int y2)]) hx hb dJ1_circularClear_38 rfl hl (by decide) rfl (fun ls hl => ?_)
        refine lv_goto (tgt := 12) hx hb dJ1_circularClear_39 (by decide) ?_
        exact ih _ _ _ h _ _ _ S (lv_sub hl [2, 1, 3, 0] rfl) kx
      · rw [hIf_pos c6] at h
        exact kx _ _ _ _ h S (lv_sub hl [] rfl)
    · rw [hIf_neg c5] at h
      refine lv_aload_n hx hb dJ1_circularClear_17 rfl (lv_at hl 0 rfl) ?_
      refine lv_iload_n hx hb dJ1_circularClear_18 rfl (lv_at hl 1 rfl) ?_
      refine lv_null hx hb dJ1_circularClear_19 ?_
      obtain ⟨w7, e8, h⟩ := obd_inv h
      refine h_aastN F hK S e8 dJ1_circularClear_20 (fun H locs S => ?_)
      refine lv_iinc (v := (y1 + 1)) (lv' := [(1, .int (y1 + 1)), (0, .ref y0), (2, .int y2), (3, .int y3)]) hx hb dJ1_circularClear_21 hl (k := 1) rfl rfl (by decide) rfl (fun ls hl => ?_)
      refine lv_goto (tgt := 12) hx hb dJ1_circularClear_24 (by decide) ?_
      exact ih _ _ _ h _ _ _ S (lv_sub hl [1, 0, 2, 3] rfl) kx
set_option maxHeartbeats 4000000 in
set_option maxRecDepth 100000 in
theorem hmet_J1_circularClear (l : Launch) (E : hEnv) (A : Nat → Prop) (w : hW) (x1 : Nat) (x2 : Int32) (x3 : Int32) (Q : hO → Prop) (h : hf_J1_circularClear E.2.2 w x1 x2 x3 Q) : Met l yJ1_circularClear (ws_ yJ1_circularClear cJ1_circularClear 4 (none)) (hrm_J1_circularClear w.2.1 w.2.2) (va_Pc [.ref x1, .int x2, .int x3] (gPre (hK E A) (hP E A w.1))) (hQv E A Q) w.2.1 w.2.2 A := by
  refine h_met (own := RJ1) (by decide +kernel) rfl (Nat.le_of_ble_eq_true rfl) ?_
  intro p e s m args below meth c ls cb sb F hr hlk hK S hl
  have hx := F.1
  have hb := F.2.1
  have hl : lv_has ls 4 [(0, .ref x1), (1, .int x2), (2, .int x3)] := hl
  unfold hf_J1_circularClear at h
  refine lv_iload_n hx hb dJ1_circularClear_0 rfl (lv_at hl 1 rfl) ?_
  refine lv_iload_n hx hb dJ1_circularClear_1 rfl (lv_at hl 2 rfl) ?_
  obtain ⟨k11, hk11, h⟩ := hj1_inv h
  have hJ11 : ∀ (v4 : Int32) (H : Heap) (locs : List Loc) (ls : Array Slot), k11 v4 → hS E A s.heap cb sb w H locs → lv_has ls 4 [(0, .ref x1), (1, .int x2), (2, .int x3)] → W p l e (hrm_J1_circularClear cb sb) s m args below meth c H locs (cb - w.2.1) (sb - w.2.2) (MQ below (hQv E A Q) args s cb sb A) (F0 m 11 ls [.int v4]) := by
    intro v4 H locs ls h S hl
    replace h := hk11 _ h
    refine lv_istore_n (lv' := [(3, .int v4), (0, .ref x1), (1, .int x2), (2, .int x3)]) hx hb dJ1_circularClear_11 rfl hl (by decide) rfl (fun ls hl => ?_)
    refine hloop_J1_circularClear_1 F hr hlk hK _ _ _ _ h _ _ _ S (lv_sub hl [1, 2, 3, 0] rfl) (fun w9 H locs ls h S hl => ?_)
    refine lv_goto (tgt := 42) hx hb dJ1_circularClear_32 (by decide) ?_
    exact h_vret F hr hlk S h dJ1_circularClear_42
  clear hk11
  refine lv_icmp_gt (tgt := 9) hx hb dJ1_circularClear_2 (by decide) (fun c1 => ?_) (fun c1 => ?_)
  · rw [hIf_pos c1] at h
    refine lv_aload_n hx hb dJ1_circularClear_9 rfl (lv_at hl 0 rfl) ?_
    obtain ⟨v2, e3, h⟩ := obd_inv h
    refine h_alen F hK S e3 dJ1_circularClear_10 ?_
    exact hJ11 _ _ _ _ h S (lv_sub hl [0, 1, 2] rfl)
  · rw [hIf_neg c1] at h
    refine lv_iload_n hx hb dJ1_circularClear_5 rfl (lv_at hl 2 rfl) ?_
    refine lv_goto (tgt := 11) hx hb dJ1_circularClear_6 (by decide) ?_
    exact hJ11 _ _ _ _ h S (lv_sub hl [0, 1, 2] rfl)
theorem hcl_J1_circularClear_J1_181 {p : Program} {l : Launch} {e : Env} {s : State} {m : MethodId} {args : Array Value} {below : List Frame} {meth : Method} {c : Code} {R : Room} {H : Heap} {locs : List Loc} {cb sb pc nL : Nat} {Q : State → Prop} {ls : Array Slot} {rest : List Value} {cc : ByteArray} {E : hEnv} {A : Nat → Prop} {w : hW} {x1 : Nat} {x2 : Int32} {x3 : Int32} {Q' : hO → Prop} {c1 s1 : Nat} (F : CallFix p m c cc nL s args lw_all RJ1) (hK : hK E A s) (S : hS E A s.heap cb sb w H locs) (h1 : c1 ≤ w.2.1) (h2 : s1 ≤ w.2.2) (h : hf_J1_circularClear E.2.2 (w.1, c1, s1) x1 x2 x3 Q') (hrc : R.cells = cb) (hrs : R.slots = sb) (hls : ls.size = nL) (hWt : (rest.map fun v => v.category).sum ≤ 8) (hR : 0 + 1 ≤ R.frames ∧ 8 + (4 + 11) + 0 ≤ R.locals) (hdg : decode cc pc = .ok (.invokestatic 181, 3))
    (kk : ∀ (o : hO) (w' : hW) (H1 : Heap) (locs1 : List Loc), w' = (o, w.2.1 - c1, w.2.2 - s1) → Q' o → hS E A s.heap cb sb w' H1 locs1 → W p l e R s m args below meth c H1 locs1 (cb - w'.2.1) (sb - w'.2.2) Q (F0 m (pc + 3) ls (rest))) : W p l e R s m args below meth c H locs (cb - w.2.1) (sb - w.2.2) Q (F0 m pc ls (.int x3 :: .int x2 :: .ref x1 :: rest)) :=
  h_kv (g_runS F hK (hKm E A) S.1 (hmet_J1_circularClear l E A (w.1, c1, s1) x1 x2 x3 Q' h) (va_cwS 3 F.2.2.2.2 (lw_S q1618 q1619 q114 q1620) rfl rfl rfl (by decide +kernel) hR) rfl hls rfl hWt hdg ⟨by rw [hrc]; exact (h_left S h1 h2).1, by rw [hrs]; exact (h_left S h1 h2).2⟩) S h1 h2 kk
def hf_J1_clear (pl : Nat → Nat) (w : hW) (a0 : Nat) (Q : hO → Prop) : Prop :=
  obd (hgP w a0 12 0) fun v1 =>
  obd (hgI w a0 12 1) fun v3 =>
  obd (hgI w a0 12 2) fun v5 =>
  hcall w fun n7 n8 => hf_J1_circularClear pl (w.1, n7, n8) v1 v3 v5 fun o10 => hret w n7 n8 o10 fun w9 =>
  obd (hpV w9 a0 12 2 (.int 0)) fun w11 =>
  obd (hpV w11 a0 12 1 (.int 0)) fun w13 =>
  Q w13.1
abbrev hrm_J1_clear (c s : Nat) : Room := { frames := 1, cells := c, slots := s, locals := 23 }
set_option maxHeartbeats 4000000 in
set_option maxRecDepth 100000 in
theorem hmet_J1_clear (l : Launch) (E : hEnv) (A : Nat → Prop) (w : hW) (a0 : Nat) (Q : hO → Prop) (h : hf_J1_clear E.2.2 w a0 Q) : Met l yJ1_clear (ws_ yJ1_clear cJ1_clear 1 (none)) (hrm_J1_clear w.2.1 w.2.2) (va_Pc [.ref a0] (gPre (hK E A) (hP E A w.1))) (hQv E A Q) w.2.1 w.2.2 A := by
  refine h_met (own := RJ1) (by decide +kernel) rfl (Nat.le_of_ble_eq_true rfl) ?_
  intro p e s m args below meth c ls cb sb F hr hlk hK S hl
  have hx := F.1
  have hb := F.2.1
  have hl : lv_has ls 1 [(0, .ref a0)] := hl
  unfold hf_J1_clear at h
  refine lv_aload_n hx hb dJ1_clear_0 rfl (lv_at hl 0 rfl) ?_
  obtain ⟨v1, e2, h⟩ := obd_inv h
  refine hg_J1_3 F hK S e2 dJ1_clear_1 ?_
  refine lv_aload_n hx hb dJ1_clear_4 rfl (lv_at hl 0 rfl) ?_
  obtain ⟨v3, e4, h⟩ := obd_inv h
  refine hg_J1_24 F hK S e4 dJ1_clear_5 ?_
  refine lv_aload_n hx hb dJ1_clear_8 rfl (lv_at hl 0 rfl) ?_
  obtain ⟨v5, e6, h⟩ := obd_inv h
  refine hg_J1_20 F hK S e6 dJ1_clear_9 ?_
  obtain ⟨n7, n8, h1, h2, h⟩ := hcall_inv h
  refine hcl_J1_circularClear_J1_181 F hK S h1 h2 h rfl rfl hl.1 (Nat.le_of_ble_eq_true rfl) ⟨Nat.le_of_ble_eq_true rfl, Nat.le_of_ble_eq_true rfl⟩ dJ1_clear_12 (fun o10 w9 H locs hw h S => ?_)
  replace h := hret_mp h hw
  clear hw h1 h2
  refine lv_aload_n hx hb dJ1_clear_15 rfl (lv_at hl 0 rfl) ?_
  refine lv_aload_n hx hb dJ1_clear_16 rfl (lv_at hl 0 rfl) ?_
  refine lv_iconst (v := 0) hx hb dJ1_clear_17 (by decide) ?_
  refine lv_dup_x1 hx hb dJ1_clear_18 rfl rfl ?_
  obtain ⟨w11, e12, h⟩ := obd_inv h
  refine hp_J1_20 F hK S e12 dJ1_clear_19 (fun H locs S => ?_)
  obtain ⟨w13, e14, h⟩ := obd_inv h
  refine hp_J1_24 F hK S e14 dJ1_clear_22 (fun H locs S => ?_)
  exact h_vret F hr hlk S h dJ1_clear_25
