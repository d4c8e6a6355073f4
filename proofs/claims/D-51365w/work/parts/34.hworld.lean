/-! HEAP MODE: worlds -/
set_option maxRecDepth 100000
theorem hp_X2_9 {p : Program} {l : Launch} {e : Env} {s : State} {m : MethodId} {args : Array Value} {below : List Frame} {meth : Method} {c : Code} {R : Room} {H : Heap} {locs : List Loc} {cb sb pc nL : Nat} {Q : State → Prop} {ls : Array Slot} {rest : List Value} {cc : ByteArray} {E : hEnv} {A : Nat → Prop} {w : hW} {a : Nat} {w' : hW} {v : Nat} (F : CallFix p m c cc nL s args lw_all RX2) (hK : hK E A s) (S : hS E A s.heap cb sb w H locs) (hin : meth.name = "<init>") (h : hpV w a 2 1 (.ref v) = some w') (hdg : decode cc pc = .ok (.putfield 9, 3)) (kk : ∀ (H1 : Heap) (locs1 : List Loc), hS E A s.heap cb sb w' H1 locs1 → W p l e R s m args below meth c H1 locs1 (cb - w'.2.1) (sb - w'.2.2) Q (F0 m (pc + 3) ls rest)) : W p l e R s m args below meth c H locs (cb - w.2.1) (sb - w.2.2) Q (F0 m pc ls (.ref v :: .ref a :: rest)) :=
  h_putF F hK S h (ci := 2) (C := RX2) (T := TX2) (N := 12) (k := 1) rfl in_X2 tyX2 tyX2_ok nmX2 (by decide) q163 (fun x h => h) rfl hin rfl (ty := (.array (.int))) (by decide +kernel) rfl rfl hdg kk
theorem hp_X2_15 {p : Program} {l : Launch} {e : Env} {s : State} {m : MethodId} {args : Array Value} {below : List Frame} {meth : Method} {c : Code} {R : Room} {H : Heap} {locs : List Loc} {cb sb pc nL : Nat} {Q : State → Prop} {ls : Array Slot} {rest : List Value} {cc : ByteArray} {E : hEnv} {A : Nat → Prop} {w : hW} {a : Nat} {w' : hW} {v : Nat} (F : CallFix p m c cc nL s args lw_all RX2) (hK : hK E A s) (S : hS E A s.heap cb sb w H locs) (hin : meth.name = "<init>") (h : hpV w a 2 2 (.ref v) = some w') (hdg : decode cc pc = .ok (.putfield 15, 3)) (kk : ∀ (H1 : Heap) (locs1 : List Loc), hS E A s.heap cb sb w' H1 locs1 → W p l e R s m args below meth c H1 locs1 (cb - w'.2.1) (sb - w'.2.2) Q (F0 m (pc + 3) ls rest)) : W p l e R s m args below meth c H locs (cb - w.2.1) (sb - w.2.2) Q (F0 m pc ls (.ref v :: .ref a :: rest)) :=
  h_putF F hK S h (ci := 2) (C := RX2) (T := TX2) (N := 12) (k := 2) rfl in_X2 tyX2 tyX2_ok nmX2 (by decide) q165 (fun x h => h) rfl hin rfl (ty := (.array (.int))) (by decide +kernel) rfl rfl hdg kk
theorem hp_X2_18 {p : Program} {l : Launch} {e : Env} {s : State} {m : MethodId} {args : Array Value} {below : List Frame} {meth : Method} {c : Code} {R : Room} {H : Heap} {locs : List Loc} {cb sb pc nL : Nat} {Q : State → Prop} {ls : Array Slot} {rest : List Value} {cc : ByteArray} {E : hEnv} {A : Nat → Prop} {w : hW} {a : Nat} {w' : hW} {v : Nat} (F : CallFix p m c cc nL s args lw_all RX2) (hK : hK E A s) (S : hS E A s.heap cb sb w H locs) (hin : meth.name = "<init>") (h : hpV w a 2 3 (.ref v) = some w') (hdg : decode cc pc = .ok (.putfield 18, 3)) (kk : ∀ (H1 : Heap) (locs1 : List Loc), hS E A s.heap cb sb w' H1 locs1 → W p l e R s m args below meth c H1 locs1 (cb - w'.2.1) (sb - w'.2.2) Q (F0 m (pc + 3) ls rest)) : W p l e R s m args below meth c H locs (cb - w.2.1) (sb - w.2.2) Q (F0 m pc ls (.ref v :: .ref a :: rest)) :=
  h_putF F hK S h (ci := 2) (C := RX2) (T := TX2) (N := 12) (k := 3) rfl in_X2 tyX2 tyX2_ok nmX2 (by decide) q166 (fun x h => h) rfl hin rfl (ty := (.array (.int))) (by decide +kernel) rfl rfl hdg kk
theorem hp_X2_21 {p : Program} {l : Launch} {e : Env} {s : State} {m : MethodId} {args : Array Value} {below : List Frame} {meth : Method} {c : Code} {R : Room} {H : Heap} {locs : List Loc} {cb sb pc nL : Nat} {Q : State → Prop} {ls : Array Slot} {rest : List Value} {cc : ByteArray} {E : hEnv} {A : Nat → Prop} {w : hW} {a : Nat} {w' : hW} {v : Nat} (F : CallFix p m c cc nL s args lw_all RX2) (hK : hK E A s) (S : hS E A s.heap cb sb w H locs) (hin : meth.name = "<init>") (h : hpV w a 2 6 (.ref v) = some w') (hdg : decode cc pc = .ok (.putfield 21, 3)) (kk : ∀ (H1 : Heap) (locs1 : List Loc), hS E A s.heap cb sb w' H1 locs1 → W p l e R s m args below meth c H1 locs1 (cb - w'.2.1) (sb - w'.2.2) Q (F0 m (pc + 3) ls rest)) : W p l e R s m args below meth c H locs (cb - w.2.1) (sb - w.2.2) Q (F0 m pc ls (.ref v :: .ref a :: rest)) :=
  h_putF F hK S h (ci := 2) (C := RX2) (T := TX2) (N := 12) (k := 6) rfl in_X2 tyX2 tyX2_ok nmX2 (by decide) q171 (fun x h => h) rfl hin rfl (ty := (.array (.int))) (by decide +kernel) rfl rfl hdg kk
theorem hp_X2_24 {p : Program} {l : Launch} {e : Env} {s : State} {m : MethodId} {args : Array Value} {below : List Frame} {meth : Method} {c : Code} {R : Room} {H : Heap} {locs : List Loc} {cb sb pc nL : Nat} {Q : State → Prop} {ls : Array Slot} {rest : List Value} {cc : ByteArray} {E : hEnv} {A : Nat → Prop} {w : hW} {a : Nat} {w' : hW} {v : Nat} (F : CallFix p m c cc nL s args lw_all RX2) (hK : hK E A s) (S : hS E A s.heap cb sb w H locs) (hin : meth.name = "<init>") (h : hpV w a 2 9 (.ref v) = some w') (hdg : decode cc pc = .ok (.putfield 24, 3)) (kk : ∀ (H1 : Heap) (locs1 : List Loc), hS E A s.heap cb sb w' H1 locs1 → W p l e R s m args below meth c H1 locs1 (cb - w'.2.1) (sb - w'.2.2) Q (F0 m (pc + 3) ls rest)) : W p l e R s m args below meth c H locs (cb - w.2.1) (sb - w.2.2) Q (F0 m pc ls (.ref v :: .ref a :: rest)) :=
  h_putF F hK S h (ci := 2) (C := RX2) (T := TX2) (N := 12) (k := 9) rfl in_X2 tyX2 tyX2_ok nmX2 (by decide) q174 (fun x h => h) rfl hin rfl (ty := (.array (.int))) (by decide +kernel) rfl rfl hdg kk
theorem hp_X2_27 {p : Program} {l : Launch} {e : Env} {s : State} {m : MethodId} {args : Array Value} {below : List Frame} {meth : Method} {c : Code} {R : Room} {H : Heap} {locs : List Loc} {cb sb pc nL : Nat} {Q : State → Prop} {ls : Array Slot} {rest : List Value} {cc : ByteArray} {E : hEnv} {A : Nat → Prop} {w : hW} {a : Nat} {w' : hW} {v : Nat} (F : CallFix p m c cc nL s args lw_all RX2) (hK : hK E A s) (S : hS E A s.heap cb sb w H locs) (hin : meth.name = "<init>") (h : hpV w a 2 10 (.ref v) = some w') (hdg : decode cc pc = .ok (.putfield 27, 3)) (kk : ∀ (H1 : Heap) (locs1 : List Loc), hS E A s.heap cb sb w' H1 locs1 → W p l e R s m args below meth c H1 locs1 (cb - w'.2.1) (sb - w'.2.2) Q (F0 m (pc + 3) ls rest)) : W p l e R s m args below meth c H locs (cb - w.2.1) (sb - w.2.2) Q (F0 m pc ls (.ref v :: .ref a :: rest)) :=
  h_putF F hK S h (ci := 2) (C := RX2) (T := TX2) (N := 12) (k := 10) rfl in_X2 tyX2 tyX2_ok nmX2 (by decide) q175 (fun x h => h) rfl hin rfl (ty := (.array (.int))) (by decide +kernel) rfl rfl hdg kk
def hf_X2_init (pl : Nat → Nat) (w : hW) (a0 : Nat) (Q : hO → Prop) : Prop :=
  hNewI 0 w 400 fun q1 w2 =>
  obd (hpV w2 a0 2 1 (.ref q1)) fun w3 =>
  hNewI 0 w3 400 fun q5 w6 =>
  obd (hpV w6 a0 2 2 (.ref q5)) fun w7 =>
  hNewI 0 w7 400 fun q9 w10 =>
  obd (hpV w10 a0 2 3 (.ref q9)) fun w11 =>
  hNewI 0 w11 2 fun q13 w14 =>
  obd (hpV w14 a0 2 6 (.ref q13)) fun w15 =>
  hNewI 0 w15 400 fun q17 w18 =>
  obd (hpV w18 a0 2 9 (.ref q17)) fun w19 =>
  hNewI 0 w19 400 fun q21 w22 =>
  obd (hpV w22 a0 2 10 (.ref q21)) fun w23 =>
  Q w23.1
abbrev hrm_X2_init (c s : Nat) : Room := { frames := 1, cells := c, slots := s, locals := 20 }
set_option maxHeartbeats 4000000 in
set_option maxRecDepth 100000 in
theorem hmet_X2_init (l : Launch) (E : hEnv) (A : Nat → Prop) (w : hW) (a0 : Nat) (Q : hO → Prop) (h : hf_X2_init E.2.2 w a0 Q) : Met l yX2_init (ws_ yX2_init cX2_init 1 (none)) (hrm_X2_init w.2.1 w.2.2) (va_Pc [.ref a0] (gPre (hK E A) (hP E A w.1))) (hQv E A Q) w.2.1 w.2.2 A := by
  refine h_metI (own := RX2) (by decide +kernel) rfl (by rfl) (Nat.le_of_ble_eq_true rfl) ?_
  intro p e s m args below meth c ls cb sb F hr hlk hin hK S hl
  have hx := F.1
  have hb := F.2.1
  have hl : lv_has ls 1 [(0, .ref a0)] := hl
  unfold hf_X2_init at h
  refine lv_aload_n hx hb dX2_init_0 rfl (lv_at hl 0 rfl) ?_
  refine h_obj F q161 hl.1 dX2_init_1 (Nat.le_of_ble_eq_true rfl) (Nat.le_of_ble_eq_true rfl) ?_
  refine lv_aload_n hx hb dX2_init_4 rfl (lv_at hl 0 rfl) ?_
  refine lv_sipush (v := 400) hx hb dX2_init_5 (by decide) ?_
  refine h_newaI F hK S rfl rfl h dX2_init_8 (fun q1 w2 H h S => ?_)
  obtain ⟨w3, e4, h⟩ := obd_inv h
  refine hp_X2_9 F hK S (by assumption) e4 dX2_init_10 (fun H locs S => ?_)
  refine lv_aload_n hx hb dX2_init_13 rfl (lv_at hl 0 rfl) ?_
  refine lv_sipush (v := 400) hx hb dX2_init_14 (by decide) ?_
  refine h_newaI F hK S rfl rfl h dX2_init_17 (fun q5 w6 H h S => ?_)
  obtain ⟨w7, e8, h⟩ := obd_inv h
  refine hp_X2_15 F hK S (by assumption) e8 dX2_init_19 (fun H locs S => ?_)
  refine lv_aload_n hx hb dX2_init_22 rfl (lv_at hl 0 rfl) ?_
  refine lv_sipush (v := 400) hx hb dX2_init_23 (by decide) ?_
  refine h_newaI F hK S rfl rfl h dX2_init_26 (fun q9 w10 H h S => ?_)
  obtain ⟨w11, e12, h⟩ := obd_inv h
  refine hp_X2_18 F hK S (by assumption) e12 dX2_init_28 (fun H locs S => ?_)
  refine lv_aload_n hx hb dX2_init_31 rfl (lv_at hl 0 rfl) ?_
  refine lv_iconst (v := 2) hx hb dX2_init_32 (by decide) ?_
  refine h_newaI F hK S rfl rfl h dX2_init_33 (fun q13 w14 H h S => ?_)
  obtain ⟨w15, e16, h⟩ := obd_inv h
  refine hp_X2_21 F hK S (by assumption) e16 dX2_init_35 (fun H locs S => ?_)
  refine lv_aload_n hx hb dX2_init_38 rfl (lv_at hl 0 rfl) ?_
  refine lv_sipush (v := 400) hx hb dX2_init_39 (by decide) ?_
  refine h_newaI F hK S rfl rfl h dX2_init_42 (fun q17 w18 H h S => ?_)
  obtain ⟨w19, e20, h⟩ := obd_inv h
  refine hp_X2_24 F hK S (by assumption) e20 dX2_init_44 (fun H locs S => ?_)
  refine lv_aload_n hx hb dX2_init_47 rfl (lv_at hl 0 rfl) ?_
  refine lv_sipush (v := 400) hx hb dX2_init_48 (by decide) ?_
  refine h_newaI F hK S rfl rfl h dX2_init_51 (fun q21 w22 H h S => ?_)
  obtain ⟨w23, e24, h⟩ := obd_inv h
  refine hp_X2_27 F hK S (by assumption) e24 dX2_init_53 (fun H locs S => ?_)
  exact h_vret F hr hlk S h dX2_init_56
theorem hp_X3_9 {p : Program} {l : Launch} {e : Env} {s : State} {m : MethodId} {args : Array Value} {below : List Frame} {meth : Method} {c : Code} {R : Room} {H : Heap} {locs : List Loc} {cb sb pc nL : Nat} {Q : State → Prop} {ls : Array Slot} {rest : List Value} {cc : ByteArray} {E : hEnv} {A : Nat → Prop} {w : hW} {a : Nat} {w' : hW} {v : Nat} (F : CallFix p m c cc nL s args lw_all RX3) (hK : hK E A s) (S : hS E A s.heap cb sb w H locs) (hin : meth.name = "<init>") (h : hpV w a 3 3 (.ref v) = some w') (hdg : decode cc pc = .ok (.putfield 9, 3)) (kk : ∀ (H1 : Heap) (locs1 : List Loc), hS E A s.heap cb sb w' H1 locs1 → W p l e R s m args below meth c H1 locs1 (cb - w'.2.1) (sb - w'.2.2) Q (F0 m (pc + 3) ls rest)) : W p l e R s m args below meth c H locs (cb - w.2.1) (sb - w.2.2) Q (F0 m pc ls (.ref v :: .ref a :: rest)) :=
  h_putF F hK S h (ci := 3) (C := RX3) (T := TX3) (N := 9) (k := 3) rfl in_X3 tyX3 tyX3_ok nmX3 (by decide) q246 (fun x h => h) rfl hin rfl (ty := (.array (.object "MirrorDoors$Cell"))) (by decide +kernel) rfl rfl hdg kk
theorem hp_X3_30 {p : Program} {l : Launch} {e : Env} {s : State} {m : MethodId} {args : Array Value} {below : List Frame} {meth : Method} {c : Code} {R : Room} {H : Heap} {locs : List Loc} {cb sb pc nL : Nat} {Q : State → Prop} {ls : Array Slot} {rest : List Value} {cc : ByteArray} {E : hEnv} {A : Nat → Prop} {w : hW} {a : Nat} {w' : hW} {v : Int32} (F : CallFix p m c cc nL s args lw_all RX3) (hK : hK E A s) (S : hS E A s.heap cb sb w H locs) (h : hpV w a 3 6 (.int v) = some w') (hdg : decode cc pc = .ok (.putfield 30, 3)) (kk : ∀ (H1 : Heap) (locs1 : List Loc), hS E A s.heap cb sb w' H1 locs1 → W p l e R s m args below meth c H1 locs1 (cb - w'.2.1) (sb - w'.2.2) Q (F0 m (pc + 3) ls rest)) : W p l e R s m args below meth c H locs (cb - w.2.1) (sb - w.2.2) Q (F0 m pc ls (.int v :: .ref a :: rest)) :=
  h_put F hK S h (ci := 3) (C := RX3) (T := TX3) (N := 9) (k := 6) rfl in_X3 tyX3 tyX3_ok nmX3 (by decide) q256 (fun x h => h) rfl (ty := .int) (by decide +kernel) rfl rfl hdg kk
theorem hp_X3_34 {p : Program} {l : Launch} {e : Env} {s : State} {m : MethodId} {args : Array Value} {below : List Frame} {meth : Method} {c : Code} {R : Room} {H : Heap} {locs : List Loc} {cb sb pc nL : Nat} {Q : State → Prop} {ls : Array Slot} {rest : List Value} {cc : ByteArray} {E : hEnv} {A : Nat → Prop} {w : hW} {a : Nat} {w' : hW} {v : Nat} (F : CallFix p m c cc nL s args lw_all RX3) (hK : hK E A s) (S : hS E A s.heap cb sb w H locs) (hin : meth.name = "<init>") (h : hpV w a 3 0 (.ref v) = some w') (hdg : decode cc pc = .ok (.putfield 34, 3)) (kk : ∀ (H1 : Heap) (locs1 : List Loc), hS E A s.heap cb sb w' H1 locs1 → W p l e R s m args below meth c H1 locs1 (cb - w'.2.1) (sb - w'.2.2) Q (F0 m (pc + 3) ls rest)) : W p l e R s m args below meth c H locs (cb - w.2.1) (sb - w.2.2) Q (F0 m pc ls (.ref v :: .ref a :: rest)) :=
  h_putF F hK S h (ci := 3) (C := RX3) (T := TX3) (N := 9) (k := 0) rfl in_X3 tyX3 tyX3_ok nmX3 (by decide) q239 (fun x h => h) rfl hin rfl (ty := (.object "MirrorDoors$Ray")) (by decide +kernel) rfl rfl hdg kk
theorem hp_X3_38 {p : Program} {l : Launch} {e : Env} {s : State} {m : MethodId} {args : Array Value} {below : List Frame} {meth : Method} {c : Code} {R : Room} {H : Heap} {locs : List Loc} {cb sb pc nL : Nat} {Q : State → Prop} {ls : Array Slot} {rest : List Value} {cc : ByteArray} {E : hEnv} {A : Nat → Prop} {w : hW} {a : Nat} {w' : hW} {v : Int32} (F : CallFix p m c cc nL s args lw_all RX3) (hK : hK E A s) (S : hS E A s.heap cb sb w H locs) (hin : meth.name = "<init>") (h : hpV w a 3 1 (.int v) = some w') (hdg : decode cc pc = .ok (.putfield 38, 3)) (kk : ∀ (H1 : Heap) (locs1 : List Loc), hS E A s.heap cb sb w' H1 locs1 → W p l e R s m args below meth c H1 locs1 (cb - w'.2.1) (sb - w'.2.2) Q (F0 m (pc + 3) ls rest)) : W p l e R s m args below meth c H locs (cb - w.2.1) (sb - w.2.2) Q (F0 m pc ls (.int v :: .ref a :: rest)) :=
  h_putF F hK S h (ci := 3) (C := RX3) (T := TX3) (N := 9) (k := 1) rfl in_X3 tyX3 tyX3_ok nmX3 (by decide) q240 (fun x h => h) rfl hin rfl (ty := .int) (by decide +kernel) rfl rfl hdg kk
theorem hp_X3_41 {p : Program} {l : Launch} {e : Env} {s : State} {m : MethodId} {args : Array Value} {below : List Frame} {meth : Method} {c : Code} {R : Room} {H : Heap} {locs : List Loc} {cb sb pc nL : Nat} {Q : State → Prop} {ls : Array Slot} {rest : List Value} {cc : ByteArray} {E : hEnv} {A : Nat → Prop} {w : hW} {a : Nat} {w' : hW} {v : Int32} (F : CallFix p m c cc nL s args lw_all RX3) (hK : hK E A s) (S : hS E A s.heap cb sb w H locs) (hin : meth.name = "<init>") (h : hpV w a 3 2 (.int v) = some w') (hdg : decode cc pc = .ok (.putfield 41, 3)) (kk : ∀ (H1 : Heap) (locs1 : List Loc), hS E A s.heap cb sb w' H1 locs1 → W p l e R s m args below meth c H1 locs1 (cb - w'.2.1) (sb - w'.2.2) Q (F0 m (pc + 3) ls rest)) : W p l e R s m args below meth c H locs (cb - w.2.1) (sb - w.2.2) Q (F0 m pc ls (.int v :: .ref a :: rest)) :=
  h_putF F hK S h (ci := 3) (C := RX3) (T := TX3) (N := 9) (k := 2) rfl in_X3 tyX3 tyX3_ok nmX3 (by decide) q243 (fun x h => h) rfl hin rfl (ty := .int) (by decide +kernel) rfl rfl hdg kk
theorem hp_X3_44 {p : Program} {l : Launch} {e : Env} {s : State} {m : MethodId} {args : Array Value} {below : List Frame} {meth : Method} {c : Code} {R : Room} {H : Heap} {locs : List Loc} {cb sb pc nL : Nat} {Q : State → Prop} {ls : Array Slot} {rest : List Value} {cc : ByteArray} {E : hEnv} {A : Nat → Prop} {w : hW} {a : Nat} {w' : hW} {v : Int32} (F : CallFix p m c cc nL s args lw_all RX3) (hK : hK E A s) (S : hS E A s.heap cb sb w H locs) (h : hpV w a 3 4 (.int v) = some w') (hdg : decode cc pc = .ok (.putfield 44, 3)) (kk : ∀ (H1 : Heap) (locs1 : List Loc), hS E A s.heap cb sb w' H1 locs1 → W p l e R s m args below meth c H1 locs1 (cb - w'.2.1) (sb - w'.2.2) Q (F0 m (pc + 3) ls rest)) : W p l e R s m args below meth c H locs (cb - w.2.1) (sb - w.2.2) Q (F0 m pc ls (.int v :: .ref a :: rest)) :=
  h_put F hK S h (ci := 3) (C := RX3) (T := TX3) (N := 9) (k := 4) rfl in_X3 tyX3 tyX3_ok nmX3 (by decide) q250 (fun x h => h) rfl (ty := .int) (by decide +kernel) rfl rfl hdg kk
def hf_X3_init_2 (pl : Nat → Nat) (w : hW) (a0 : Nat) (x1 : Nat) (x2 : Int32) (x3 : Int32) (x4 : Int32) (Q : hO → Prop) : Prop :=
  hNewR 6 w 100 fun q1 w2 =>
  obd (hpV w2 a0 3 3 (.ref q1)) fun w3 =>
  obd (hpV w3 a0 3 6 (.int 20)) fun w5 =>
  obd (hpV w5 a0 3 0 (.ref x1)) fun w7 =>
  obd (hpV w7 a0 3 1 (.int x2)) fun w9 =>
  obd (hpV w9 a0 3 2 (.int x3)) fun w11 =>
  obd (hpV w11 a0 3 4 (.int x4)) fun w13 =>
  Q w13.1
abbrev hrm_X3_init_2 (c s : Nat) : Room := { frames := 1, cells := c, slots := s, locals := 20 }
set_option maxHeartbeats 4000000 in
set_option maxRecDepth 100000 in
theorem hmet_X3_init_2 (l : Launch) (E : hEnv) (A : Nat → Prop) (w : hW) (a0 : Nat) (x1 : Nat) (x2 : Int32) (x3 : Int32) (x4 : Int32) (Q : hO → Prop) (h : hf_X3_init_2 E.2.2 w a0 x1 x2 x3 x4 Q) : Met l yX3_init_2 (ws_ yX3_init_2 cX3_init_2 5 (none)) (hrm_X3_init_2 w.2.1 w.2.2) (va_Pc [.ref a0, .ref x1, .int x2, .int x3, .int x4] (gPre (hK E A) (hP E A w.1))) (hQv E A Q) w.2.1 w.2.2 A := by
  refine h_metI (own := RX3) (by decide +kernel) rfl (by rfl) (Nat.le_of_ble_eq_true rfl) ?_
  intro p e s m args below meth c ls cb sb F hr hlk hin hK S hl
  have hx := F.1
  have hb := F.2.1
  have hl : lv_has ls 5 [(0, .ref a0), (1, .ref x1), (2, .int x2), (3, .int x3), (4, .int x4)] := hl
  unfold hf_X3_init_2 at h
  refine lv_aload_n hx hb dX3_init_2_0 rfl (lv_at hl 0 rfl) ?_
  refine h_obj F q236 hl.1 dX3_init_2_1 (Nat.le_of_ble_eq_true rfl) (Nat.le_of_ble_eq_true rfl) ?_
  refine lv_aload_n hx hb dX3_init_2_4 rfl (lv_at hl 0 rfl) ?_
  refine lv_bipush (v := 100) hx hb dX3_init_2_5 (by decide) ?_
  refine h_newR 6 rfl rfl F hK S rfl rfl h q237 hK.2.1.2.2.2.2.2.2.2.1 dX3_init_2_7 (fun q1 w2 H h S => ?_)
  obtain ⟨w3, e4, h⟩ := obd_inv h
  refine hp_X3_9 F hK S (by assumption) e4 dX3_init_2_10 (fun H locs S => ?_)
  refine lv_aload_n hx hb dX3_init_2_13 rfl (lv_at hl 0 rfl) ?_
  refine lv_bipush (v := 20) hx hb dX3_init_2_14 (by decide) ?_
  obtain ⟨w5, e6, h⟩ := obd_inv h
  refine hp_X3_30 F hK S e6 dX3_init_2_16 (fun H locs S => ?_)
  refine lv_aload_n hx hb dX3_init_2_19 rfl (lv_at hl 0 rfl) ?_
  refine lv_aload_n hx hb dX3_init_2_20 rfl (lv_at hl 1 rfl) ?_
  obtain ⟨w7, e8, h⟩ := obd_inv h
  refine hp_X3_34 F hK S (by assumption) e8 dX3_init_2_21 (fun H locs S => ?_)
  refine lv_aload_n hx hb dX3_init_2_24 rfl (lv_at hl 0 rfl) ?_
  refine lv_iload_n hx hb dX3_init_2_25 rfl (lv_at hl 2 rfl) ?_
  obtain ⟨w9, e10, h⟩ := obd_inv h
  refine hp_X3_38 F hK S (by assumption) e10 dX3_init_2_26 (fun H locs S => ?_)
  refine lv_aload_n hx hb dX3_init_2_29 rfl (lv_at hl 0 rfl) ?_
  refine lv_iload_n hx hb dX3_init_2_30 rfl (lv_at hl 3 rfl) ?_
  obtain ⟨w11, e12, h⟩ := obd_inv h
  refine hp_X3_41 F hK S (by assumption) e12 dX3_init_2_31 (fun H locs S => ?_)
  refine lv_aload_n hx hb dX3_init_2_34 rfl (lv_at hl 0 rfl) ?_
  refine lv_iload hx hb dX3_init_2_35 (lv_at hl 4 rfl) ?_
  obtain ⟨w13, e14, h⟩ := obd_inv h
  refine hp_X3_44 F hK S e14 dX3_init_2_37 (fun H locs S => ?_)
  exact h_vret F hr hlk S h dX3_init_2_40
theorem hcl_X3_init_2_X3_3 {p : Program} {l : Launch} {e : Env} {s : State} {m : MethodId} {args : Array Value} {below : List Frame} {meth : Method} {c : Code} {R : Room} {H : Heap} {locs : List Loc} {cb sb pc nL : Nat} {Q : State → Prop} {ls : Array Slot} {rest : List Value} {cc : ByteArray} {E : hEnv} {A : Nat → Prop} {w : hW} {a0 : Nat} {x1 : Nat} {x2 : Int32} {x3 : Int32} {x4 : Int32} {Q' : hO → Prop} {c1 s1 : Nat} (F : CallFix p m c cc nL s args lw_all RX3) (hK : hK E A s) (S : hS E A s.heap cb sb w H locs) (h1 : c1 ≤ w.2.1) (h2 : s1 ≤ w.2.2) (h : hf_X3_init_2 E.2.2 (w.1, c1, s1) a0 x1 x2 x3 x4 Q') (hrc : R.cells = cb) (hrs : R.slots = sb) (hls : ls.size = nL) (hWt : (rest.map fun v => v.category).sum ≤ 8) (hR : 1 + 1 ≤ R.frames ∧ 8 + (5 + 11) + 20 ≤ R.locals) (hdg : decode cc pc = .ok (.invokespecial 3, 3))
    (kk : ∀ (o : hO) (w' : hW) (H1 : Heap) (locs1 : List Loc), w' = (o, w.2.1 - c1, w.2.2 - s1) → Q' o → hS E A s.heap cb sb w' H1 locs1 → W p l e R s m args below meth c H1 locs1 (cb - w'.2.1) (sb - w'.2.2) Q (F0 m (pc + 3) ls (rest))) : W p l e R s m args below meth c H locs (cb - w.2.1) (sb - w.2.2) Q (F0 m pc ls (.int x4 :: .int x3 :: .int x2 :: .ref x1 :: .ref a0 :: rest)) :=
  h_kv (g_runI F hK (hKm E A) S.1 (hmet_X3_init_2 l E A (w.1, c1, s1) a0 x1 x2 x3 x4 Q' h) (cwI 4 F.2.2.2.2 (lw_meth q235) rfl rfl rfl (F.2.2.2.2 _ q115) (F.2.2.2.2 _ q233) (F.2.2.2.2 _ q234) rfl (by decide +kernel) hR) rfl hls rfl hWt hdg ⟨by rw [hrc]; exact (h_left S h1 h2).1, by rw [hrs]; exact (h_left S h1 h2).2⟩) S h1 h2 kk
theorem hg_X3_9 {p : Program} {l : Launch} {e : Env} {s : State} {m : MethodId} {args : Array Value} {below : List Frame} {meth : Method} {c : Code} {R : Room} {H : Heap} {locs : List Loc} {cb sb pc nL : Nat} {Q : State → Prop} {ls : Array Slot} {rest : List Value} {cc : ByteArray} {E : hEnv} {A : Nat → Prop} {w : hW} {a : Nat} {v : Nat} (F : CallFix p m c cc nL s args lw_all RX3) (hK : hK E A s) (S : hS E A s.heap cb sb w H locs) (h : hgP w a 3 3 = some v) (hdg : decode cc pc = .ok (.getfield 9, 3)) (kk : W p l e R s m args below meth c H locs (cb - w.2.1) (sb - w.2.2) Q (F0 m (pc + 3) ls (.ref v :: rest))) : W p l e R s m args below meth c H locs (cb - w.2.1) (sb - w.2.2) Q (F0 m pc ls (.ref a :: rest)) := by
  obtain ⟨b, fs, ho, hv⟩ := hgP_inv h
  exact h_get F hK S ho (ci := 3) (C := RX3) (T := TX3) (N := 9) (k := 3) rfl in_X3 (by decide) q246 (fun x h => h) hv hdg kk
theorem hn_X3_13 {p : Program} {l : Launch} {e : Env} {s : State} {m : MethodId} {args : Array Value} {below : List Frame} {meth : Method} {c : Code} {R : Room} {H : Heap} {locs : List Loc} {cb sb pc nL : Nat} {Q : State → Prop} {ls : Array Slot} {rest : List Value} {cc : ByteArray} {E : hEnv} {A : Nat → Prop} {w : hW} (F : CallFix p m c cc nL s args lw_all RX3) (hK : hK E A s) (S : hS E A s.heap cb sb w H locs) (hrc : R.cells = cb) (hrs : R.slots = sb) {f : Nat → hW → Prop} (h : hNew w (.inl (4, [.int 0])) 1 f) (hdg : decode cc pc = .ok (.new 13, 3)) (kk : ∀ (q : Nat) (w' : hW) (H1 : Heap), f q w' → hS E A s.heap cb sb w' H1 locs → W p l e R s m args below meth c H1 locs (cb - w'.2.1) (sb - w'.2.2) Q (F0 m (pc + 3) ls (.ref q :: rest))) : W p l e R s m args below meth c H locs (cb - w.2.1) (sb - w.2.2) Q (F0 m pc ls rest) :=
  h_new F hK S hrc hrs (C := RX5) (T := TX5) (N := 1) tyX5 tyX5_ok q281 q282 q117 in_X5 rfl (fun j hj => by match j, hj with | 0, _ => rfl) h hdg kk
theorem hcl_X5_init_X3_15 {p : Program} {l : Launch} {e : Env} {s : State} {m : MethodId} {args : Array Value} {below : List Frame} {meth : Method} {c : Code} {R : Room} {H : Heap} {locs : List Loc} {cb sb pc nL : Nat} {Q : State → Prop} {ls : Array Slot} {rest : List Value} {cc : ByteArray} {E : hEnv} {A : Nat → Prop} {w : hW} {a0 : Nat} {x1 : Int32} {Q' : hO → Prop} {c1 s1 : Nat} (F : CallFix p m c cc nL s args lw_all RX3) (hK : hK E A s) (S : hS E A s.heap cb sb w H locs) (h1 : c1 ≤ w.2.1) (h2 : s1 ≤ w.2.2) (h : hf_X5_init E.2.2 (w.1, c1, s1) a0 x1 Q') (hrc : R.cells = cb) (hrs : R.slots = sb) (hls : ls.size = nL) (hWt : (rest.map fun v => v.category).sum ≤ 8) (hR : 2 + 1 ≤ R.frames ∧ 8 + (2 + 11) + 41 ≤ R.locals) (hdg : decode cc pc = .ok (.invokespecial 15, 3))
    (kk : ∀ (o : hO) (w' : hW) (H1 : Heap) (locs1 : List Loc), w' = (o, w.2.1 - c1, w.2.2 - s1) → Q' o → hS E A s.heap cb sb w' H1 locs1 → W p l e R s m args below meth c H1 locs1 (cb - w'.2.1) (sb - w'.2.2) Q (F0 m (pc + 3) ls (rest))) : W p l e R s m args below meth c H locs (cb - w.2.1) (sb - w.2.2) Q (F0 m pc ls (.int x1 :: .ref a0 :: rest)) :=
  h_kv (g_runI F hK (hKm E A) S.1 (hmet_X5_init l E A (w.1, c1, s1) a0 x1 Q' h) (cwI 1 F.2.2.2.2 (lw_meth q285) rfl rfl rfl (F.2.2.2.2 _ q117) (F.2.2.2.2 _ q283) (F.2.2.2.2 _ q284) rfl (by decide +kernel) hR) rfl hls rfl hWt hdg ⟨by rw [hrc]; exact (h_left S h1 h2).1, by rw [hrs]; exact (h_left S h1 h2).2⟩) S h1 h2 kk
theorem hn_X3_18 {p : Program} {l : Launch} {e : Env} {s : State} {m : MethodId} {args : Array Value} {below : List Frame} {meth : Method} {c : Code} {R : Room} {H : Heap} {locs : List Loc} {cb sb pc nL : Nat} {Q : State → Prop} {ls : Array Slot} {rest : List Value} {cc : ByteArray} {E : hEnv} {A : Nat → Prop} {w : hW} (F : CallFix p m c cc nL s args lw_all RX3) (hK : hK E A s) (S : hS E A s.heap cb sb w H locs) (hrc : R.cells = cb) (hrs : R.slots = sb) {f : Nat → hW → Prop} (h : hNew w (.inl (5, [.int 0, .int 0])) 2 f) (hdg : decode cc pc = .ok (.new 18, 3)) (kk : ∀ (q : Nat) (w' : hW) (H1 : Heap), f q w' → hS E A s.heap cb sb w' H1 locs → W p l e R s m args below meth c H1 locs (cb - w'.2.1) (sb - w'.2.2) Q (F0 m (pc + 3) ls (.ref q :: rest))) : W p l e R s m args below meth c H locs (cb - w.2.1) (sb - w.2.2) Q (F0 m pc ls rest) :=
  h_new F hK S hrc hrs (C := RX6) (T := TX6) (N := 2) tyX6 tyX6_ok q306 q307 q118 in_X6 rfl (fun j hj => by match j, hj with | 0, _ => rfl | 1, _ => rfl) h hdg kk
theorem hcl_X6_init_X3_20 {p : Program} {l : Launch} {e : Env} {s : State} {m : MethodId} {args : Array Value} {below : List Frame} {meth : Method} {c : Code} {R : Room} {H : Heap} {locs : List Loc} {cb sb pc nL : Nat} {Q : State → Prop} {ls : Array Slot} {rest : List Value} {cc : ByteArray} {E : hEnv} {A : Nat → Prop} {w : hW} {a0 : Nat} {x1 : Int32} {x2 : Int32} {Q' : hO → Prop} {c1 s1 : Nat} (F : CallFix p m c cc nL s args lw_all RX3) (hK : hK E A s) (S : hS E A s.heap cb sb w H locs) (h1 : c1 ≤ w.2.1) (h2 : s1 ≤ w.2.2) (h : hf_X6_init E.2.2 (w.1, c1, s1) a0 x1 x2 Q') (hrc : R.cells = cb) (hrs : R.slots = sb) (hls : ls.size = nL) (hWt : (rest.map fun v => v.category).sum ≤ 8) (hR : 2 + 1 ≤ R.frames ∧ 8 + (3 + 11) + 41 ≤ R.locals) (hdg : decode cc pc = .ok (.invokespecial 20, 3))
    (kk : ∀ (o : hO) (w' : hW) (H1 : Heap) (locs1 : List Loc), w' = (o, w.2.1 - c1, w.2.2 - s1) → Q' o → hS E A s.heap cb sb w' H1 locs1 → W p l e R s m args below meth c H1 locs1 (cb - w'.2.1) (sb - w'.2.2) Q (F0 m (pc + 3) ls (rest))) : W p l e R s m args below meth c H locs (cb - w.2.1) (sb - w.2.2) Q (F0 m pc ls (.int x2 :: .int x1 :: .ref a0 :: rest)) :=
  h_kv (g_runI F hK (hKm E A) S.1 (hmet_X6_init l E A (w.1, c1, s1) a0 x1 x2 Q' h) (cwI 2 F.2.2.2.2 (lw_meth q310) rfl rfl rfl (F.2.2.2.2 _ q118) (F.2.2.2.2 _ q308) (F.2.2.2.2 _ q309) rfl (by decide +kernel) hR) rfl hls rfl hWt hdg ⟨by rw [hrc]; exact (h_left S h1 h2).1, by rw [hrs]; exact (h_left S h1 h2).2⟩) S h1 h2 kk
def hL_X3_init_1 (pl : Nat → Nat) (Q : hO → Prop) (K : hW → Prop) (y0 : Nat) (y4 : Int32) (y5 : Int32) : Nat → hW → Int32 → Prop
  | 0, _, _ => False
  | n + 1, w, y6 =>
    obd (hgP w y0 3 3) fun v5 =>
    obd (hLen w v5) fun v7 =>
    hIf (v7 ≤ y6) (
      K w) <|
      obd (hgP w y0 3 3) fun v10 =>
      hNew w (.inl (4, [.int 0])) 1 fun q12 w13 =>
      hcall w13 fun n14 n15 => hf_X5_init pl (w13.1, n14, n15) q12 y6 fun o17 => hret w13 n14 n15 o17 fun w16 =>
      obd (hsR w16 v10 y6 (some q12)) fun w18 =>
      hL_X3_init_1 pl Q K y0 y4 y5 n w18 (y6 + 1)
def hf_X3_init (pl : Nat → Nat) (w : hW) (a0 : Nat) (x1 : Nat) (x2 : Int32) (x3 : Int32) (x4 : Int32) (x5 : Int32) (Q : hO → Prop) : Prop :=
  hcall w fun n1 n2 => hf_X3_init_2 pl (w.1, n1, n2) a0 x1 x2 x3 x4 fun o4 => hret w n1 n2 o4 fun w3 =>
  hL_X3_init_1 pl Q (fun (w20 : hW) =>
    obd (hgP w20 a0 3 3) fun v21 =>
    hNew w20 (.inl (5, [.int 0, .int 0])) 2 fun q23 w24 =>
    hcall w24 fun n25 n26 => hf_X6_init pl (w24.1, n25, n26) q23 x4 x5 fun o28 => hret w24 n25 n26 o28 fun w27 =>
    obd (hsR w27 v21 x4 (some q23)) fun w29 =>
    Q w29.1) a0 x4 x5 FUEL w3 0
abbrev hrm_X3_init (c s : Nat) : Room := { frames := 3, cells := c, slots := s, locals := 63 }
set_option maxHeartbeats 4000000 in
set_option maxRecDepth 100000 in
theorem hloop_X3_init_1 {p : Program} {l : Launch} {e : Env} {s : State} {m : MethodId} {args : Array Value} {below : List Frame} {meth : Method} {c : Code} {cb sb : Nat} {E : hEnv} {A : Nat → Prop} {Q : hO → Prop} {K : hW → Prop} {y0 : Nat} {y4 : Int32} {y5 : Int32} (F : CallFix p m c cX3_init 7 s args lw_all RX3) (hr : meth.sig.returnType = none) (hlk : meth.locks = false) (hK : hK E A s) (hin : meth.name = "<init>") : ∀ (n : Nat) (w : hW) (y6 : Int32), hL_X3_init_1 E.2.2 Q K y0 y4 y5 n w y6 → ∀ (H : Heap) (locs : List Loc) (ls : Array Slot), hS E A s.heap cb sb w H locs → lv_has ls 7 [(0, .ref y0), (4, .int y4), (5, .int y5), (6, .int y6)] → (∀ (wz : hW) (H : Heap) (locs : List Loc) (ls : Array Slot), K wz → hS E A s.heap cb sb wz H locs → lv_has ls 7 [(0, .ref y0), (4, .int y4), (5, .int y5)] → W p l e (hrm_X3_init cb sb) s m args below meth c H locs (cb - wz.2.1) (sb - wz.2.2) (MQ below (hQv E A Q) args s cb sb A) (F0 m 44 ls [])) → W p l e (hrm_X3_init cb sb) s m args below meth c H locs (cb - w.2.1) (sb - w.2.2) (MQ below (hQv E A Q) args s cb sb A) (F0 m 12 ls []) := by
  have hx := F.1
  have hb := F.2.1
  intro n
  induction n with
  | zero =>
    intro w y6 h
    exact False.elim h
  | succ n ih =>
    intro w y6 h H locs ls S hl kx
    rw [hL_X3_init_1] at h
    refine lv_iload hx hb dX3_init_12 (lv_at hl 3 rfl) ?_
    refine lv_aload_n hx hb dX3_init_14 rfl (lv_at hl 0 rfl) ?_
    obtain ⟨v5, e6, h⟩ := obd_inv h
    refine hg_X3_9 F hK S e6 dX3_init_15 ?_
    obtain ⟨v7, e8, h⟩ := obd_inv h
    refine h_alen F hK S e8 dX3_init_18 ?_
    refine lv_icmp_ge (tgt := 44) hx hb dX3_init_19 (by decide) (fun c9 => ?_) (fun c9 => ?_)
    · rw [hIf_pos c9] at h
      exact kx _ _ _ _ h S (lv_sub hl [0, 1, 2] rfl)
    · rw [hIf_neg c9] at h
      refine lv_aload_n hx hb dX3_init_22 rfl (lv_at hl 0 rfl) ?_
      obtain ⟨v10, e11, h⟩ := obd_inv h
      refine hg_X3_9 F hK S e11 dX3_init_23 ?_
      refine lv_iload hx hb dX3_init_26 (lv_at hl 3 rfl) ?_
      refine hn_X3_13 F hK S rfl rfl h dX3_init_28 (fun q12 w13 H h S => ?_)
      refine lv_dup hx hb dX3_init_31 rfl ?_
      refine lv_iload hx hb dX3_init_32 (lv_at hl 3 rfl) ?_
      obtain ⟨n14, n15, h1, h2, h⟩ := hcall_inv h
      refine hcl_X5_init_X3_15 F hK S h1 h2 h rfl rfl hl.1 (Nat.le_of_ble_eq_true rfl) ⟨Nat.le_of_ble_eq_true rfl, Nat.le_of_ble_eq_true rfl⟩ dX3_init_34 (fun o17 w16 H locs hw h S => ?_)
      replace h := hret_mp h hw
      clear hw h1 h2
      obtain ⟨w18, e19, h⟩ := obd_inv h
      refine h_aast F hK S e19 dX3_init_37 (fun H locs S => ?_)
      refine lv_iinc (v := (y6 + 1)) (lv' := [(6, .int (y6 + 1)), (0, .ref y0), (4, .int y4), (5, .int y5)]) hx hb dX3_init_38 hl (k := 3) rfl rfl (by decide) rfl (fun ls hl => ?_)
      refine lv_goto (tgt := 12) hx hb dX3_init_41 (by decide) ?_
      exact ih _ _ h _ _ _ S (lv_sub hl [1, 2, 3, 0] rfl) kx
set_option maxHeartbeats 4000000 in
set_option maxRecDepth 100000 in
theorem hmet_X3_init (l : Launch) (E : hEnv) (A : Nat → Prop) (w : hW) (a0 : Nat) (x1 : Nat) (x2 : Int32) (x3 : Int32) (x4 : Int32) (x5 : Int32) (Q : hO → Prop) (h : hf_X3_init E.2.2 w a0 x1 x2 x3 x4 x5 Q) : Met l yX3_init (ws_ yX3_init cX3_init 7 (none)) (hrm_X3_init w.2.1 w.2.2) (va_Pc [.ref a0, .ref x1, .int x2, .int x3, .int x4, .int x5] (gPre (hK E A) (hP E A w.1))) (hQv E A Q) w.2.1 w.2.2 A := by
  refine h_metI (own := RX3) (by decide +kernel) rfl (by rfl) (Nat.le_of_ble_eq_true rfl) ?_
  intro p e s m args below meth c ls cb sb F hr hlk hin hK S hl
  have hx := F.1
  have hb := F.2.1
  have hl : lv_has ls 7 [(0, .ref a0), (1, .ref x1), (2, .int x2), (3, .int x3), (4, .int x4), (5, .int x5)] := hl
  unfold hf_X3_init at h
  refine lv_aload_n hx hb dX3_init_0 rfl (lv_at hl 0 rfl) ?_
  refine lv_aload_n hx hb dX3_init_1 rfl (lv_at hl 1 rfl) ?_
  refine lv_iload_n hx hb dX3_init_2 rfl (lv_at hl 2 rfl) ?_
  refine lv_iload_n hx hb dX3_init_3 rfl (lv_at hl 3 rfl) ?_
  refine lv_iload hx hb dX3_init_4 (lv_at hl 4 rfl) ?_
  obtain ⟨n1, n2, h1, h2, h⟩ := hcall_inv h
  refine hcl_X3_init_2_X3_3 F hK S h1 h2 h rfl rfl hl.1 (Nat.le_of_ble_eq_true rfl) ⟨Nat.le_of_ble_eq_true rfl, Nat.le_of_ble_eq_true rfl⟩ dX3_init_6 (fun o4 w3 H locs hw h S => ?_)
  replace h := hret_mp h hw
  clear hw h1 h2
  refine lv_iconst (v := 0) hx hb dX3_init_9 (by decide) ?_
  refine lv_istore (lv' := [(6, .int 0), (0, .ref a0), (1, .ref x1), (2, .int x2), (3, .int x3), (4, .int x4), (5, .int x5)]) hx hb dX3_init_10 hl (by decide) rfl (fun ls hl => ?_)
  refine hloop_X3_init_1 F hr hlk hK hin _ _ _ h _ _ _ S (lv_sub hl [1, 5, 6, 0] rfl) (fun w20 H locs ls h S hl => ?_)
  refine lv_aload_n hx hb dX3_init_44 rfl (lv_at hl 0 rfl) ?_
  obtain ⟨v21, e22, h⟩ := obd_inv h
  refine hg_X3_9 F hK S e22 dX3_init_45 ?_
  refine lv_iload hx hb dX3_init_48 (lv_at hl 1 rfl) ?_
  refine hn_X3_18 F hK S rfl rfl h dX3_init_50 (fun q23 w24 H h S => ?_)
  refine lv_dup hx hb dX3_init_53 rfl ?_
  refine lv_iload hx hb dX3_init_54 (lv_at hl 1 rfl) ?_
  refine lv_iload hx hb dX3_init_56 (lv_at hl 2 rfl) ?_
  obtain ⟨n25, n26, h1, h2, h⟩ := hcall_inv h
  refine hcl_X6_init_X3_20 F hK S h1 h2 h rfl rfl hl.1 (Nat.le_of_ble_eq_true rfl) ⟨Nat.le_of_ble_eq_true rfl, Nat.le_of_ble_eq_true rfl⟩ dX3_init_58 (fun o28 w27 H locs hw h S => ?_)
  replace h := hret_mp h hw
  clear hw h1 h2
  obtain ⟨w29, e30, h⟩ := obd_inv h
  refine h_aast F hK S e30 dX3_init_61 (fun H locs S => ?_)
  exact h_vret F hr hlk S h dX3_init_62
theorem hg_X3_34 {p : Program} {l : Launch} {e : Env} {s : State} {m : MethodId} {args : Array Value} {below : List Frame} {meth : Method} {c : Code} {R : Room} {H : Heap} {locs : List Loc} {cb sb pc nL : Nat} {Q : State → Prop} {ls : Array Slot} {rest : List Value} {cc : ByteArray} {E : hEnv} {A : Nat → Prop} {w : hW} {a : Nat} {v : Nat} (F : CallFix p m c cc nL s args lw_all RX3) (hK : hK E A s) (S : hS E A s.heap cb sb w H locs) (h : hgP w a 3 0 = some v) (hdg : decode cc pc = .ok (.getfield 34, 3)) (kk : W p l e R s m args below meth c H locs (cb - w.2.1) (sb - w.2.2) Q (F0 m (pc + 3) ls (.ref v :: rest))) : W p l e R s m args below meth c H locs (cb - w.2.1) (sb - w.2.2) Q (F0 m pc ls (.ref a :: rest)) := by
  obtain ⟨b, fs, ho, hv⟩ := hgP_inv h
  exact h_get F hK S ho (ci := 3) (C := RX3) (T := TX3) (N := 9) (k := 0) rfl in_X3 (by decide) q239 (fun x h => h) hv hdg kk
theorem hg_X3_38 {p : Program} {l : Launch} {e : Env} {s : State} {m : MethodId} {args : Array Value} {below : List Frame} {meth : Method} {c : Code} {R : Room} {H : Heap} {locs : List Loc} {cb sb pc nL : Nat} {Q : State → Prop} {ls : Array Slot} {rest : List Value} {cc : ByteArray} {E : hEnv} {A : Nat → Prop} {w : hW} {a : Nat} {v : Int32} (F : CallFix p m c cc nL s args lw_all RX3) (hK : hK E A s) (S : hS E A s.heap cb sb w H locs) (h : hgI w a 3 1 = some v) (hdg : decode cc pc = .ok (.getfield 38, 3)) (kk : W p l e R s m args below meth c H locs (cb - w.2.1) (sb - w.2.2) Q (F0 m (pc + 3) ls (.int v :: rest))) : W p l e R s m args below meth c H locs (cb - w.2.1) (sb - w.2.2) Q (F0 m pc ls (.ref a :: rest)) := by
  obtain ⟨b, fs, ho, hv⟩ := hgI_inv h
  exact h_get F hK S ho (ci := 3) (C := RX3) (T := TX3) (N := 9) (k := 1) rfl in_X3 (by decide) q240 (fun x h => h) hv hdg kk
theorem hg_X3_41 {p : Program} {l : Launch} {e : Env} {s : State} {m : MethodId} {args : Array Value} {below : List Frame} {meth : Method} {c : Code} {R : Room} {H : Heap} {locs : List Loc} {cb sb pc nL : Nat} {Q : State → Prop} {ls : Array Slot} {rest : List Value} {cc : ByteArray} {E : hEnv} {A : Nat → Prop} {w : hW} {a : Nat} {v : Int32} (F : CallFix p m c cc nL s args lw_all RX3) (hK : hK E A s) (S : hS E A s.heap cb sb w H locs) (h : hgI w a 3 2 = some v) (hdg : decode cc pc = .ok (.getfield 41, 3)) (kk : W p l e R s m args below meth c H locs (cb - w.2.1) (sb - w.2.2) Q (F0 m (pc + 3) ls (.int v :: rest))) : W p l e R s m args below meth c H locs (cb - w.2.1) (sb - w.2.2) Q (F0 m pc ls (.ref a :: rest)) := by
  obtain ⟨b, fs, ho, hv⟩ := hgI_inv h
  exact h_get F hK S ho (ci := 3) (C := RX3) (T := TX3) (N := 9) (k := 2) rfl in_X3 (by decide) q243 (fun x h => h) hv hdg kk
theorem hg_X3_44 {p : Program} {l : Launch} {e : Env} {s : State} {m : MethodId} {args : Array Value} {below : List Frame} {meth : Method} {c : Code} {R : Room} {H : Heap} {locs : List Loc} {cb sb pc nL : Nat} {Q : State → Prop} {ls : Array Slot} {rest : List Value} {cc : ByteArray} {E : hEnv} {A : Nat → Prop} {w : hW} {a : Nat} {v : Int32} (F : CallFix p m c cc nL s args lw_all RX3) (hK : hK E A s) (S : hS E A s.heap cb sb w H locs) (h : hgI w a 3 4 = some v) (hdg : decode cc pc = .ok (.getfield 44, 3)) (kk : W p l e R s m args below meth c H locs (cb - w.2.1) (sb - w.2.2) Q (F0 m (pc + 3) ls (.int v :: rest))) : W p l e R s m args below meth c H locs (cb - w.2.1) (sb - w.2.2) Q (F0 m pc ls (.ref a :: rest)) := by
  obtain ⟨b, fs, ho, hv⟩ := hgI_inv h
  exact h_get F hK S ho (ci := 3) (C := RX3) (T := TX3) (N := 9) (k := 4) rfl in_X3 (by decide) q250 (fun x h => h) hv hdg kk
def hv_twin (pl : Nat → Nat) (w : hW) (a0 : Nat) (Q : Nat → hO → Prop) : Prop := (hCls w a0 = some 4 ∧ hf_X5_twin pl w a0 Q) ∨ (hCls w a0 = some 5 ∧ hf_X6_twin pl w a0 Q) ∨ (hCls w a0 = some 6 ∧ hf_X7_twin pl w a0 Q) ∨ (hCls w a0 = some 7 ∧ hf_X8_twin pl w a0 Q) ∨ (hCls w a0 = some 8 ∧ hf_X12_twin pl w a0 Q) ∨ (hCls w a0 = some 9 ∧ hf_X13_twin pl w a0 Q)
theorem hcv_twin_X3_47 {p : Program} {l : Launch} {e : Env} {s : State} {m : MethodId} {args : Array Value} {below : List Frame} {meth : Method} {c : Code} {R : Room} {H : Heap} {locs : List Loc} {cb sb pc nL : Nat} {Q : State → Prop} {ls : Array Slot} {rest : List Value} {cc : ByteArray} {E : hEnv} {A : Nat → Prop} {w : hW} {a0 : Nat} {Q' : Nat → hO → Prop} {c1 s1 : Nat} (F : CallFix p m c cc nL s args lw_all RX3) (hK : hK E A s) (S : hS E A s.heap cb sb w H locs) (h1 : c1 ≤ w.2.1) (h2 : s1 ≤ w.2.2) (h : hv_twin E.2.2 (w.1, c1, s1) a0 Q') (hrc : R.cells = cb) (hrs : R.slots = sb) (hls : ls.size = nL) (hWt : (rest.map fun v => v.category).sum ≤ 8) (hR : 3 + 1 ≤ R.frames ∧ 8 + (2 + 11) + 65 ≤ R.locals) (hdg : decode cc pc = .ok (.invokevirtual 47, 3))
    (kk : ∀ (v : Nat) (o : hO) (w' : hW) (H1 : Heap) (locs1 : List Loc), w' = (o, w.2.1 - c1, w.2.2 - s1) → Q' v o → hS E A s.heap cb sb w' H1 locs1 → W p l e R s m args below meth c H1 locs1 (cb - w'.2.1) (sb - w'.2.2) Q (F0 m (pc + 3) ls (.ref v :: rest))) : W p l e R s m args below meth c H locs (cb - w.2.1) (sb - w.2.2) Q (F0 m pc ls (.ref a0 :: rest)) := by
  rcases h with ⟨hc, h⟩ | ⟨hc, h⟩ | ⟨hc, h⟩ | ⟨hc, h⟩ | ⟨hc, h⟩ | ⟨hc, h⟩
  · exact h_kp (g_runU F hK (hKm E A) S.1 (hmet_X5_twin l E A (w.1, c1, s1) a0 Q' h) (va_cwA 0 F.2.2.2.2 (gw_U q1303 q1305 q1311 q1312 q117 q1313) rfl rfl rfl (hK.2.1.2.2.2.1 _ (List.mem_of_getElem? (i := 2) rfl)) (by decide +kernel) ⟨Nat.le_trans (Nat.le_of_ble_eq_true rfl) hR.1, Nat.le_trans (Nat.le_of_ble_eq_true rfl) hR.2⟩) (h_recv hK S (ci := 4) rfl (hCls_inv hc)) rfl hls rfl hWt hdg ⟨by rw [hrc]; exact (h_left S h1 h2).1, by rw [hrs]; exact (h_left S h1 h2).2⟩) S h1 h2 kk
  · exact h_kp (g_runU F hK (hKm E A) S.1 (hmet_X6_twin l E A (w.1, c1, s1) a0 Q' h) (va_cwA 0 F.2.2.2.2 (gw_U q1303 q1305 q1325 q1326 q118 q1327) rfl rfl rfl (hK.2.1.2.2.2.1 _ (List.mem_of_getElem? (i := 2) rfl)) (by decide +kernel) ⟨Nat.le_trans (Nat.le_of_ble_eq_true rfl) hR.1, Nat.le_trans (Nat.le_of_ble_eq_true rfl) hR.2⟩) (h_recv hK S (ci := 5) rfl (hCls_inv hc)) rfl hls rfl hWt hdg ⟨by rw [hrc]; exact (h_left S h1 h2).1, by rw [hrs]; exact (h_left S h1 h2).2⟩) S h1 h2 kk
  · exact h_kp (g_runU F hK (hKm E A) S.1 (hmet_X7_twin l E A (w.1, c1, s1) a0 Q' h) (va_cwA 0 F.2.2.2.2 (gw_U q1303 q1305 q1317 q1318 q119 q1319) rfl rfl rfl (hK.2.1.2.2.2.1 _ (List.mem_of_getElem? (i := 2) rfl)) (by decide +kernel) ⟨Nat.le_trans (Nat.le_of_ble_eq_true rfl) hR.1, Nat.le_trans (Nat.le_of_ble_eq_true rfl) hR.2⟩) (h_recv hK S (ci := 6) rfl (hCls_inv hc)) rfl hls rfl hWt hdg ⟨by rw [hrc]; exact (h_left S h1 h2).1, by rw [hrs]; exact (h_left S h1 h2).2⟩) S h1 h2 kk
  · exact h_kp (g_runU F hK (hKm E A) S.1 (hmet_X8_twin l E A (w.1, c1, s1) a0 Q' h) (va_cwA 0 F.2.2.2.2 (gw_U q1303 q1305 q1306 q1307 q120 q1308) rfl rfl rfl (hK.2.1.2.2.2.1 _ (List.mem_of_getElem? (i := 2) rfl)) (by decide +kernel) ⟨Nat.le_trans (Nat.le_of_ble_eq_true rfl) hR.1, Nat.le_trans (Nat.le_of_ble_eq_true rfl) hR.2⟩) (h_recv hK S (ci := 7) rfl (hCls_inv hc)) rfl hls rfl hWt hdg ⟨by rw [hrc]; exact (h_left S h1 h2).1, by rw [hrs]; exact (h_left S h1 h2).2⟩) S h1 h2 kk
  · exact h_kp (g_runU F hK (hKm E A) S.1 (hmet_X12_twin l E A (w.1, c1, s1) a0 Q' h) (va_cwA 0 F.2.2.2.2 (gw_U q1303 q1305 q1314 q1315 q140 q1316) rfl rfl rfl (hK.2.1.2.2.2.1 _ (List.mem_of_getElem? (i := 2) rfl)) (by decide +kernel) ⟨Nat.le_trans (Nat.le_of_ble_eq_true rfl) hR.1, Nat.le_trans (Nat.le_of_ble_eq_true rfl) hR.2⟩) (h_recv hK S (ci := 8) rfl (hCls_inv hc)) rfl hls rfl hWt hdg ⟨by rw [hrc]; exact (h_left S h1 h2).1, by rw [hrs]; exact (h_left S h1 h2).2⟩) S h1 h2 kk
  · exact h_kp (g_runU F hK (hKm E A) S.1 (hmet_X13_twin l E A (w.1, c1, s1) a0 Q' h) (va_cwA 0 F.2.2.2.2 (gw_U q1303 q1305 q1322 q1323 q141 q1324) rfl rfl rfl (hK.2.1.2.2.2.1 _ (List.mem_of_getElem? (i := 2) rfl)) (by decide +kernel) ⟨Nat.le_trans (Nat.le_of_ble_eq_true rfl) hR.1, Nat.le_trans (Nat.le_of_ble_eq_true rfl) hR.2⟩) (h_recv hK S (ci := 9) rfl (hCls_inv hc)) rfl hls rfl hWt hdg ⟨by rw [hrc]; exact (h_left S h1 h2).1, by rw [hrs]; exact (h_left S h1 h2).2⟩) S h1 h2 kk
theorem hg_X3_51 {p : Program} {l : Launch} {e : Env} {s : State} {m : MethodId} {args : Array Value} {below : List Frame} {meth : Method} {c : Code} {R : Room} {H : Heap} {locs : List Loc} {cb sb pc nL : Nat} {Q : State → Prop} {ls : Array Slot} {rest : List Value} {cc : ByteArray} {E : hEnv} {A : Nat → Prop} {w : hW} {a : Nat} {v : Int32} (F : CallFix p m c cc nL s args lw_all RX3) (hK : hK E A s) (S : hS E A s.heap cb sb w H locs) (h : hgI w a 3 5 = some v) (hdg : decode cc pc = .ok (.getfield 51, 3)) (kk : W p l e R s m args below meth c H locs (cb - w.2.1) (sb - w.2.2) Q (F0 m (pc + 3) ls (.int v :: rest))) : W p l e R s m args below meth c H locs (cb - w.2.1) (sb - w.2.2) Q (F0 m pc ls (.ref a :: rest)) := by
  obtain ⟨b, fs, ho, hv⟩ := hgI_inv h
  exact h_get F hK S ho (ci := 3) (C := RX3) (T := TX3) (N := 9) (k := 5) rfl in_X3 (by decide) q253 (fun x h => h) hv hdg kk
theorem hp_X3_51 {p : Program} {l : Launch} {e : Env} {s : State} {m : MethodId} {args : Array Value} {below : List Frame} {meth : Method} {c : Code} {R : Room} {H : Heap} {locs : List Loc} {cb sb pc nL : Nat} {Q : State → Prop} {ls : Array Slot} {rest : List Value} {cc : ByteArray} {E : hEnv} {A : Nat → Prop} {w : hW} {a : Nat} {w' : hW} {v : Int32} (F : CallFix p m c cc nL s args lw_all RX3) (hK : hK E A s) (S : hS E A s.heap cb sb w H locs) (h : hpV w a 3 5 (.int v) = some w') (hdg : decode cc pc = .ok (.putfield 51, 3)) (kk : ∀ (H1 : Heap) (locs1 : List Loc), hS E A s.heap cb sb w' H1 locs1 → W p l e R s m args below meth c H1 locs1 (cb - w'.2.1) (sb - w'.2.2) Q (F0 m (pc + 3) ls rest)) : W p l e R s m args below meth c H locs (cb - w.2.1) (sb - w.2.2) Q (F0 m pc ls (.int v :: .ref a :: rest)) :=
  h_put F hK S h (ci := 3) (C := RX3) (T := TX3) (N := 9) (k := 5) rfl in_X3 tyX3 tyX3_ok nmX3 (by decide) q253 (fun x h => h) rfl (ty := .int) (by decide +kernel) rfl rfl hdg kk
theorem hg_X3_30 {p : Program} {l : Launch} {e : Env} {s : State} {m : MethodId} {args : Array Value} {below : List Frame} {meth : Method} {c : Code} {R : Room} {H : Heap} {locs : List Loc} {cb sb pc nL : Nat} {Q : State → Prop} {ls : Array Slot} {rest : List Value} {cc : ByteArray} {E : hEnv} {A : Nat → Prop} {w : hW} {a : Nat} {v : Int32} (F : CallFix p m c cc nL s args lw_all RX3) (hK : hK E A s) (S : hS E A s.heap cb sb w H locs) (h : hgI w a 3 6 = some v) (hdg : decode cc pc = .ok (.getfield 30, 3)) (kk : W p l e R s m args below meth c H locs (cb - w.2.1) (sb - w.2.2) Q (F0 m (pc + 3) ls (.int v :: rest))) : W p l e R s m args below meth c H locs (cb - w.2.1) (sb - w.2.2) Q (F0 m pc ls (.ref a :: rest)) := by
  obtain ⟨b, fs, ho, hv⟩ := hgI_inv h
  exact h_get F hK S ho (ci := 3) (C := RX3) (T := TX3) (N := 9) (k := 6) rfl in_X3 (by decide) q256 (fun x h => h) hv hdg kk
theorem hg_X3_54 {p : Program} {l : Launch} {e : Env} {s : State} {m : MethodId} {args : Array Value} {below : List Frame} {meth : Method} {c : Code} {R : Room} {H : Heap} {locs : List Loc} {cb sb pc nL : Nat} {Q : State → Prop} {ls : Array Slot} {rest : List Value} {cc : ByteArray} {E : hEnv} {A : Nat → Prop} {w : hW} {a : Nat} {v : Int32} (F : CallFix p m c cc nL s args lw_all RX3) (hK : hK E A s) (S : hS E A s.heap cb sb w H locs) (h : hgI w a 3 7 = some v) (hdg : decode cc pc = .ok (.getfield 54, 3)) (kk : W p l e R s m args below meth c H locs (cb - w.2.1) (sb - w.2.2) Q (F0 m (pc + 3) ls (.int v :: rest))) : W p l e R s m args below meth c H locs (cb - w.2.1) (sb - w.2.2) Q (F0 m pc ls (.ref a :: rest)) := by
  obtain ⟨b, fs, ho, hv⟩ := hgI_inv h
  exact h_get F hK S ho (ci := 3) (C := RX3) (T := TX3) (N := 9) (k := 7) rfl in_X3 (by decide) q259 (fun x h => h) hv hdg kk
theorem hp_X3_54 {p : Program} {l : Launch} {e : Env} {s : State} {m : MethodId} {args : Array Value} {below : List Frame} {meth : Method} {c : Code} {R : Room} {H : Heap} {locs : List Loc} {cb sb pc nL : Nat} {Q : State → Prop} {ls : Array Slot} {rest : List Value} {cc : ByteArray} {E : hEnv} {A : Nat → Prop} {w : hW} {a : Nat} {w' : hW} {v : Int32} (F : CallFix p m c cc nL s args lw_all RX3) (hK : hK E A s) (S : hS E A s.heap cb sb w H locs) (h : hpV w a 3 7 (.int v) = some w') (hdg : decode cc pc = .ok (.putfield 54, 3)) (kk : ∀ (H1 : Heap) (locs1 : List Loc), hS E A s.heap cb sb w' H1 locs1 → W p l e R s m args below meth c H1 locs1 (cb - w'.2.1) (sb - w'.2.2) Q (F0 m (pc + 3) ls rest)) : W p l e R s m args below meth c H locs (cb - w.2.1) (sb - w.2.2) Q (F0 m pc ls (.int v :: .ref a :: rest)) :=
  h_put F hK S h (ci := 3) (C := RX3) (T := TX3) (N := 9) (k := 7) rfl in_X3 tyX3 tyX3_ok nmX3 (by decide) q259 (fun x h => h) rfl (ty := .int) (by decide +kernel) rfl rfl hdg kk
theorem hg_X3_57 {p : Program} {l : Launch} {e : Env} {s : State} {m : MethodId} {args : Array Value} {below : List Frame} {meth : Method} {c : Code} {R : Room} {H : Heap} {locs : List Loc} {cb sb pc nL : Nat} {Q : State → Prop} {ls : Array Slot} {rest : List Value} {cc : ByteArray} {E : hEnv} {A : Nat → Prop} {w : hW} {a : Nat} {v : Int32} (F : CallFix p m c cc nL s args lw_all RX3) (hK : hK E A s) (S : hS E A s.heap cb sb w H locs) (h : hgI w a 3 8 = some v) (hdg : decode cc pc = .ok (.getfield 57, 3)) (kk : W p l e R s m args below meth c H locs (cb - w.2.1) (sb - w.2.2) Q (F0 m (pc + 3) ls (.int v :: rest))) : W p l e R s m args below meth c H locs (cb - w.2.1) (sb - w.2.2) Q (F0 m pc ls (.ref a :: rest)) := by
  obtain ⟨b, fs, ho, hv⟩ := hgI_inv h
  exact h_get F hK S ho (ci := 3) (C := RX3) (T := TX3) (N := 9) (k := 8) rfl in_X3 (by decide) q261 (fun x h => h) hv hdg kk
theorem hp_X3_57 {p : Program} {l : Launch} {e : Env} {s : State} {m : MethodId} {args : Array Value} {below : List Frame} {meth : Method} {c : Code} {R : Room} {H : Heap} {locs : List Loc} {cb sb pc nL : Nat} {Q : State → Prop} {ls : Array Slot} {rest : List Value} {cc : ByteArray} {E : hEnv} {A : Nat → Prop} {w : hW} {a : Nat} {w' : hW} {v : Int32} (F : CallFix p m c cc nL s args lw_all RX3) (hK : hK E A s) (S : hS E A s.heap cb sb w H locs) (h : hpV w a 3 8 (.int v) = some w') (hdg : decode cc pc = .ok (.putfield 57, 3)) (kk : ∀ (H1 : Heap) (locs1 : List Loc), hS E A s.heap cb sb w' H1 locs1 → W p l e R s m args below meth c H1 locs1 (cb - w'.2.1) (sb - w'.2.2) Q (F0 m (pc + 3) ls rest)) : W p l e R s m args below meth c H locs (cb - w.2.1) (sb - w.2.2) Q (F0 m pc ls (.int v :: .ref a :: rest)) :=
  h_put F hK S h (ci := 3) (C := RX3) (T := TX3) (N := 9) (k := 8) rfl in_X3 tyX3 tyX3_ok nmX3 (by decide) q261 (fun x h => h) rfl (ty := .int) (by decide +kernel) rfl rfl hdg kk
def hL_X3_init_3_1 (pl : Nat → Nat) (Q : hO → Prop) (K : hW → Prop) (y0 : Nat) (y1 : Nat) : Nat → hW → Int32 → Prop
  | 0, _, _ => False
  | n + 1, w, y2 =>
    obd (hgP w y0 3 3) fun v13 =>
    obd (hLen w v13) fun v15 =>
    hIf (v15 ≤ y2) (
      K w) <|
      obd (hgP w y0 3 3) fun v18 =>
      obd (hgP w y1 3 3) fun v20 =>
      obd (haP w v20 y2) fun v22 =>
      hcall w fun n24 n25 => hv_twin pl (w.1, n24, n25) v22 fun v28 o27 => hret w n24 n25 o27 fun w26 =>
      obd (hsR w26 v18 y2 (some v28)) fun w29 =>
      hL_X3_init_3_1 pl Q K y0 y1 n w29 (y2 + 1)
def hf_X3_init_3 (pl : Nat → Nat) (w : hW) (a0 : Nat) (x1 : Nat) (Q : hO → Prop) : Prop :=
  obd (hgP w x1 3 0) fun v1 =>
  obd (hgI w x1 3 1) fun v3 =>
  obd (hgI w x1 3 2) fun v5 =>
  obd (hgI w x1 3 4) fun v7 =>
  hcall w fun n9 n10 => hf_X3_init_2 pl (w.1, n9, n10) a0 v1 v3 v5 v7 fun o12 => hret w n9 n10 o12 fun w11 =>
  hL_X3_init_3_1 pl Q (fun (w31 : hW) =>
    obd (hgI w31 x1 3 5) fun v32 =>
    obd (hpV w31 a0 3 5 (.int v32)) fun w34 =>
    obd (hgI w34 x1 3 6) fun v36 =>
    obd (hpV w34 a0 3 6 (.int v36)) fun w38 =>
    obd (hgI w38 x1 3 7) fun v40 =>
    obd (hpV w38 a0 3 7 (.int v40)) fun w42 =>
    obd (hgI w42 x1 3 8) fun v44 =>
    obd (hpV w42 a0 3 8 (.int v44)) fun w46 =>
    Q w46.1) a0 x1 FUEL w11 0
abbrev hrm_X3_init_3 (c s : Nat) : Room := { frames := 4, cells := c, slots := s, locals := 86 }
set_option maxHeartbeats 4000000 in
set_option maxRecDepth 100000 in
theorem hloop_X3_init_3_1 {p : Program} {l : Launch} {e : Env} {s : State} {m : MethodId} {args : Array Value} {below : List Frame} {meth : Method} {c : Code} {cb sb : Nat} {E : hEnv} {A : Nat → Prop} {Q : hO → Prop} {K : hW → Prop} {y0 : Nat} {y1 : Nat} (F : CallFix p m c cX3_init_3 3 s args lw_all RX3) (hr : meth.sig.returnType = none) (hlk : meth.locks = false) (hK : hK E A s) (hin : meth.name = "<init>") : ∀ (n : Nat) (w : hW) (y2 : Int32), hL_X3_init_3_1 E.2.2 Q K y0 y1 n w y2 → ∀ (H : Heap) (locs : List Loc) (ls : Array Slot), hS E A s.heap cb sb w H locs → lv_has ls 3 [(0, .ref y0), (1, .ref y1), (2, .int y2)] → (∀ (wz : hW) (H : Heap) (locs : List Loc) (ls : Array Slot), K wz → hS E A s.heap cb sb wz H locs → lv_has ls 3 [(0, .ref y0), (1, .ref y1)] → W p l e (hrm_X3_init_3 cb sb) s m args below meth c H locs (cb - wz.2.1) (sb - wz.2.2) (MQ below (hQv E A Q) args s cb sb A) (F0 m 52 ls [])) → W p l e (hrm_X3_init_3 cb sb) s m args below meth c H locs (cb - w.2.1) (sb - w.2.2) (MQ below (hQv E A Q) args s cb sb A) (F0 m 22 ls []) := by
  have hx := F.1
  have hb := F.2.1
  intro n
  induction n with
  | zero =>
    intro w y2 h
    exact False.elim h
  | succ n ih =>
    intro w y2 h H locs ls S hl kx
    rw [hL_X3_init_3_1] at h
    refine lv_iload_n hx hb dX3_init_3_22 rfl (lv_at hl 2 rfl) ?_
    refine lv_aload_n hx hb dX3_init_3_23 rfl (lv_at hl 0 rfl) ?_
    obtain ⟨v13, e14, h⟩ := obd_inv h
    refine hg_X3_9 F hK S e14 dX3_init_3_24 ?_
    obtain ⟨v15, e16, h⟩ := obd_inv h
    refine h_alen F hK S e16 dX3_init_3_27 ?_
    refine lv_icmp_ge (tgt := 52) hx hb dX3_init_3_28 (by decide) (fun c17 => ?_) (fun c17 => ?_)
    · rw [hIf_pos c17] at h
      exact kx _ _ _ _ h S (lv_sub hl [0, 1] rfl)
    · rw [hIf_neg c17] at h
      refine lv_aload_n hx hb dX3_init_3_31 rfl (lv_at hl 0 rfl) ?_
      obtain ⟨v18, e19, h⟩ := obd_inv h
      refine hg_X3_9 F hK S e19 dX3_init_3_32 ?_
      refine lv_iload_n hx hb dX3_init_3_35 rfl (lv_at hl 2 rfl) ?_
      refine lv_aload_n hx hb dX3_init_3_36 rfl (lv_at hl 1 rfl) ?_
      obtain ⟨v20, e21, h⟩ := obd_inv h
      refine hg_X3_9 F hK S e21 dX3_init_3_37 ?_
      refine lv_iload_n hx hb dX3_init_3_40 rfl (lv_at hl 2 rfl) ?_
      obtain ⟨v22, e23, h⟩ := obd_inv h
      refine h_aald F hK S e23 dX3_init_3_41 ?_
      obtain ⟨n24, n25, h1, h2, h⟩ := hcall_inv h
      refine hcv_twin_X3_47 F hK S h1 h2 h rfl rfl hl.1 (Nat.le_of_ble_eq_true rfl) ⟨Nat.le_of_ble_eq_true rfl, Nat.le_of_ble_eq_true rfl⟩ dX3_init_3_42 (fun v28 o27 w26 H locs hw h S => ?_)
      replace h := hret_mp h hw
      clear hw h1 h2
      obtain ⟨w29, e30, h⟩ := obd_inv h
      refine h_aast F hK S e30 dX3_init_3_45 (fun H locs S => ?_)
      refine lv_iinc (v := (y2 + 1)) (lv' := [(2, .int (y2 + 1)), (0, .ref y0), (1, .ref y1)]) hx hb dX3_init_3_46 hl (k := 2) rfl rfl (by decide) rfl (fun ls hl => ?_)
      refine lv_goto (tgt := 22) hx hb dX3_init_3_49 (by decide) ?_
      exact ih _ _ h _ _ _ S (lv_sub hl [1, 2, 0] rfl) kx
set_option maxHeartbeats 4000000 in
set_option maxRecDepth 100000 in
theorem hmet_X3_init_3 (l : Launch) (E : hEnv) (A : Nat → Prop) (w : hW) (a0 : Nat) (x1 : Nat) (Q : hO → Prop) (h : hf_X3_init_3 E.2.2 w a0 x1 Q) : Met l yX3_init_3 (ws_ yX3_init_3 cX3_init_3 3 (none)) (hrm_X3_init_3 w.2.1 w.2.2) (va_Pc [.ref a0, .ref x1] (gPre (hK E A) (hP E A w.1))) (hQv E A Q) w.2.1 w.2.2 A := by
  refine h_metI (own := RX3) (by decide +kernel) rfl (by rfl) (Nat.le_of_ble_eq_true rfl) ?_
  intro p e s m args below meth c ls cb sb F hr hlk hin hK S hl
  have hx := F.1
  have hb := F.2.1
  have hl : lv_has ls 3 [(0, .ref a0), (1, .ref x1)] := hl
  unfold hf_X3_init_3 at h
  refine lv_aload_n hx hb dX3_init_3_0 rfl (lv_at hl 0 rfl) ?_
  refine lv_aload_n hx hb dX3_init_3_1 rfl (lv_at hl 1 rfl) ?_
  obtain ⟨v1, e2, h⟩ := obd_inv h
  refine hg_X3_34 F hK S e2 dX3_init_3_2 ?_
  refine lv_aload_n hx hb dX3_init_3_5 rfl (lv_at hl 1 rfl) ?_
  obtain ⟨v3, e4, h⟩ := obd_inv h
  refine hg_X3_38 F hK S e4 dX3_init_3_6 ?_
  refine lv_aload_n hx hb dX3_init_3_9 rfl (lv_at hl 1 rfl) ?_
  obtain ⟨v5, e6, h⟩ := obd_inv h
  refine hg_X3_41 F hK S e6 dX3_init_3_10 ?_
  refine lv_aload_n hx hb dX3_init_3_13 rfl (lv_at hl 1 rfl) ?_
  obtain ⟨v7, e8, h⟩ := obd_inv h
  refine hg_X3_44 F hK S e8 dX3_init_3_14 ?_
  obtain ⟨n9, n10, h1, h2, h⟩ := hcall_inv h
  refine hcl_X3_init_2_X3_3 F hK S h1 h2 h rfl rfl hl.1 (Nat.le_of_ble_eq_true rfl) ⟨Nat.le_of_ble_eq_true rfl, Nat.le_of_ble_eq_true rfl⟩ dX3_init_3_17 (fun o12 w11 H locs hw h S => ?_)
  replace h := hret_mp h hw
  clear hw h1 h2
  refine lv_iconst (v := 0) hx hb dX3_init_3_20 (by decide) ?_
  refine lv_istore_n (lv' := [(2, .int 0), (0, .ref a0), (1, .ref x1)]) hx hb dX3_init_3_21 rfl hl (by decide) rfl (fun ls hl => ?_)
  refine hloop_X3_init_3_1 F hr hlk hK hin _ _ _ h _ _ _ S (lv_sub hl [1, 2, 0] rfl) (fun w31 H locs ls h S hl => ?_)
  refine lv_aload_n hx hb dX3_init_3_52 rfl (lv_at hl 0 rfl) ?_
  refine lv_aload_n hx hb dX3_init_3_53 rfl (lv_at hl 1 rfl) ?_
  obtain ⟨v32, e33, h⟩ := obd_inv h
  refine hg_X3_51 F hK S e33 dX3_init_3_54 ?_
  obtain ⟨w34, e35, h⟩ := obd_inv h
  refine hp_X3_51 F hK S e35 dX3_init_3_57 (fun H locs S => ?_)
  refine lv_aload_n hx hb dX3_init_3_60 rfl (lv_at hl 0 rfl) ?_
  refine lv_aload_n hx hb dX3_init_3_61 rfl (lv_at hl 1 rfl) ?_
  obtain ⟨v36, e37, h⟩ := obd_inv h
  refine hg_X3_30 F hK S e37 dX3_init_3_62 ?_
  obtain ⟨w38, e39, h⟩ := obd_inv h
  refine hp_X3_30 F hK S e39 dX3_init_3_65 (fun H locs S => ?_)
  refine lv_aload_n hx hb dX3_init_3_68 rfl (lv_at hl 0 rfl) ?_
  refine lv_aload_n hx hb dX3_init_3_69 rfl (lv_at hl 1 rfl) ?_
  obtain ⟨v40, e41, h⟩ := obd_inv h
  refine hg_X3_54 F hK S e41 dX3_init_3_70 ?_
  obtain ⟨w42, e43, h⟩ := obd_inv h
  refine hp_X3_54 F hK S e43 dX3_init_3_73 (fun H locs S => ?_)
  refine lv_aload_n hx hb dX3_init_3_76 rfl (lv_at hl 0 rfl) ?_
  refine lv_aload_n hx hb dX3_init_3_77 rfl (lv_at hl 1 rfl) ?_
  obtain ⟨v44, e45, h⟩ := obd_inv h
  refine hg_X3_57 F hK S e45 dX3_init_3_78 ?_
  obtain ⟨w46, e47, h⟩ := obd_inv h
  refine hp_X3_57 F hK S e47 dX3_init_3_81 (fun H locs S => ?_)
  exact h_vret F hr hlk S h dX3_init_3_84
theorem hn_X3_71 {p : Program} {l : Launch} {e : Env} {s : State} {m : MethodId} {args : Array Value} {below : List Frame} {meth : Method} {c : Code} {R : Room} {H : Heap} {locs : List Loc} {cb sb pc nL : Nat} {Q : State → Prop} {ls : Array Slot} {rest : List Value} {cc : ByteArray} {E : hEnv} {A : Nat → Prop} {w : hW} (F : CallFix p m c cc nL s args lw_all RX3) (hK : hK E A s) (S : hS E A s.heap cb sb w H locs) (hrc : R.cells = cb) (hrs : R.slots = sb) {f : Nat → hW → Prop} (h : hNew w (.inl (13, [.int 0, .null, .int 0])) 3 f) (hdg : decode cc pc = .ok (.new 71, 3)) (kk : ∀ (q : Nat) (w' : hW) (H1 : Heap), f q w' → hS E A s.heap cb sb w' H1 locs → W p l e R s m args below meth c H1 locs (cb - w'.2.1) (sb - w'.2.2) Q (F0 m (pc + 3) ls (.ref q :: rest))) : W p l e R s m args below meth c H locs (cb - w.2.1) (sb - w.2.2) Q (F0 m pc ls rest) :=
  h_new F hK S hrc hrs (C := RJ18) (T := TJ18) (N := 3) tyJ18 tyJ18_ok q1236 q1237 q144 in_J18 rfl (fun j hj => by match j, hj with | 0, _ => rfl | 1, _ => rfl | 2, _ => rfl) h hdg kk
theorem hcl_J18_init_X3_73 {p : Program} {l : Launch} {e : Env} {s : State} {m : MethodId} {args : Array Value} {below : List Frame} {meth : Method} {c : Code} {R : Room} {H : Heap} {locs : List Loc} {cb sb pc nL : Nat} {Q : State → Prop} {ls : Array Slot} {rest : List Value} {cc : ByteArray} {E : hEnv} {A : Nat → Prop} {w : hW} {a0 : Nat} {Q' : hO → Prop} {c1 s1 : Nat} (F : CallFix p m c cc nL s args lw_all RX3) (hK : hK E A s) (S : hS E A s.heap cb sb w H locs) (h1 : c1 ≤ w.2.1) (h2 : s1 ≤ w.2.2) (h : hf_J18_init E.2.2 (w.1, c1, s1) a0 Q') (hrc : R.cells = cb) (hrs : R.slots = sb) (hls : ls.size = nL) (hWt : (rest.map fun v => v.category).sum ≤ 8) (hR : 3 + 1 ≤ R.frames ∧ 8 + (1 + 11) + 60 ≤ R.locals) (hdg : decode cc pc = .ok (.invokespecial 73, 3))
    (kk : ∀ (o : hO) (w' : hW) (H1 : Heap) (locs1 : List Loc), w' = (o, w.2.1 - c1, w.2.2 - s1) → Q' o → hS E A s.heap cb sb w' H1 locs1 → W p l e R s m args below meth c H1 locs1 (cb - w'.2.1) (sb - w'.2.2) Q (F0 m (pc + 3) ls (rest))) : W p l e R s m args below meth c H locs (cb - w.2.1) (sb - w.2.2) Q (F0 m pc ls (.ref a0 :: rest)) :=
  h_kv (g_runI F hK (hKm E A) S.1 (hmet_J18_init l E A (w.1, c1, s1) a0 Q' h) (cwI 0 F.2.2.2.2 (lw_meth q1240) rfl rfl rfl (F.2.2.2.2 _ q144) (F.2.2.2.2 _ q1238) (F.2.2.2.2 _ q1239) rfl (by decide +kernel) hR) rfl hls rfl hWt hdg ⟨by rw [hrc]; exact (h_left S h1 h2).1, by rw [hrs]; exact (h_left S h1 h2).2⟩) S h1 h2 kk
theorem hcl_J18_add_X3_78 {p : Program} {l : Launch} {e : Env} {s : State} {m : MethodId} {args : Array Value} {below : List Frame} {meth : Method} {c : Code} {R : Room} {H : Heap} {locs : List Loc} {cb sb pc nL : Nat} {Q : State → Prop} {ls : Array Slot} {rest : List Value} {cc : ByteArray} {E : hEnv} {A : Nat → Prop} {w : hW} {a0 : Nat} {x1 : Nat} {Q' : Int32 → hO → Prop} {c1 s1 : Nat} (F : CallFix p m c cc nL s args lw_all RX3) (hK : hK E A s) (S : hS E A s.heap cb sb w H locs) (hrv : ∃ (b : Bool) (fs : List Value), w.1 a0 = some (b, .inl (13, fs))) (h1 : c1 ≤ w.2.1) (h2 : s1 ≤ w.2.2) (h : hf_J18_add E.2.2 (w.1, c1, s1) a0 x1 Q') (hrc : R.cells = cb) (hrs : R.slots = sb) (hls : ls.size = nL) (hWt : (rest.map fun v => v.category).sum ≤ 8) (hR : 6 + 1 ≤ R.frames ∧ 8 + (2 + 11) + 149 ≤ R.locals) (hdg : decode cc pc = .ok (.invokevirtual 78, 3))
    (kk : ∀ (v : Int32) (o : hO) (w' : hW) (H1 : Heap) (locs1 : List Loc), w' = (o, w.2.1 - c1, w.2.2 - s1) → Q' v o → hS E A s.heap cb sb w' H1 locs1 → W p l e R s m args below meth c H1 locs1 (cb - w'.2.1) (sb - w'.2.2) Q (F0 m (pc + 3) ls (.int v :: rest))) : W p l e R s m args below meth c H locs (cb - w.2.1) (sb - w.2.2) Q (F0 m pc ls (.ref x1 :: .ref a0 :: rest)) :=
  h_ki (g_runV F hK (hKm E A) S.1 (hmet_J18_add l E A (w.1, c1, s1) a0 x1 Q' h) (cwV 1 F.2.2.2.2 (lw_V q1259 q1260 q1261 q144 q1262) rfl rfl rfl (by decide +kernel) hR) (h_recv hK S (ci := 13) rfl hrv) rfl hls rfl hWt hdg ⟨by rw [hrc]; exact (h_left S h1 h2).1, by rw [hrs]; exact (h_left S h1 h2).2⟩) S h1 h2 kk
def hL_X3_all_1 (pl : Nat → Nat) (Q : Nat → hO → Prop) (K : hW → Prop) (y1 : Int32) (y2 : Nat) (y3 : Nat) (y4 : Int32) : Nat → hW → Int32 → Prop
  | 0, _, _ => False
  | n + 1, w, y5 =>
    hIf (y4 ≤ y5) (
      K w) <|
      obd (haP w y3 y5) fun v12 =>
      hjoin (fun (g35 : hW) =>
        hL_X3_all_1 pl Q K y1 y2 y3 y4 n g35 (y5 + 1)) fun k37 =>
      hIf (y1 = 0) (
        obd (hInst 7 w v12) fun v15 =>
        hIf (v15 = 0) (
          k37 w) <|
          obd (hIs w y2 13) fun u18 =>
          hcall w fun n20 n21 => hf_J18_add pl (w.1, n20, n21) y2 v12 fun v24 o23 => hret w n20 n21 o23 fun w22 =>
          k37 w22) <|
        obd (hInst 6 w v12) fun v25 =>
        hIf (v25 = 0) (
          k37 w) <|
          obd (hIs w y2 13) fun u28 =>
          hcall w fun n30 n31 => hf_J18_add pl (w.1, n30, n31) y2 v12 fun v34 o33 => hret w n30 n31 o33 fun w32 =>
          k37 w32
def hf_X3_all (pl : Nat → Nat) (w : hW) (a0 : Nat) (x1 : Int32) (Q : Nat → hO → Prop) : Prop :=
  hNew w (.inl (13, [.int 0, .null, .int 0])) 3 fun q1 w2 =>
  hcall w2 fun n3 n4 => hf_J18_init pl (w2.1, n3, n4) q1 fun o6 => hret w2 n3 n4 o6 fun w5 =>
  obd (hgP w5 a0 3 3) fun v7 =>
  obd (hLen w5 v7) fun v9 =>
  hL_X3_all_1 pl Q (fun (w38 : hW) =>
    Q q1 w38.1) x1 q1 v7 v9 FUEL w5 0
abbrev hrm_X3_all (c s : Nat) : Room := { frames := 7, cells := c, slots := s, locals := 170 }
set_option maxHeartbeats 4000000 in
set_option maxRecDepth 100000 in
theorem hloop_X3_all_1 {p : Program} {l : Launch} {e : Env} {s : State} {m : MethodId} {args : Array Value} {below : List Frame} {meth : Method} {c : Code} {cb sb : Nat} {E : hEnv} {A : Nat → Prop} {Q : Nat → hO → Prop} {K : hW → Prop} {y1 : Int32} {y2 : Nat} {y3 : Nat} {y4 : Int32} (F : CallFix p m c cX3_all 7 s args lw_all RX3) (hr : meth.sig.returnType = some (.object "java/util/ArrayList")) (hlk : meth.locks = false) (hK : hK E A s) : ∀ (n : Nat) (w : hW) (y5 : Int32), hL_X3_all_1 E.2.2 Q K y1 y2 y3 y4 n w y5 → ∀ (H : Heap) (locs : List Loc) (ls : Array Slot), hS E A s.heap cb sb w H locs → lv_has ls 7 [(1, .int y1), (2, .ref y2), (3, .ref y3), (4, .int y4), (5, .int y5)] → (∀ (wz : hW) (H : Heap) (locs : List Loc) (ls : Array Slot), K wz → hS E A s.heap cb sb wz H locs → lv_has ls 7 [(2, .ref y2)] → W p l e (hrm_X3_all cb sb) s m args below meth c H locs (cb - wz.2.1) (sb - wz.2.2) (MQ below (hQp E A Q) args s cb sb A) (F0 m 69 ls [])) → W p l e (hrm_X3_all cb sb) s m args below meth c H locs (cb - w.2.1) (sb - w.2.2) (MQ below (hQp E A Q) args s cb sb A) (F0 m 20 ls []) := by
  have hx := F.1
  have hb := F.2.1
  intro n
  induction n with
  | zero =>
    intro w y5 h
    exact False.elim h
  | succ n ih =>
    intro w y5 h H locs ls S hl kx
    rw [hL_X3_all_1] at h
    refine lv_iload hx hb dX3_all_20 (lv_at hl 4 rfl) ?_
    refine lv_iload hx hb dX3_all_22 (lv_at hl 3 rfl) ?_
    refine lv_icmp_ge (tgt := 69) hx hb dX3_all_24 (by decide) (fun c11 => ?_) (fun c11 => ?_)
    · rw [hIf_pos c11] at h
      exact kx _ _ _ _ h S (lv_sub hl [1] rfl)
    · rw [hIf_neg c11] at h
      refine lv_aload_n hx hb dX3_all_27 rfl (lv_at hl 2 rfl) ?_
      refine lv_iload hx hb dX3_all_28 (lv_at hl 4 rfl) ?_
      obtain ⟨v12, e13, h⟩ := obd_inv h
      refine h_aald F hK S e13 dX3_all_30 ?_
      refine lv_astore (lv' := [(6, .ref v12), (1, .int y1), (2, .ref y2), (3, .ref y3), (4, .int y4), (5, .int y5)]) hx hb dX3_all_31 hl (by decide) rfl (fun ls hl => ?_)
      refine lv_iload_n hx hb dX3_all_33 rfl (lv_at hl 1 rfl) ?_
      obtain ⟨k37, hk37, h⟩ := hj1_inv h
      have hJ63 : ∀ (g35 : hW) (H : Heap) (locs : List Loc) (ls : Array Slot), k37 g35 → hS E A s.heap cb sb g35 H locs → lv_has ls 7 [(1, .int y1), (2, .ref y2), (3, .ref y3), (4, .int y4), (5, .int y5)] → W p l e (hrm_X3_all cb sb) s m args below meth c H locs (cb - g35.2.1) (sb - g35.2.2) (MQ below (hQp E A Q) args s cb sb A) (F0 m 63 ls []) := by
        intro g35 H locs ls h S hl
        replace h := hk37 _ h
        refine lv_iinc (v := (y5 + 1)) (lv' := [(5, .int (y5 + 1)), (1, .int y1), (2, .ref y2), (3, .ref y3), (4, .int y4)]) hx hb dX3_all_63 hl (k := 4) rfl rfl (by decide) rfl (fun ls hl => ?_)
        refine lv_goto (tgt := 20) hx hb dX3_all_66 (by decide) ?_
        exact ih _ _ h _ _ _ S (lv_sub hl [1, 2, 3, 4, 0] rfl) kx
      clear hk37
      refine lv_if_eq (tgt := 48) hx hb dX3_all_34 (by decide) (fun c14 => ?_) (fun c14 => ?_)
      · rw [hIf_pos c14] at h
        refine lv_aload hx hb dX3_all_48 (lv_at hl 0 rfl) ?_
        obtain ⟨v15, e16, h⟩ := obd_inv h
        refine h_inst7 F hK S e16 q463 dX3_all_50 ?_
        refine lv_if_eq (tgt := 63) hx hb dX3_all_53 (by decide) (fun c17 => ?_) (fun c17 => ?_)
        · rw [hIf_pos c17] at h
          exact hJ63 _ _ _ _ h S (lv_sub hl [1, 2, 3, 4, 5] rfl)
        · rw [hIf_neg c17] at h
          refine lv_aload_n hx hb dX3_all_56 rfl (lv_at hl 2 rfl) ?_
          refine lv_aload hx hb dX3_all_57 (lv_at hl 0 rfl) ?_
          obtain ⟨u18, e19, h⟩ := obd_inv h
          obtain ⟨n20, n21, h1, h2, h⟩ := hcall_inv h
          refine hcl_J18_add_X3_78 F hK S (hIs_inv e19) h1 h2 h rfl rfl hl.1 (Nat.le_of_ble_eq_true rfl) ⟨Nat.le_of_ble_eq_true rfl, Nat.le_of_ble_eq_true rfl⟩ dX3_all_59 (fun v24 o23 w22 H locs hw h S => ?_)
          replace h := hret_mp h hw
          clear hw h1 h2
          refine lv_pop hx hb dX3_all_62 rfl ?_
          exact hJ63 _ _ _ _ h S (lv_sub hl [1, 2, 3, 4, 5] rfl)
      · rw [hIf_neg c14] at h
        refine lv_aload hx hb dX3_all_37 (lv_at hl 0 rfl) ?_
        obtain ⟨v25, e26, h⟩ := obd_inv h
        refine h_inst6 F hK S e26 q1128 dX3_all_39 ?_
        refine lv_if_eq (tgt := 63) hx hb dX3_all_42 (by decide) (fun c27 => ?_) (fun c27 => ?_)
        · rw [hIf_pos c27] at h
          exact hJ63 _ _ _ _ h S (lv_sub hl [1, 2, 3, 4, 5] rfl)
        · rw [hIf_neg c27] at h
          refine lv_goto (tgt := 56) hx hb dX3_all_45 (by decide) ?_
          refine lv_aload_n hx hb dX3_all_56 rfl (lv_at hl 2 rfl) ?_
          refine lv_aload hx hb dX3_all_57 (lv_at hl 0 rfl) ?_
          obtain ⟨u28, e29, h⟩ := obd_inv h
          obtain ⟨n30, n31, h1, h2, h⟩ := hcall_inv h
          refine hcl_J18_add_X3_78 F hK S (hIs_inv e29) h1 h2 h rfl rfl hl.1 (Nat.le_of_ble_eq_true rfl) ⟨Nat.le_of_ble_eq_true rfl, Nat.le_of_ble_eq_true rfl⟩ dX3_all_59 (fun v34 o33 w32 H locs hw h S => ?_)
          replace h := hret_mp h hw
          clear hw h1 h2
          refine lv_pop hx hb dX3_all_62 rfl ?_
          exact hJ63 _ _ _ _ h S (lv_sub hl [1, 2, 3, 4, 5] rfl)
set_option maxHeartbeats 4000000 in
set_option maxRecDepth 100000 in
theorem hmet_X3_all (l : Launch) (E : hEnv) (A : Nat → Prop) (w : hW) (a0 : Nat) (x1 : Int32) (Q : Nat → hO → Prop) (h : hf_X3_all E.2.2 w a0 x1 Q) : Met l yX3_all (ws_ yX3_all cX3_all 7 (some (.object "java/util/ArrayList"))) (hrm_X3_all w.2.1 w.2.2) (va_Pc [.ref a0, .int x1] (gPre (hK E A) (hP E A w.1))) (hQp E A Q) w.2.1 w.2.2 A := by
  refine h_met (own := RX3) (by decide +kernel) rfl (Nat.le_of_ble_eq_true rfl) ?_
  intro p e s m args below meth c ls cb sb F hr hlk hK S hl
  have hx := F.1
  have hb := F.2.1
  have hl : lv_has ls 7 [(0, .ref a0), (1, .int x1)] := hl
  unfold hf_X3_all at h
  refine hn_X3_71 F hK S rfl rfl h dX3_all_0 (fun q1 w2 H h S => ?_)
  refine lv_dup hx hb dX3_all_3 rfl ?_
  obtain ⟨n3, n4, h1, h2, h⟩ := hcall_inv h
  refine hcl_J18_init_X3_73 F hK S h1 h2 h rfl rfl hl.1 (Nat.le_of_ble_eq_true rfl) ⟨Nat.le_of_ble_eq_true rfl, Nat.le_of_ble_eq_true rfl⟩ dX3_all_4 (fun o6 w5 H locs hw h S => ?_)
  replace h := hret_mp h hw
  clear hw h1 h2
  refine lv_astore_n (lv' := [(2, .ref q1), (0, .ref a0), (1, .int x1)]) hx hb dX3_all_7 rfl hl (by decide) rfl (fun ls hl => ?_)
  refine lv_aload_n hx hb dX3_all_8 rfl (lv_at hl 1 rfl) ?_
  obtain ⟨v7, e8, h⟩ := obd_inv h
  refine hg_X3_9 F hK S e8 dX3_all_9 ?_
  refine lv_astore_n (lv' := [(3, .ref v7), (2, .ref q1), (0, .ref a0), (1, .int x1)]) hx hb dX3_all_12 rfl hl (by decide) rfl (fun ls hl => ?_)
  refine lv_aload_n hx hb dX3_all_13 rfl (lv_at hl 0 rfl) ?_
  obtain ⟨v9, e10, h⟩ := obd_inv h
  refine h_alen F hK S e10 dX3_all_14 ?_
  refine lv_istore (lv' := [(4, .int v9), (3, .ref v7), (2, .ref q1), (0, .ref a0), (1, .int x1)]) hx hb dX3_all_15 hl (by decide) rfl (fun ls hl => ?_)
  refine lv_iconst (v := 0) hx hb dX3_all_17 (by decide) ?_
  refine lv_istore (lv' := [(5, .int 0), (4, .int v9), (3, .ref v7), (2, .ref q1), (0, .ref a0), (1, .int x1)]) hx hb dX3_all_18 hl (by decide) rfl (fun ls hl => ?_)
  refine hloop_X3_all_1 F hr hlk hK _ _ _ h _ _ _ S (lv_sub hl [5, 3, 2, 1, 0] rfl) (fun w38 H locs ls h S hl => ?_)
  refine lv_aload_n hx hb dX3_all_69 rfl (lv_at hl 0 rfl) ?_
  exact h_aret F hr (Or.inl ⟨_, rfl⟩) hlk S h dX3_all_70
theorem hcl_X3_all_X3_82 {p : Program} {l : Launch} {e : Env} {s : State} {m : MethodId} {args : Array Value} {below : List Frame} {meth : Method} {c : Code} {R : Room} {H : Heap} {locs : List Loc} {cb sb pc nL : Nat} {Q : State → Prop} {ls : Array Slot} {rest : List Value} {cc : ByteArray} {E : hEnv} {A : Nat → Prop} {w : hW} {a0 : Nat} {x1 : Int32} {Q' : Nat → hO → Prop} {c1 s1 : Nat} (F : CallFix p m c cc nL s args lw_all RX3) (hK : hK E A s) (S : hS E A s.heap cb sb w H locs) (hrv : ∃ (b : Bool) (fs : List Value), w.1 a0 = some (b, .inl (3, fs))) (h1 : c1 ≤ w.2.1) (h2 : s1 ≤ w.2.2) (h : hf_X3_all E.2.2 (w.1, c1, s1) a0 x1 Q') (hrc : R.cells = cb) (hrs : R.slots = sb) (hls : ls.size = nL) (hWt : (rest.map fun v => v.category).sum ≤ 8) (hR : 7 + 1 ≤ R.frames ∧ 8 + (7 + 11) + 170 ≤ R.locals) (hdg : decode cc pc = .ok (.invokevirtual 82, 3))
    (kk : ∀ (v : Nat) (o : hO) (w' : hW) (H1 : Heap) (locs1 : List Loc), w' = (o, w.2.1 - c1, w.2.2 - s1) → Q' v o → hS E A s.heap cb sb w' H1 locs1 → W p l e R s m args below meth c H1 locs1 (cb - w'.2.1) (sb - w'.2.2) Q (F0 m (pc + 3) ls (.ref v :: rest))) : W p l e R s m args below meth c H locs (cb - w.2.1) (sb - w.2.2) Q (F0 m pc ls (.int x1 :: .ref a0 :: rest)) :=
  h_kp (g_runV F hK (hKm E A) S.1 (hmet_X3_all l E A (w.1, c1, s1) a0 x1 Q' h) (cwV 1 F.2.2.2.2 (lw_V q1510 q1233 q1234 q115 q1235) rfl rfl rfl (by decide +kernel) hR) (h_recv hK S (ci := 3) rfl hrv) rfl hls rfl hWt hdg ⟨by rw [hrc]; exact (h_left S h1 h2).1, by rw [hrs]; exact (h_left S h1 h2).2⟩) S h1 h2 kk
theorem hcl_J18_indexOf_X3_86 {p : Program} {l : Launch} {e : Env} {s : State} {m : MethodId} {args : Array Value} {below : List Frame} {meth : Method} {c : Code} {R : Room} {H : Heap} {locs : List Loc} {cb sb pc nL : Nat} {Q : State → Prop} {ls : Array Slot} {rest : List Value} {cc : ByteArray} {E : hEnv} {A : Nat → Prop} {w : hW} {a0 : Nat} {x1 : Nat} {Q' : Int32 → hO → Prop} {c1 s1 : Nat} (F : CallFix p m c cc nL s args lw_all RX3) (hK : hK E A s) (S : hS E A s.heap cb sb w H locs) (hrv : ∃ (b : Bool) (fs : List Value), w.1 a0 = some (b, .inl (13, fs))) (h1 : c1 ≤ w.2.1) (h2 : s1 ≤ w.2.2) (h : hf_J18_indexOf E.2.2 (w.1, c1, s1) a0 x1 Q') (hrc : R.cells = cb) (hrs : R.slots = sb) (hls : ls.size = nL) (hWt : (rest.map fun v => v.category).sum ≤ 8) (hR : 2 + 1 ≤ R.frames ∧ 8 + (2 + 11) + 46 ≤ R.locals) (hdg : decode cc pc = .ok (.invokevirtual 86, 3))
    (kk : ∀ (v : Int32) (o : hO) (w' : hW) (H1 : Heap) (locs1 : List Loc), w' = (o, w.2.1 - c1, w.2.2 - s1) → Q' v o → hS E A s.heap cb sb w' H1 locs1 → W p l e R s m args below meth c H1 locs1 (cb - w'.2.1) (sb - w'.2.2) Q (F0 m (pc + 3) ls (.int v :: rest))) : W p l e R s m args below meth c H locs (cb - w.2.1) (sb - w.2.2) Q (F0 m pc ls (.ref x1 :: .ref a0 :: rest)) :=
  h_ki (g_runV F hK (hKm E A) S.1 (hmet_J18_indexOf l E A (w.1, c1, s1) a0 x1 Q' h) (cwV 1 F.2.2.2.2 (lw_V q1511 q1512 q1513 q144 q1514) rfl rfl rfl (by decide +kernel) hR) (h_recv hK S (ci := 13) rfl hrv) rfl hls rfl hWt hdg ⟨by rw [hrc]; exact (h_left S h1 h2).1, by rw [hrs]; exact (h_left S h1 h2).2⟩) S h1 h2 kk
def hf_X3_numberOf (pl : Nat → Nat) (w : hW) (a0 : Nat) (x1 : Nat) (Q : Int32 → hO → Prop) : Prop :=
  obd (hInst 6 w x1) fun v1 =>
  obd (hIs w a0 3) fun u3 =>
  hcall w fun n5 n6 => hf_X3_all pl (w.1, n5, n6) a0 v1 fun v9 o8 => hret w n5 n6 o8 fun w7 =>
  obd (hIs w7 v9 13) fun u10 =>
  hcall w7 fun n12 n13 => hf_J18_indexOf pl (w7.1, n12, n13) v9 x1 fun v16 o15 => hret w7 n12 n13 o15 fun w14 =>
  Q v16 w14.1
abbrev hrm_X3_numberOf (c s : Nat) : Room := { frames := 8, cells := c, slots := s, locals := 196 }
set_option maxHeartbeats 4000000 in
set_option maxRecDepth 100000 in
theorem hmet_X3_numberOf (l : Launch) (E : hEnv) (A : Nat → Prop) (w : hW) (a0 : Nat) (x1 : Nat) (Q : Int32 → hO → Prop) (h : hf_X3_numberOf E.2.2 w a0 x1 Q) : Met l yX3_numberOf (ws_ yX3_numberOf cX3_numberOf 2 (some .int)) (hrm_X3_numberOf w.2.1 w.2.2) (va_Pc [.ref a0, .ref x1] (gPre (hK E A) (hP E A w.1))) (hQi E A Q) w.2.1 w.2.2 A := by
  refine h_met (own := RX3) (by decide +kernel) rfl (Nat.le_of_ble_eq_true rfl) ?_
  intro p e s m args below meth c ls cb sb F hr hlk hK S hl
  have hx := F.1
  have hb := F.2.1
  have hl : lv_has ls 2 [(0, .ref a0), (1, .ref x1)] := hl
  unfold hf_X3_numberOf at h
  refine lv_aload_n hx hb dX3_numberOf_0 rfl (lv_at hl 0 rfl) ?_
  refine lv_aload_n hx hb dX3_numberOf_1 rfl (lv_at hl 1 rfl) ?_
  obtain ⟨v1, e2, h⟩ := obd_inv h
  refine h_inst6 F hK S e2 q1128 dX3_numberOf_2 ?_
  obtain ⟨u3, e4, h⟩ := obd_inv h
  obtain ⟨n5, n6, h1, h2, h⟩ := hcall_inv h
  refine hcl_X3_all_X3_82 F hK S (hIs_inv e4) h1 h2 h rfl rfl hl.1 (Nat.le_of_ble_eq_true rfl) ⟨Nat.le_of_ble_eq_true rfl, Nat.le_of_ble_eq_true rfl⟩ dX3_numberOf_5 (fun v9 o8 w7 H locs hw h S => ?_)
  replace h := hret_mp h hw
  clear hw h1 h2
  refine lv_aload_n hx hb dX3_numberOf_8 rfl (lv_at hl 1 rfl) ?_
  obtain ⟨u10, e11, h⟩ := obd_inv h
  obtain ⟨n12, n13, h1, h2, h⟩ := hcall_inv h
  refine hcl_J18_indexOf_X3_86 F hK S (hIs_inv e11) h1 h2 h rfl rfl hl.1 (Nat.le_of_ble_eq_true rfl) ⟨Nat.le_of_ble_eq_true rfl, Nat.le_of_ble_eq_true rfl⟩ dX3_numberOf_9 (fun v16 o15 w14 H locs hw h S => ?_)
  replace h := hret_mp h hw
  clear hw h1 h2
  exact h_iret F hr hlk S h dX3_numberOf_12
theorem hg_X3_126 {p : Program} {l : Launch} {e : Env} {s : State} {m : MethodId} {args : Array Value} {below : List Frame} {meth : Method} {c : Code} {R : Room} {H : Heap} {locs : List Loc} {cb sb pc nL : Nat} {Q : State → Prop} {ls : Array Slot} {rest : List Value} {cc : ByteArray} {E : hEnv} {A : Nat → Prop} {w : hW} {a : Nat} {v : Int32} (F : CallFix p m c cc nL s args lw_all RX3) (hK : hK E A s) (S : hS E A s.heap cb sb w H locs) (h : hgI w a 7 2 = some v) (hdg : decode cc pc = .ok (.getfield 126, 3)) (kk : W p l e R s m args below meth c H locs (cb - w.2.1) (sb - w.2.2) Q (F0 m (pc + 3) ls (.int v :: rest))) : W p l e R s m args below meth c H locs (cb - w.2.1) (sb - w.2.2) Q (F0 m pc ls (.ref a :: rest)) := by
  obtain ⟨b, fs, ho, hv⟩ := hgI_inv h
  exact h_getN F hK S ho (ci := 7) (C := RX8) (T := TX8) (N := 3) (k := 2) rfl in_X8 (by decide) (hK.2.1.1 _ (List.mem_of_getElem? (i := 30) rfl)) (fun x h => h) hv hdg kk
theorem hg_X3_134 {p : Program} {l : Launch} {e : Env} {s : State} {m : MethodId} {args : Array Value} {below : List Frame} {meth : Method} {c : Code} {R : Room} {H : Heap} {locs : List Loc} {cb sb pc nL : Nat} {Q : State → Prop} {ls : Array Slot} {rest : List Value} {cc : ByteArray} {E : hEnv} {A : Nat → Prop} {w : hW} {a : Nat} {v : Int32} (F : CallFix p m c cc nL s args lw_all RX3) (hK : hK E A s) (S : hS E A s.heap cb sb w H locs) (h : hgI w a 6 4 = some v) (hdg : decode cc pc = .ok (.getfield 134, 3)) (kk : W p l e R s m args below meth c H locs (cb - w.2.1) (sb - w.2.2) Q (F0 m (pc + 3) ls (.int v :: rest))) : W p l e R s m args below meth c H locs (cb - w.2.1) (sb - w.2.2) Q (F0 m pc ls (.ref a :: rest)) := by
  obtain ⟨b, fs, ho, hv⟩ := hgI_inv h
  exact h_getN F hK S ho (ci := 6) (C := RX7) (T := TX7) (N := 6) (k := 4) rfl in_X7 (by decide) (hK.2.1.1 _ (List.mem_of_getElem? (i := 32) rfl)) (fun x h => h) hv hdg kk
def hL_X3_row_1 (pl : Nat → Nat) (Q : Nat → hO → Prop) (K : hW → Prop) (y1 : Nat) (y3 : Nat) (y4 : Int32) : Nat → hW → Int32 → Int32 → Prop
  | 0, _, _, _ => False
  | n + 1, w, y2, y5 =>
    hIf (y4 ≤ y5) (
      K w) <|
      obd (haP w y3 y5) fun v8 =>
      obd (hInst 6 w v8) fun v10 =>
      hjoin (fun (v48 : Int32) (g49 : hW) =>
        hL_X3_row_1 pl Q K y1 y3 y4 n g49 v48 (y5 + 1)) fun k51 =>
      hIf (v10 = 0) (
        obd (hInst 7 w v8) fun v29 =>
        hIf (v29 = 0) (
          k51 y2 w) <|
          obd (hInst 6 w v8) fun v32 =>
          hjoin (fun (v43 : Int32) =>
            obd (hsI 0 w y1 y2 v43) fun w44 =>
            k51 (y2 + 1) w44) fun k47 =>
          hIf (v32 = 0) (
            obd (hIs w v8 7) fun u35 =>
            obd (hgI w v8 7 2) fun v37 =>
            k47 v37) <|
            obd (hIs w v8 6) fun u39 =>
            obd (hgI w v8 6 4) fun v41 =>
            k47 v41) <|
        obd (hInst 6 w v8) fun v13 =>
        hjoin (fun (v24 : Int32) =>
          obd (hsI 0 w y1 y2 v24) fun w25 =>
          k51 (y2 + 1) w25) fun k28 =>
        hIf (v13 = 0) (
          obd (hIs w v8 7) fun u16 =>
          obd (hgI w v8 7 2) fun v18 =>
          k28 v18) <|
          obd (hIs w v8 6) fun u20 =>
          obd (hgI w v8 6 4) fun v22 =>
          k28 v22
def hf_X3_row (pl : Nat → Nat) (w : hW) (a0 : Nat) (Q : Nat → hO → Prop) : Prop :=
  hNewI 0 w 20 fun q1 w2 =>
  obd (hgP w2 a0 3 3) fun v3 =>
  obd (hLen w2 v3) fun v5 =>
  hL_X3_row_1 pl Q (fun (w52 : hW) =>
    Q q1 w52.1) q1 v3 v5 FUEL w2 0 0
abbrev hrm_X3_row (c s : Nat) : Room := { frames := 0, cells := c, slots := s, locals := 0 }
set_option maxHeartbeats 4000000 in
set_option maxRecDepth 100000 in
theorem hloop_X3_row_1 {p : Program} {l : Launch} {e : Env} {s : State} {m : MethodId} {args : Array Value} {below : List Frame} {meth : Method} {c : Code} {cb sb : Nat} {E : hEnv} {A : Nat → Prop} {Q : Nat → hO → Prop} {K : hW → Prop} {y1 : Nat} {y3 : Nat} {y4 : Int32} (F : CallFix p m c cX3_row 7 s args lw_all RX3) (hr : meth.sig.returnType = some (.array (.int))) (hlk : meth.locks = false) (hK : hK E A s) : ∀ (n : Nat) (w : hW) (y2 : Int32) (y5 : Int32), hL_X3_row_1 E.2.2 Q K y1 y3 y4 n w y2 y5 → ∀ (H : Heap) (locs : List Loc) (ls : Array Slot), hS E A s.heap cb sb w H locs → lv_has ls 7 [(1, .ref y1), (2, .int y2), (3, .ref y3), (4, .int y4), (5, .int y5)] → (∀ (wz : hW) (H : Heap) (locs : List Loc) (ls : Array Slot), K wz → hS E A s.heap cb sb wz H locs → lv_has ls 7 [(1, .ref y1)] → W p l e (hrm_X3_row cb sb) s m args below meth c H locs (cb - wz.2.1) (sb - wz.2.2) (MQ below (hQp E A Q) args s cb sb A) (F0 m 87 ls [])) → W p l e (hrm_X3_row cb sb) s m args below meth c H locs (cb - w.2.1) (sb - w.2.2) (MQ below (hQp E A Q) args s cb sb A) (F0 m 19 ls []) := by
  have hx := F.1
  have hb := F.2.1
  intro n
  induction n with
  | zero =>
    intro w y2 y5 h
    exact False.elim h
  | succ n ih =>
    intro w y2 y5 h H locs ls S hl kx
    rw [hL_X3_row_1] at h
    refine lv_iload hx hb dX3_row_19 (lv_at hl 4 rfl) ?_
    refine lv_iload hx hb dX3_row_21 (lv_at hl 3 rfl) ?_
    refine lv_icmp_ge (tgt := 87) hx hb dX3_row_23 (by decide) (fun c7 => ?_) (fun c7 => ?_)
    · rw [hIf_pos c7] at h
      exact kx _ _ _ _ h S (lv_sub hl [0] rfl)
    · rw [hIf_neg c7] at h
      refine lv_aload_n hx hb dX3_row_26 rfl (lv_at hl 2 rfl) ?_
      refine lv_iload hx hb dX3_row_27 (lv_at hl 4 rfl) ?_
      obtain ⟨v8, e9, h⟩ := obd_inv h
      refine h_aald F hK S e9 dX3_row_29 ?_
      refine lv_astore (lv' := [(6, .ref v8), (1, .ref y1), (2, .int y2), (3, .ref y3), (4, .int y4), (5, .int y5)]) hx hb dX3_row_30 hl (by decide) rfl (fun ls hl => ?_)
      refine lv_aload hx hb dX3_row_32 (lv_at hl 0 rfl) ?_
      obtain ⟨v10, e11, h⟩ := obd_inv h
      refine h_inst6 F hK S e11 q1128 dX3_row_34 ?_
      obtain ⟨k51, hk51, h⟩ := hj2_inv h
      have hJ81 : ∀ (v48 : Int32) (g49 : hW) (H : Heap) (locs : List Loc) (ls : Array Slot), k51 v48 g49 → hS E A s.heap cb sb g49 H locs → lv_has ls 7 [(1, .ref y1), (2, .int v48), (3, .ref y3), (4, .int y4), (5, .int y5)] → W p l e (hrm_X3_row cb sb) s m args below meth c H locs (cb - g49.2.1) (sb - g49.2.2) (MQ below (hQp E A Q) args s cb sb A) (F0 m 81 ls []) := by
        intro v48 g49 H locs ls h S hl
        replace h := hk51 _ _ h
        refine lv_iinc (v := (y5 + 1)) (lv' := [(5, .int (y5 + 1)), (1, .ref y1), (2, .int v48), (3, .ref y3), (4, .int y4)]) hx hb dX3_row_81 hl (k := 4) rfl rfl (by decide) rfl (fun ls hl => ?_)
        refine lv_goto (tgt := 19) hx hb dX3_row_84 (by decide) ?_
        exact ih _ _ _ h _ _ _ S (lv_sub hl [1, 2, 3, 4, 0] rfl) kx
      clear hk51
      refine lv_if_ne (tgt := 48) hx hb dX3_row_37 (by decide) (fun c12 => ?_) (fun c12 => ?_)
      · rw [hIf_neg c12] at h
        refine lv_aload_n hx hb dX3_row_48 rfl (lv_at hl 1 rfl) ?_
        refine lv_iload_n hx hb dX3_row_49 rfl (lv_at hl 2 rfl) ?_
        refine lv_aload hx hb dX3_row_50 (lv_at hl 0 rfl) ?_
        obtain ⟨v13, e14, h⟩ := obd_inv h
        refine h_inst6 F hK S e14 q1128 dX3_row_52 ?_
        obtain ⟨k28, hk28, h⟩ := hj1_inv h
        have hJ77 : ∀ (v24 : Int32) (H : Heap) (locs : List Loc) (ls : Array Slot), k28 v24 → hS E A s.heap cb sb w H locs → lv_has ls 7 [(1, .ref y1), (2, .int y2), (3, .ref y3), (4, .int y4), (5, .int y5)] → W p l e (hrm_X3_row cb sb) s m args below meth c H locs (cb - w.2.1) (sb - w.2.2) (MQ below (hQp E A Q) args s cb sb A) (F0 m 77 ls [.int v24, .int y2, .ref y1]) := by
          intro v24 H locs ls h S hl
          replace h := hk28 _ h
          obtain ⟨w25, e26, h⟩ := obd_inv h
          refine h_iast F hK S e26 dX3_row_77 (fun H locs S => ?_)
          refine lv_iinc (v := (y2 + 1)) (lv' := [(2, .int (y2 + 1)), (1, .ref y1), (3, .ref y3), (4, .int y4), (5, .int y5)]) hx hb dX3_row_78 hl (k := 1) rfl rfl (by decide) rfl (fun ls hl => ?_)
          exact hJ81 _ _ _ _ _ h S (lv_sub hl [1, 0, 2, 3, 4] rfl)
        clear hk28
        refine lv_if_eq (tgt := 69) hx hb dX3_row_55 (by decide) (fun c15 => ?_) (fun c15 => ?_)
        · rw [hIf_pos c15] at h
          refine lv_aload hx hb dX3_row_69 (lv_at hl 0 rfl) ?_
          obtain ⟨u16, e17, h⟩ := obd_inv h
          refine h_cast F hK S e17 rfl q463 dX3_row_71 ?_
          obtain ⟨v18, e19, h⟩ := obd_inv h
          refine hg_X3_126 F hK S e19 dX3_row_74 ?_
          exact hJ77 _ _ _ _ h S (lv_sub hl [1, 2, 3, 4, 5] rfl)
        · rw [hIf_neg c15] at h
          refine lv_aload hx hb dX3_row_58 (lv_at hl 0 rfl) ?_
          obtain ⟨u20, e21, h⟩ := obd_inv h
          refine h_cast F hK S e21 rfl q1128 dX3_row_60 ?_
          obtain ⟨v22, e23, h⟩ := obd_inv h
          refine hg_X3_134 F hK S e23 dX3_row_63 ?_
          refine lv_goto (tgt := 77) hx hb dX3_row_66 (by decide) ?_
          exact hJ77 _ _ _ _ h S (lv_sub hl [1, 2, 3, 4, 5] rfl)
      · rw [hIf_pos c12] at h
        refine lv_aload hx hb dX3_row_40 (lv_at hl 0 rfl) ?_
        obtain ⟨v29, e30, h⟩ := obd_inv h
        refine h_inst7 F hK S e30 q463 dX3_row_42 ?_
        refine lv_if_eq (tgt := 81) hx hb dX3_row_45 (by decide) (fun c31 => ?_) (fun c31 => ?_)
        · rw [hIf_pos c31] at h
          exact hJ81 _ _ _ _ _ h S (lv_sub hl [1, 2, 3, 4, 5] rfl)
        · rw [hIf_neg c31] at h
          refine lv_aload_n hx hb dX3_row_48 rfl (lv_at hl 1 rfl) ?_
          refine lv_iload_n hx hb dX3_row_49 rfl (lv_at hl 2 rfl) ?_
          refine lv_aload hx hb dX3_row_50 (lv_at hl 0 rfl) ?_
          obtain ⟨v32, e33, h⟩ := obd_inv h
          refine h_inst6 F hK S e33 q1128 dX3_row_52 ?_
          obtain ⟨k47, hk47, h⟩ := hj1_inv h
          have hJ77 : ∀ (v43 : Int32) (H : Heap) (locs : List Loc) (ls : Array Slot), k47 v43 → hS E A s.heap cb sb w H locs → lv_has ls 7 [(1, .ref y1), (2, .int y2), (3, .ref y3), (4, .int y4), (5, .int y5)] → W p l e (hrm_X3_row cb sb) s m args below meth c H locs (cb - w.2.1) (sb - w.2.2) (MQ below (hQp E A Q) args s cb sb A) (F0 m 77 ls [.int v43, .int y2, .ref y1]) := by
            intro v43 H locs ls h S hl
            replace h := hk47 _ h
            obtain ⟨w44, e45, h⟩ := obd_inv h
            refine h_iast F hK S e45 dX3_row_77 (fun H locs S => ?_)
            refine lv_iinc (v := (y2 + 1)) (lv' := [(2, .int (y2 + 1)), (1, .ref y1), (3, .ref y3), (4, .int y4), (5, .int y5)]) hx hb dX3_row_78 hl (k := 1) rfl rfl (by decide) rfl (fun ls hl => ?_)
            exact hJ81 _ _ _ _ _ h S (lv_sub hl [1, 0, 2, 3, 4] rfl)
          clear hk47
          refine lv_if_eq (tgt := 69) hx hb dX3_row_55 (by decide) (fun c34 => ?_) (fun c34 => ?_)
          · rw [hIf_pos c34] at h
            refine lv_aload hx hb dX3_row_69 (lv_at hl 0 rfl) ?_
            obtain ⟨u35, e36, h⟩ := obd_inv h
            refine h_cast F hK S e36 rfl q463 dX3_row_71 ?_
            obtain ⟨v37, e38, h⟩ := obd_inv h
            refine hg_X3_126 F hK S e38 dX3_row_74 ?_
            exact hJ77 _ _ _ _ h S (lv_sub hl [1, 2, 3, 4, 5] rfl)
          · rw [hIf_neg c34] at h
            refine lv_aload hx hb dX3_row_58 (lv_at hl 0 rfl) ?_
            obtain ⟨u39, e40, h⟩ := obd_inv h
            refine h_cast F hK S e40 rfl q1128 dX3_row_60 ?_
            obtain ⟨v41, e42, h⟩ := obd_inv h
            refine hg_X3_134 F hK S e42 dX3_row_63 ?_
            refine lv_goto (tgt := 77) hx hb dX3_row_66 (by decide) ?_
            exact hJ77 _ _ _ _ h S (lv_sub hl [1, 2, 3, 4, 5] rfl)
set_option maxHeartbeats 4000000 in
set_option maxRecDepth 100000 in
theorem hmet_X3_row (l : Launch) (E : hEnv) (A : Nat → Prop) (w : hW) (a0 : Nat) (Q : Nat → hO → Prop) (h : hf_X3_row E.2.2 w a0 Q) : Met l yX3_row (ws_ yX3_row cX3_row 7 (some (.array (.int)))) (hrm_X3_row w.2.1 w.2.2) (va_Pc [.ref a0] (gPre (hK E A) (hP E A w.1))) (hQp E A Q) w.2.1 w.2.2 A := by
  refine h_met (own := RX3) (by decide +kernel) rfl (Nat.le_of_ble_eq_true rfl) ?_
  intro p e s m args below meth c ls cb sb F hr hlk hK S hl
  have hx := F.1
  have hb := F.2.1
  have hl : lv_has ls 7 [(0, .ref a0)] := hl
  unfold hf_X3_row at h
  refine lv_bipush (v := 20) hx hb dX3_row_0 (by decide) ?_
  refine h_newaI F hK S rfl rfl h dX3_row_2 (fun q1 w2 H h S => ?_)
  refine lv_astore_n (lv' := [(1, .ref q1), (0, .ref a0)]) hx hb dX3_row_4 rfl hl (by decide) rfl (fun ls hl => ?_)
  refine lv_iconst (v := 0) hx hb dX3_row_5 (by decide) ?_
  refine lv_istore_n (lv' := [(2, .int 0), (1, .ref q1), (0, .ref a0)]) hx hb dX3_row_6 rfl hl (by decide) rfl (fun ls hl => ?_)
  refine lv_aload_n hx hb dX3_row_7 rfl (lv_at hl 2 rfl) ?_
  obtain ⟨v3, e4, h⟩ := obd_inv h
  refine hg_X3_9 F hK S e4 dX3_row_8 ?_
  refine lv_astore_n (lv' := [(3, .ref v3), (2, .int 0), (1, .ref q1), (0, .ref a0)]) hx hb dX3_row_11 rfl hl (by decide) rfl (fun ls hl => ?_)
  refine lv_aload_n hx hb dX3_row_12 rfl (lv_at hl 0 rfl) ?_
  obtain ⟨v5, e6, h⟩ := obd_inv h
  refine h_alen F hK S e6 dX3_row_13 ?_
  refine lv_istore (lv' := [(4, .int v5), (3, .ref v3), (2, .int 0), (1, .ref q1), (0, .ref a0)]) hx hb dX3_row_14 hl (by decide) rfl (fun ls hl => ?_)
  refine lv_iconst (v := 0) hx hb dX3_row_16 (by decide) ?_
  refine lv_istore (lv' := [(5, .int 0), (4, .int v5), (3, .ref v3), (2, .int 0), (1, .ref q1), (0, .ref a0)]) hx hb dX3_row_17 hl (by decide) rfl (fun ls hl => ?_)
  refine hloop_X3_row_1 F hr hlk hK _ _ _ _ h _ _ _ S (lv_sub hl [4, 3, 2, 1, 0] rfl) (fun w52 H locs ls h S hl => ?_)
  refine lv_aload_n hx hb dX3_row_87 rfl (lv_at hl 0 rfl) ?_
  exact h_aret F hr (Or.inr ⟨_, rfl⟩) hlk S h dX3_row_88
theorem hcl_J18_size_X3_177 {p : Program} {l : Launch} {e : Env} {s : State} {m : MethodId} {args : Array Value} {below : List Frame} {meth : Method} {c : Code} {R : Room} {H : Heap} {locs : List Loc} {cb sb pc nL : Nat} {Q : State → Prop} {ls : Array Slot} {rest : List Value} {cc : ByteArray} {E : hEnv} {A : Nat → Prop} {w : hW} {a0 : Nat} {Q' : Int32 → hO → Prop} {c1 s1 : Nat} (F : CallFix p m c cc nL s args lw_all RX3) (hK : hK E A s) (S : hS E A s.heap cb sb w H locs) (hrv : ∃ (b : Bool) (fs : List Value), w.1 a0 = some (b, .inl (13, fs))) (h1 : c1 ≤ w.2.1) (h2 : s1 ≤ w.2.2) (h : hf_J18_size E.2.2 (w.1, c1, s1) a0 Q') (hrc : R.cells = cb) (hrs : R.slots = sb) (hls : ls.size = nL) (hWt : (rest.map fun v => v.category).sum ≤ 8) (hR : 0 + 1 ≤ R.frames ∧ 8 + (1 + 11) + 0 ≤ R.locals) (hdg : decode cc pc = .ok (.invokevirtual 177, 3))
    (kk : ∀ (v : Int32) (o : hO) (w' : hW) (H1 : Heap) (locs1 : List Loc), w' = (o, w.2.1 - c1, w.2.2 - s1) → Q' v o → hS E A s.heap cb sb w' H1 locs1 → W p l e R s m args below meth c H1 locs1 (cb - w'.2.1) (sb - w'.2.2) Q (F0 m (pc + 3) ls (.int v :: rest))) : W p l e R s m args below meth c H locs (cb - w.2.1) (sb - w.2.2) Q (F0 m pc ls (.ref a0 :: rest)) :=
  h_ki (g_runV F hK (hKm E A) S.1 (hmet_J18_size l E A (w.1, c1, s1) a0 Q' h) (cwV 0 F.2.2.2.2 (lw_V q1754 q1280 q1281 q144 q1282) rfl rfl rfl (by decide +kernel) hR) (h_recv hK S (ci := 13) rfl hrv) rfl hls rfl hWt hdg ⟨by rw [hrc]; exact (h_left S h1 h2).1, by rw [hrs]; exact (h_left S h1 h2).2⟩) S h1 h2 kk
theorem hcl_J18_get_X3_180 {p : Program} {l : Launch} {e : Env} {s : State} {m : MethodId} {args : Array Value} {below : List Frame} {meth : Method} {c : Code} {R : Room} {H : Heap} {locs : List Loc} {cb sb pc nL : Nat} {Q : State → Prop} {ls : Array Slot} {rest : List Value} {cc : ByteArray} {E : hEnv} {A : Nat → Prop} {w : hW} {a0 : Nat} {x1 : Int32} {Q' : Nat → hO → Prop} {c1 s1 : Nat} (F : CallFix p m c cc nL s args lw_all RX3) (hK : hK E A s) (S : hS E A s.heap cb sb w H locs) (hrv : ∃ (b : Bool) (fs : List Value), w.1 a0 = some (b, .inl (13, fs))) (h1 : c1 ≤ w.2.1) (h2 : s1 ≤ w.2.2) (h : hf_J18_get E.2.2 (w.1, c1, s1) a0 x1 Q') (hrc : R.cells = cb) (hrs : R.slots = sb) (hls : ls.size = nL) (hWt : (rest.map fun v => v.category).sum ≤ 8) (hR : 2 + 1 ≤ R.frames ∧ 8 + (2 + 11) + 43 ≤ R.locals) (hdg : decode cc pc = .ok (.invokevirtual 180, 3))
    (kk : ∀ (v : Nat) (o : hO) (w' : hW) (H1 : Heap) (locs1 : List Loc), w' = (o, w.2.1 - c1, w.2.2 - s1) → Q' v o → hS E A s.heap cb sb w' H1 locs1 → W p l e R s m args below meth c H1 locs1 (cb - w'.2.1) (sb - w'.2.2) Q (F0 m (pc + 3) ls (.ref v :: rest))) : W p l e R s m args below meth c H locs (cb - w.2.1) (sb - w.2.2) Q (F0 m pc ls (.int x1 :: .ref a0 :: rest)) :=
  h_kp (g_runV F hK (hKm E A) S.1 (hmet_J18_get l E A (w.1, c1, s1) a0 x1 Q' h) (cwV 1 F.2.2.2.2 (lw_V q1755 q1663 q1664 q144 q1665) rfl rfl rfl (by decide +kernel) hR) (h_recv hK S (ci := 13) rfl hrv) rfl hls rfl hWt hdg ⟨by rw [hrc]; exact (h_left S h1 h2).1, by rw [hrs]; exact (h_left S h1 h2).2⟩) S h1 h2 kk
theorem hg_X3_144 {p : Program} {l : Launch} {e : Env} {s : State} {m : MethodId} {args : Array Value} {below : List Frame} {meth : Method} {c : Code} {R : Room} {H : Heap} {locs : List Loc} {cb sb pc nL : Nat} {Q : State → Prop} {ls : Array Slot} {rest : List Value} {cc : ByteArray} {E : hEnv} {A : Nat → Prop} {w : hW} {a : Nat} {v : Int32} (F : CallFix p m c cc nL s args lw_all RX3) (hK : hK E A s) (S : hS E A s.heap cb sb w H locs) (h : hgI w a 6 3 = some v) (hdg : decode cc pc = .ok (.getfield 144, 3)) (kk : W p l e R s m args below meth c H locs (cb - w.2.1) (sb - w.2.2) Q (F0 m (pc + 3) ls (.int v :: rest))) : W p l e R s m args below meth c H locs (cb - w.2.1) (sb - w.2.2) Q (F0 m pc ls (.ref a :: rest)) := by
  obtain ⟨b, fs, ho, hv⟩ := hgI_inv h
  exact h_getN F hK S ho (ci := 6) (C := RX7) (T := TX7) (N := 6) (k := 3) rfl in_X7 (by decide) (hK.2.1.1 _ (List.mem_of_getElem? (i := 33) rfl)) (fun x h => h) hv hdg kk
theorem hp_X3_144 {p : Program} {l : Launch} {e : Env} {s : State} {m : MethodId} {args : Array Value} {below : List Frame} {meth : Method} {c : Code} {R : Room} {H : Heap} {locs : List Loc} {cb sb pc nL : Nat} {Q : State → Prop} {ls : Array Slot} {rest : List Value} {cc : ByteArray} {E : hEnv} {A : Nat → Prop} {w : hW} {a : Nat} {w' : hW} {v : Int32} (F : CallFix p m c cc nL s args lw_all RX3) (hK : hK E A s) (S : hS E A s.heap cb sb w H locs) (h : hpV w a 6 3 (.int v) = some w') (hdg : decode cc pc = .ok (.putfield 144, 3)) (kk : ∀ (H1 : Heap) (locs1 : List Loc), hS E A s.heap cb sb w' H1 locs1 → W p l e R s m args below meth c H1 locs1 (cb - w'.2.1) (sb - w'.2.2) Q (F0 m (pc + 3) ls rest)) : W p l e R s m args below meth c H locs (cb - w.2.1) (sb - w.2.2) Q (F0 m pc ls (.int v :: .ref a :: rest)) :=
  h_putN F hK S h (ci := 6) (C := RX7) (T := TX7) (N := 6) (k := 3) rfl in_X7 tyX7 tyX7_ok nmX7 (by decide) (hK.2.1.1 _ (List.mem_of_getElem? (i := 33) rfl)) (fun x h => h) rfl (ty := .int) (by decide +kernel) rfl rfl hdg kk
def hL_X3_turns_1 (pl : Nat → Nat) (Q : hO → Prop) (K : hW → Prop) (y1 : Nat) (y2 : Int32) : Nat → hW → Int32 → Prop
  | 0, _, _ => False
  | n + 1, w, y3 =>
    obd (hIs w y1 13) fun u1 =>
    hcall w fun n3 n4 => hf_J18_size pl (w.1, n3, n4) y1 fun v7 o6 => hret w n3 n4 o6 fun w5 =>
    hIf (v7 ≤ y3) (
      K w5) <|
      obd (hIs w5 y1 13) fun u9 =>
      hcall w5 fun n11 n12 => hf_J18_get pl (w5.1, n11, n12) y1 y3 fun v15 o14 => hret w5 n11 n12 o14 fun w13 =>
      obd (hIs w13 v15 6) fun u16 =>
      obd (hgI w13 v15 6 3) fun v18 =>
      obd (hpV w13 v15 6 3 (.int (v18 ^^^ ((y2 >>> (y3 &&& 31)) &&& 1)))) fun w20 =>
      hL_X3_turns_1 pl Q K y1 y2 n w20 (y3 + 1)
def hf_X3_turns (pl : Nat → Nat) (w : hW) (a0 : Nat) (x1 : Nat) (x2 : Int32) (Q : hO → Prop) : Prop :=
  hL_X3_turns_1 pl Q (fun (w22 : hW) =>
    Q w22.1) x1 x2 FUEL w 0
abbrev hrm_X3_turns (c s : Nat) : Room := { frames := 3, cells := c, slots := s, locals := 64 }
set_option maxHeartbeats 4000000 in
set_option maxRecDepth 100000 in
theorem hloop_X3_turns_1 {p : Program} {l : Launch} {e : Env} {s : State} {m : MethodId} {args : Array Value} {below : List Frame} {meth : Method} {c : Code} {cb sb : Nat} {E : hEnv} {A : Nat → Prop} {Q : hO → Prop} {K : hW → Prop} {y1 : Nat} {y2 : Int32} (F : CallFix p m c cX3_turns 5 s args lw_all RX3) (hr : meth.sig.returnType = none) (hlk : meth.locks = false) (hK : hK E A s) : ∀ (n : Nat) (w : hW) (y3 : Int32), hL_X3_turns_1 E.2.2 Q K y1 y2 n w y3 → ∀ (H : Heap) (locs : List Loc) (ls : Array Slot), hS E A s.heap cb sb w H locs → lv_has ls 5 [(1, .ref y1), (2, .int y2), (3, .int y3)] → (∀ (wz : hW) (H : Heap) (locs : List Loc) (ls : Array Slot), K wz → hS E A s.heap cb sb wz H locs → lv_has ls 5 [] → W p l e (hrm_X3_turns cb sb) s m args below meth c H locs (cb - wz.2.1) (sb - wz.2.2) (MQ below (hQv E A Q) args s cb sb A) (F0 m 41 ls [])) → W p l e (hrm_X3_turns cb sb) s m args below meth c H locs (cb - w.2.1) (sb - w.2.2) (MQ below (hQv E A Q) args s cb sb A) (F0 m 2 ls []) := by
  have hx := F.1
  have hb := F.2.1
  intro n
  induction n with
  | zero =>
    intro w y3 h
    exact False.elim h
  | succ n ih =>
    intro w y3 h H locs ls S hl kx
    rw [hL_X3_turns_1] at h
    refine lv_iload_n hx hb dX3_turns_2 rfl (lv_at hl 2 rfl) ?_
    refine lv_aload_n hx hb dX3_turns_3 rfl (lv_at hl 0 rfl) ?_
    obtain ⟨u1, e2, h⟩ := obd_inv h
    obtain ⟨n3, n4, h1, h2, h⟩ := hcall_inv h
    refine hcl_J18_size_X3_177 F hK S (hIs_inv e2) h1 h2 h rfl rfl hl.1 (Nat.le_of_ble_eq_true rfl) ⟨Nat.le_of_ble_eq_true rfl, Nat.le_of_ble_eq_true rfl⟩ dX3_turns_4 (fun v7 o6 w5 H locs hw h S => ?_)
    replace h := hret_mp h hw
    clear hw h1 h2
    refine lv_icmp_ge (tgt := 41) hx hb dX3_turns_7 (by decide) (fun c8 => ?_) (fun c8 => ?_)
    · rw [hIf_pos c8] at h
      exact kx _ _ _ _ h S (lv_sub hl [] rfl)
    · rw [hIf_neg c8] at h
      refine lv_aload_n hx hb dX3_turns_10 rfl (lv_at hl 0 rfl) ?_
      refine lv_iload_n hx hb dX3_turns_11 rfl (lv_at hl 2 rfl) ?_
      obtain ⟨u9, e10, h⟩ := obd_inv h
      obtain ⟨n11, n12, h1, h2, h⟩ := hcall_inv h
      refine hcl_J18_get_X3_180 F hK S (hIs_inv e10) h1 h2 h rfl rfl hl.1 (Nat.le_of_ble_eq_true rfl) ⟨Nat.le_of_ble_eq_true rfl, Nat.le_of_ble_eq_true rfl⟩ dX3_turns_12 (fun v15 o14 w13 H locs hw h S => ?_)
      replace h := hret_mp h hw
      clear hw h1 h2
      obtain ⟨u16, e17, h⟩ := obd_inv h
      refine h_cast F hK S e17 rfl q1128 dX3_turns_15 ?_
      refine lv_astore (lv' := [(4, .ref v15), (1, .ref y1), (2, .int y2), (3, .int y3)]) hx hb dX3_turns_18 hl (by decide) rfl (fun ls hl => ?_)
      refine lv_aload hx hb dX3_turns_20 (lv_at hl 0 rfl) ?_
      refine lv_dup hx hb dX3_turns_22 rfl ?_
      obtain ⟨v18, e19, h⟩ := obd_inv h
      refine hg_X3_144 F hK S e19 dX3_turns_23 ?_
      refine lv_iload_n hx hb dX3_turns_26 rfl (lv_at hl 2 rfl) ?_
      refine lv_iload_n hx hb dX3_turns_27 rfl (lv_at hl 3 rfl) ?_
      refine lv_ishr hx hb dX3_turns_28 ?_
      refine lv_iconst (v := 1) hx hb dX3_turns_29 (by decide) ?_
      refine lv_iand hx hb dX3_turns_30 ?_
      refine lv_ixor hx hb dX3_turns_31 ?_
      obtain ⟨w20, e21, h⟩ := obd_inv h
      refine hp_X3_144 F hK S e21 dX3_turns_32 (fun H locs S => ?_)
      refine lv_iinc (v := (y3 + 1)) (lv' := [(3, .int (y3 + 1)), (4, .ref v15), (1, .ref y1), (2, .int y2)]) hx hb dX3_turns_35 hl (k := 3) rfl rfl (by decide) rfl (fun ls hl => ?_)
      refine lv_goto (tgt := 2) hx hb dX3_turns_38 (by decide) ?_
      exact ih _ _ h _ _ _ S (lv_sub hl [2, 3, 0] rfl) kx
set_option maxHeartbeats 4000000 in
set_option maxRecDepth 100000 in
theorem hmet_X3_turns (l : Launch) (E : hEnv) (A : Nat → Prop) (w : hW) (a0 : Nat) (x1 : Nat) (x2 : Int32) (Q : hO → Prop) (h : hf_X3_turns E.2.2 w a0 x1 x2 Q) : Met l yX3_turns (ws_ yX3_turns cX3_turns 5 (none)) (hrm_X3_turns w.2.1 w.2.2) (va_Pc [.ref a0, .ref x1, .int x2] (gPre (hK E A) (hP E A w.1))) (hQv E A Q) w.2.1 w.2.2 A := by
  refine h_met (own := RX3) (by decide +kernel) rfl (Nat.le_of_ble_eq_true rfl) ?_
  intro p e s m args below meth c ls cb sb F hr hlk hK S hl
  have hx := F.1
  have hb := F.2.1
  have hl : lv_has ls 5 [(0, .ref a0), (1, .ref x1), (2, .int x2)] := hl
  unfold hf_X3_turns at h
  refine lv_iconst (v := 0) hx hb dX3_turns_0 (by decide) ?_
  refine lv_istore_n (lv' := [(3, .int 0), (0, .ref a0), (1, .ref x1), (2, .int x2)]) hx hb dX3_turns_1 rfl hl (by decide) rfl (fun ls hl => ?_)
  refine hloop_X3_turns_1 F hr hlk hK _ _ _ h _ _ _ S (lv_sub hl [2, 3, 0] rfl) (fun w22 H locs ls h S hl => ?_)
  exact h_vret F hr hlk S h dX3_turns_41
