/-! static methods of whole numbers (printed by gen/emit_pure.py) -/
set_option maxRecDepth 100000
abbrev rm_p_isIn : Room := { frames := 0, cells := 0, slots := 0, locals := 0 }
def fp_isIn (g : mS) (x1 : Int32) (x2 : Int32) (x3 : Int32) : Option (Int32) :=
  bd1 ((
    if x1 < x2 then
      some 0
    else
      if x3 < x1 then
        some 0
      else
        some 1) : Option (Int32)) fun v3 =>
  some (zN v3)
set_option maxHeartbeats 4000000 in
set_option maxRecDepth 100000 in
theorem met_p_isIn (l : Launch) {A : Nat → Prop} {P : Heap → Prop} {K : State → Prop} (g : mS) (x1 : Int32) (x2 : Int32) (x3 : Int32) (r : Int32) (h : fp_isIn g x1 x2 x3 = some r) : Met l yX1_isIn (ws_ yX1_isIn cX1_isIn 3 (some .boolean)) rm_p_isIn (va_Pc [.int x1, .int x2, .int x3] (gPre K P)) (gQi r (P) A) 0 0 A := by
  refine g_met (own := RX1) (by decide) rfl (Nat.le_of_ble_eq_true rfl) ?_
  intro p e s m args below meth c ls F hr hlk hK S hl
  have hx := F.1
  have hb := F.2.1
  have hl : lv_has ls 3 [(0, .int x1), (1, .int x2), (2, .int x3)] := hl
  unfold fp_isIn at h
  refine lv_iload_n hx hb dX1_isIn_0 rfl (lv_at hl 0 rfl) ?_
  refine lv_iload_n hx hb dX1_isIn_1 rfl (lv_at hl 1 rfl) ?_
  obtain ⟨v3, hB, h⟩ := bd1_inv h
  have hJ15 : ∀ (H : Heap) (locs : List Loc) (ls : Array Slot), gS A s.heap (P) H locs → lv_has ls 3 [] → W p l e rm_p_isIn s m args below meth c H locs 0 0 (MQ below (gQi r (P) A) args s 0 0 A) (F0 m 15 ls [.int v3]) := by
    intro H locs ls S hl
    cases h
    exact g_zret F hr hlk S rfl dX1_isIn_15
  clear h
  have h := hB
  clear hB
  refine lv_icmp_lt (tgt := 14) hx hb dX1_isIn_2 (by decide) (fun c1 => ?_) (fun c1 => ?_)
  · rw [if_pos c1] at h
    refine lv_iconst (v := 0) hx hb dX1_isIn_14 (by decide) ?_
    cases h
    exact hJ15 _ _ _ S (lv_sub hl [] rfl)
  · rw [if_neg c1] at h
    refine lv_iload_n hx hb dX1_isIn_5 rfl (lv_at hl 0 rfl) ?_
    refine lv_iload_n hx hb dX1_isIn_6 rfl (lv_at hl 2 rfl) ?_
    refine lv_icmp_gt (tgt := 14) hx hb dX1_isIn_7 (by decide) (fun c2 => ?_) (fun c2 => ?_)
    · rw [if_pos c2] at h
      refine lv_iconst (v := 0) hx hb dX1_isIn_14 (by decide) ?_
      cases h
      exact hJ15 _ _ _ S (lv_sub hl [] rfl)
    · rw [if_neg c2] at h
      refine lv_iconst (v := 1) hx hb dX1_isIn_10 (by decide) ?_
      refine lv_goto (tgt := 15) hx hb dX1_isIn_11 (by decide) ?_
      cases h
      exact hJ15 _ _ _ S (lv_sub hl [] rfl)
theorem call_p_isIn_X1_165 {p : Program} {l : Launch} {e : Env} {s : State} {m : MethodId} {args : Array Value} {below : List Frame} {meth : Method} {c : Code} {R : Room} {H : Heap} {locs : List Loc} {cells slots pc nL : Nat} {Q : State → Prop} {ls : Array Slot} {rest : List Value} {cc : ByteArray} {A : Nat → Prop} {P : Heap → Prop} {K : State → Prop} {g : mS} {x1 : Int32} {x2 : Int32} {x3 : Int32} {r : Int32} (hKm : gKm K A) (F : CallFix p m c cc nL s args lw_all RX1) (hK : K s) (S : gS A s.heap P H locs) (h : fp_isIn g x1 x2 x3 = some r) (hls : ls.size = nL) (hW : (rest.map fun v => v.category).sum ≤ 8) (hR : rm_p_isIn.frames + 1 ≤ R.frames ∧ 8 + (3 + 11) + rm_p_isIn.locals ≤ R.locals) (hf : cells ≤ R.cells ∧ slots ≤ R.slots) (hdg : decode cc pc = .ok (.invokestatic 165, 3))
    (kk : ∀ (H1 : Heap) (locs1 : List Loc), gS A s.heap P H1 locs1 → W p l e R s m args below meth c H1 locs1 cells slots Q (F0 m (pc + 3) ls (.int r :: rest))) : W p l e R s m args below meth c H locs cells slots Q (F0 m pc ls (.int x3 :: .int x2 :: .int x1 :: rest)) :=
  g_ki (g_runS F hK hKm S (met_p_isIn l g x1 x2 x3 r h) (va_cwS 3 F.2.2.2.2 (lw_S q1428 q418 q111 q419) rfl rfl rfl (by decide +kernel) hR) rfl hls rfl hW hdg hf) S kk
theorem call_p_isIn_X10_44 {p : Program} {l : Launch} {e : Env} {s : State} {m : MethodId} {args : Array Value} {below : List Frame} {meth : Method} {c : Code} {R : Room} {H : Heap} {locs : List Loc} {cells slots pc nL : Nat} {Q : State → Prop} {ls : Array Slot} {rest : List Value} {cc : ByteArray} {A : Nat → Prop} {P : Heap → Prop} {K : State → Prop} {g : mS} {x1 : Int32} {x2 : Int32} {x3 : Int32} {r : Int32} (hKm : gKm K A) (F : CallFix p m c cc nL s args lw_all RX10) (hK : K s) (S : gS A s.heap P H locs) (hlink : va_Nw (.methodLinkNest RX10 44 yX1_isIn "MirrorDoors") s) (h : fp_isIn g x1 x2 x3 = some r) (hls : ls.size = nL) (hW : (rest.map fun v => v.category).sum ≤ 8) (hR : rm_p_isIn.frames + 1 ≤ R.frames ∧ 8 + (3 + 11) + rm_p_isIn.locals ≤ R.locals) (hf : cells ≤ R.cells ∧ slots ≤ R.slots) (hdg : decode cc pc = .ok (.invokestatic 44, 3))
    (kk : ∀ (H1 : Heap) (locs1 : List Loc), gS A s.heap P H1 locs1 → W p l e R s m args below meth c H1 locs1 cells slots Q (F0 m (pc + 3) ls (.int r :: rest))) : W p l e R s m args below meth c H locs cells slots Q (F0 m pc ls (.int x3 :: .int x2 :: .int x1 :: rest)) :=
  g_ki (g_runSN F hK hKm S (met_p_isIn l g x1 x2 x3 r h) ⟨va_cnB 3 F.2.2.2.2 (lw_meth q419) rfl rfl rfl hlink (F.2.2.2.2 _ q111) (by decide +kernel) hR, F.2.2.2.2 _ q418, trivial⟩ rfl hls rfl hW hdg hf) S kk
theorem call_p_isIn_X3_60 {p : Program} {l : Launch} {e : Env} {s : State} {m : MethodId} {args : Array Value} {below : List Frame} {meth : Method} {c : Code} {R : Room} {H : Heap} {locs : List Loc} {cells slots pc nL : Nat} {Q : State → Prop} {ls : Array Slot} {rest : List Value} {cc : ByteArray} {A : Nat → Prop} {P : Heap → Prop} {K : State → Prop} {g : mS} {x1 : Int32} {x2 : Int32} {x3 : Int32} {r : Int32} (hKm : gKm K A) (F : CallFix p m c cc nL s args lw_all RX3) (hK : K s) (S : gS A s.heap P H locs) (hlink : va_Nw (.methodLinkNest RX3 60 yX1_isIn "MirrorDoors") s) (h : fp_isIn g x1 x2 x3 = some r) (hls : ls.size = nL) (hW : (rest.map fun v => v.category).sum ≤ 8) (hR : rm_p_isIn.frames + 1 ≤ R.frames ∧ 8 + (3 + 11) + rm_p_isIn.locals ≤ R.locals) (hf : cells ≤ R.cells ∧ slots ≤ R.slots) (hdg : decode cc pc = .ok (.invokestatic 60, 3))
    (kk : ∀ (H1 : Heap) (locs1 : List Loc), gS A s.heap P H1 locs1 → W p l e R s m args below meth c H1 locs1 cells slots Q (F0 m (pc + 3) ls (.int r :: rest))) : W p l e R s m args below meth c H locs cells slots Q (F0 m pc ls (.int x3 :: .int x2 :: .int x1 :: rest)) :=
  g_ki (g_runSN F hK hKm S (met_p_isIn l g x1 x2 x3 r h) ⟨va_cnB 3 F.2.2.2.2 (lw_meth q419) rfl rfl rfl hlink (F.2.2.2.2 _ q111) (by decide +kernel) hR, F.2.2.2.2 _ q418, trivial⟩ rfl hls rfl hW hdg hf) S kk
abbrev rm_p_bitCount : Room := { frames := 0, cells := 0, slots := 0, locals := 0 }
def fp_bitCount (g : mS) (x1 : Int32) : Option (Int32) :=
  some ((((((((x1 - ((ush x1 1) &&& 1431655765)) &&& 858993459) + ((ush (x1 - ((ush x1 1) &&& 1431655765)) 2) &&& 858993459)) + (ush (((x1 - ((ush x1 1) &&& 1431655765)) &&& 858993459) + ((ush (x1 - ((ush x1 1) &&& 1431655765)) 2) &&& 858993459)) 4)) &&& 252645135) + (ush (((((x1 - ((ush x1 1) &&& 1431655765)) &&& 858993459) + ((ush (x1 - ((ush x1 1) &&& 1431655765)) 2) &&& 858993459)) + (ush (((x1 - ((ush x1 1) &&& 1431655765)) &&& 858993459) + ((ush (x1 - ((ush x1 1) &&& 1431655765)) 2) &&& 858993459)) 4)) &&& 252645135) 8)) + (ush ((((((x1 - ((ush x1 1) &&& 1431655765)) &&& 858993459) + ((ush (x1 - ((ush x1 1) &&& 1431655765)) 2) &&& 858993459)) + (ush (((x1 - ((ush x1 1) &&& 1431655765)) &&& 858993459) + ((ush (x1 - ((ush x1 1) &&& 1431655765)) 2) &&& 858993459)) 4)) &&& 252645135) + (ush (((((x1 - ((ush x1 1) &&& 1431655765)) &&& 858993459) + ((ush (x1 - ((ush x1 1) &&& 1431655765)) 2) &&& 858993459)) + (ush (((x1 - ((ush x1 1) &&& 1431655765)) &&& 858993459) + ((ush (x1 - ((ush x1 1) &&& 1431655765)) 2) &&& 858993459)) 4)) &&& 252645135) 8)) 16)) &&& 63)
set_option maxHeartbeats 4000000 in
set_option maxRecDepth 100000 in
theorem met_p_bitCount (l : Launch) {A : Nat → Prop} {P : Heap → Prop} {K : State → Prop} (g : mS) (x1 : Int32) (r : Int32) (h : fp_bitCount g x1 = some r) : Met l yJ15_bitCount (ws_ yJ15_bitCount cJ15_bitCount 1 (some .int)) rm_p_bitCount (va_Pc [.int x1] (gPre K P)) (gQi r (P) A) 0 0 A := by
  refine g_met (own := RJ15) (by decide) rfl (Nat.le_of_ble_eq_true rfl) ?_
  intro p e s m args below meth c ls F hr hlk hK S hl
  have hx := F.1
  have hb := F.2.1
  have hl : lv_has ls 1 [(0, .int x1)] := hl
  unfold fp_bitCount at h
  refine lv_iload_n hx hb dJ15_bitCount_0 rfl (lv_at hl 0 rfl) ?_
  refine lv_iload_n hx hb dJ15_bitCount_1 rfl (lv_at hl 0 rfl) ?_
  refine lv_iconst (v := 1) hx hb dJ15_bitCount_2 (by decide) ?_
  refine lv_iushr hx hb dJ15_bitCount_3 rfl ?_
  refine lv_ldcw (v := 1431655765) hx hb F.2.2.2.1 (F.2.2.2.2 _ q1681) dJ15_bitCount_4 ?_
  refine lv_iand hx hb dJ15_bitCount_7 ?_
  refine lv_isub hx hb dJ15_bitCount_8 ?_
  refine lv_istore_n (lv' := [(0, .int (x1 - ((ush x1 1) &&& 1431655765)))]) hx hb dJ15_bitCount_9 rfl hl (by decide) rfl (fun ls hl => ?_)
  refine lv_iload_n hx hb dJ15_bitCount_10 rfl (lv_at hl 0 rfl) ?_
  refine lv_ldcw (v := 858993459) hx hb F.2.2.2.1 (F.2.2.2.2 _ q1682) dJ15_bitCount_11 ?_
  refine lv_iand hx hb dJ15_bitCount_14 ?_
  refine lv_iload_n hx hb dJ15_bitCount_15 rfl (lv_at hl 0 rfl) ?_
  refine lv_iconst (v := 2) hx hb dJ15_bitCount_16 (by decide) ?_
  refine lv_iushr hx hb dJ15_bitCount_17 rfl ?_
  refine lv_ldcw (v := 858993459) hx hb F.2.2.2.1 (F.2.2.2.2 _ q1682) dJ15_bitCount_18 ?_
  refine lv_iand hx hb dJ15_bitCount_21 ?_
  refine lv_iadd hx hb dJ15_bitCount_22 ?_
  refine lv_istore_n (lv' := [(0, .int (((x1 - ((ush x1 1) &&& 1431655765)) &&& 858993459) + ((ush (x1 - ((ush x1 1) &&& 1431655765)) 2) &&& 858993459)))]) hx hb dJ15_bitCount_23 rfl hl (by decide) rfl (fun ls hl => ?_)
  refine lv_iload_n hx hb dJ15_bitCount_24 rfl (lv_at hl 0 rfl) ?_
  refine lv_iload_n hx hb dJ15_bitCount_25 rfl (lv_at hl 0 rfl) ?_
  refine lv_iconst (v := 4) hx hb dJ15_bitCount_26 (by decide) ?_
  refine lv_iushr hx hb dJ15_bitCount_27 rfl ?_
  refine lv_iadd hx hb dJ15_bitCount_28 ?_
  refine lv_ldcw (v := 252645135) hx hb F.2.2.2.1 (F.2.2.2.2 _ q1683) dJ15_bitCount_29 ?_
  refine lv_iand hx hb dJ15_bitCount_32 ?_
  refine lv_istore_n (lv' := [(0, .int (((((x1 - ((ush x1 1) &&& 1431655765)) &&& 858993459) + ((ush (x1 - ((ush x1 1) &&& 1431655765)) 2) &&& 858993459)) + (ush (((x1 - ((ush x1 1) &&& 1431655765)) &&& 858993459) + ((ush (x1 - ((ush x1 1) &&& 1431655765)) 2) &&& 858993459)) 4)) &&& 252645135))]) hx hb dJ15_bitCount_33 rfl hl (by decide) rfl (fun ls hl => ?_)
  refine lv_iload_n hx hb dJ15_bitCount_34 rfl (lv_at hl 0 rfl) ?_
  refine lv_iload_n hx hb dJ15_bitCount_35 rfl (lv_at hl 0 rfl) ?_
  refine lv_bipush (v := 8) hx hb dJ15_bitCount_36 (by decide) ?_
  refine lv_iushr hx hb dJ15_bitCount_38 rfl ?_
  refine lv_iadd hx hb dJ15_bitCount_39 ?_
  refine lv_istore_n (lv' := [(0, .int ((((((x1 - ((ush x1 1) &&& 1431655765)) &&& 858993459) + ((ush (x1 - ((ush x1 1) &&& 1431655765)) 2) &&& 858993459)) + (ush (((x1 - ((ush x1 1) &&& 1431655765)) &&& 858993459) + ((ush (x1 - ((ush x1 1) &&& 1431655765)) 2) &&& 858993459)) 4)) &&& 252645135) + (ush (((((x1 - ((ush x1 1) &&& 1431655765)) &&& 858993459) + ((ush (x1 - ((ush x1 1) &&& 1431655765)) 2) &&& 858993459)) + (ush (((x1 - ((ush x1 1) &&& 1431655765)) &&& 858993459) + ((ush (x1 - ((ush x1 1) &&& 1431655765)) 2) &&& 858993459)) 4)) &&& 252645135) 8)))]) hx hb dJ15_bitCount_40 rfl hl (by decide) rfl (fun ls hl => ?_)
  refine lv_iload_n hx hb dJ15_bitCount_41 rfl (lv_at hl 0 rfl) ?_
  refine lv_iload_n hx hb dJ15_bitCount_42 rfl (lv_at hl 0 rfl) ?_
  refine lv_bipush (v := 16) hx hb dJ15_bitCount_43 (by decide) ?_
  refine lv_iushr hx hb dJ15_bitCount_45 rfl ?_
  refine lv_iadd hx hb dJ15_bitCount_46 ?_
  refine lv_istore_n (lv' := [(0, .int (((((((x1 - ((ush x1 1) &&& 1431655765)) &&& 858993459) + ((ush (x1 - ((ush x1 1) &&& 1431655765)) 2) &&& 858993459)) + (ush (((x1 - ((ush x1 1) &&& 1431655765)) &&& 858993459) + ((ush (x1 - ((ush x1 1) &&& 1431655765)) 2) &&& 858993459)) 4)) &&& 252645135) + (ush (((((x1 - ((ush x1 1) &&& 1431655765)) &&& 858993459) + ((ush (x1 - ((ush x1 1) &&& 1431655765)) 2) &&& 858993459)) + (ush (((x1 - ((ush x1 1) &&& 1431655765)) &&& 858993459) + ((ush (x1 - ((ush x1 1) &&& 1431655765)) 2) &&& 858993459)) 4)) &&& 252645135) 8)) + (ush ((((((x1 - ((ush x1 1) &&& 1431655765)) &&& 858993459) + ((ush (x1 - ((ush x1 1) &&& 1431655765)) 2) &&& 858993459)) + (ush (((x1 - ((ush x1 1) &&& 1431655765)) &&& 858993459) + ((ush (x1 - ((ush x1 1) &&& 1431655765)) 2) &&& 858993459)) 4)) &&& 252645135) + (ush (((((x1 - ((ush x1 1) &&& 1431655765)) &&& 858993459) + ((ush (x1 - ((ush x1 1) &&& 1431655765)) 2) &&& 858993459)) + (ush (((x1 - ((ush x1 1) &&& 1431655765)) &&& 858993459) + ((ush (x1 - ((ush x1 1) &&& 1431655765)) 2) &&& 858993459)) 4)) &&& 252645135) 8)) 16)))]) hx hb dJ15_bitCount_47 rfl hl (by decide) rfl (fun ls hl => ?_)
  refine lv_iload_n hx hb dJ15_bitCount_48 rfl (lv_at hl 0 rfl) ?_
  refine lv_bipush (v := 63) hx hb dJ15_bitCount_49 (by decide) ?_
  refine lv_iand hx hb dJ15_bitCount_51 ?_
  cases h
  exact g_iret F hr hlk S rfl dJ15_bitCount_52
theorem call_p_bitCount_X1_253 {p : Program} {l : Launch} {e : Env} {s : State} {m : MethodId} {args : Array Value} {below : List Frame} {meth : Method} {c : Code} {R : Room} {H : Heap} {locs : List Loc} {cells slots pc nL : Nat} {Q : State → Prop} {ls : Array Slot} {rest : List Value} {cc : ByteArray} {A : Nat → Prop} {P : Heap → Prop} {K : State → Prop} {g : mS} {x1 : Int32} {r : Int32} (hKm : gKm K A) (F : CallFix p m c cc nL s args lw_all RX1) (hK : K s) (S : gS A s.heap P H locs) (h : fp_bitCount g x1 = some r) (hls : ls.size = nL) (hW : (rest.map fun v => v.category).sum ≤ 8) (hR : rm_p_bitCount.frames + 1 ≤ R.frames ∧ 8 + (1 + 11) + rm_p_bitCount.locals ≤ R.locals) (hf : cells ≤ R.cells ∧ slots ≤ R.slots) (hdg : decode cc pc = .ok (.invokestatic 253, 3))
    (kk : ∀ (H1 : Heap) (locs1 : List Loc), gS A s.heap P H1 locs1 → W p l e R s m args below meth c H1 locs1 cells slots Q (F0 m (pc + 3) ls (.int r :: rest))) : W p l e R s m args below meth c H locs cells slots Q (F0 m pc ls (.int x1 :: rest)) :=
  g_ki (g_runS F hK hKm S (met_p_bitCount l g x1 r h) (va_cwS 1 F.2.2.2.2 (lw_S q1678 q1679 q138 q1680) rfl rfl rfl (by decide +kernel) hR) rfl hls rfl hW hdg hf) S kk
