/-! THE COMPONENT: what is known all through (cK), and the rows' ground -/
set_option maxRecDepth 100000
def nwFl : List (String × Nat × String × String × String × String) := [("MirrorDoors", 67, "MirrorDoors$World", "limit", "I", "MirrorDoors"), ("MirrorDoors", 74, "MirrorDoors$World", "cells", "[LMirrorDoors$Cell;", "MirrorDoors"), ("MirrorDoors", 110, "MirrorDoors$World", "moves", "I", "MirrorDoors"), ("MirrorDoors", 140, "MirrorDoors$TextException", "position", "I", "MirrorDoors"), ("MirrorDoors", 143, "MirrorDoors$TextException", "code", "I", "MirrorDoors"), ("MirrorDoors", 189, "MirrorDoors$World", "lamp", "I", "MirrorDoors"), ("MirrorDoors", 196, "MirrorDoors$World", "lock", "I", "MirrorDoors"), ("MirrorDoors", 222, "MirrorDoors$World", "wide", "I", "MirrorDoors"), ("MirrorDoors", 225, "MirrorDoors$World", "high", "I", "MirrorDoors"), ("MirrorDoors", 263, "MirrorDoors$Mirror", "slant", "I", "MirrorDoors"), ("MirrorDoors", 266, "MirrorDoors$Mirror", "owner", "I", "MirrorDoors"), ("MirrorDoors", 268, "MirrorDoors$Mirror", "lock", "I", "MirrorDoors"), ("MirrorDoors", 269, "MirrorDoors$Mirror", "half", "Z", "MirrorDoors"), ("MirrorDoors", 273, "MirrorDoors$Mirror", "turns", "I", "MirrorDoors"), ("MirrorDoors", 280, "MirrorDoors$Door", "owner", "I", "MirrorDoors"), ("MirrorDoors", 284, "MirrorDoors$Door", "opened", "I", "MirrorDoors"), ("MirrorDoors", 287, "MirrorDoors$Ray", "many", "I", "MirrorDoors"), ("MirrorDoors", 292, "MirrorDoors$Ray", "exits", "I", "MirrorDoors"), ("MirrorDoors", 308, "MirrorDoors$Ray", "beams", "[I", "MirrorDoors"), ("MirrorDoors$Ray", 30, "MirrorDoors", "DX", "[I", "MirrorDoors"), ("MirrorDoors$Ray", 33, "MirrorDoors", "DY", "[I", "MirrorDoors"), ("MirrorDoors$Ray", 53, "MirrorDoors$World", "cells", "[LMirrorDoors$Cell;", "MirrorDoors"), ("MirrorDoors$Ray", 66, "MirrorDoors$World", "lamp", "I", "MirrorDoors"), ("MirrorDoors$Reader", 19, "MirrorDoors", "buffer", "[B", "MirrorDoors"), ("MirrorDoors$Reader", 83, "MirrorDoors$World", "wide", "I", "MirrorDoors"), ("MirrorDoors$Reader", 91, "MirrorDoors$World", "high", "I", "MirrorDoors"), ("MirrorDoors$Reader", 94, "MirrorDoors$World", "cells", "[LMirrorDoors$Cell;", "MirrorDoors"), ("MirrorDoors$Reader", 188, "MirrorDoors$World", "lock", "I", "MirrorDoors"), ("MirrorDoors$Reader", 190, "MirrorDoors$World", "limit", "I", "MirrorDoors"), ("MirrorDoors$Reader", 198, "MirrorDoors", "ray", "LMirrorDoors$Ray;", "MirrorDoors"), ("MirrorDoors$World", 126, "MirrorDoors$Door", "opened", "I", "MirrorDoors"), ("MirrorDoors$World", 129, "MirrorDoors$Mirror", "owner", "I", "MirrorDoors"), ("MirrorDoors$World", 134, "MirrorDoors$Mirror", "lock", "I", "MirrorDoors"), ("MirrorDoors$World", 144, "MirrorDoors$Mirror", "slant", "I", "MirrorDoors"), ("MirrorDoors$World", 147, "MirrorDoors$Mirror", "turns", "I", "MirrorDoors")]
def nwMl : List (String × Nat × MethodName × String) := [("MirrorDoors", 12, ⟨"MirrorDoors$Ray", "<init>", "()V"⟩, "MirrorDoors"), ("MirrorDoors$Reader", 44, ⟨"MirrorDoors", "isIn", "(III)Z"⟩, "MirrorDoors"), ("MirrorDoors$World", 60, ⟨"MirrorDoors", "isIn", "(III)Z"⟩, "MirrorDoors")]
def nwNl : List (String × String) := [("MirrorDoors$Door", "MirrorDoors$Mirror"), ("MirrorDoors$Empty", "MirrorDoors$Mirror"), ("MirrorDoors$Gate", "MirrorDoors$Mirror"), ("MirrorDoors$Portal", "MirrorDoors$Mirror"), ("MirrorDoors$Solid", "MirrorDoors$Mirror"), ("MirrorDoors$Empty", "MirrorDoors$Door"), ("MirrorDoors$Gate", "MirrorDoors$Door"), ("MirrorDoors$Mirror", "MirrorDoors$Door"), ("MirrorDoors$Portal", "MirrorDoors$Door"), ("MirrorDoors$Solid", "MirrorDoors$Door"), ("MirrorDoors$Door", "MirrorDoors$Gate"), ("MirrorDoors$Empty", "MirrorDoors$Gate"), ("MirrorDoors$Mirror", "MirrorDoors$Gate"), ("MirrorDoors$Portal", "MirrorDoors$Gate"), ("MirrorDoors$Solid", "MirrorDoors$Gate")]
def nwDl : List MethodName := [⟨"MirrorDoors$Cell", "kind", "()I"⟩, ⟨"MirrorDoors$Cell", "passes", "(ILMirrorDoors$Sink;)V"⟩, ⟨"MirrorDoors$Cell", "twin", "()LMirrorDoors$Cell;"⟩]

def cK (E : cEnv) (s : State) : Prop := va_K E.1 gCl (cTys E) s ∧ (∀ q ∈ nwFl, va_Nw (.fieldLinkNest q.1 q.2.1 q.2.2.1 q.2.2.2.1 q.2.2.2.2.1 q.2.2.2.2.2) s) ∧ (∀ q ∈ nwMl, va_Nw (.methodLinkNest q.1 q.2.1 q.2.2.1 q.2.2.2) s) ∧ (∀ q ∈ nwNl, va_Nc q.1 q.2 s) ∧ (∀ q ∈ nwDl, va_Nw (.declares q) s)
  ∧ va_Fw "MirrorDoors$Ray" ⟨"MirrorDoors$Sink", "goes", "(II)V"⟩ yX2_goes s
  ∧ (va_Z "MirrorDoors" "DX" "[I" (.ref (cDX E)) (wA E) s s.heap ∧ va_T .int (cDX E) 4 (fun j => .int (dxV j)) (wA E) s s.heap ∧ va_Z "MirrorDoors" "DY" "[I" (.ref (cDY E)) (wA E) s s.heap ∧ va_T .int (cDY E) 4 (fun j => .int (dyV j)) (wA E) s s.heap)
  ∧ 100 + cN E < 2147483648
theorem cKm (E : cEnv) : gKm (cK E) (wA E) := by
  intro u U hW hz hq h
  obtain ⟨h1, h2, h3, h4, h5, h6, ⟨h7, h8, h9, h10⟩, h11⟩ := h
  exact ⟨va_K.moved hW.alike h1, fun q hq => va_Nw.warmF hW (h2 q hq), fun q hq => va_Nw.warmM hW (h3 q hq), fun q hq => va_Nc.moved hW.alike (h4 q hq), fun q hq => va_Nw.warmD hW (h5 q hq), va_Fw.moved (by decide) hW.alike h6,
    ⟨(h7.moved hW.alike).kept hq, (h8.moved hW.alike).kept hq, (h9.moved hW.alike).kept hq, (h10.moved hW.alike).kept hq⟩, h11⟩
theorem cFs_4 {g : mS} {J c : Nat} (h : cCl g J c = 4) : cFs g J c = [.int (nI c)] := by simp [cFs, h]
theorem cFs_5 {g : mS} {J c : Nat} (h : cCl g J c = 5) : cFs g J c = [.int (nI c), .int (cfl g J c 1)] := by simp [cFs, h]
theorem cFs_6 {g : mS} {J c : Nat} (h : cCl g J c = 6) : cFs g J c = [.int (nI c), .int (cHalf g J c), .int (cfl g J c 2), .int (cfl g J c 1), .int (cfl g J c 3), .int (cfl g J c 4)] := by simp [cFs, h]
theorem cFs_7 {g : mS} {J c : Nat} (h : cCl g J c = 7) : cFs g J c = [.int (nI c), .int (cfl g J c 2), .int (cfl g J c 5)] := by simp [cFs, h]
theorem cFs_8 {g : mS} {J c : Nat} (h : cCl g J c = 8) : cFs g J c = [.int (nI c), .int (cfl g J c 1)] := by simp [cFs, h]
theorem cFs_9 {g : mS} {J c : Nat} (h : cCl g J c = 9) : cFs g J c = [.int (nI c), .int (cfl g J c 1)] := by simp [cFs, h]
theorem cAt_4 {E : cEnv} {g : mS} {H : Heap} (h : cP E g H) {J c : Nat} (hJ : okW E J) (hc : c < 100) (hcl : cCl g J c = 4) : va_at E.1 gCl (coa E J c, .inr (4, [.int (nI c)])) H := by
  have z := cAt_c h hJ hc
  rw [hcl, cFs_4 hcl] at z
  exact z
theorem cAt_5 {E : cEnv} {g : mS} {H : Heap} (h : cP E g H) {J c : Nat} (hJ : okW E J) (hc : c < 100) (hcl : cCl g J c = 5) : va_at E.1 gCl (coa E J c, .inr (5, [.int (nI c), .int (cfl g J c 1)])) H := by
  have z := cAt_c h hJ hc
  rw [hcl, cFs_5 hcl] at z
  exact z
theorem cAt_6 {E : cEnv} {g : mS} {H : Heap} (h : cP E g H) {J c : Nat} (hJ : okW E J) (hc : c < 100) (hcl : cCl g J c = 6) : va_at E.1 gCl (coa E J c, .inr (6, [.int (nI c), .int (cHalf g J c), .int (cfl g J c 2), .int (cfl g J c 1), .int (cfl g J c 3), .int (cfl g J c 4)])) H := by
  have z := cAt_c h hJ hc
  rw [hcl, cFs_6 hcl] at z
  exact z
theorem cAt_7 {E : cEnv} {g : mS} {H : Heap} (h : cP E g H) {J c : Nat} (hJ : okW E J) (hc : c < 100) (hcl : cCl g J c = 7) : va_at E.1 gCl (coa E J c, .inr (7, [.int (nI c), .int (cfl g J c 2), .int (cfl g J c 5)])) H := by
  have z := cAt_c h hJ hc
  rw [hcl, cFs_7 hcl] at z
  exact z
theorem cAt_8 {E : cEnv} {g : mS} {H : Heap} (h : cP E g H) {J c : Nat} (hJ : okW E J) (hc : c < 100) (hcl : cCl g J c = 8) : va_at E.1 gCl (coa E J c, .inr (8, [.int (nI c), .int (cfl g J c 1)])) H := by
  have z := cAt_c h hJ hc
  rw [hcl, cFs_8 hcl] at z
  exact z
theorem cAt_9 {E : cEnv} {g : mS} {H : Heap} (h : cP E g H) {J c : Nat} (hJ : okW E J) (hc : c < 100) (hcl : cCl g J c = 9) : va_at E.1 gCl (coa E J c, .inr (9, [.int (nI c), .int (cfl g J c 1)])) H := by
  have z := cAt_c h hJ hc
  rw [hcl, cFs_9 hcl] at z
  exact z
theorem cAt_any {E : cEnv} {g : mS} {H : Heap} (h : cP E g H) {J c : Nat} (hJ : okW E J) (hc : c < 100) : (cCl g J c = 4 ∧ va_at E.1 gCl (coa E J c, .inr (4, [.int (nI c)])) H) ∨ (cCl g J c = 5 ∧ va_at E.1 gCl (coa E J c, .inr (5, [.int (nI c), .int (cfl g J c 1)])) H) ∨ (cCl g J c = 6 ∧ va_at E.1 gCl (coa E J c, .inr (6, [.int (nI c), .int (cHalf g J c), .int (cfl g J c 2), .int (cfl g J c 1), .int (cfl g J c 3), .int (cfl g J c 4)])) H) ∨ (cCl g J c = 7 ∧ va_at E.1 gCl (coa E J c, .inr (7, [.int (nI c), .int (cfl g J c 2), .int (cfl g J c 5)])) H) ∨ (cCl g J c = 8 ∧ va_at E.1 gCl (coa E J c, .inr (8, [.int (nI c), .int (cfl g J c 1)])) H) ∨ (cCl g J c = 9 ∧ va_at E.1 gCl (coa E J c, .inr (9, [.int (nI c), .int (cfl g J c 1)])) H) := by
  rcases cCl_in g J c with e | e | e | e | e | e
  · exact Or.inl ⟨e, cAt_4 h hJ hc e⟩
  · exact Or.inr (Or.inl ⟨e, cAt_5 h hJ hc e⟩)
  · exact Or.inr (Or.inr (Or.inl ⟨e, cAt_6 h hJ hc e⟩))
  · exact Or.inr (Or.inr (Or.inr (Or.inl ⟨e, cAt_7 h hJ hc e⟩)))
  · exact Or.inr (Or.inr (Or.inr (Or.inr (Or.inl ⟨e, cAt_8 h hJ hc e⟩))))
  · exact Or.inr (Or.inr (Or.inr (Or.inr (Or.inr ⟨e, cAt_9 h hJ hc e⟩))))
theorem cwr_of {E : cEnv} {g : mS} {J : Nat} (h : rdW g = some J) : cRay E g 0 = .ref (cad E J) ∧ 100 ≤ (g 0 0).toNatClampNeg ∧ (g 0 0).toNatClampNeg = J := by
  obtain ⟨h1, h2⟩ := if_inv h
  refine ⟨?_, h1, h2⟩
  show cwr E (g 0 0) = _
  unfold cwr
  rw [if_neg (fun e => by rw [e] at h1; exact absurd h1 (by decide)), h2]
theorem cwr_ok {E : cEnv} {g : mS} {H : Heap} {J : Nat} (hP : cP E g H) (h : rdW g = some J) : okW E J := by
  obtain ⟨-, h1, h2⟩ := cwr_of (E := E) h
  rw [← h2]
  exact hP.2.2.2 h1
theorem cRay_up (E : cEnv) (g : mS) (k : Nat) (v : Int32) (hs : cRay E (mUp g 0 k v) k = .int v) (hk : k ≠ 0) : ((List.range 12).map (cRay E g)).set k (.int v) = (List.range 12).map (cRay E (mUp g 0 k v)) := by
  apply List.ext_getElem?
  intro a
  by_cases hl : a < 12
  · by_cases ha : a = k
    · subst ha
      rw [List.getElem?_set_self (by simp; exact hl)]
      simp [hl, hs]
    · rw [List.getElem?_set_ne (Ne.symm ha)]
      have e : cRay E (mUp g 0 k v) a = cRay E g a := by
        unfold cRay
        split <;> first | rfl | (rw [cUp_ne (Or.inr (Ne.symm hk))]) | (rw [cUp_ne (Or.inr ha)])
      simp [hl, e]
  · rw [List.getElem?_eq_none (by simp; omega), List.getElem?_eq_none (by simp; omega)]
theorem nI_0' {J : Nat} (h1 : 100 ≤ J) (h2 : J < 2147483648) : nI J ≠ 0 := by
  intro h
  exact nI_ne0 (by omega) (by omega) h
theorem cRay_upW (E : cEnv) (g : mS) {J : Nat} (hJ : okW E J) (hN : 100 + cN E < 2147483648) : ((List.range 12).map (cRay E g)).set 0 (.ref (cad E J)) = (List.range 12).map (cRay E (mUp g 0 0 (nI J))) := by
  have h1 := hJ.1
  have h2 := hJ.2
  apply List.ext_getElem?
  intro a
  by_cases hl : a < 12
  · by_cases ha : a = 0
    · subst ha
      rw [List.getElem?_set_self (by simp)]
      have e : cRay E (mUp g 0 0 (nI J)) 0 = .ref (cad E J) := by
        show cwr E (mUp g 0 0 (nI J) 0 0) = _
        rw [cUp_eq]
        unfold cwr
        rw [if_neg (nI_0' h1 (by omega)), nI_clamp (by omega)]
      simp [e]
    · rw [List.getElem?_set_ne (Ne.symm ha)]
      have e : cRay E (mUp g 0 0 (nI J)) a = cRay E g a := by
        unfold cRay
        split <;> first | rfl | (exact absurd rfl ha) | (rw [cUp_ne (Or.inr ha)])
      simp [hl, e]
  · rw [List.getElem?_eq_none (by simp; omega), List.getElem?_eq_none (by simp; omega)]
theorem cRw_upW {E : cEnv} {g : mS} {J : Nat} (hJ : okW E J) (hN : 100 + cN E < 2147483648) : cRw E (mUp g 0 0 (nI J)) := by
  intro _
  have h2 := hJ.2
  rw [cUp_eq, nI_clamp (by omega)]
  exact hJ
theorem cfl_s {g : mS} {J c k : Nat} {v : Int32} : cfl (mUp g J (6 + 6 * c + k) v) J c k = v := cUp_eq
theorem cfl_n {g : mS} {J c k i : Nat} {v : Int32} (h : i ≠ k) : cfl (mUp g J (6 + 6 * c + k) v) J c i = cfl g J c i := cUp_ne (Or.inr (by omega))
theorem cHalf_up {g : mS} {J c k : Nat} {v : Int32} (hk : 1 ≤ k ∧ k ≤ 5) : cHalf (mUp g J (6 + 6 * c + k) v) J c = cHalf g J c := by unfold cHalf; rw [cUp_kd hk]
theorem gw_U {own C owner : String} {idx : Nat} {x y : MethodName} {b : ByteArray} {L : Nat} {r : Option FieldType} (h1 : Cond.methodLink own idx x ∈ lw_all) (h2 : Cond.sameMethod x.cls owner x.name x.desc ∈ lw_all) (h3 : Cond.selects C x y ∈ lw_all) (h4 : Cond.instanceMethod y ∈ lw_all) (h5 : Cond.initialized y.cls ∈ lw_all) (h6 : Cond.code y b L r ∈ lw_all) : GoodIn lw_all (va_wsU own idx C owner x y (ws_ y b L r)) := by
  refine lw_app ?_ (lw_meth h6)
  intro w hw
  simp only [List.mem_cons, List.not_mem_nil, or_false] at hw
  rcases hw with e | e | e | e | e <;> rw [e] <;> assumption
theorem gw_O {own C owner : String} {idx : Nat} {x y : MethodName} {b : ByteArray} {L : Nat} {r : Option FieldType} (h1 : Cond.methodLink own idx x ∈ lw_all) (h2 : Cond.sameMethod x.cls owner x.name x.desc ∈ lw_all) (h0 : Cond.instanceMethod ⟨owner, x.name, x.desc⟩ ∈ lw_all) (h3 : Cond.selects C x y ∈ lw_all) (h4 : Cond.instanceMethod y ∈ lw_all) (h5 : Cond.initialized y.cls ∈ lw_all) (h6 : Cond.code y b L r ∈ lw_all) : GoodIn lw_all (va_wsO own idx C owner x y (ws_ y b L r)) := by
  refine lw_app ?_ (lw_meth h6)
  intro w hw
  simp only [List.mem_cons, List.not_mem_nil, or_false] at hw
  rcases hw with e | e | e | e | e | e <;> rw [e] <;> assumption
theorem gw_F {own C : String} {idx : Nat} {x y : MethodName} {b : ByteArray} {L : Nat} {r : Option FieldType} (h1 : Cond.methodLink own idx x ∈ lw_all) (h3 : Cond.selects C x y ∈ lw_all) (h4 : Cond.instanceMethod y ∈ lw_all) (h5 : Cond.initialized y.cls ∈ lw_all) (h6 : Cond.code y b L r ∈ lw_all) : GoodIn lw_all (va_wsF own idx C x y (ws_ y b L r)) := by
  refine lw_app ?_ (lw_meth h6)
  intro w hw
  simp only [List.mem_cons, List.not_mem_nil, or_false] at hw
  rcases hw with e | e | e | e <;> rw [e] <;> assumption
abbrev gQr (v : Nat) (P' : Heap → Prop) (A : Nat → Prop) : Array Value → State → Outcome → State → Prop := va_Qr (fun (_ : Unit) => True) (fun _ a t => a = v ∧ P' t.heap) A
section CR3
variable {p : Program} {l : Launch} {e : Env} {R : Room} {s : State} {m : MethodId} {args : Array Value} {below : List Frame} {meth : Method} {c : Code} {H : Heap} {locs : List Loc} {cells slots : Nat} {Q : State → Prop}
variable {pc nL mc ms : Nat} {ls : Array Slot} {rest st0 : List Value} {cc : ByteArray} {E : cEnv} {g g' : mS} {own : String} {A : Nat → Prop} {P P' : Heap → Prop}
theorem g_kr {v : Nat} {a : Array Value} (hr : va_Run p l e R s m args below meth c H locs cells slots mc ms (F0 m pc ls st0) rest (gQr v P' A a) A) (S : gS A s.heap P H locs)
    (kk : ∀ (H1 : Heap) (locs1 : List Loc), gS A s.heap P' H1 locs1 → W p l e R s m args below meth c H1 locs1 (cells + mc) (slots + ms) Q (F0 m (pc + 3) ls (.ref v :: rest))) : W p l e R s m args below meth c H locs cells slots Q (F0 m pc ls st0) := by
  refine va_callr hr S.2 (fun q _ h => h) (fun q h => h) fun u ra t H1 locs1 ht hvm hp hB hz hk hS => ?_
  obtain ⟨hB1, hB2⟩ := hB
  rw [hB1]
  exact kk H1 locs1 ⟨by rw [← ht]; exact hB2, hS⟩
theorem g_aret {v : Nat} {rt : FieldType} (F : CallFix p m c cc nL s args lw_all own) (hr : meth.sig.returnType = some rt) (hrt : (∃ n, rt = .object n) ∨ ∃ t, rt = .array t) (hlk : meth.locks = false) (S : gS A s.heap P H locs) (hdg : decode cc pc = .ok (.areturn, 1)) : W p l e R s m args below meth c H locs cells slots (MQ below (gQr v P A) args s cells slots A) (F0 m pc ls [.ref v]) :=
  W.aret F.1 F.2.1 hr hrt (Or.inr ⟨v, rfl⟩) (fun t ht hW => ⟨⟨(), v, rfl, trivial, rfl, by rw [ht]; exact S.1⟩, S.2.F ht⟩) S.2.2.2 hdg hlk
theorem c_aald (F : CallFix p m c cc nL s args lw_all own) (hK : cK E s) (S : gS (wA E) s.heap (cP E g) H locs) {J k0 : Nat} {i : Int32} (hJ : okW E J) (hi : ix100 i = some k0) (hdg : decode cc pc = .ok (.aaload, 1))
    (kk : W p l e R s m args below meth c H locs cells slots Q (F0 m (pc + 1) ls (.ref (coa E J k0) :: rest))) : W p l e R s m args below meth c H locs cells slots Q (F0 m pc ls (.int i :: .ref (cca E J) :: rest)) := by
  obtain ⟨h1, rfl⟩ := if_inv hi
  exact va_aldq (C := "MirrorDoors$Cell") F.1 F.2.1 hK.1 (va_P1 (cAt_k S.1 hJ)) 0 6 rfl rfl h1 hdg kk
theorem c_alenK (F : CallFix p m c cc nL s args lw_all own) (hK : cK E s) (S : gS (wA E) s.heap (cP E g) H locs) {J : Nat} (hJ : okW E J) (hdg : decode cc pc = .ok (.arraylength, 1))
    (kk : W p l e R s m args below meth c H locs cells slots Q (F0 m (pc + 1) ls (.int 100 :: rest))) : W p l e R s m args below meth c H locs cells slots Q (F0 m pc ls (.ref (cca E J) :: rest)) :=
  va_alen (v := 100) F.1 F.2.1 hK.1 (va_P1 (cAt_k S.1 hJ)) 0 6 rfl rfl rfl hdg kk
theorem c_iald (F : CallFix p m c cc nL s args lw_all own) (hK : cK E s) (S : gS (wA E) s.heap (cP E g) H locs) {j : Nat} {i v : Int32} (hr : crdI g j i = some v) (hdg : decode cc pc = .ok (.iaload, 1))
    (kk : W p l e R s m args below meth c H locs cells slots Q (F0 m (pc + 1) ls (.int v :: rest))) : W p l e R s m args below meth c H locs cells slots Q (F0 m pc ls (.int i :: .ref (cad E j) :: rest)) := by
  obtain ⟨⟨⟨h0, h1⟩, h2⟩, rfl⟩ := if_inv hr
  exact va_iald F.1 F.2.1 hK.1 (va_P1 (cAt_arr S.1 h0 h1)) 0 0 rfl rfl h2 hdg kk
theorem c_ialdX (F : CallFix p m c cc nL s args lw_all own) (hK : cK E s) (S : gS (wA E) s.heap (cP E g) H locs) {i v : Int32} (hr : rdX i = some v) (hdg : decode cc pc = .ok (.iaload, 1))
    (kk : W p l e R s m args below meth c H locs cells slots Q (F0 m (pc + 1) ls (.int v :: rest))) : W p l e R s m args below meth c H locs cells slots Q (F0 m pc ls (.int i :: .ref (cDX E) :: rest)) := by
  obtain ⟨h2, rfl⟩ := if_inv hr
  exact va_ti F.1 F.2.1 hK.2.2.2.2.2.2.1.2.1 S.2 h2 rfl hdg kk
theorem c_ialdY (F : CallFix p m c cc nL s args lw_all own) (hK : cK E s) (S : gS (wA E) s.heap (cP E g) H locs) {i v : Int32} (hr : rdY i = some v) (hdg : decode cc pc = .ok (.iaload, 1))
    (kk : W p l e R s m args below meth c H locs cells slots Q (F0 m (pc + 1) ls (.int v :: rest))) : W p l e R s m args below meth c H locs cells slots Q (F0 m pc ls (.int i :: .ref (cDY E) :: rest)) := by
  obtain ⟨h2, rfl⟩ := if_inv hr
  exact va_ti F.1 F.2.1 hK.2.2.2.2.2.2.1.2.2.2 S.2 h2 rfl hdg kk
theorem c_getDX {index : Nat} {host : String} (F : CallFix p m c cc nL s args lw_all own) (hK : cK E s) (S : gS (wA E) s.heap (cP E g) H locs) (hlink : va_Nw (.fieldLinkNest own index "MirrorDoors" "DX" "[I" host) s) (hdg : decode cc pc = .ok (.getstatic index, 3))
    (kk : W p l e R s m args below meth c H locs cells slots Q (F0 m (pc + 3) ls (.ref (cDX E) :: rest))) : W p l e R s m args below meth c H locs cells slots Q (F0 m pc ls rest) :=
  va_getsN F.1 F.2.1 hK.2.2.2.2.2.2.1.1 S.2 F.2.2.2.1 (va_Nw.use rfl hlink) (fun x h => h) hdg kk
theorem c_getDY {index : Nat} {host : String} (F : CallFix p m c cc nL s args lw_all own) (hK : cK E s) (S : gS (wA E) s.heap (cP E g) H locs) (hlink : va_Nw (.fieldLinkNest own index "MirrorDoors" "DY" "[I" host) s) (hdg : decode cc pc = .ok (.getstatic index, 3))
    (kk : W p l e R s m args below meth c H locs cells slots Q (F0 m (pc + 3) ls (.ref (cDY E) :: rest))) : W p l e R s m args below meth c H locs cells slots Q (F0 m pc ls rest) :=
  va_getsN F.1 F.2.1 hK.2.2.2.2.2.2.1.2.2.1 S.2 F.2.2.2.1 (va_Nw.use rfl hlink) (fun x h => h) hdg kk
theorem c_iast (F : CallFix p m c cc nL s args lw_all own) (hK : cK E s) (S : gS (wA E) s.heap (cP E g) H locs) {j : Nat} {i v : Int32} (hr : cwrI g j i v = some g') (hdg : decode cc pc = .ok (.iastore, 1))
    (kk : ∀ (H1 : Heap) (locs1 : List Loc), gS (wA E) s.heap (cP E g') H1 locs1 → W p l e R s m args below meth c H1 locs1 cells slots Q (F0 m (pc + 1) ls rest)) : W p l e R s m args below meth c H locs cells slots Q (F0 m pc ls (.int v :: .int i :: .ref (cad E j) :: rest)) := by
  obtain ⟨⟨⟨h0, h1⟩, h2⟩, rfl⟩ := if_inv hr
  have hat := cAt_arr S.1 h0 h1
  refine W.iast F.1 F.2.1 hat ((hK.1.2 0 _ rfl).1 (cLen j) (fun k => .int (g j k))) (fun q => by cases q) (by show ¬ (i < 0 ∨ (arrV _ _ _).slots.size ≤ _); rw [arrV_size]; exact h2) rfl rfl hdg fun H1 e1 z oq => ?_
  refine kk H1 _ ⟨cP_arr S.1 h0 h1 z oq ?_, S.2.put z oq ?_⟩
  · show H1[cad E j]? = some (vp_cell _ _)
    rw [e1, vp_cell_i, vp_cell_i, arrV_store, mUp_s]
    congr 2
    funext q
    by_cases hq : q = i.toNatClampNeg
    · subst hq
      simp [updV, upd]
    · simp [updV, upd, hq]
  · have y := wA_r S.1 (okR_ray E h1)
    rw [rAd_arr E h1] at y
    exact y
end CR3
/-- with a row of 20 numbers that stays -/
def cKq (E : cEnv) (q0 : Nat) (rq : Nat → Int32) (s : State) : Prop := cK E s ∧ va_T .int q0 20 (fun j => .int (rq j)) (wA E) s s.heap
theorem cKqm (E : cEnv) (q0 : Nat) (rq : Nat → Int32) : gKm (cKq E q0 rq) (wA E) := by
  intro u U hW hz hq h
  exact ⟨cKm E u U hW hz hq h.1, (h.2.moved hW.alike).kept hq⟩
def rdQ (rq : Nat → Int32) (i : Int32) : Option Int32 := if ¬ (i < 0 ∨ 20 ≤ i.toNatClampNeg) then some (rq i.toNatClampNeg) else none
theorem c_ialdQ {p : Program} {l : Launch} {e : Env} {R : Room} {s : State} {m : MethodId} {args : Array Value} {below : List Frame} {meth : Method} {c : Code} {H : Heap} {locs : List Loc} {cells slots : Nat} {Q : State → Prop} {pc nL : Nat} {ls : Array Slot} {rest : List Value} {cc : ByteArray} {E : cEnv} {g : mS} {own : String} {q0 : Nat} {rq : Nat → Int32} (F : CallFix p m c cc nL s args lw_all own) (hK : cK E s) (hKq : va_T .int q0 20 (fun j => .int (rq j)) (wA E) s s.heap) (S : gS (wA E) s.heap (cP E g) H locs) {i v : Int32} (hr : rdQ rq i = some v) (hdg : decode cc pc = .ok (.iaload, 1))
    (kk : W p l e R s m args below meth c H locs cells slots Q (F0 m (pc + 1) ls (.int v :: rest))) : W p l e R s m args below meth c H locs cells slots Q (F0 m pc ls (.int i :: .ref q0 :: rest)) := by
  obtain ⟨h2, rfl⟩ := if_inv hr
  exact va_ti F.1 F.2.1 hKq S.2 h2 rfl hdg kk
