/-! THE COMPONENT'S ROWS -/
set_option maxRecDepth 100000
theorem cUp_ne {g : mS} {J i a b : Nat} {v : Int32} (h : a ≠ J ∨ b ≠ i) : mUp g J i v a b = g a b := by
  by_cases ha : a = J
  · subst ha
    rw [mUp_s]
    exact if_neg (h.resolve_left (fun q => q rfl))
  · rw [mUp_n ha]
theorem cUp_eq {g : mS} {J i : Nat} {v : Int32} : mUp g J i v J i = v := by rw [mUp_s]; exact if_pos rfl
theorem cCl_of {g g' : mS} {J c : Nat} (h : ckd g' J c = ckd g J c) : cCl g' J c = cCl g J c := by unfold cCl; rw [h]
theorem cFs_of {g g' : mS} {J c : Nat} (h : ∀ k : Nat, k < 6 → cfl g' J c k = cfl g J c k) : cFs g' J c = cFs g J c := by
  have h0 : ckd g' J c = ckd g J c := h 0 (by omega)
  unfold cFs cHalf
  rw [cCl_of h0, h0, h 1 (by omega), h 2 (by omega), h 3 (by omega), h 4 (by omega), h 5 (by omega)]
theorem okR_big {E : cEnv} {x : Nat} (h : okR E x) (h8 : ¬ x < 8) : 100 ≤ x / 1000 ∧ (x % 1000 = 1 ∨ x % 1000 = 2 ∨ (10 ≤ x % 1000 ∧ x % 1000 < 110)) := by
  rcases h with ⟨-, h2⟩ | ⟨h1, h2⟩
  · omega
  · exact ⟨h1.1, h2⟩
theorem rEx_big {E : cEnv} {g : mS} {x : Nat} (h8 : ¬ x < 8) : rEx E g x = if x % 1000 = 1 then .inr (3, cWf E g (x / 1000)) else if x % 1000 = 2 then .inl (E.2.1 6, 100, .inr (.inr (.inr (.inr (fun c => some (coa E (x / 1000) c)))))) else .inr (cCl g (x / 1000) (x % 1000 - 10), cFs g (x / 1000) (x % 1000 - 10)) := by
  unfold rEx
  rw [if_neg (show ¬ x = 1 by omega), if_neg h8]
theorem rEx_cell {E : cEnv} {g : mS} {J c k x : Nat} {v : Int32} (hJ : okW E J) (hk : 1 ≤ k ∧ k ≤ 5) (hc : c < 100) (hx : okR E x) (hne : x ≠ 1000 * J + 10 + c) : rEx E (mUp g J (6 + 6 * c + k) v) x = rEx E g x := by
  have hJ1 := hJ.1
  by_cases h8 : x < 8
  · exact rEx_row (mUp_n (by omega)) (fun _ => mUp_n (by omega)) (fun h => absurd h8 h)
  · obtain ⟨h1, h2⟩ := okR_big hx h8
    by_cases hj : x / 1000 = J
    · rw [rEx_big h8, rEx_big h8, hj]
      have e0 : ∀ i : Nat, i < 6 ∨ 606 ≤ i → mUp g J (6 + 6 * c + k) v J i = g J i := fun i hi => cUp_ne (Or.inr (by omega))
      by_cases a1 : x % 1000 = 1
      · rw [if_pos a1, if_pos a1]
        unfold cWf
        rw [e0 0 (by omega), e0 1 (by omega), e0 606 (by omega), e0 2 (by omega), e0 3 (by omega), e0 4 (by omega), e0 5 (by omega)]
      · rw [if_neg a1, if_neg a1]
        by_cases a2 : x % 1000 = 2
        · rw [if_pos a2, if_pos a2]
        · rw [if_neg a2, if_neg a2]
          have hd : x % 1000 - 10 ≠ c := by omega
          have e1 : ∀ i : Nat, i < 6 → cfl (mUp g J (6 + 6 * c + k) v) J (x % 1000 - 10) i = cfl g J (x % 1000 - 10) i := fun i hi => cUp_ne (Or.inr (by omega))
          rw [cFs_of e1, cCl_of (e1 0 (by omega))]
    · exact rEx_row (mUp_n (by omega)) (fun _ => mUp_n (by omega)) (fun _ => mUp_n hj)
theorem mutR_of {E : cEnv} {g g' : mS} {x : Nat} (hx : okR E x) (h : ∀ J c : Nat, 100 ≤ J → c < 100 → ckd g' J c = ckd g J c) : mutR g' x ↔ mutR g x := by
  unfold mutR
  by_cases h8 : x < 8
  · simp [h8]
  · obtain ⟨h1, h2⟩ := okR_big hx h8
    by_cases h10 : 10 ≤ x % 1000
    · rw [cCl_of (h (x / 1000) (x % 1000 - 10) h1 (by omega))]
    · simp [h10]
theorem cUp_kd {g : mS} {J c k a b : Nat} {v : Int32} (hk : 1 ≤ k ∧ k ≤ 5) : ckd (mUp g J (6 + 6 * c + k) v) a b = ckd g a b := cUp_ne (Or.inr (by omega))
theorem cP_cell {E : cEnv} {g : mS} {H H1 : Heap} {J c k : Nat} {v : Int32} (h : cP E g H) (hJ : okW E J) (hc : c < 100) (hcl : cCl g J c = 6 ∨ cCl g J c = 7) (hk : 1 ≤ k ∧ k ≤ 5) (hz : H1.size = H.size) (oq : ∀ q : Nat, q ≠ coa E J c → H1[q]? = H[q]?)
    (he : va_at E.1 gCl (coa E J c, .inr (cCl g J c, cFs (mUp g J (6 + 6 * c + k) v) J c)) H1) : cP E (mUp g J (6 + 6 * c + k) v) H1 := by
  have hJ1 := hJ.1
  have hr := okR_c hJ hc
  refine cP_set h hr (Or.inr (Or.inr (Or.inr ⟨by omega, ?_⟩))) hz ?_ ?_ (fun x hx hne => rEx_cell hJ hk hc hx hne) (fun x hx => mutR_of hx (fun a b _ _ => cUp_kd hk)) ?_
  · rw [show (1000 * J + 10 + c) / 1000 = J by omega, show (1000 * J + 10 + c) % 1000 - 10 = c by omega]
    exact hcl
  · rw [rAd_c E hJ.1 hc]; exact oq
  · rw [rAd_c E hJ.1 hc, rEx_c E _ hJ.1 hc, cCl_of (cUp_kd hk)]; exact he
  · unfold cRw
    rw [cUp_ne (Or.inl (by omega))]
    exact h.2.2.2
theorem cP_world {E : cEnv} {g : mS} {H H1 : Heap} {J i : Nat} {v : Int32} (h : cP E g H) (hJ : okW E J) (hi : (2 ≤ i ∧ i ≤ 5) ∨ i = 606) (hz : H1.size = H.size) (oq : ∀ q : Nat, q ≠ cad E J → H1[q]? = H[q]?)
    (he : va_at E.1 gCl (cad E J, .inr (3, cWf E (mUp g J i v) J)) H1) : cP E (mUp g J i v) H1 := by
  have hJ1 := hJ.1
  have hkd : ∀ a b : Nat, b < 100 → ckd (mUp g J i v) a b = ckd g a b := fun a b hb => cUp_ne (Or.inr (by omega))
  refine cP_set h (okR_w hJ) (Or.inr (Or.inl (by omega))) hz ?_ ?_ (fun x hx hne => ?_) (fun x hx => mutR_of hx (fun a b _ hb => hkd a b hb)) ?_
  · rw [rAd_w E hJ.1]; exact oq
  · rw [rAd_w E hJ.1, rEx_w E _ hJ.1]; exact he
  · by_cases h8 : x < 8
    · exact rEx_row (mUp_n (by omega)) (fun _ => mUp_n (by omega)) (fun h => absurd h8 h)
    · obtain ⟨h1, h2⟩ := okR_big hx h8
      by_cases hj : x / 1000 = J
      · have a1 : ¬ x % 1000 = 1 := by omega
        rw [rEx_big h8, rEx_big h8, if_neg a1, if_neg a1, hj]
        by_cases a2 : x % 1000 = 2
        · rw [if_pos a2, if_pos a2]
        · rw [if_neg a2, if_neg a2]
          have e1 : ∀ q : Nat, q < 6 → cfl (mUp g J i v) J (x % 1000 - 10) q = cfl g J (x % 1000 - 10) q := fun q hq => cUp_ne (Or.inr (by omega))
          rw [cFs_of e1, cCl_of (e1 0 (by omega))]
      · exact rEx_row (mUp_n (by omega)) (fun _ => mUp_n (by omega)) (fun _ => mUp_n hj)
  · unfold cRw
    rw [cUp_ne (Or.inl (by omega))]
    exact h.2.2.2
theorem cP_ray {E : cEnv} {g : mS} {H H1 : Heap} {i : Nat} {v : Int32} (h : cP E g H) (hz : H1.size = H.size) (oq : ∀ q : Nat, q ≠ cad E 0 → H1[q]? = H[q]?)
    (he : va_at E.1 gCl (cad E 0, .inr (2, (List.range 12).map (cRay E (mUp g 0 i v)))) H1) (hw : cRw E (mUp g 0 i v)) : cP E (mUp g 0 i v) H1 := by
  refine cP_set h (okR_ray E (j := 0) (by omega)) (Or.inl (by omega)) hz ?_ ?_ (fun x hx hne => ?_) (fun x hx => mutR_of hx (fun a b ha _ => cUp_ne (Or.inl (by omega)))) hw
  · rw [rAd_ray]; exact oq
  · rw [rAd_ray, rEx_ray]; exact he
  · by_cases h8 : x < 8
    · have h5 : x - 1 ≠ 0 := by
        rcases hx with ⟨a, b⟩ | ⟨⟨a, -⟩, -⟩ <;> omega
      unfold rEx
      rw [if_neg (show ¬ x = 1 from hne), if_pos h8, if_neg (show ¬ x = 1 from hne), if_pos h8, mUp_n h5]
    · obtain ⟨h1, h2⟩ := okR_big hx h8
      have e : mUp g 0 i v (x / 1000) = g (x / 1000) := mUp_n (by omega)
      rw [rEx_big h8, rEx_big h8]
      simp only [cWf, cCl, cFs, ckd, cfl, cHalf, e]
theorem cP_arr {E : cEnv} {g : mS} {H H1 : Heap} {j i : Nat} {v : Int32} (h : cP E g H) (h0 : 1 ≤ j) (hj : j < 7) (hz : H1.size = H.size) (oq : ∀ q : Nat, q ≠ cad E j → H1[q]? = H[q]?)
    (he : va_at E.1 gCl (cad E j, .inl (E.2.1 0, cLen j, .inl (mUp g j i v j))) H1) : cP E (mUp g j i v) H1 := by
  refine cP_set h (okR_ray E hj) (Or.inl (by omega)) hz ?_ ?_ (fun x hx hne => ?_) (fun x hx => mutR_of hx (fun a b ha _ => cUp_ne (Or.inl (by omega)))) ?_
  · rw [rAd_arr E hj]; exact oq
  · rw [rAd_arr E hj, rEx_arr E _ h0 hj]; exact he
  · by_cases h8 : x < 8
    · exact rEx_row (mUp_n (by omega)) (fun _ => mUp_n (by omega)) (fun h => absurd h8 h)
    · obtain ⟨h1, h2⟩ := okR_big hx h8
      exact rEx_row (mUp_n (by omega)) (fun _ => mUp_n (by omega)) (fun _ => mUp_n (by omega))
  · unfold cRw
    rw [cUp_ne (Or.inl (by omega))]
    exact h.2.2.2
section GC2
variable {p : Program} {l : Launch} {e : Env} {R : Room} {s : State} {m : MethodId} {args : Array Value} {below : List Frame} {meth : Method} {c : Code} {H : Heap} {locs : List Loc} {cells slots : Nat} {Q : State → Prop}
variable {pc : Nat} {ls : Array Slot} {rest st0 : List Value} {A : Nat → Prop} {mc ms n nL maxL index count : Nat} {cc bytes : ByteArray} {K : State → Prop} {P P' : Heap → Prop} {own C owner host : String} {x y : MethodName} {ret : Option FieldType} {ws : List Cond} {rm : Room} {As : List Value} {b : Nat}
theorem g_runSN {Qa : Array Value → State → Outcome → State → Prop} (F : CallFix p m c cc nL s args lw_all own) (hK : K s) (hKm : gKm K A) (S : gS A s.heap P H locs) (M : Met l y ws rm (va_Pc As (gPre K P)) Qa mc ms A)
    (cw : va_CN R s args own index y host bytes maxL ret ws rm mc ms n ∧ (Cond.static y).before args s = true ∧ True) (hn : As.length = n) (hl : ls.size = nL) (hst : st0 = As.reverse ++ rest) (hW : (rest.map fun v => v.category).sum ≤ 8) (hdg : decode cc pc = .ok (.invokestatic index, 3)) (hf : cells + mc ≤ R.cells ∧ slots + ms ≤ R.slots) :
    va_Run p l e R s m args below meth c H locs cells slots mc ms (F0 m pc ls st0) rest (Qa As.toArray) A :=
  va_runSN (g := F0 m pc ls st0) F M cw ⟨gBlind hKm, fun U hU hW => ⟨rfl, by rw [hU]; exact S.1, hKm s U hW (by rw [hU]; exact S.2.1) (by rw [hU]; exact S.2.2.1) hK⟩⟩ rfl hn hl hst (lv_room hW) hdg hf
theorem g_runU {Qa : Array Value → State → Outcome → State → Prop} (F : CallFix p m c cc nL s args lw_all own) (hK : K s) (hKm : gKm K A) (S : gS A s.heap P H locs) (M : Met l y ws rm (va_Pc (.ref b :: As) (gPre K P)) Qa mc ms A)
    (cw : va_CU R s args own C owner index x y bytes maxL ret ws rm mc ms n) (hrv : gRecv s H C b) (hn : As.length = n) (hl : ls.size = nL) (hst : st0 = As.reverse ++ .ref b :: rest) (hW : (rest.map fun v => v.category).sum ≤ 8) (hdg : decode cc pc = .ok (.invokevirtual index, 3)) (hf : cells + mc ≤ R.cells ∧ slots + ms ≤ R.slots) :
    va_Run p l e R s m args below meth c H locs cells slots mc ms (F0 m pc ls st0) rest (Qa (Value.ref b :: As).toArray) A :=
  va_runU (g := F0 m pc ls st0) F M cw ⟨gBlind hKm, hrv, fun U hU hW => ⟨rfl, by rw [hU]; exact S.1, hKm s U hW (by rw [hU]; exact S.2.1) (by rw [hU]; exact S.2.2.1) hK⟩⟩ rfl hn hl hst (lv_room hW) hdg hf
theorem g_runF {Qa : Array Value → State → Outcome → State → Prop} {cC : ClassId} (hat : ClassAt s C cC) (F : CallFix p m c cc nL s args lw_all own) (hK : K s) (hKm : gKm K A) (S : gS A s.heap P H locs) (M : Met l y ws rm (va_Pc (.ref b :: As) (gPre K P)) Qa mc ms A)
    (cw : va_CI R s args own C index x y bytes maxL ret ws rm mc ms n) (hrv : gRecv s H C b) (hn : As.length = n) (hl : ls.size = nL) (hst : st0 = As.reverse ++ .ref b :: rest) (hW : (rest.map fun v => v.category).sum ≤ 8) (hdg : decode cc pc = .ok (.invokeinterface index count, 5)) (hf : cells + mc ≤ R.cells ∧ slots + ms ≤ R.slots) :
    va_Run5 p l e R s m args below meth c H locs cells slots mc ms (F0 m pc ls st0) rest (Qa (Value.ref b :: As).toArray) A :=
  va_runF (g := F0 m pc ls st0) hat F M cw ⟨gBlind hKm, hrv, fun U hU hW => ⟨rfl, by rw [hU]; exact S.1, hKm s U hW (by rw [hU]; exact S.2.1) (by rw [hU]; exact S.2.2.1) hK⟩⟩ rfl hn hl hst (lv_room hW) hdg hf
theorem g_k5v {a : Array Value} (hr : va_Run5 p l e R s m args below meth c H locs cells slots mc ms (F0 m pc ls st0) rest (gQv P' A a) A) (S : gS A s.heap P H locs)
    (kk : ∀ (H1 : Heap) (locs1 : List Loc), gS A s.heap P' H1 locs1 → W p l e R s m args below meth c H1 locs1 (cells + mc) (slots + ms) Q (F0 m (pc + 5) ls rest)) : W p l e R s m args below meth c H locs cells slots Q (F0 m pc ls st0) :=
  va_callFv hr S.2 (fun q _ h => h) (fun q h => h) fun u t H1 locs1 ht hvm hp hB hz hk hS => kk H1 locs1 ⟨by rw [← ht]; exact hB, hS⟩
end GC2
theorem va_P1 {D : va_G} {cl : List vw_C} {q : Nat × va_E} {H : Heap} (h : va_at D cl q H) : va_P D cl [q] H := by
  intro k x hx
  match k, hx with
  | 0, hx => cases hx; exact h
  | k + 1, hx => simp at hx
section CR
variable {p : Program} {l : Launch} {e : Env} {R : Room} {s : State} {m : MethodId} {args : Array Value} {below : List Frame} {meth : Method} {c : Code} {H : Heap} {locs : List Loc} {cells slots : Nat} {Q : State → Prop}
variable {pc nL : Nat} {ls : Array Slot} {rest : List Value} {cc : ByteArray} {D : va_G} {tys : List (ClassId × FieldType)} {a : Nat} {own ref C host : String} {T : u_T} {N ci index k : Nat} {fs : List Value}
theorem c_get (F : CallFix p m c cc nL s args lw_all own) (hK : va_K D gCl tys s) (hat : va_at D gCl (a, .inr (ci, fs)) H) (hc : gCl[ci]? = some (C, T, N)) (hin : ∀ w ∈ u_ws C T N, w ∈ lw_all) (hk : k < N) (hlink : Cond.fieldLink own index ref (T k).2.1 (T k).2.2.1 ∈ lw_all)
    (hsame : ∀ x, s.fieldFound? (T k).1 (T k).2.1 (T k).2.2.1 = some x → s.fieldFound? ref (T k).2.1 (T k).2.2.1 = some x) {v : Value} (hv : fs[k]? = some v) (hdg : decode cc pc = .ok (.getfield index, 3))
    (kk : W p l e R s m args below meth c H locs cells slots Q (F0 m (pc + 3) ls (v :: rest))) : W p l e R s m args below meth c H locs cells slots Q (F0 m pc ls (.ref a :: rest)) :=
  va_get (C := C) (T := T) (N := N) (ref := ref) F.1 F.2.1 F.2.2.2.2 hin F.2.2.2.1 hK (va_P1 hat) 0 rfl hc k hk (F.2.2.2.2 _ hlink) hsame hv hdg kk
theorem c_getN (F : CallFix p m c cc nL s args lw_all own) (hK : va_K D gCl tys s) (hat : va_at D gCl (a, .inr (ci, fs)) H) (hc : gCl[ci]? = some (C, T, N)) (hin : ∀ w ∈ u_ws C T N, w ∈ lw_all) (hk : k < N) (hlink : va_Nw (.fieldLinkNest own index ref (T k).2.1 (T k).2.2.1 host) s)
    (hsame : ∀ x, s.fieldFound? (T k).1 (T k).2.1 (T k).2.2.1 = some x → s.fieldFound? ref (T k).2.1 (T k).2.2.1 = some x) {v : Value} (hv : fs[k]? = some v) (hdg : decode cc pc = .ok (.getfield index, 3))
    (kk : W p l e R s m args below meth c H locs cells slots Q (F0 m (pc + 3) ls (v :: rest))) : W p l e R s m args below meth c H locs cells slots Q (F0 m pc ls (.ref a :: rest)) :=
  va_getN (C := C) (T := T) (N := N) (ref := ref) F.1 F.2.1 F.2.2.2.2 hin F.2.2.2.1 hK (va_P1 hat) 0 rfl hc k hk (va_Nw.use rfl hlink) hsame hv hdg kk
theorem c_put (F : CallFix p m c cc nL s args lw_all own) (hK : va_K D gCl tys s) (hat : va_at D gCl (a, .inr (ci, fs)) H) (hc : gCl[ci]? = some (C, T, N)) (hin : ∀ w ∈ u_ws C T N, w ∈ lw_all) (ty0 : Nat → FieldType) (hty : ∀ k, k < N → parseFieldDescriptor (T k).2.2.1 = some (ty0 k)) (hnm : ∀ a, a < N → ∀ b, b < N → a ≠ b → (T a).2.1 ≠ (T b).2.1) (hk : k < N) (hlink : Cond.fieldLink own index ref (T k).2.1 (T k).2.2.1 ∈ lw_all)
    (hsame : ∀ x, s.fieldFound? (T k).1 (T k).2.1 (T k).2.2.1 = some x → s.fieldFound? ref (T k).2.1 (T k).2.2.1 = some x) (hfin : (T k).2.2.2 = false) {ty : FieldType} {v : Value} (hd : parseFieldDescriptor (T k).2.2.1 = some ty) (hn : narrow ty v = v) (hfit : fits ty v = true) (hl : k < fs.length) (hdg : decode cc pc = .ok (.putfield index, 3))
    (kk : ∀ (H1 : Heap) (i : Nat), va_at D gCl (a, .inr (ci, fs.set k v)) H1 → H1.size = H.size → (∀ q : Nat, q ≠ a → H1[q]? = H[q]?) → W p l e R s m args below meth c H1 (locs ++ [⟨a, i⟩]) cells slots Q (F0 m (pc + 3) ls rest)) : W p l e R s m args below meth c H locs cells slots Q (F0 m pc ls (v :: .ref a :: rest)) := by
  have hts := F.2.2.2.2
  have hap := va_apart (own := own) hts hin ty0 hty hnm hK hc
  obtain ⟨r, h1, cell, q1, q2, q3, q4⟩ := hat
  have hr : r = (C, T, N) := Option.some.inj (h1.symm.trans hc)
  subst hr
  obtain ⟨hS, hfc, kC, hkC, hkind⟩ := hK.1 ci _ hc
  obtain ⟨cf, kf, fi, f, hi, hsl⟩ := hS k hk
  have hlay := hts _ (hin _ (u_in_lay hk))
  unfold u_lay at hlay
  rw [if_neg (by rw [hfin]; decide)] at hlay
  have hst := (u_facts hfc hkC (u_lays hts hin hk) hi).1
  have h6 := u_store hfc hkC hkind hlay hi hd hn hfit
  refine W.putK F.1 F.2.1 (f := f) ⟨F.2.2.2.1, hts _ hlink, ⟨_, _, _, hsame _ hi⟩, hst⟩ (by rw [q2]; exact h6) q1 q3 (by rw [hsl]; exact k2_hasslot (q4 k hk)) rfl rfl hdg fun H' e1 e2 e3 => ?_
  rw [hsl] at e1 ⊢
  exact kk H' _ ⟨_, hc, t_OB.to (V := updV (vp_V fs) k v) ⟨_, e1, q2, q3, t_set q4 hap hk v⟩ (fun j _ => vp_updV_set hl v j)⟩ e2 e3
theorem c_putN (F : CallFix p m c cc nL s args lw_all own) (hK : va_K D gCl tys s) (hat : va_at D gCl (a, .inr (ci, fs)) H) (hc : gCl[ci]? = some (C, T, N)) (hin : ∀ w ∈ u_ws C T N, w ∈ lw_all) (ty0 : Nat → FieldType) (hty : ∀ k, k < N → parseFieldDescriptor (T k).2.2.1 = some (ty0 k)) (hnm : ∀ a, a < N → ∀ b, b < N → a ≠ b → (T a).2.1 ≠ (T b).2.1) (hk : k < N) (hlink : va_Nw (.fieldLinkNest own index ref (T k).2.1 (T k).2.2.1 host) s)
    (hsame : ∀ x, s.fieldFound? (T k).1 (T k).2.1 (T k).2.2.1 = some x → s.fieldFound? ref (T k).2.1 (T k).2.2.1 = some x) (hfin : (T k).2.2.2 = false) {ty : FieldType} {v : Value} (hd : parseFieldDescriptor (T k).2.2.1 = some ty) (hn : narrow ty v = v) (hfit : fits ty v = true) (hl : k < fs.length) (hdg : decode cc pc = .ok (.putfield index, 3))
    (kk : ∀ (H1 : Heap) (i : Nat), va_at D gCl (a, .inr (ci, fs.set k v)) H1 → H1.size = H.size → (∀ q : Nat, q ≠ a → H1[q]? = H[q]?) → W p l e R s m args below meth c H1 (locs ++ [⟨a, i⟩]) cells slots Q (F0 m (pc + 3) ls rest)) : W p l e R s m args below meth c H locs cells slots Q (F0 m pc ls (v :: .ref a :: rest)) := by
  have hts := F.2.2.2.2
  have hap := va_apart (own := own) hts hin ty0 hty hnm hK hc
  obtain ⟨r, h1, cell, q1, q2, q3, q4⟩ := hat
  have hr : r = (C, T, N) := Option.some.inj (h1.symm.trans hc)
  subst hr
  obtain ⟨hS, hfc, kC, hkC, hkind⟩ := hK.1 ci _ hc
  obtain ⟨cf, kf, fi, f, hi, hsl⟩ := hS k hk
  have hlay := hts _ (hin _ (u_in_lay hk))
  unfold u_lay at hlay
  rw [if_neg (by rw [hfin]; decide)] at hlay
  have hst := (u_facts hfc hkC (u_lays hts hin hk) hi).1
  have h6 := u_store hfc hkC hkind hlay hi hd hn hfit
  refine va_WputK F.1 F.2.1 (f := f) F.2.2.2.1 (va_Nw.use rfl hlink) (hsame _ hi) hst (by rw [q2]; exact h6) q1 q3 (by rw [hsl]; exact k2_hasslot (q4 k hk)) rfl rfl hdg fun H' e1 e2 e3 => ?_
  rw [hsl] at e1 ⊢
  exact kk H' _ ⟨_, hc, t_OB.to (V := updV (vp_V fs) k v) ⟨_, e1, q2, q3, t_set q4 hap hk v⟩ (fun j _ => vp_updV_set hl v j)⟩ e2 e3
end CR
/-! reads and stores of the pool, as functions -/
def fldC (cl : Nat) (g : mS) (J c k : Nat) : Option Int32 := if cCl g J c = cl then some (cfl g J c k) else none
def fldH (g : mS) (J c : Nat) : Option Int32 := if cCl g J c = 6 then some (cHalf g J c) else none
def wrC (cl : Nat) (g : mS) (J c k : Nat) (v : Int32) : Option mS := if cCl g J c = cl then some (mUp g J (6 + 6 * c + k) v) else none
def wrW (g : mS) (J i : Nat) (v : Int32) : Option mS := some (mUp g J i v)
def wrY (g : mS) (J : Nat) : Option mS := some (mUp g 0 0 (nI J))
def rdW (g : mS) : Option Nat := if 100 ≤ (g 0 0).toNatClampNeg then some (g 0 0).toNatClampNeg else none
def ix100 (i : Int32) : Option Nat := if ¬ (i < 0 ∨ 100 ≤ i.toNatClampNeg) then some i.toNatClampNeg else none
def crdI (g : mS) (j : Nat) (i : Int32) : Option Int32 := if (1 ≤ j ∧ j < 7) ∧ ¬ (i < 0 ∨ cLen j ≤ i.toNatClampNeg) then some (g j i.toNatClampNeg) else none
def cwrI (g : mS) (j : Nat) (i v : Int32) : Option mS := if (1 ≤ j ∧ j < 7) ∧ ¬ (i < 0 ∨ cLen j ≤ i.toNatClampNeg) then some (mUp g j i.toNatClampNeg v) else none
def isC (cl : Nat) (g : mS) (J c : Nat) : Int32 := if cCl g J c = cl then 1 else 0
def ckC (cl : Nat) (g : mS) (J c : Nat) : Option Unit := if cCl g J c = cl then some () else none
def dxV (j : Nat) : Int32 := match j with
  | 1 => 1
  | 3 => -1
  | _ => 0
def dyV (j : Nat) : Int32 := match j with
  | 0 => -1
  | 2 => 1
  | _ => 0
def rdX (i : Int32) : Option Int32 := if ¬ (i < 0 ∨ 4 ≤ i.toNatClampNeg) then some (dxV i.toNatClampNeg) else none
def rdY (i : Int32) : Option Int32 := if ¬ (i < 0 ∨ 4 ≤ i.toNatClampNeg) then some (dyV i.toNatClampNeg) else none
def vKind (g : mS) (J c : Nat) : Int32 := if cCl g J c = 4 then 0 else if cCl g J c = 5 then (if cfl g J c 1 = -1 then 1 else 7) else if cCl g J c = 6 then (if cHalf g J c = 0 then 2 else 3) else if cCl g J c = 7 then 4 else if cCl g J c = 8 then 5 else 6
def vForm (g : mS) (J c : Nat) : Int32 := if cCl g J c = 4 then -1 else if cCl g J c = 7 then -1 else cfl g J c 1
def vOwner (g : mS) (J c : Nat) : Int32 := if cCl g J c = 6 then cfl g J c 2 else if cCl g J c = 7 then cfl g J c 2 else -1
theorem ix100_lt {i : Int32} {c : Nat} (h : ix100 i = some c) : c < 100 := by
  obtain ⟨h1, rfl⟩ := if_inv h
  exact Nat.not_le.mp fun q => h1 (Or.inr q)
abbrev cTys (E : cEnv) : List (ClassId × FieldType) := [(E.2.1 0, .int), (E.2.1 1, .boolean), (E.2.1 2, .byte), (E.2.1 3, .array .int), (E.2.1 4, .object "java/lang/Object"), (E.2.1 5, .object "MirrorDoors$World"), (E.2.1 6, .object "MirrorDoors$Cell"), (E.2.1 7, .long)]
