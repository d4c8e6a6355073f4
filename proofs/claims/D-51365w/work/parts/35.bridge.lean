/-! FROM THE HEAP INTO THE POOL OF ONE WORLD AND THE RAY, AND BACK -/
set_option maxRecDepth 100000
/-- addresses: of the ray (0), its arrays (1 .. 6), a world that it traced once (50), the world (100); the row of cells; the cells -/
abbrev hD : Type := (Nat → Nat) × Nat × (Nat → Nat)
def hDR (d : hD) (r : Nat) : Nat := if r < 8 then d.1 (r - 1) else if r % 1000 = 1 then d.1 (r / 1000) else if r % 1000 = 2 then d.2.1 else d.2.2 (r % 1000 - 10)
def hRoles : List Nat := [1, 2, 3, 4, 5, 6, 7, 100001, 100002] ++ (List.range 100).map (fun c => 100010 + c)
def hRole (d : hD) (q : Nat) : Option Nat := hRoles.find? (fun r => hDR d r == q)
noncomputable def hDE (E : hEnv) (d : hD) (g : mS) (top : Nat) : cEnv := (E.1, E.2.1, d.1, fun _ => d.2.1, fun _ c => d.2.2 c, (fun q => match hRole d q with
  | some r => @ite Nat (mutR g r) (Classical.propDecidable _) r 8
  | none => 0), 1, E.2.2 0, E.2.2 1, top)
def dRay (d : hD) (g : mS) (k : Nat) : Value := match k with
  | 0 => if g 0 0 = 0 then .null else .ref (d.1 (g 0 0).toNatClampNeg)
  | 1 => .ref (d.1 1)
  | 2 => .ref (d.1 2)
  | 3 => .ref (d.1 3)
  | 6 => .ref (d.1 4)
  | 9 => .ref (d.1 5)
  | 10 => .ref (d.1 6)
  | n => .int (g 0 n)
def dWf (d : hD) (g : mS) : List Value := [.ref (d.1 0), .int (g 100 0), .int (g 100 1), .ref d.2.1, .int (g 100 606), .int (g 100 2), .int (g 100 3), .int (g 100 4), .int (g 100 5)]
def hDC (d : hD) (g : mS) (r : Nat) : hC := if r = 1 then .inl (2, (List.range 12).map (dRay d g)) else if r < 8 then .inr (0, cLen (r - 1), .inl (g (r - 1))) else if r % 1000 = 1 then .inl (3, dWf d g) else if r % 1000 = 2 then .inr (6, 100, .inr (.inr (.inr (.inr (fun c => some (d.2.2 c)))))) else .inl (cCl g 100 (r % 1000 - 10), cFs g 100 (r % 1000 - 10))
def hRel (d : hD) (g : mS) (o : hO) : Prop := (∀ r ∈ hRoles, o (hDR d r) = some (true, hDC d g r)) ∧ (∀ r ∈ hRoles, ∀ t ∈ hRoles, hDR d r = hDR d t → r = t) ∧ (100 ≤ (g 0 0).toNatClampNeg → (g 0 0).toNatClampNeg = 100)
def hPut (d : hD) (g : mS) (o : hO) : hO := fun q => match hRole d q with
  | some r => some (true, hDC d g r)
  | none => o q
def hpret (w : hW) (d : hD) (g : mS) (f : hW → Prop) : Prop := hRel d g (hPut d g w.1) → f (hPut d g w.1, w.2)
theorem hRoles_ok {E : hEnv} {d : hD} {g : mS} {top r : Nat} : r ∈ hRoles ↔ okR (hDE E d g top) r := by
  unfold hRoles okR okW
  show _ ↔ (1 ≤ r ∧ r ≤ 7) ∨ ((100 ≤ r / 1000 ∧ r / 1000 < 100 + 1) ∧ _)
  simp only [List.cons_append, List.nil_append, List.mem_cons, List.mem_map, List.mem_range]
  constructor
  · intro h
    rcases h with h | h | h | h | h | h | h | h | h | ⟨c, hc, h⟩ <;> omega
  · intro h
    by_cases h1 : r ≤ 7
    · omega
    · by_cases h2 : r = 100001
      · omega
      · by_cases h3 : r = 100002
        · omega
        · exact Or.inr (Or.inr (Or.inr (Or.inr (Or.inr (Or.inr (Or.inr (Or.inr (Or.inr ⟨r - 100010, by omega, by omega⟩))))))))
theorem hRoles_100 {r : Nat} (h : r ∈ hRoles) (h8 : ¬ r < 8) : r / 1000 = 100 := by
  have h2 := (hRoles_ok (E := (((fun _ => 0), (fun _ _ => 0)), (fun _ => 0), (fun _ => 0))) (d := ((fun _ => 0), 0, (fun _ => 0))) (g := fun _ _ => 0) (top := 0)).mp h
  rcases h2 with h2 | ⟨h2, -⟩
  · omega
  · have h3 : 100 ≤ r / 1000 ∧ r / 1000 < 100 + 1 := h2
    omega
theorem rAd_D {E : hEnv} {d : hD} {g : mS} {top r : Nat} : rAd (hDE E d g top) r = hDR d r := rfl
theorem hDC_tr {E : hEnv} {d : hD} {g g0 : mS} {top r : Nat} (h : r ∈ hRoles) : hTr E (hDC d g r) = rEx (hDE E d g0 top) g r := by
  unfold hDC rEx
  by_cases h1 : r = 1
  · rw [if_pos h1, if_pos h1]
    rfl
  · rw [if_neg h1, if_neg h1]
    by_cases h8 : r < 8
    · rw [if_pos h8, if_pos h8]
      rfl
    · have h100 := hRoles_100 h h8
      rw [if_neg h8, if_neg h8]
      by_cases h2 : r % 1000 = 1
      · rw [if_pos h2, if_pos h2, h100]
        rfl
      · rw [if_neg h2, if_neg h2]
        by_cases h3 : r % 1000 = 2
        · rw [if_pos h3, if_pos h3]
          rfl
        · rw [if_neg h3, if_neg h3, h100]
          rfl
theorem hRole_some {d : hD} {q r : Nat} (h : hRole d q = some r) : r ∈ hRoles ∧ hDR d r = q :=
  ⟨List.mem_of_find?_eq_some h, by have := List.find?_some h; simpa using this⟩
theorem hRole_of {d : hD} {r : Nat} (hd : ∀ r ∈ hRoles, ∀ t ∈ hRoles, hDR d r = hDR d t → r = t) (h : r ∈ hRoles) : hRole d (hDR d r) = some r := by
  cases e : hRole d (hDR d r) with
  | none =>
    have := List.find?_eq_none.mp e r h
    simp at this
  | some t =>
    obtain ⟨h1, h2⟩ := hRole_some e
    rw [hd t h1 r h h2]
theorem hB_in {E : hEnv} {A : Nat → Prop} {d : hD} {g : mS} {o : hO} {H : Heap} (hr : hRel d g o) (hp : hP E A o H) : cP (hDE E d g H.size) g H := by
  refine ⟨fun r hR => ?_, fun r hR => ?_, fun q hq => ?_, fun h => ?_⟩
  · have hm := hRoles_ok.mpr hR
    rw [← hDC_tr hm, rAd_D]
    exact (hp.1 _ _ _ (hr.1 r hm)).1
  · have hm := hRoles_ok.mpr hR
    have e : cga (hDE E d g H.size) (rAd (hDE E d g H.size) r) = @ite Nat (mutR g r) (Classical.propDecidable _) r 8 := by
      show (match hRole d (hDR d r) with
        | some r => @ite Nat (mutR g r) (Classical.propDecidable _) r 8
        | none => 0) = _
      rw [hRole_of hr.2.1 hm]
    exact ⟨fun h => by rw [e, if_pos h], fun h => by rw [e, if_neg h]⟩
  · show (match hRole d q with
      | some r => @ite Nat (mutR g r) (Classical.propDecidable _) r 8
      | none => 0) = 0
    cases e : hRole d q with
    | none => rfl
    | some r =>
      obtain ⟨h1, h2⟩ := hRole_some e
      have h3 := hr.1 r h1
      rw [h2, hp.2 q hq] at h3
      cases h3
  · have h1 := hr.2.2 h
    rw [h1]
    exact ⟨Nat.le_refl _, by show 100 < 100 + 1; omega⟩
theorem hB_A {E : hEnv} {A : Nat → Prop} {d : hD} {g : mS} {o : hO} {H : Heap} (hr : hRel d g o) (hp : hP E A o H) (hf : ∀ q : Nat, H.size ≤ q → A q) : ∀ q : Nat, wA (hDE E d g H.size) q → A q := by
  intro q hq
  rcases hq with hq | hq
  · cases e : hRole d q with
    | none =>
      exfalso
      apply hq
      show (match hRole d q with
        | some r => @ite Nat (mutR g r) (Classical.propDecidable _) r 8
        | none => 0) = 0
      rw [e]
    | some r =>
      obtain ⟨h1, h2⟩ := hRole_some e
      have h3 := hr.1 r h1
      rw [h2] at h3
      exact (hp.1 q _ _ h3).2 rfl
  · exact hf q hq
theorem hB_out {E : hEnv} {A : Nat → Prop} {d : hD} {g g' : mS} {o : hO} {H H1 : Heap} (hr : hRel d g o) (hp : hP E A o H) (hc : cP (hDE E d g H.size) g' H1) (hz : H.size ≤ H1.size) (hk : ∀ q : Nat, q < H.size → ¬ wA (hDE E d g H.size) q → H1[q]? = H[q]?) : hP E A (hPut d g' o) H1 ∧ hRel d g' (hPut d g' o) := by
  refine ⟨⟨fun a w e h => ?_, fun q hq => ?_⟩, fun r h => ?_, hr.2.1, fun h => ?_⟩
  · unfold hPut at h
    cases er : hRole d a with
    | none =>
      rw [er] at h
      have h1 := hp.1 a w e h
      refine ⟨h1.1.kept (hk a h1.1.lt ?_), h1.2⟩
      rintro (h2 | h2)
      · apply h2
        show (match hRole d a with
          | some r => @ite Nat (mutR g r) (Classical.propDecidable _) r 8
          | none => 0) = 0
        rw [er]
      · have h3 : H.size ≤ a := h2
        have h4 : a < H.size := h1.1.lt
        omega
    | some r =>
      rw [er] at h
      cases h
      obtain ⟨h1, h2⟩ := hRole_some er
      have h3 := hc.1 r (hRoles_ok.mp h1)
      rw [← hDC_tr (E := E) h1, rAd_D, h2] at h3
      have h4 := hr.1 r h1
      rw [h2] at h4
      exact ⟨h3, (hp.1 a _ _ h4).2⟩
  · unfold hPut
    cases er : hRole d q with
    | none => exact hp.2 q (by omega)
    | some r =>
      obtain ⟨h1, h2⟩ := hRole_some er
      have h4 := hr.1 r h1
      rw [h2, hp.2 q (by omega)] at h4
      cases h4
  · unfold hPut
    rw [hRole_of hr.2.1 h]
  · have h1 : okW (hDE E d g H.size) (g' 0 0).toNatClampNeg := hc.2.2.2 h
    have h2 : 100 ≤ (g' 0 0).toNatClampNeg ∧ (g' 0 0).toNatClampNeg < 100 + 1 := h1
    omega
/-- what the pool's contracts ask for -/
theorem hB_K {E : hEnv} {A : Nat → Prop} {d : hD} {g : mS} {top : Nat} {U : State} (hK : hK E A U) (hA : ∀ q : Nat, wA (hDE E d g top) q → A q) : cK (hDE E d g top) U := by
  obtain ⟨h1, ⟨a1, a2, a3, a4, -⟩, ⟨⟨b1, b2, -⟩, -, -, -, -, -, -, -, -, b13, b14, b15⟩, -⟩ := hK
  exact ⟨h1, a1, a2, a3, a4, b13, ⟨b1.narrow hA, b14.narrow hA, b2.narrow hA, b15.narrow hA⟩, by show 100 + 1 < 2147483648; omega⟩
section HB
variable {p : Program} {l : Launch} {e : Env} {R : Room} {s : State} {m : MethodId} {args : Array Value} {below : List Frame} {meth : Method} {c : Code} {H : Heap} {locs : List Loc} {Q : State → Prop}
variable {pc cb sb : Nat} {ls : Array Slot} {rest st0 : List Value} {E : hEnv} {A : Nat → Prop} {w : hW} {d : hD} {g gZ : mS}
theorem hB_pre (hK : hK E A s) (S : hS E A s.heap cb sb w H locs) (hr : hRel d g w.1) : ∀ U : State, U.heap = H → s.WarmedH U.vm → gPre (cK (hDE E d g H.size)) (cP (hDE E d g H.size) g) U := by
  intro U hU hW
  have hKU := hKm E A s U hW (by rw [hU]; exact S.1.2.1) (by rw [hU]; exact S.1.2.2.1) hK
  have hz := S.1.2.1
  exact ⟨by rw [hU]; exact hB_in hr S.1.1, hB_K hKU (hB_A hr S.1.1 (fun q hq => hK.2.2.2 q (by omega)))⟩
end HB
theorem hPut_self {d : hD} {g : mS} {o : hO} (h : hRel d g o) : hPut d g o = o := by
  funext q
  unfold hPut
  cases er : hRole d q with
  | none => rfl
  | some r =>
    obtain ⟨h1, h2⟩ := hRole_some er
    rw [← h2]
    exact (h.1 r h1).symm
section HB2
variable {p : Program} {l : Launch} {e : Env} {R : Room} {s : State} {m : MethodId} {args : Array Value} {below : List Frame} {meth : Method} {c : Code} {H : Heap} {locs : List Loc} {Q : State → Prop}
variable {pc cb sb : Nat} {ls : Array Slot} {rest st0 : List Value} {E : hEnv} {A : Nat → Prop} {w : hW} {d : hD} {g gZ : mS}
theorem hb_ki {r : Int32} {a : Array Value} (hK : hK E A s) (S : hS E A s.heap cb sb w H locs) (hr : hRel d g w.1) (run : va_Run p l e R s m args below meth c H locs (cb - w.2.1) (sb - w.2.2) 0 0 (F0 m pc ls st0) rest (gQi r (cP (hDE E d g H.size) gZ) (wA (hDE E d g H.size)) a) (wA (hDE E d g H.size)))
    (kk : ∀ (w' : hW) (H1 : Heap) (locs1 : List Loc), w' = (hPut d gZ w.1, w.2) → hRel d gZ (hPut d gZ w.1) → hS E A s.heap cb sb w' H1 locs1 → W p l e R s m args below meth c H1 locs1 (cb - w'.2.1) (sb - w'.2.2) Q (F0 m (pc + 3) ls (.int r :: rest))) : W p l e R s m args below meth c H locs (cb - w.2.1) (sb - w.2.2) Q (F0 m pc ls st0) := by
  have hz0 := S.1.2.1
  have hA := hB_A hr S.1.1 (fun q hq => hK.2.2.2 q (by omega))
  refine va_calli run S.1.2 (fun q _ h => hA q h) (fun q h => hA q h) fun r1 u t H1 locs1 ht hvm hp hB hz hk hS => ?_
  rw [hp]
  obtain ⟨o1, o2⟩ := hB_out hr S.1.1 (by rw [← ht]; exact hB) hz hk
  exact kk (hPut d gZ w.1, w.2) H1 locs1 rfl o2 ⟨⟨o1, hS⟩, S.2⟩
theorem hb_kv {a : Array Value} (hK : hK E A s) (S : hS E A s.heap cb sb w H locs) (hr : hRel d g w.1) (run : va_Run p l e R s m args below meth c H locs (cb - w.2.1) (sb - w.2.2) 0 0 (F0 m pc ls st0) rest (gQv (cP (hDE E d g H.size) gZ) (wA (hDE E d g H.size)) a) (wA (hDE E d g H.size)))
    (kk : ∀ (w' : hW) (H1 : Heap) (locs1 : List Loc), w' = (hPut d gZ w.1, w.2) → hRel d gZ (hPut d gZ w.1) → hS E A s.heap cb sb w' H1 locs1 → W p l e R s m args below meth c H1 locs1 (cb - w'.2.1) (sb - w'.2.2) Q (F0 m (pc + 3) ls rest)) : W p l e R s m args below meth c H locs (cb - w.2.1) (sb - w.2.2) Q (F0 m pc ls st0) := by
  have hz0 := S.1.2.1
  have hA := hB_A hr S.1.1 (fun q hq => hK.2.2.2 q (by omega))
  refine va_callv run S.1.2 (fun q _ h => hA q h) (fun q h => hA q h) fun u t H1 locs1 ht hvm hp hB hz hk hS => ?_
  obtain ⟨o1, o2⟩ := hB_out hr S.1.1 (by rw [← ht]; exact hB) hz hk
  exact kk (hPut d gZ w.1, w.2) H1 locs1 rfl o2 ⟨⟨o1, hS⟩, S.2⟩
theorem hb_kr {v : Nat} {a : Array Value} (hK : hK E A s) (S : hS E A s.heap cb sb w H locs) (hr : hRel d g w.1) (run : va_Run p l e R s m args below meth c H locs (cb - w.2.1) (sb - w.2.2) 0 0 (F0 m pc ls st0) rest (gQr v (cP (hDE E d g H.size) gZ) (wA (hDE E d g H.size)) a) (wA (hDE E d g H.size)))
    (kk : ∀ (w' : hW) (H1 : Heap) (locs1 : List Loc), w' = (hPut d gZ w.1, w.2) → hRel d gZ (hPut d gZ w.1) → hS E A s.heap cb sb w' H1 locs1 → W p l e R s m args below meth c H1 locs1 (cb - w'.2.1) (sb - w'.2.2) Q (F0 m (pc + 3) ls (.ref v :: rest))) : W p l e R s m args below meth c H locs (cb - w.2.1) (sb - w.2.2) Q (F0 m pc ls st0) := by
  have hz0 := S.1.2.1
  have hA := hB_A hr S.1.1 (fun q hq => hK.2.2.2 q (by omega))
  refine va_callr run S.1.2 (fun q _ h => hA q h) (fun q h => hA q h) fun u ra t H1 locs1 ht hvm hp hB hz hk hS => ?_
  obtain ⟨hB1, hB2⟩ := hB
  obtain ⟨o1, o2⟩ := hB_out hr S.1.1 (by rw [← ht]; exact hB2) hz hk
  rw [hB1]
  exact kk (hPut d gZ w.1, w.2) H1 locs1 rfl o2 ⟨⟨o1, hS⟩, S.2⟩
end HB2
theorem hpret_mp {w w' : hW} {d : hD} {g : mS} {f : hW → Prop} (h : hpret w d g f) (e : w' = (hPut d g w.1, w.2)) (hr : hRel d g (hPut d g w.1)) : f w' := by
  subst e
  exact h hr
theorem hRel_w {d : hD} {g : mS} {o : hO} (h : hRel d g o) : ∃ (b : Bool) (fs : List Value), o (d.1 100) = some (b, .inl (3, fs)) := ⟨true, _, h.1 100001 (by simp [hRoles])⟩
theorem hRel_ray {d : hD} {g : mS} {o : hO} (h : hRel d g o) : ∃ (b : Bool) (fs : List Value), o (d.1 0) = some (b, .inl (2, fs)) := ⟨true, _, h.1 1 (by simp [hRoles])⟩
theorem hOk100 {E : hEnv} {d : hD} {g : mS} {top : Nat} : okW (hDE E d g top) 100 := ⟨Nat.le_refl _, by show 100 < 100 + 1; omega⟩
/-- a row of 20 numbers in the heap, beside the pool -/
theorem hB_Kq {E : hEnv} {A : Nat → Prop} {d : hD} {g : mS} {w : hW} {U : State} {H : Heap} {H0 : Heap} {cb sb q0 : Nat} {b : Bool} {rq : Nat → Int32} {locs : List Loc} (hKU : hK E A U) (hU : U.heap = H) (S : hS E A H0 cb sb w H locs) (hr : hRel d g w.1) (hA : ∀ q : Nat, wA (hDE E d g H.size) q → A q) (ho : w.1 q0 = some (b, .inr (0, 20, .inl rq))) : cKq (hDE E d g H.size) q0 rq U := by
  refine ⟨hB_K hKU hA, ?_⟩
  have hat : H[q0]? = some (vp_cell (E.2.1 0) (20, .inl rq)) := (S.1.1.1 q0 b _ ho).1
  refine ⟨arrV (E.2.1 0) 20 (fun j => .int (rq j)), by rw [hU]; exact hat, (hKU.1.2 0 _ rfl).1 20 (fun j => .int (rq j)), (fun h => by cases h), by rw [arrV_size]; exact Nat.le_refl _, by rw [arrV_size], fun j hj => arrV_read _ _ hj, ?_⟩
  rintro (h | h)
  · apply h
    show (match hRole d q0 with
      | some r => @ite Nat (mutR g r) (Classical.propDecidable _) r 8
      | none => 0) = 0
    cases er : hRole d q0 with
    | none => rfl
    | some r =>
      exfalso
      obtain ⟨h1, h2⟩ := hRole_some er
      have h3 := hr.1 r h1
      rw [h2, ho] at h3
      have h4 : (.inr (0, 20, .inl rq) : hC) = hDC d g r := (Prod.mk.inj (Option.some.inj h3)).2
      unfold hDC at h4
      split at h4
      · cases h4
      · split at h4
        · have h5 := congrArg (fun z : Nat × Nat × _ => z.2.1) (Sum.inr.inj h4)
          have h6 : 20 = cLen (r - 1) := h5
          unfold cLen at h6
          split at h6 <;> omega
        · split at h4
          · cases h4
          · split at h4
            · simp at h4
            · cases h4
  · have h3 : H.size ≤ q0 := h
    have h4 : q0 < H.size := (S.1.1.1 q0 b _ ho).1.lt
    omega
