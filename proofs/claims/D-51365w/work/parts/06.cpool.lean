/-! THE COMPONENT'S POOL: the ray and all worlds, over mS: g 0 the ray's fields, g 1 .. g 6 its arrays, g J (J from 100 on) the row of the world J: 0 wide 1 high 2 lock 3 limit 4 moves 5 latest, 6 + 6c + (kind, sense, owner, lock, turns, opened) the cell c, 606 lamp -/
set_option maxRecDepth 100000
abbrev cEnv : Type := va_G × (Nat → ClassId) × (Nat → Nat) × (Nat → Nat) × (Nat → Nat → Nat) × (Nat → Nat) × Nat × Nat × Nat × Nat
abbrev cad (E : cEnv) (j : Nat) : Nat := E.2.2.1 j
abbrev cca (E : cEnv) (j : Nat) : Nat := E.2.2.2.1 j
abbrev coa (E : cEnv) (j k : Nat) : Nat := E.2.2.2.2.1 j k
abbrev cga (E : cEnv) (q : Nat) : Nat := E.2.2.2.2.2.1 q
abbrev cN (E : cEnv) : Nat := E.2.2.2.2.2.2.1
/-- the static rows of directions -/
abbrev cDX (E : cEnv) : Nat := E.2.2.2.2.2.2.2.1
abbrev cDY (E : cEnv) : Nat := E.2.2.2.2.2.2.2.2.1
/-- what lies from here on may be written, too: a method's own new cells -/
abbrev cTop (E : cEnv) : Nat := E.2.2.2.2.2.2.2.2.2
def okW (E : cEnv) (J : Nat) : Prop := 100 ≤ J ∧ J < 100 + cN E
abbrev ckd (g : mS) (J c : Nat) : Int32 := g J (6 + 6 * c)
abbrev cfl (g : mS) (J c k : Nat) : Int32 := g J (6 + 6 * c + k)
/-- the number of a cell's class, in gCl -/
def cCl (g : mS) (J c : Nat) : Nat :=
  if ckd g J c = 0 then 4 else if ckd g J c = 1 ∨ ckd g J c = 7 then 5 else if ckd g J c = 2 ∨ ckd g J c = 3 then 6 else if ckd g J c = 4 then 7 else if ckd g J c = 5 then 8 else 9
def cHalf (g : mS) (J c : Nat) : Int32 := if ckd g J c = 3 then 1 else 0
def cFs (g : mS) (J c : Nat) : List Value :=
  if cCl g J c = 4 then [.int (nI c)] else if cCl g J c = 6 then [.int (nI c), .int (cHalf g J c), .int (cfl g J c 2), .int (cfl g J c 1), .int (cfl g J c 3), .int (cfl g J c 4)]
  else if cCl g J c = 7 then [.int (nI c), .int (cfl g J c 2), .int (cfl g J c 5)] else [.int (nI c), .int (cfl g J c 1)]
theorem cCl_in (g : mS) (J c : Nat) : cCl g J c = 4 ∨ cCl g J c = 5 ∨ cCl g J c = 6 ∨ cCl g J c = 7 ∨ cCl g J c = 8 ∨ cCl g J c = 9 := by
  unfold cCl
  split
  · exact Or.inl rfl
  · split
    · exact Or.inr (Or.inl rfl)
    · split
      · exact Or.inr (Or.inr (Or.inl rfl))
      · split
        · exact Or.inr (Or.inr (Or.inr (Or.inl rfl)))
        · split
          · exact Or.inr (Or.inr (Or.inr (Or.inr (Or.inl rfl))))
          · exact Or.inr (Or.inr (Or.inr (Or.inr (Or.inr rfl))))
def cLen (j : Nat) : Nat := if j = 4 then 2 else 400
def cwr (E : cEnv) (x : Int32) : Value := if x = 0 then .null else .ref (cad E x.toNatClampNeg)
def cRay (E : cEnv) (g : mS) (k : Nat) : Value := match k with
  | 0 => cwr E (g 0 0)
  | 1 => .ref (cad E 1)
  | 2 => .ref (cad E 2)
  | 3 => .ref (cad E 3)
  | 6 => .ref (cad E 4)
  | 9 => .ref (cad E 5)
  | 10 => .ref (cad E 6)
  | n => .int (g 0 n)
def cWf (E : cEnv) (g : mS) (J : Nat) : List Value := [.ref (cad E 0), .int (g J 0), .int (g J 1), .ref (cca E J), .int (g J 606), .int (g J 2), .int (g J 3), .int (g J 4), .int (g J 5)]
/-- roles: 1 the ray, 2 .. 7 its arrays, 1000 J + 1 a world, 1000 J + 2 its row of cells, 1000 J + 10 + c its cell c -/
def okR (E : cEnv) (r : Nat) : Prop := (1 ≤ r ∧ r ≤ 7) ∨ (okW E (r / 1000) ∧ (r % 1000 = 1 ∨ r % 1000 = 2 ∨ (10 ≤ r % 1000 ∧ r % 1000 < 110)))
def rAd (E : cEnv) (r : Nat) : Nat := if r < 8 then cad E (r - 1) else if r % 1000 = 1 then cad E (r / 1000) else if r % 1000 = 2 then cca E (r / 1000) else coa E (r / 1000) (r % 1000 - 10)
def rEx (E : cEnv) (g : mS) (r : Nat) : va_E :=
  if r = 1 then .inr (2, (List.range 12).map (cRay E g)) else if r < 8 then .inl (E.2.1 0, cLen (r - 1), .inl (g (r - 1)))
  else if r % 1000 = 1 then .inr (3, cWf E g (r / 1000)) else if r % 1000 = 2 then .inl (E.2.1 6, 100, .inr (.inr (.inr (.inr (fun c => some (coa E (r / 1000) c))))))
  else .inr (cCl g (r / 1000) (r % 1000 - 10), cFs g (r / 1000) (r % 1000 - 10))
def mutR (g : mS) (r : Nat) : Prop := r < 8 ∨ r % 1000 = 1 ∨ r % 1000 = 2 ∨ (10 ≤ r % 1000 ∧ (cCl g (r / 1000) (r % 1000 - 10) = 6 ∨ cCl g (r / 1000) (r % 1000 - 10) = 7))
def cAp (E : cEnv) (g : mS) : Prop := ∀ r : Nat, okR E r → (mutR g r → cga E (rAd E r) = r) ∧ (¬ mutR g r → cga E (rAd E r) = 8)
/-- the ray's world is one of the pool -/
def cRw (E : cEnv) (g : mS) : Prop := 100 ≤ (g 0 0).toNatClampNeg → okW E (g 0 0).toNatClampNeg
def cP (E : cEnv) (g : mS) (H : Heap) : Prop := (∀ r : Nat, okR E r → va_at E.1 gCl (rAd E r, rEx E g r) H) ∧ cAp E g ∧ (∀ q : Nat, H.size ≤ q → cga E q = 0) ∧ cRw E g
def wA (E : cEnv) : Nat → Prop := fun q => cga E q ≠ 0 ∨ cTop E ≤ q
theorem wA_r {E : cEnv} {g : mS} {H : Heap} (h : cP E g H) {r : Nat} (hr : okR E r) : wA E (rAd E r) := by
  refine Or.inl ?_
  intro h0
  by_cases hm : mutR g r
  · have := (h.2.1 r hr).1 hm
    rw [h0] at this
    subst this
    rcases hr with ⟨h1, -⟩ | ⟨⟨h1, -⟩, -⟩ <;> omega
  · have := (h.2.1 r hr).2 hm
    omega
/-- a store into a cell that has one role alone -/
theorem cP_set {E : cEnv} {g g' : mS} {H H1 : Heap} {r : Nat} (h : cP E g H) (hr : okR E r) (hm : mutR g r) (hz : H1.size = H.size) (oq : ∀ q : Nat, q ≠ rAd E r → H1[q]? = H[q]?) (he : va_at E.1 gCl (rAd E r, rEx E g' r) H1)
    (ho : ∀ x : Nat, okR E x → x ≠ r → rEx E g' x = rEx E g x) (hmu : ∀ x : Nat, okR E x → (mutR g' x ↔ mutR g x)) (hw : cRw E g') : cP E g' H1 := by
  refine ⟨fun x hx => ?_, fun x hx => ?_, fun q hq => h.2.2.1 q (by rw [← hz]; exact hq), hw⟩
  · by_cases hxr : x = r
    · subst hxr; exact he
    · rw [ho x hx hxr]
      refine (h.1 x hx).kept (oq _ fun e => ?_)
      have e1 := (h.2.1 r hr).1 hm
      have e2 : cga E (rAd E x) = r := by rw [show rAd E x = rAd E r from e]; exact e1
      by_cases hmx : mutR g x
      · exact hxr (((h.2.1 x hx).1 hmx).symm.trans e2)
      · have e3 := (h.2.1 x hx).2 hmx
        rw [e2] at e3
        rcases hr with ⟨h1, h2⟩ | ⟨⟨h1, -⟩, -⟩ <;> omega
  · rw [hmu x hx]
    exact h.2.1 x hx
theorem rAd_ray (E : cEnv) : rAd E 1 = cad E 0 := by simp [rAd]
theorem rAd_arr (E : cEnv) {j : Nat} (h : j < 7) : rAd E (j + 1) = cad E j := by
  unfold rAd
  rw [if_pos (by omega)]
  rfl
theorem rAd_w (E : cEnv) {J : Nat} (h : 100 ≤ J) : rAd E (1000 * J + 1) = cad E J := by
  unfold rAd
  rw [if_neg (by omega), if_pos (by omega), show (1000 * J + 1) / 1000 = J by omega]
theorem rAd_k (E : cEnv) {J : Nat} (h : 100 ≤ J) : rAd E (1000 * J + 2) = cca E J := by
  unfold rAd
  rw [if_neg (by omega), if_neg (by omega), if_pos (by omega), show (1000 * J + 2) / 1000 = J by omega]
theorem rAd_c (E : cEnv) {J c : Nat} (h : 100 ≤ J) (hc : c < 100) : rAd E (1000 * J + 10 + c) = coa E J c := by
  unfold rAd
  rw [if_neg (by omega), if_neg (by omega), if_neg (by omega), show (1000 * J + 10 + c) / 1000 = J by omega, show (1000 * J + 10 + c) % 1000 - 10 = c by omega]
theorem rEx_ray (E : cEnv) (g : mS) : rEx E g 1 = .inr (2, (List.range 12).map (cRay E g)) := by simp [rEx]
theorem rEx_arr (E : cEnv) (g : mS) {j : Nat} (h0 : 1 ≤ j) (h : j < 7) : rEx E g (j + 1) = .inl (E.2.1 0, cLen j, .inl (g j)) := by
  unfold rEx
  rw [if_neg (by omega), if_pos (by omega)]
  rfl
theorem rEx_w (E : cEnv) (g : mS) {J : Nat} (h : 100 ≤ J) : rEx E g (1000 * J + 1) = .inr (3, cWf E g J) := by
  unfold rEx
  rw [if_neg (by omega), if_neg (by omega), if_pos (by omega), show (1000 * J + 1) / 1000 = J by omega]
theorem rEx_k (E : cEnv) (g : mS) {J : Nat} (h : 100 ≤ J) : rEx E g (1000 * J + 2) = .inl (E.2.1 6, 100, .inr (.inr (.inr (.inr (fun c => some (coa E J c)))))) := by
  unfold rEx
  rw [if_neg (by omega), if_neg (by omega), if_neg (by omega), if_pos (by omega), show (1000 * J + 2) / 1000 = J by omega]
theorem rEx_c (E : cEnv) (g : mS) {J c : Nat} (h : 100 ≤ J) (hc : c < 100) : rEx E g (1000 * J + 10 + c) = .inr (cCl g J c, cFs g J c) := by
  unfold rEx
  rw [if_neg (by omega), if_neg (by omega), if_neg (by omega), if_neg (by omega), show (1000 * J + 10 + c) / 1000 = J by omega, show (1000 * J + 10 + c) % 1000 - 10 = c by omega]
theorem okR_ray (E : cEnv) {j : Nat} (h : j < 7) : okR E (j + 1) := Or.inl ⟨by omega, by omega⟩
theorem okR_w {E : cEnv} {J : Nat} (h : okW E J) : okR E (1000 * J + 1) := Or.inr ⟨by rw [show (1000 * J + 1) / 1000 = J by omega]; exact h, Or.inl (by omega)⟩
theorem okR_k {E : cEnv} {J : Nat} (h : okW E J) : okR E (1000 * J + 2) := Or.inr ⟨by rw [show (1000 * J + 2) / 1000 = J by omega]; exact h, Or.inr (Or.inl (by omega))⟩
theorem okR_c {E : cEnv} {J c : Nat} (h : okW E J) (hc : c < 100) : okR E (1000 * J + 10 + c) := Or.inr ⟨by rw [show (1000 * J + 10 + c) / 1000 = J by omega]; exact h, Or.inr (Or.inr (by omega))⟩
theorem cAt_ray {E : cEnv} {g : mS} {H : Heap} (h : cP E g H) : va_at E.1 gCl (cad E 0, .inr (2, (List.range 12).map (cRay E g))) H := by
  have z := h.1 1 (okR_ray E (j := 0) (by omega))
  rw [rAd_ray, rEx_ray] at z
  exact z
theorem cAt_arr {E : cEnv} {g : mS} {H : Heap} (h : cP E g H) {j : Nat} (h0 : 1 ≤ j) (hj : j < 7) : va_at E.1 gCl (cad E j, .inl (E.2.1 0, cLen j, .inl (g j))) H := by
  have z := h.1 _ (okR_ray E hj)
  rw [rAd_arr E hj, rEx_arr E g h0 hj] at z
  exact z
theorem cAt_w {E : cEnv} {g : mS} {H : Heap} (h : cP E g H) {J : Nat} (hJ : okW E J) : va_at E.1 gCl (cad E J, .inr (3, cWf E g J)) H := by
  have z := h.1 _ (okR_w hJ)
  rw [rAd_w E hJ.1, rEx_w E g hJ.1] at z
  exact z
theorem cAt_k {E : cEnv} {g : mS} {H : Heap} (h : cP E g H) {J : Nat} (hJ : okW E J) : va_at E.1 gCl (cca E J, .inl (E.2.1 6, 100, .inr (.inr (.inr (.inr (fun c => some (coa E J c))))))) H := by
  have z := h.1 _ (okR_k hJ)
  rw [rAd_k E hJ.1, rEx_k E g hJ.1] at z
  exact z
theorem cAt_c {E : cEnv} {g : mS} {H : Heap} (h : cP E g H) {J c : Nat} (hJ : okW E J) (hc : c < 100) : va_at E.1 gCl (coa E J c, .inr (cCl g J c, cFs g J c)) H := by
  have z := h.1 _ (okR_c hJ hc)
  rw [rAd_c E hJ.1 hc, rEx_c E g hJ.1 hc] at z
  exact z
/-! what a store leaves -/
theorem rEx_row {E : cEnv} {g g' : mS} {x : Nat} (h0 : g' 0 = g 0) (h1 : 1 < x ∧ x < 8 → g' (x - 1) = g (x - 1)) (h2 : ¬ x < 8 → g' (x / 1000) = g (x / 1000)) : rEx E g' x = rEx E g x := by
  have e1 : cRay E g' = cRay E g := by
    funext k
    unfold cRay
    split <;> first | rfl | rw [h0]
  unfold rEx
  rw [e1]
  by_cases a : x = 1
  · rw [if_pos a, if_pos a]
  · rw [if_neg a, if_neg a]
    by_cases b : x < 8
    · rw [if_pos b, if_pos b]
      by_cases c : 1 < x
      · rw [h1 ⟨c, b⟩]
      · have : x = 0 := by omega
        subst this
        simp only [Nat.zero_sub]
        rw [h0]
    · rw [if_neg b, if_neg b]
      have h3 := h2 b
      simp only [cWf, cCl, cFs, ckd, cfl, cHalf, h3]
theorem mutR_row {g g' : mS} {x : Nat} (h2 : ¬ x < 8 → ∀ c : Nat, ckd g' (x / 1000) c = ckd g (x / 1000) c) : mutR g' x ↔ mutR g x := by
  unfold mutR
  by_cases b : x < 8
  · simp [b]
  · have h3 : cCl g' (x / 1000) (x % 1000 - 10) = cCl g (x / 1000) (x % 1000 - 10) := by
      unfold cCl
      rw [h2 b]
    rw [h3]
