section
/-! ===== shapes as three digits; the methods' loops as plain functions with fuel, over the kept rows a ===== -/
def td_p (s : Int32) : Int32 := s / 100
def td_q (s : Int32) : Int32 := (s / 10) - (s / 10) / 10 * 10
def td_r (s : Int32) : Int32 := s - s / 10 * 10
def td_sz (s : Int32) : Int32 := (td_p s + td_q s) + td_r s
def td_ok (s : Int32) : Bool := decide (¬ s < 0) && (decide (s ≤ 600) && (decide (¬ td_p s < td_q s) && (decide (¬ td_q s < td_r s) && decide (¬ 6 < td_sz s))))
def td_a (s : Int32) (k : Nat) : Int32 := if k = 0 then td_p s else if k = 1 then td_q s else td_r s
/-- hook's loop -/
def td_hk (a : Nat → Int32) (x2 : Int32) : Nat → Int32 → Int32 → Option Int32
  | 0, _, _ => none
  | n + 1, x3, x4 => if 3 ≤ x4 then some x3 else if x4 < 0 ∨ 3 ≤ x4.toNatClampNeg then none else if a x4.toNatClampNeg ≤ x2 then td_hk a x2 n (x3 + 0) (x4 + 1) else td_hk a x2 n (x3 + 1) (x4 + 1)
def td_hook (a : Nat → Int32) (i j : Int32) : Option Int32 := if i < 0 ∨ 3 ≤ i.toNatClampNeg then none else td_hk a j 4 (a i.toNatClampNeg - j) (i + 1)
/-- orders' inner loop, then its outer one -/
def td_o18 (a : Nat → Int32) (x4 : Int32) : Nat → Int32 → Int32 → Int32 → Int32 → Option (Int32 × Int32 × Int32)
  | 0, _, _, _, _ => none
  | n + 1, x1, x2, x3, x5 => if x4 < 0 ∨ 3 ≤ x4.toNatClampNeg then none else if a x4.toNatClampNeg ≤ x5 then some (x1, x2, x3) else
    match td_hook a x4 x5 with
    | none => none
    | some r => td_o18 a x4 n (x1 + 1) (x2 * (x1 + 1)) (x3 * r) (x5 + 1)
def td_o9 (a : Nat → Int32) : Nat → Int32 → Int32 → Int32 → Int32 → Option Int32
  | 0, _, _, _, _ => none
  | n + 1, x1, x2, x3, x4 => if 3 ≤ x4 then (if x3 = 0 then none else some (x2 / x3)) else
    match td_o18 a x4 8 x1 x2 x3 0 with
    | none => none
    | some (y1, y2, y3) => td_o9 a n y1 y2 y3 (x4 + 1)
/-- turned's loops -/
def td_t26 (a : Nat → Int32) (x2 : Int32) : Nat → Int32 → Int32 → Option Int32
  | 0, _, _ => none
  | n + 1, x3, x4 => if 3 ≤ x4 then some x3 else if x4 < 0 ∨ 3 ≤ x4.toNatClampNeg then none else if a x4.toNatClampNeg ≤ x2 then td_t26 a x2 n (x3 + 0) (x4 + 1) else td_t26 a x2 n (x3 + 1) (x4 + 1)
def td_t16 (a : Nat → Int32) : Nat → Int32 → Int32 → Option Int32
  | 0, _, _ => none
  | n + 1, x1, x2 => if 3 ≤ x2 then some x1 else
    match td_t26 a x2 4 0 0 with
    | none => none
    | some c => td_t16 a n (10 * x1 + c) (x2 + 1)
/-- withContent -/
def td_w66 (a : Nat → Int32) (x2 x3 : Int32) : Nat → Int32 → Int32 → Option Int32
  | 0, _, _ => none
  | n + 1, x4, x5 => if a 0 < x5 then some x4 else if ((x2 + x3) - x5) < a 2 ∨ a 1 < ((x2 + x3) - x5) ∨ x2 < ((x2 + x3) - x5) ∨ x5 < x2 then td_w66 a x2 x3 n (x4 + 0) (x5 + 1) else td_w66 a x2 x3 n (x4 + 1) (x5 + 1)
def td_wc (a : Nat → Int32) (c : Int32) : Option Int32 :=
  if c < 0 ∨ 666 < c ∨ 6 < td_q c ∨ 6 < td_r c then some (-1) else if (td_p c + td_q c) + td_r c = (a 0 + a 1) + a 2 then td_w66 a (td_p c) (td_q c) 8 0 (a 1) else some 0
/-- contents' loops -/
def td_c20 (a : Nat → Int32) (x2 x4 : Int32) : Nat → Int32 → Int32 → Option Int32
  | 0, _, _ => none
  | n + 1, x3, x5 => if x2 < x4 + x5 then some x3 else
    match td_wc a (((((100 * x4) + (10 * x5)) + x2) - x4) - x5) with
    | none => none
    | some r => td_c20 a x2 x4 n (x3 + r) (x5 + 1)
def td_c11 (a : Nat → Int32) (x2 : Int32) : Nat → Int32 → Int32 → Option Int32
  | 0, _, _ => none
  | n + 1, x3, x4 => if x2 < x4 then some x3 else
    match td_c20 a x2 x4 8 x3 0 with
    | none => none
    | some y => td_c11 a x2 n y (x4 + 1)
def td_fil (a : Nat → Int32) : Int32 := (((a 0 - a 1) + 1) * ((a 1 - a 2) + 1) * ((a 0 - a 2) + 2)) / 2
/-! ===== what a kept shape answers ===== -/
def td_O (s : Int32) : Option Int32 := td_o9 (td_a s) 4 0 1 1 0
def td_v (s : Int32) : Int32 := (td_O s).getD 0
def td_T (s : Int32) : Option Int32 := if td_a s 0 ≤ 3 then td_t16 (td_a s) 4 0 0 else some (-1)
def td_z0 (s : Int32) : Int32 := if td_sz s = 0 then 1 else 0
def td_z1 (s : Int32) : Int32 := if td_sz s ≤ 0 then td_z0 s else if td_p s ≤ td_q s then td_z0 s else td_z0 s + td_v (s - 100)
def td_z2 (s : Int32) : Int32 := if td_q s ≤ td_r s then td_z1 s else td_z1 s + td_v (s - 10)
def td_z3 (s : Int32) : Int32 := if td_r s ≤ 0 then td_z2 s else td_z2 s + td_v (s - 1)
def td_turn (s : Int32) : Bool :=
  match td_T s with
  | none => false
  | some t => if t = -1 then decide (¬ td_p s ≤ 3) else td_ok t && (decide (td_sz t = td_sz s) && (decide (td_v t = td_v s) && decide (td_T t = some s)))
/-- all that the law asks of one shape -/
def td_chk (s : Int32) : Bool :=
  decide (td_O s = some (td_v s)) && (decide (td_z3 s = td_v s) && (td_turn s && (decide (td_c11 (td_a s) (td_sz s) 8 0 0 = some (td_fil (td_a s)))
  && ((decide (td_sz s ≤ 0) || (decide (td_p s ≤ td_q s) || td_ok (s - 100))) && ((decide (td_q s ≤ td_r s) || td_ok (s - 10)) && (decide (td_r s ≤ 0) || td_ok (s - 1)))))))
theorem td_list : ∀ k, k < 601 → td_ok (nI k) = true → k ∈ [0, 100, 110, 111, 200, 210, 211, 220, 221, 222, 300, 310, 311, 320, 321, 330, 400, 410, 411, 420, 500, 510, 600] := by decide +kernel
theorem td_chk0 : ∀ k, k ∈ [0, 100, 110, 111, 200, 210, 211, 220, 221, 222, 300, 310, 311, 320, 321, 330, 400, 410, 411, 420, 500, 510, 600] → td_chk (nI k) = true := by decide +kernel
theorem td_all {s : Int32} (h : td_ok s = true) : td_chk s = true := by
  have h' := h
  unfold td_ok at h'
  simp only [Bool.and_eq_true, decide_eq_true_eq] at h'
  obtain ⟨k, hk, rfl⟩ := nI_of2 (M := 600) (n := 600) (by decide) h'.1 h'.2.1
  exact td_chk0 k (td_list k (by omega) h)
theorem td_shp : ∀ j, j < 4 → ∀ k, k < 4 → ∀ l, l < 4 → td_ok (let x1 := nI j; let x2 := if nI k ≤ x1 then nI k else x1; let z := if nI l ≤ x2 then nI l else x2; if ((x1 + x2) + z) ≤ 6 then ((100 * x1) + (10 * x2)) + z else 100 * x1) = true := by decide +kernel
end
section
/-! ===== the walks: each printed predicate is met where its plain function answers ===== -/
section
variable {f0 : Int32} {a1 a2 a3 a4 a5 a6 a7 : Nat → Int32} {a : Nat → Int32}
theorem td_isShape {post : Int32 → Prop} {s : Int32} (h : post (if td_ok s = true then 1 else 0)) : wpX_isShape post () s := by
  unfold td_ok at h
  simp only [Bool.and_eq_true, decide_eq_true_eq] at h
  refine br_c (fun c => ?_) (fun c => br_c (fun c2 => ⟨by decide, by decide, nm_e ⟨by decide, br_c (fun c3 => ?_) (fun c3 => ⟨by decide, br_c (fun c4 => ?_) (fun c4 => ⟨by decide, by decide, by decide, by decide, br_c (fun c5 => ?_) (fun c5 => ?_)⟩)⟩)⟩⟩) (fun c2 => ?_))
  · rw [if_neg (fun z => z.1 c)] at h
    exact h
  · rw [if_neg (fun z => z.2.2.1 c3)] at h
    exact h
  · rw [if_neg (fun z => z.2.2.2.1 c4)] at h
    exact h
  · rw [if_neg (fun z => z.2.2.2.2 c5)] at h
    exact h
  · rw [if_pos ⟨c, c2, c3, c4, c5⟩] at h
    exact h
  · rw [if_neg (fun z => c2 z.2.1)] at h
    exact h
theorem td_three {b : Nat → Int32} {s : Int32} (h0 : b 0 = td_p s) (h1 : b 1 = td_q s) (h2 : b 2 = td_r s) : ∀ k, k < 3 → b k = td_a s k := by
  intro k hk
  match k, hk with
  | 0, _ => exact h0
  | 1, _ => exact h1
  | 2, _ => exact h2
theorem td_keep {post : Int32 → St1 → Prop} {s : Int32} (hs : td_ok s = true) (H : ∀ b, (∀ k, k < 3 → b k = td_a s k) → post (td_sz s) (f0, b, a2, a3, a4, a5, a6, a7)) : wpX_keep post (f0, a1, a2, a3, a4, a5, a6, a7) s := by
  unfold wpX_keep
  dsimp only
  refine td_isShape ?_
  rw [if_pos hs]
  refine br_f (by decide) ⟨by decide, nm_e ⟨by decide, by decide, nm_e ⟨by decide, nm_e ⟨by decide, by decide, by decide, by decide, ?_⟩⟩⟩⟩
  refine H _ (td_three ?_ ?_ ?_)
  · rw [pk_un (by decide), pk_un (by decide), pk_us]
    rfl
  · rw [pk_un (by decide), pk_us]
    rfl
  · rw [pk_us]
    rfl
theorem td_keepN {post : Int32 → St1 → Prop} {s : Int32} (hs : ¬ td_ok s = true) (H : post (-1) (f0, a1, a2, a3, a4, a5, a6, a7)) : wpX_keep post (f0, a1, a2, a3, a4, a5, a6, a7) s := by
  unfold wpX_keep
  dsimp only
  refine td_isShape ?_
  rw [if_neg hs]
  exact br_t rfl H
/-- keep, any shape: what a caller knows who asks only for the sign -/
theorem td_keepA {post : Int32 → St1 → Prop} {s : Int32} (H : ∀ b, td_ok s = true → post (td_sz s) (f0, b, a2, a3, a4, a5, a6, a7)) (HN : ¬ td_ok s = true → post (-1) (f0, a1, a2, a3, a4, a5, a6, a7)) : wpX_keep post (f0, a1, a2, a3, a4, a5, a6, a7) s := by
  by_cases hs : td_ok s = true
  · exact td_keep hs (fun b _ => H b hs)
  · exact td_keepN hs (HN hs)
theorem td_hk_ok {post : Int32 → Prop} {x2 v : Int32} (h : ∀ k, k < 3 → a1 k = a k) (hv : post v) : ∀ (n : Nat) (x3 x4 : Int32), td_hk a x2 n x3 x4 = some v → wX_hook_14 post x2 f0 a1 a2 a3 a4 a5 a6 a7 n x3 x4 := by
  intro n
  induction n with
  | zero => intro x3 x4 e; exact absurd e (by simp [td_hk])
  | succ n ih =>
    intro x3 x4 e
    unfold td_hk at e
    refine br_c (fun c => ?_) (fun c => ?_)
    · rw [if_pos c] at e
      cases e
      exact hv
    · rw [if_neg c] at e
      by_cases d : x4 < 0 ∨ 3 ≤ x4.toNatClampNeg
      · rw [if_pos d] at e
        cases e
      · rw [if_neg d] at e
        have hk : x4.toNatClampNeg < 3 := Nat.lt_of_not_le (fun z => d (Or.inr z))
        refine ⟨d, ?_⟩
        rw [h _ hk]
        refine br_c (fun g => nm_e (nm_e (ih _ _ ?_))) (fun g => nm_e (nm_e (ih _ _ ?_)))
        · rw [if_pos g] at e
          exact e
        · rw [if_neg g] at e
          exact e
theorem td_hook_ok {post : Int32 → Prop} {i j v : Int32} (h : ∀ k, k < 3 → a1 k = a k) (e : td_hook a i j = some v) (hv : post v) : wpX_hook post (f0, a1, a2, a3, a4, a5, a6, a7) i j := by
  unfold td_hook at e
  by_cases d : i < 0 ∨ 3 ≤ i.toNatClampNeg
  · rw [if_pos d] at e
    cases e
  · rw [if_neg d] at e
    have hk : i.toNatClampNeg < 3 := Nat.lt_of_not_le (fun z => d (Or.inr z))
    rw [← h _ hk] at e
    exact ⟨d, nm_e (nm_e ⟨4, td_hk_ok h hv 4 _ _ e⟩)⟩
theorem td_o18_ok {post : Int32 → Prop} {J9 : Int32 → Int32 → Int32 → Int32 → Prop} {x4 y1 y2 y3 : Int32} (h : ∀ k, k < 3 → a1 k = a k) (hv : J9 y1 y2 y3 (x4 + 1)) : ∀ (n : Nat) (x1 x2 x3 x5 : Int32), td_o18 a x4 n x1 x2 x3 x5 = some (y1, y2, y3) → wX_orders_18 post J9 x4 f0 a1 a2 a3 a4 a5 a6 a7 n x1 x2 x3 x5 := by
  intro n
  induction n with
  | zero => intro x1 x2 x3 x5 e; exact absurd e (by simp [td_o18])
  | succ n ih =>
    intro x1 x2 x3 x5 e
    unfold td_o18 at e
    by_cases d : x4 < 0 ∨ 3 ≤ x4.toNatClampNeg
    · rw [if_pos d] at e
      cases e
    · rw [if_neg d] at e
      have hk : x4.toNatClampNeg < 3 := Nat.lt_of_not_le (fun z => d (Or.inr z))
      refine ⟨d, ?_⟩
      rw [h _ hk]
      refine br_c (fun g => ?_) (fun g => ?_)
      · rw [if_pos g] at e
        cases e
        exact nm_e hv
      · rw [if_neg g] at e
        cases hh : td_hook a x4 x5 with
        | none =>
          rw [hh] at e
          cases e
        | some r =>
          rw [hh] at e
          exact nm_e (nm_e (td_hook_ok h hh (nm_e (nm_e (ih _ _ _ _ e)))))
theorem td_o9_ok {post : Int32 → Prop} {v : Int32} (h : ∀ k, k < 3 → a1 k = a k) (hv : post v) : ∀ (n : Nat) (x1 x2 x3 x4 : Int32), td_o9 a n x1 x2 x3 x4 = some v → wX_orders_9 post f0 a1 a2 a3 a4 a5 a6 a7 n x1 x2 x3 x4 := by
  intro n
  induction n with
  | zero => intro x1 x2 x3 x4 e; exact absurd e (by simp [td_o9])
  | succ n ih =>
    intro x1 x2 x3 x4 e
    unfold td_o9 at e
    refine br_c (fun c => ?_) (fun c => ?_)
    · rw [if_pos c] at e
      by_cases z : x3 = 0
      · rw [if_pos z] at e
        cases e
      · rw [if_neg z] at e
        cases e
        exact ⟨z, hv⟩
    · rw [if_neg c] at e
      cases hh : td_o18 a x4 8 x1 x2 x3 0 with
      | none =>
        rw [hh] at e
        cases e
      | some y =>
        rw [hh] at e
        obtain ⟨y1, y2, y3⟩ := y
        exact ⟨8, td_o18_ok h (ih _ _ _ _ e) 8 _ _ _ _ hh⟩
theorem td_orders {post : Int32 → Prop} {s v : Int32} (h : ∀ k, k < 3 → a1 k = td_a s k) (e : td_O s = some v) (hv : post v) : wpX_orders post (f0, a1, a2, a3, a4, a5, a6, a7) :=
  ⟨4, td_o9_ok h hv 4 _ _ _ _ e⟩
theorem td_t26_ok {post : Int32 → Prop} {J16 : Int32 → Int32 → Prop} {x1 x2 c : Int32} (h : ∀ k, k < 3 → a1 k = a k) (hv : J16 (10 * x1 + c) (x2 + 1)) : ∀ (n : Nat) (x3 x4 : Int32), td_t26 a x2 n x3 x4 = some c → wX_turned_26 post J16 x1 x2 f0 a1 a2 a3 a4 a5 a6 a7 n x3 x4 := by
  intro n
  induction n with
  | zero => intro x3 x4 e; exact absurd e (by simp [td_t26])
  | succ n ih =>
    intro x3 x4 e
    unfold td_t26 at e
    refine br_c (fun c => ?_) (fun c => ?_)
    · rw [if_pos c] at e
      cases e
      exact nm_e (nm_e hv)
    · rw [if_neg c] at e
      by_cases d : x4 < 0 ∨ 3 ≤ x4.toNatClampNeg
      · rw [if_pos d] at e
        cases e
      · rw [if_neg d] at e
        have hk : x4.toNatClampNeg < 3 := Nat.lt_of_not_le (fun z => d (Or.inr z))
        refine ⟨d, ?_⟩
        rw [h _ hk]
        refine br_c (fun g => nm_e (nm_e (ih _ _ ?_))) (fun g => nm_e (nm_e (ih _ _ ?_)))
        · rw [if_pos g] at e
          exact e
        · rw [if_neg g] at e
          exact e
theorem td_t16_ok {post : Int32 → Prop} {v : Int32} (h : ∀ k, k < 3 → a1 k = a k) (hv : post v) : ∀ (n : Nat) (x1 x2 : Int32), td_t16 a n x1 x2 = some v → wX_turned_16 post f0 a1 a2 a3 a4 a5 a6 a7 n x1 x2 := by
  intro n
  induction n with
  | zero => intro x1 x2 e; exact absurd e (by simp [td_t16])
  | succ n ih =>
    intro x1 x2 e
    unfold td_t16 at e
    refine br_c (fun c => ?_) (fun c => ?_)
    · rw [if_pos c] at e
      cases e
      exact hv
    · rw [if_neg c] at e
      cases hh : td_t26 a x2 4 0 0 with
      | none =>
        rw [hh] at e
        cases e
      | some y =>
        rw [hh] at e
        exact ⟨4, td_t26_ok h (ih _ _ e) 4 _ _ hh⟩
theorem td_turned {post : Int32 → Prop} {s v : Int32} (h : ∀ k, k < 3 → a1 k = td_a s k) (e : td_T s = some v) (hv : post v) : wpX_turned post (f0, a1, a2, a3, a4, a5, a6, a7) := by
  unfold wpX_turned
  dsimp only
  rw [h 0 (by decide)]
  unfold td_T at e
  refine br_c (fun c => ?_) (fun c => ?_)
  · rw [if_pos c] at e
    exact ⟨4, td_t16_ok h hv 4 _ _ e⟩
  · rw [if_neg c] at e
    cases e
    exact hv
theorem td_w66_ok {post : Int32 → Prop} {x2 x3 v : Int32} (h : ∀ k, k < 3 → a1 k = a k) (hv : post v) : ∀ (n : Nat) (x4 x5 : Int32), td_w66 a x2 x3 n x4 x5 = some v → wX_withContent_66 post x2 x3 f0 a1 a2 a3 a4 a5 a6 a7 n x4 x5 := by
  intro n
  induction n with
  | zero => intro x4 x5 e; exact absurd e (by simp [td_w66])
  | succ n ih =>
    intro x4 x5 e
    unfold td_w66 at e
    rw [← h 0 (by decide), ← h 1 (by decide), ← h 2 (by decide)] at e
    refine br_c (fun c => ?_) (fun c => nm_e ?_)
    · rw [if_pos c] at e
      cases e
      exact hv
    · rw [if_neg c] at e
      refine br_c (fun c1 => ?_) (fun c1 => br_c (fun c2 => ?_) (fun c2 => ?_))
      · rw [if_pos (Or.inl c1)] at e
        exact br_t rfl (nm_e (nm_e (ih _ _ e)))
      · rw [if_pos (Or.inr (Or.inl c2))] at e
        exact br_t rfl (nm_e (nm_e (ih _ _ e)))
      · refine br_f (by decide) (br_c (fun c3 => ?_) (fun c3 => br_c (fun c4 => ?_) (fun c4 => ?_)))
        · rw [if_pos (Or.inr (Or.inr (Or.inl c3)))] at e
          exact nm_e (nm_e (ih _ _ e))
        · rw [if_pos (Or.inr (Or.inr (Or.inr c4)))] at e
          exact nm_e (nm_e (ih _ _ e))
        · rw [if_neg (fun z => z.elim c1 (fun z => z.elim c2 (fun z => z.elim c3 c4)))] at e
          exact nm_e (nm_e (ih _ _ e))
theorem td_isContent {post : Int32 → Prop} {c : Int32} (h1 : (c < 0 ∨ 666 < c ∨ 6 < td_q c ∨ 6 < td_r c) → post 0) (h2 : ¬ (c < 0 ∨ 666 < c ∨ 6 < td_q c ∨ 6 < td_r c) → post 1) : wpX_isContent post () c :=
  br_c (fun c1 => h1 (Or.inl c1)) (fun c1 => br_c (fun c2 => h1 (Or.inr (Or.inl c2))) (fun c2 => ⟨by decide, by decide, br_c (fun c3 => h1 (Or.inr (Or.inr (Or.inl c3)))) (fun c3 => ⟨by decide, br_c (fun c4 => h1 (Or.inr (Or.inr (Or.inr c4)))) (fun c4 => h2 (fun z => z.elim c1 (fun z => z.elim c2 (fun z => z.elim c3 c4))))⟩)⟩))
theorem td_withContent {post : Int32 → Prop} {c v : Int32} (h : ∀ k, k < 3 → a1 k = a k) (e : td_wc a c = some v) (hv : post v) : wpX_withContent post (f0, a1, a2, a3, a4, a5, a6, a7) c := by
  unfold wpX_withContent
  dsimp only
  unfold td_wc at e
  rw [← h 0 (by decide), ← h 1 (by decide), ← h 2 (by decide)] at e
  refine td_isContent (fun g => ?_) (fun g => ?_)
  · rw [if_pos g] at e
    cases e
    exact br_t rfl hv
  · rw [if_neg g] at e
    refine br_f (by decide) ⟨by decide, nm_e ⟨by decide, by decide, nm_e ⟨by decide, br_c (fun q => nm_e ⟨8, td_w66_ok h hv 8 _ _ ?_⟩) (fun q => ?_)⟩⟩⟩
    · rw [if_pos (show (td_p c + td_q c) + td_r c = (a1 0 + a1 1) + a1 2 from q)] at e
      exact e
    · rw [if_neg (show ¬ (td_p c + td_q c) + td_r c = (a1 0 + a1 1) + a1 2 from q)] at e
      cases e
      exact hv
theorem td_c20_ok {post : Int32 → St1 → Prop} {J11 : Int32 → Int32 → Prop} {x2 x4 v : Int32} (h : ∀ k, k < 3 → a1 k = a k) (hv : J11 v (x4 + 1)) : ∀ (n : Nat) (x3 x5 : Int32), td_c20 a x2 x4 n x3 x5 = some v → wL_contents_20 post J11 x2 x4 f0 a1 a2 a3 a4 a5 a6 a7 n x3 x5 := by
  intro n
  induction n with
  | zero => intro x3 x5 e; exact absurd e (by simp [td_c20])
  | succ n ih =>
    intro x3 x5 e
    unfold td_c20 at e
    refine br_c (fun c => ?_) (fun c => ?_)
    · rw [if_pos c] at e
      cases e
      exact nm_e hv
    · rw [if_neg c] at e
      cases hh : td_wc a (((((100 * x4) + (10 * x5)) + x2) - x4) - x5) with
      | none =>
        rw [hh] at e
        cases e
      | some r =>
        rw [hh] at e
        exact td_withContent h hh (nm_e (nm_e (ih _ _ e)))
theorem td_c11_ok {post : Int32 → St1 → Prop} {x2 : Int32} (h : ∀ k, k < 3 → a1 k = a k) (hv : post 1 (f0, a1, a2, a3, a4, a5, a6, a7)) : ∀ (n : Nat) (x3 x4 : Int32), td_c11 a x2 n x3 x4 = some (td_fil a) → wL_contents_11 post x2 f0 a1 a2 a3 a4 a5 a6 a7 n x3 x4 := by
  intro n
  induction n with
  | zero => intro x3 x4 e; exact absurd e (by simp [td_c11])
  | succ n ih =>
    intro x3 x4 e
    unfold td_c11 at e
    refine br_c (fun c => ?_) (fun c => ?_)
    · rw [if_pos c] at e
      have e' : x3 = td_fil a := Option.some.inj e
      unfold td_fil at e'
      rw [← h 0 (by decide), ← h 1 (by decide), ← h 2 (by decide)] at e'
      unfold wpX_fillings
      dsimp only
      exact nm_e ⟨by decide, br_t e' hv⟩
    · rw [if_neg c] at e
      cases hh : td_c20 a x2 x4 8 x3 0 with
      | none =>
        rw [hh] at e
        cases e
      | some y =>
        rw [hh] at e
        exact ⟨8, td_c20_ok h (ih _ _ e) 8 _ _ hh⟩
end
end
section
/-! ===== one shape: what td_chk says, taken apart ===== -/
theorem td_facts {s : Int32} (h : td_ok s = true) : td_O s = some (td_v s) ∧ td_z3 s = td_v s ∧ td_turn s = true ∧ td_c11 (td_a s) (td_sz s) 8 0 0 = some (td_fil (td_a s))
    ∧ (¬ td_sz s ≤ 0 → ¬ td_p s ≤ td_q s → td_ok (s - 100) = true) ∧ (¬ td_q s ≤ td_r s → td_ok (s - 10) = true) ∧ (¬ td_r s ≤ 0 → td_ok (s - 1) = true) := by
  have c := td_all h
  unfold td_chk at c
  simp only [Bool.and_eq_true, Bool.or_eq_true, decide_eq_true_eq] at c
  obtain ⟨c1, c2, c3, c4, c5, c6, c7⟩ := c
  exact ⟨c1, c2, c3, c4, fun g g' => (c5.resolve_left g).resolve_left g', fun g => c6.resolve_left g, fun g => c7.resolve_left g⟩
section
variable {post : Int32 → St1 → Prop} {f0 : Int32} {a1 a2 a3 a4 a5 a6 a7 : Nat → Int32} {s : Int32}
theorem td_contents (hs : td_ok s = true) (H : ∀ b, post 1 (f0, b, a2, a3, a4, a5, a6, a7)) : wpL_contents post (f0, a1, a2, a3, a4, a5, a6, a7) s := by
  unfold wpL_contents
  dsimp only
  exact td_keep hs (fun b hb => ⟨8, td_c11_ok hb (H b) 8 _ _ (td_facts hs).2.2.2.1⟩)
theorem td_119 {x4 : Int32} (hs : td_ok s = true) (hx : x4 = td_v s) (H : ∀ b, post 1 (f0, b, a2, a3, a4, a5, a6, a7)) : wL_orders_119 post s (td_sz s) (td_v s) x4 (td_p s) f0 a1 a2 a3 a4 a5 a6 a7 := by
  have ht := (td_facts hs).2.2.1
  unfold td_turn at ht
  unfold wL_orders_119
  refine br_t hx (td_keep hs (fun b hb => br_t rfl ?_))
  cases et : td_T s with
  | none =>
    rw [et] at ht
    cases ht
  | some t =>
    rw [et] at ht
    dsimp only at ht
    refine td_turned hb et (br_c (fun c => ?_) (fun c => ?_))
    · rw [if_pos c, decide_eq_true_eq] at ht
      exact br_f ht (H _)
    · rw [if_neg c] at ht
      simp only [Bool.and_eq_true, decide_eq_true_eq] at ht
      obtain ⟨t1, t2, t3, t4⟩ := ht
      exact td_keep t1 (fun b2 hb2 => br_t t2 (td_orders hb2 (td_facts t1).1 (br_t t3 (td_turned hb2 t4 (br_t rfl (td_keep hs (fun b3 _ => br_t rfl (H b3))))))))
theorem td_97 {x4 : Int32} (hs : td_ok s = true) (hx : x4 = td_z2 s) (H : ∀ b, post 1 (f0, b, a2, a3, a4, a5, a6, a7)) : wL_orders_97 post s (td_sz s) (td_v s) x4 (td_p s) (td_r s) f0 a1 a2 a3 a4 a5 a6 a7 := by
  have hz := (td_facts hs).2.1
  unfold td_z3 at hz
  unfold wL_orders_97
  refine br_c (fun c => ?_) (fun c => ?_)
  · rw [if_pos c] at hz
    exact td_119 hs (hx.trans hz) H
  · rw [if_neg c] at hz
    have h1 := (td_facts hs).2.2.2.2.2.2 c
    exact td_keep h1 (fun b hb => td_orders hb (td_facts h1).1 (nm_e (td_119 hs (by rw [hx]; exact hz) H)))
theorem td_72 {x4 : Int32} (hs : td_ok s = true) (hx : x4 = td_z1 s) (H : ∀ b, post 1 (f0, b, a2, a3, a4, a5, a6, a7)) : wL_orders_72 post s (td_sz s) (td_v s) x4 (td_p s) (td_q s) (td_r s) f0 a1 a2 a3 a4 a5 a6 a7 := by
  unfold wL_orders_72
  refine br_c (fun c => ?_) (fun c => ?_)
  · refine td_97 hs ?_ H
    unfold td_z2
    rw [if_pos c]
    exact hx
  · have h1 := (td_facts hs).2.2.2.2.2.1 c
    refine td_keep h1 (fun b hb => td_orders hb (td_facts h1).1 (nm_e (td_97 hs ?_ H)))
    unfold td_z2
    rw [if_neg c, hx]
theorem td_20 {z0 : Int32} (hs : td_ok s = true) (hx : z0 = td_z0 s) (H : ∀ b, post 1 (f0, b, a2, a3, a4, a5, a6, a7)) : wL_orders_20 post s (td_sz s) (td_v s) z0 f0 a1 a2 a3 a4 a5 a6 a7 := by
  unfold wL_orders_20
  refine ⟨by decide, nm_e ⟨by decide, by decide, nm_e ⟨by decide, nm_e (br_c (fun c => ?_) (fun c => br_c (fun c2 => ?_) (fun c2 => ?_)))⟩⟩⟩
  · refine td_72 hs ?_ H
    unfold td_z1
    rw [if_pos c]
    exact hx
  · refine td_72 hs ?_ H
    unfold td_z1
    rw [if_neg c, if_pos (show td_p s ≤ td_q s from c2)]
    exact hx
  · have h1 := (td_facts hs).2.2.2.2.1 c c2
    refine td_keep h1 (fun b hb => td_orders hb (td_facts h1).1 (nm_e (td_72 hs ?_ H)))
    unfold td_z1
    rw [if_neg c, if_neg (show ¬ td_p s ≤ td_q s from c2), hx]
theorem td_ordersL (hs : td_ok s = true) (H : ∀ b, post 1 (f0, b, a2, a3, a4, a5, a6, a7)) : wpL_orders post (f0, a1, a2, a3, a4, a5, a6, a7) s := by
  unfold wpL_orders
  dsimp only
  refine td_keep hs (fun b hb => td_orders hb (td_facts hs).1 (br_c (fun c => ?_) (fun c => ?_)))
  · refine td_20 hs ?_ H
    unfold td_z0
    rw [if_pos c]
  · refine td_20 hs ?_ H
    unfold td_z0
    rw [if_neg c]
end
theorem td_shape {post : Int32 → Prop} {x : Int32} (H : ∀ s, td_ok s = true → post s) : wpL_shape post () x := by
  obtain ⟨j, hj, ej⟩ := pk_andE x (m := 3) 2 (by decide)
  obtain ⟨k, hk, ek⟩ := pk_andE (x >>> ((2 : Int32) &&& 31)) (m := 3) 2 (by decide)
  obtain ⟨l, hl, el⟩ := pk_andE (x >>> ((4 : Int32) &&& 31)) (m := 3) 2 (by decide)
  have h := td_shp j hj k hk l hl
  dsimp only at h
  refine nm_r ej (nm_r ek (nm_r el ?_))
  have step : ∀ x2 z : Int32, td_ok (if ((nI j + x2) + z) ≤ 6 then ((100 * nI j) + (10 * x2)) + z else 100 * nI j) = true → wL_shape_37 post (nI j) x2 z := by
    intro x2 z hh
    refine br_c (fun c => H _ ?_) (fun c => H _ ?_)
    · rw [if_pos c] at hh
      exact hh
    · rw [if_neg c] at hh
      exact hh
  refine br_c (fun c => ?_) (fun c => ?_)
  · rw [if_pos c] at h
    refine br_c (fun d => step _ _ ?_) (fun d => step _ _ ?_)
    · rw [if_pos d] at h
      exact h
    · rw [if_neg d] at h
      exact h
  · rw [if_neg c] at h
    refine br_c (fun d => step _ _ ?_) (fun d => step _ _ ?_)
    · rw [if_pos d] at h
      exact h
    · rw [if_neg d] at h
      exact h
theorem td_loop {post : Int32 → Prop} {L : Nat} {xs : Nat → Int32} {kc ks : Nat} {f0 : Int32} {a2 a3 a4 a5 a6 a7 : Nat → Int32} (hL : L ≤ 260) (H : post 1) : ∀ (n i : Nat) (a1 : Nat → Int32), i ≤ L → L < i + n → wL_law_10 post L xs kc ks n (nI i) f0 a1 a2 a3 a4 a5 a6 a7 := by
  intro n
  induction n with
  | zero => intro i a1 h1 h2; exact absurd h2 (by omega)
  | succ n ih =>
    intro i a1 h1 h2
    refine pk_lt L (i + 2) (fun c => ?_) (fun c => ?_) rfl (nI_add i 2)
    · exact td_contents (by decide +kernel) (fun b => br_f (by decide) (td_contents (by decide +kernel) (fun b2 => br_f (by decide) H)))
    · have w : ∀ b, ∀ x, x = nI i + 2 → wL_law_10 post L xs kc ks n x f0 b a2 a3 a4 a5 a6 a7 := by
        intro b
        exact nm_r (nI_add i 2) (ih (i + 2) b (by omega) (by omega))
      have v1 : vp_in (nI i + 1) L := pk_in (i + 1) L (by omega) (nI_1 i)
      refine ⟨pk_in i L (by omega), td_shape (fun s hs => ⟨v1, ?_⟩)⟩
      refine td_keepA (fun b _ => ?_) (fun _ => ?_)
      · exact td_ordersL hs (fun b2 => br_f (by decide) (td_contents hs (fun b3 => br_f (by decide) ⟨v1, nm_e (td_keepA (fun b4 h4 => br_c (fun _ => w b4) (fun _ => td_ordersL h4 (fun b5 => br_f (by decide) (w b5)))) (fun _ => br_t (by decide) (w b3)))⟩)))
      · exact td_ordersL hs (fun b2 => br_f (by decide) (td_contents hs (fun b3 => br_f (by decide) ⟨v1, nm_e (td_keepA (fun b4 h4 => br_c (fun _ => w b4) (fun _ => td_ordersL h4 (fun b5 => br_f (by decide) (w b5)))) (fun _ => br_t (by decide) (w b3)))⟩)))
theorem i_vc (xs : Nat → Int32) (L : Nat) (hL : L ≤ 260) : wpL_law (fun r => r = 1) L xs :=
  ⟨7, 31, by omega, by omega, by decide, by decide, by decide, by decide, by decide, by decide, by decide, by decide, by decide, by decide, by decide, by decide, by decide, by decide, ⟨L + 1, td_loop (post := fun r => r = 1) hL rfl (L + 1) 0 _ (by omega) (by omega)⟩⟩
end
