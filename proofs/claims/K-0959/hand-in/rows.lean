section
/-! rows pasted from the kit's pure rows: stores and the short's narrowing -/
theorem pk_us {f : Nat → Int32} {k : Nat} {x : Int32} : upd f k x k = x := if_pos rfl
theorem pk_un {f : Nat → Int32} {k j : Nat} {x : Int32} (h : j ≠ k) : upd f k x j = f j := if_neg h
theorem pk_ns (z : Int32) : narrow .short (.int z.toInt16.toInt32) = .int z.toInt16.toInt32 := congrArg Value.int (by simp)
theorem pk_fs (r : Int32) : fits .short (.int r.toInt16.toInt32) = true := by
  have ⟨a, b⟩ := lg_i2s_range r
  have h1 : (-32768 : Int32).toInt = -32768 := by decide
  have h2 : (32767 : Int32).toInt = 32767 := by decide
  simp only [fits, Bool.and_eq_true, decide_eq_true_eq, Int32.le_iff_toInt_le, h1, h2]
  omega
theorem pk_vs (z : Int32) : vp_nar .short z.toInt16.toInt32 = z.toInt16.toInt32 := by rw [vp_nar_short]; simp
/-! own rows: what one side's count method does, over a general post -/
theorem ey_v1 : vp_in (1 : Int32) 4 := vp_in_iff.mpr (by decide)
theorem ey_v2 : vp_in (2 : Int32) 4 := vp_in_iff.mpr (by decide)
theorem ey_v3 : vp_in (3 : Int32) 4 := vp_in_iff.mpr (by decide)
theorem ey_c1 : (1 : Int32).toNatClampNeg = 1 := by decide
theorem ey_c2 : (2 : Int32).toNatClampNeg = 2 := by decide
theorem ey_c3 : (3 : Int32).toNatClampNeg = 3 := by decide
/-- the reference's private done: one more at kind j, and the answer is the kind -/
theorem ey_done {post : Int32 → SY → Prop} (p : Int32) (a : Nat → Int32) (x : Int32) (j : Nat) (hj : x.toNatClampNeg = j) (hx : vp_in x 4)
    (h : post x (p, upd a j ((a j + 1).toInt16.toInt32))) : wpY_done post (p, a) x := by
  subst hj
  unfold wpY_done
  dsimp only
  refine ⟨hx, hx, fun b eb => ?_⟩
  rw [eb, pk_vs]
  exact h
theorem ey_f46 {post : Int32 → SY → Prop} (z p : Int32) (a : Nat → Int32) (j : Nat) (hj : z.toNatClampNeg = j) (hz : vp_in z 4)
    (h : post z (p, upd a j ((a j + 1).toInt16.toInt32))) : wY_feed_46 post z p a := by
  unfold wY_feed_46
  exact ey_done p a z j hj hz h
end
section
/-- the three counts are the reference's cells 1, 2 and 3; both hold the same pending flag, and it is 0 or 1 -/
def i_Rel (_ : Nat) (u : SX) (v : SY) : Prop := u = (v.1, v.2 1, v.2 2, v.2 3) ∧ (v.1 = 0 ∨ v.1 = 1)
theorem i_up {k : Nat} {u : SX} {v : SY} (h : i_Rel k u v) : i_Rel (k + 2) u v := h
theorem i_vc0 : wpX_init (fun u => wpY_init (fun v => i_Rel 0 u v)) := And.intro rfl (Or.inl rfl)
theorem er_0 {k : Nat} (a : Nat → Int32) : i_Rel k (0, a 1, a 2, a 3) (0, a) := And.intro rfl (Or.inl rfl)
theorem er_p {k : Nat} (a : Nat → Int32) : i_Rel k (1, a 1, a 2, a 3) (1, a) := And.intro rfl (Or.inr rfl)
theorem er_1 {k : Nat} {p : Int32} (hp : p = 0 ∨ p = 1) (x : Int32) (a : Nat → Int32) : i_Rel k (p, x, a 2, a 3) (p, upd a 1 x) := by
  refine And.intro ?_ hp
  show (p, x, a 2, a 3) = (p, upd a 1 x 1, upd a 1 x 2, upd a 1 x 3)
  rw [pk_us, pk_un (by decide), pk_un (by decide)]
theorem er_2 {k : Nat} {p : Int32} (hp : p = 0 ∨ p = 1) (x : Int32) (a : Nat → Int32) : i_Rel k (p, a 1, x, a 3) (p, upd a 2 x) := by
  refine And.intro ?_ hp
  show (p, a 1, x, a 3) = (p, upd a 2 x 1, upd a 2 x 2, upd a 2 x 3)
  rw [pk_us, pk_un (by decide), pk_un (by decide)]
theorem er_3 {k : Nat} {p : Int32} (hp : p = 0 ∨ p = 1) (x : Int32) (a : Nat → Int32) : i_Rel k (p, a 1, a 2, x) (p, upd a 3 x) := by
  refine And.intro ?_ hp
  show (p, a 1, a 2, x) = (p, upd a 3 x 1, upd a 3 x 2, upd a 3 x 3)
  rw [pk_us, pk_un (by decide), pk_un (by decide)]
theorem er_n : ¬ (1 : Int32) = 0 := by decide
theorem i_vc_feed {k : Nat} {u : SX} {v : SY} (I : i_Rel k u v) (hk : k + 2 ≤ 1024) (v1 : Int32) : wpX_feed (fun r u' => wpY_feed (fun r' v' => r' = r ∧ i_Rel (k + 2) u' v') v (lw_u16 v1)) u (lw_u16 v1) := by
  obtain ⟨p, a⟩ := v
  obtain ⟨e, hp⟩ := I
  dsimp only at e hp
  subst e
  generalize lw_u16 v1 = c
  unfold wpX_feed wpY_feed
  dsimp only
  rcases hp with hp | hp
  · subst hp
    refine br_t rfl ?_
    by_cases h10 : c = 10
    · refine br_t h10 (fun y ey => ?_)
      subst ey
      exact ⟨pk_ns _, pk_fs _, br_t h10 (br_t rfl (ey_f46 1 0 a 1 ey_c1 ey_v1 ⟨rfl, er_1 (Or.inl rfl) _ a⟩))⟩
    · refine br_f h10 ?_
      by_cases h13 : c = 13
      · exact br_t h13 (br_f h10 (br_t h13 (br_t rfl ⟨rfl, er_p a⟩)))
      · exact br_f h13 (br_f h10 (br_f h13 (br_t rfl ⟨rfl, er_0 a⟩)))
  · subst hp
    refine br_f er_n ?_
    by_cases h10 : c = 10
    · refine br_t h10 (fun y ey => ?_)
      subst ey
      exact ⟨pk_ns _, pk_fs _, br_t h10 (br_f er_n (ey_f46 3 0 a 3 ey_c3 ey_v3 ⟨rfl, er_3 (Or.inl rfl) _ a⟩))⟩
    · refine br_f h10 ?_
      by_cases h13 : c = 13
      · refine br_t h13 (fun y ey => ?_)
        subst ey
        exact ⟨pk_ns _, pk_fs _, br_f h10 (br_t h13 (br_f er_n (ey_done 1 a 2 2 ey_c2 ey_v2 ⟨rfl, er_2 (Or.inr rfl) _ a⟩)))⟩
      · refine br_f h13 (fun y ey => ?_)
        subst ey
        exact ⟨pk_ns _, pk_fs _, br_f h10 (br_f h13 (br_f er_n (ey_done 0 a 2 2 ey_c2 ey_v2 ⟨rfl, er_2 (Or.inl rfl) _ a⟩)))⟩
theorem i_vc_finish {k : Nat} {u : SX} {v : SY} (I : i_Rel k u v) (hk : k + 2 ≤ 1024) : wpX_finish (fun r u' => wpY_finish (fun r' v' => r' = r ∧ i_Rel (k + 2) u' v') v) u := by
  obtain ⟨p, a⟩ := v
  obtain ⟨e, hp⟩ := I
  dsimp only at e hp
  subst e
  unfold wpX_finish wpY_finish
  dsimp only
  rcases hp with hp | hp
  · subst hp
    exact br_t rfl (br_t rfl ⟨rfl, er_0 a⟩)
  · subst hp
    refine br_f er_n (fun y ey => ?_)
    subst ey
    exact ⟨pk_ns _, pk_fs _, br_f er_n (ey_done 0 a 2 2 ey_c2 ey_v2 ⟨rfl, er_2 (Or.inl rfl) _ a⟩)⟩
/-! dominant: the same three comparisons; one answer for both sides -/
theorem ed_34 (x1 x2 p : Int32) (a : Nat → Int32) : ∃ r : Int32, (∀ post : Int32 → Prop, post r → wX_dominant_34 post x1 x2 p (a 1) (a 2) (a 3)) ∧ (∀ post : Int32 → Prop, post r → wY_dominant_42 post x1 x2 p a) := by
  by_cases h : a 3 ≤ x2
  · exact ⟨x1, fun _ q => br_t h q, fun _ q => br_t h q⟩
  · exact ⟨3, fun _ q => br_f h q, fun _ q => br_f h (fun _ _ => q)⟩
theorem ed_19 (x1 x2 p : Int32) (a : Nat → Int32) : ∃ r : Int32, (∀ post : Int32 → Prop, post r → wX_dominant_19 post x1 x2 p (a 1) (a 2) (a 3)) ∧ (∀ post : Int32 → Prop, post r → wY_dominant_23 post x1 x2 p a) := by
  by_cases h : a 2 ≤ x2
  · obtain ⟨r, hX, hY⟩ := ed_34 x1 x2 p a
    exact ⟨r, fun post q => br_t h (hX post q), fun post q => br_t h (hY post q)⟩
  · obtain ⟨r, hX, hY⟩ := ed_34 2 (a 2) p a
    exact ⟨r, fun post q => br_f h (hX post q), fun post q => br_f h (fun y ey => by subst ey; exact hY post q)⟩
theorem i_vc_dominant {k : Nat} {u : SX} {v : SY} (I : i_Rel k u v) (hk : k + 2 ≤ 1024) : wpX_dominant (fun r => wpY_dominant (fun r' => r' = r ∧ i_Rel (k + 2) u v) v) u := by
  have J : i_Rel (k + 2) u v := i_up I
  obtain ⟨p, a⟩ := v
  obtain ⟨e, _⟩ := I
  dsimp only at e
  subst e
  unfold wpX_dominant wpY_dominant
  dsimp only
  by_cases h : a 1 ≤ 0
  · obtain ⟨r, hX, hY⟩ := ed_19 0 0 p a
    exact br_t h (hX _ (br_t h (hY _ ⟨rfl, J⟩)))
  · obtain ⟨r, hX, hY⟩ := ed_19 1 (a 1) p a
    exact br_f h (hX _ (br_f h (fun y ey => by subst ey; exact hY _ ⟨rfl, J⟩)))
/-! mixed: the same three tests; n >= 2 on one side is kinds > 1 on the other -/
theorem el_lt (x : Int32) : x < 2 ↔ x ≤ 1 := by
  have h1 : (1 : Int32).toInt = 1 := by decide
  have h2 : (2 : Int32).toInt = 2 := by decide
  rw [Int32.lt_iff_toInt_lt, Int32.le_iff_toInt_le, h1, h2]
  omega
theorem ex_35 (x1 p : Int32) (a : Nat → Int32) : ∃ r : Int32, (∀ post : Int32 → Prop, post r → wX_mixed_35 post x1 p (a 1) (a 2) (a 3)) ∧ (∀ post : Int32 → Prop, post r → wY_mixed_38 post x1 p a) := by
  by_cases h : x1 < 2
  · exact ⟨0, fun _ q => br_t h q, fun _ q => br_t ((el_lt x1).mp h) q⟩
  · exact ⟨1, fun _ q => br_f h q, fun _ q => br_f (fun z => h ((el_lt x1).mpr z)) q⟩
theorem ex_24 (x1 p : Int32) (a : Nat → Int32) : ∃ r : Int32, (∀ post : Int32 → Prop, post r → wX_mixed_24 post x1 p (a 1) (a 2) (a 3)) ∧ (∀ post : Int32 → Prop, post r → wY_mixed_26 post x1 p a) := by
  by_cases h : a 3 = 0
  · obtain ⟨r, hX, hY⟩ := ex_35 x1 p a
    exact ⟨r, fun post q => br_t h (hX post q), fun post q => br_t h (hY post q)⟩
  · obtain ⟨r, hX, hY⟩ := ex_35 (x1 + 1) p a
    exact ⟨r, fun post q => br_f h (fun y ey => by subst ey; exact hX post q), fun post q => br_f h (fun y ey => by subst ey; exact hY post q)⟩
theorem ex_13 (x1 p : Int32) (a : Nat → Int32) : ∃ r : Int32, (∀ post : Int32 → Prop, post r → wX_mixed_13 post x1 p (a 1) (a 2) (a 3)) ∧ (∀ post : Int32 → Prop, post r → wY_mixed_14 post x1 p a) := by
  by_cases h : a 2 = 0
  · obtain ⟨r, hX, hY⟩ := ex_24 x1 p a
    exact ⟨r, fun post q => br_t h (hX post q), fun post q => br_t h (hY post q)⟩
  · obtain ⟨r, hX, hY⟩ := ex_24 (x1 + 1) p a
    exact ⟨r, fun post q => br_f h (fun y ey => by subst ey; exact hX post q), fun post q => br_f h (fun y ey => by subst ey; exact hY post q)⟩
theorem i_vc_mixed {k : Nat} {u : SX} {v : SY} (I : i_Rel k u v) (hk : k + 2 ≤ 1024) : wpX_mixed (fun r => wpY_mixed (fun r' => r' = r ∧ i_Rel (k + 2) u v) v) u := by
  have J : i_Rel (k + 2) u v := i_up I
  obtain ⟨p, a⟩ := v
  obtain ⟨e, _⟩ := I
  dsimp only at e
  subst e
  unfold wpX_mixed wpY_mixed
  dsimp only
  by_cases h : a 1 = 0
  · obtain ⟨r, hX, hY⟩ := ex_13 0 p a
    exact br_t h (hX _ (br_t h (hY _ ⟨rfl, J⟩)))
  · obtain ⟨r, hX, hY⟩ := ex_13 (0 + 1) p a
    exact br_f h (fun y ey => by subst ey; exact hX _ (br_f h (fun z ez => by subst ez; exact hY _ ⟨rfl, J⟩)))
/-! count: an int at least 1 and at most 3 is 1, 2 or 3 -/
theorem ec_no {x : Int32} (n1 : ¬ x = 1) (n2 : ¬ x = 2) (n3 : ¬ x = 3) (hl : ¬ x < 1) (hu : x ≤ 3) : False := by
  have h1 : (1 : Int32).toInt = 1 := by decide
  have h2 : (2 : Int32).toInt = 2 := by decide
  have h3 : (3 : Int32).toInt = 3 := by decide
  rw [← Int32.toInt_inj, h1] at n1
  rw [← Int32.toInt_inj, h2] at n2
  rw [← Int32.toInt_inj, h3] at n3
  rw [Int32.lt_iff_toInt_lt, h1] at hl
  rw [Int32.le_iff_toInt_le, h3] at hu
  omega
theorem i_vc_count {k : Nat} {u : SX} {v : SY} (I : i_Rel k u v) (hk : k + 2 ≤ 1024) (v1 : Int32) : wpX_count (fun r => wpY_count (fun r' => r' = r ∧ i_Rel (k + 2) u v) v v1) u v1 := by
  have J : i_Rel (k + 2) u v := i_up I
  obtain ⟨p, a⟩ := v
  obtain ⟨e, _⟩ := I
  dsimp only at e
  subst e
  unfold wpX_count wpY_count
  dsimp only
  by_cases n1 : v1 = 1
  · subst n1
    exact br_t rfl (br_f (by decide) (br_t (by decide) ⟨ey_v1, congrArg a ey_c1, J⟩))
  · refine br_f n1 ?_
    by_cases n2 : v1 = 2
    · subst n2
      exact br_t rfl (br_f (by decide) (br_t (by decide) ⟨ey_v2, congrArg a ey_c2, J⟩))
    · refine br_f n2 ?_
      by_cases n3 : v1 = 3
      · subst n3
        exact br_t rfl (br_f (by decide) (br_t (by decide) ⟨ey_v3, congrArg a ey_c3, J⟩))
      · refine br_f n3 ?_
        by_cases hl : v1 < 1
        · exact br_t hl ⟨rfl, J⟩
        · exact br_f hl (br_f (fun hu => ec_no n1 n2 n3 hl hu) ⟨rfl, J⟩)
end
