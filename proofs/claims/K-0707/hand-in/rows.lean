section
/-- the greater of the month's start and the tier's floor, as both sides pick it -/
def tf_a (x3 x9 : Int64) : Int64 := if x3 ≤ x9 then x9 else x3
/-- the smaller of the month's end and the tier's top, as both sides pick it -/
def tf_b (x5 t : Int64) : Int64 := if t ≤ x5 then t else x5
/-- the sum behind one tier -/
def tf_s (p : Int32) (x7 a z : Int64) : Int64 := if z ≤ a then x7 else x7 + (z - a) * p.toInt64

theorem tf_x94 {post : Int64 → SX → Prop} {J49 : Int64 → Int64 → Int32 → Prop} {x3 x5 x7 : Int64} {x11 : Int32} {x12 x14 z0 f_volume : Int64} {a_top : Nat → Int64} {a_bps : Nat → Int32} (hi : vp_in x11 4)
    (h : J49 (tf_s (a_bps x11.toNatClampNeg) x7 x14 z0) x12 (x11 + 1)) : wX_charge_94 post J49 x3 x5 x7 x11 x12 x14 z0 f_volume a_top a_bps := by
  unfold wX_charge_94
  unfold tf_s at h
  by_cases c : z0 ≤ x14
  · rw [if_pos c] at h
    exact br_t c (fun y ey => by rw [ey]; exact h)
  · rw [if_neg c] at h
    exact br_f c ⟨hi, fun s es y ey => by rw [es, ey]; exact h⟩

theorem tf_x77 {post : Int64 → SX → Prop} {J49 : Int64 → Int64 → Int32 → Prop} {x3 x5 x7 : Int64} {x11 : Int32} {x12 z0 f_volume : Int64} {a_top : Nat → Int64} {a_bps : Nat → Int32} (hi : vp_in x11 4)
    (h : J49 (tf_s (a_bps x11.toNatClampNeg) x7 z0 (tf_b x5 x12)) x12 (x11 + 1)) : wX_charge_77 post J49 x3 x5 x7 x11 x12 z0 f_volume a_top a_bps := by
  unfold wX_charge_77
  unfold tf_b at h
  by_cases c : x12 ≤ x5
  · rw [if_pos c] at h
    exact br_t c (tf_x94 hi h)
  · rw [if_neg c] at h
    exact br_f c (tf_x94 hi h)

theorem tf_x49 {post : Int64 → SX → Prop} {x3 x5 f_volume : Int64} {a_top : Nat → Int64} {a_bps : Nat → Int32} {n : Nat} {x7 x9 : Int64} {x11 : Int32} (h4 : ¬ 4 ≤ x11) (hi : vp_in x11 4)
    (h : wX_charge_49 post x3 x5 f_volume a_top a_bps n (tf_s (a_bps x11.toNatClampNeg) x7 (tf_a x3 x9) (tf_b x5 (a_top x11.toNatClampNeg))) (a_top x11.toNatClampNeg) (x11 + 1)) : wX_charge_49 post x3 x5 f_volume a_top a_bps (n + 1) x7 x9 x11 := by
  unfold wX_charge_49
  refine br_f h4 ⟨hi, fun y ey => ?_⟩
  rw [ey]
  unfold tf_a at h
  by_cases c : x3 ≤ x9
  · rw [if_pos c] at h
    exact br_t c (tf_x77 hi h)
  · rw [if_neg c] at h
    exact br_f c (tf_x77 hi h)

theorem tf_y100 {post : Int64 → SY → Prop} {J54 : Int64 → Int64 → Int32 → Prop} {x3 x5 x7 : Int64} {x11 : Int32} {x12 z0 f_volume : Int64} {a_top : Nat → Int64} {a_bps : Nat → Int32} (hi : vp_in x11 4)
    (h : J54 (tf_s (a_bps x11.toNatClampNeg) x7 x12 z0) (a_top x11.toNatClampNeg) (x11 + 1)) : wY_charge_100 post J54 x3 x5 x7 x11 x12 z0 f_volume a_top a_bps := by
  unfold wY_charge_100
  unfold tf_s at h
  by_cases c : z0 ≤ x12
  · rw [if_pos c] at h
    exact br_t c ⟨hi, fun s es y ey => by rw [es, ey]; exact h⟩
  · rw [if_neg c] at h
    exact br_f c ⟨hi, fun q eq => ⟨hi, fun s es y ey => by rw [eq, es, ey]; exact h⟩⟩

theorem tf_y73 {post : Int64 → SY → Prop} {J54 : Int64 → Int64 → Int32 → Prop} {x3 x5 x7 : Int64} {x11 : Int32} {z0 f_volume : Int64} {a_top : Nat → Int64} {a_bps : Nat → Int32} (hi : vp_in x11 4)
    (h : J54 (tf_s (a_bps x11.toNatClampNeg) x7 z0 (tf_b x5 (a_top x11.toNatClampNeg))) (a_top x11.toNatClampNeg) (x11 + 1)) : wY_charge_73 post J54 x3 x5 x7 x11 z0 f_volume a_top a_bps := by
  unfold wY_charge_73
  unfold tf_b at h
  by_cases c : a_top x11.toNatClampNeg ≤ x5
  · rw [if_pos c] at h
    exact ⟨hi, br_t c ⟨hi, tf_y100 hi h⟩⟩
  · rw [if_neg c] at h
    exact ⟨hi, br_f c (tf_y100 hi h)⟩

theorem tf_y54 {post : Int64 → SY → Prop} {x3 x5 f_volume : Int64} {a_top : Nat → Int64} {a_bps : Nat → Int32} {n : Nat} {x7 x9 : Int64} {x11 : Int32} (h4 : ¬ 4 ≤ x11) (hi : vp_in x11 4)
    (h : wY_charge_54 post x3 x5 f_volume a_top a_bps n (tf_s (a_bps x11.toNatClampNeg) x7 (tf_a x3 x9) (tf_b x5 (a_top x11.toNatClampNeg))) (a_top x11.toNatClampNeg) (x11 + 1)) : wY_charge_54 post x3 x5 f_volume a_top a_bps (n + 1) x7 x9 x11 := by
  unfold wY_charge_54
  refine br_f h4 ?_
  unfold tf_a at h
  by_cases c : x3 ≤ x9
  · rw [if_pos c] at h
    exact br_t c (tf_y73 hi h)
  · rw [if_neg c] at h
    exact br_f c (tf_y73 hi h)

theorem tf_4 : nI 4 = 4 := by decide +kernel

/-- both loops, from tier j on, end with one answer -/
theorem tf_loop (x3 x5 fX fY : Int64) (a_top : Nat → Int64) (a_bps : Nat → Int32) : ∀ d j : Nat, j + d = 4 → ∀ x7 x9 : Int64, ∃ r : Int64,
    (∀ post : Int64 → SX → Prop, post r (x5, a_top, a_bps) → wX_charge_49 post x3 x5 fX a_top a_bps (d + 1) x7 x9 (nI j)) ∧
    (∀ post : Int64 → SY → Prop, post r (fY, a_top, a_bps) → wY_charge_54 post x3 x5 fY a_top a_bps (d + 1) x7 x9 (nI j)) := by
  intro d
  induction d with
  | zero =>
    intro j hj x7 x9
    have h : (4 : Int32) ≤ nI j := by rw [← tf_4]; exact nI_le (by omega) (by omega)
    have hz : ¬ (10000 : Int64) = 0 := by decide
    exact ⟨x7 / 10000, fun _ hp => br_t h ⟨hz, hp⟩, fun _ hp => br_t h ⟨hz, hp⟩⟩
  | succ d ih =>
    intro j hj x7 x9
    have h : ¬ (4 : Int32) ≤ nI j := by rw [← tf_4]; exact nI_ge (by omega) (by omega)
    have hi : vp_in (nI j) 4 := vp_in_nI (by omega) (by omega)
    obtain ⟨r, hX, hY⟩ := ih (j + 1) (by omega) (tf_s (a_bps (nI j).toNatClampNeg) x7 (tf_a x3 x9) (tf_b x5 (a_top (nI j).toNatClampNeg))) (a_top (nI j).toNatClampNeg)
    refine ⟨r, fun post hp => tf_x49 h hi ?_, fun post hp => tf_y54 h hi ?_⟩
    · rw [nI_1]; exact hX post hp
    · rw [nI_1]; exact hY post hp
end
section
/-- the two states are the same, and the first three tops are the constants that the component's tier() holds -/
def i_Rel (_ : Nat) (u : SX) (v : SY) : Prop := u = v ∧ u.2.1 0 = 100000 ∧ u.2.1 1 = 10000000 ∧ u.2.1 2 = 1000000000
theorem i_up {k : Nat} {u : SX} {v : SY} (h : i_Rel k u v) : i_Rel (k + 3) u v := h
theorem i_vc0 : wpX_init (fun u => wpY_init (fun v => i_Rel 0 u v)) := by
  intro a1 e1 a2 e2 a3 e3 a4 e4 b1 f1 b2 f2 b3 f3 b4 f4
  intro c1 g1 c2 g2 c3 g3 c4 g4 d1 h1 d2 h2 d3 h3 d4 h4
  subst e1 e2 e3 e4 f1 f2 f3 f4 g1 g2 g3 g4 h1 h2 h3 h4
  exact ⟨rfl, rfl, rfl, rfl⟩
theorem i_vc_charge {k : Nat} {u : SX} {v : SY} (I : i_Rel k u v) (hk : k + 3 ≤ 1536) (a0 : Int64) : wpX_charge (fun r u' => wpY_charge (fun r' v' => r' = r ∧ i_Rel (k + 3) u' v') v a0) u a0 := by
  obtain ⟨rfl, t0, t1, t2⟩ := I
  obtain ⟨f, t, b⟩ := u
  by_cases c0 : 0 < a0
  · by_cases c1 : a0 ≤ 1000000000000 - f
    · obtain ⟨r, hX, hY⟩ := tf_loop f (f + a0) f (f + a0) t b 4 0 rfl 0 0
      rw [nI_0] at hX hY
      refine br_t c0 (br_t c1 fun x ex => ?_)
      rw [ex]
      refine ⟨5, hX _ (br_t c0 (br_t c1 fun y ey z ez => ?_))⟩
      rw [ey, ez]
      exact ⟨5, hY _ ⟨rfl, rfl, t0, t1, t2⟩⟩
    · exact br_t c0 (br_f c1 (br_t c0 (br_f c1 ⟨rfl, rfl, t0, t1, t2⟩)))
  · exact br_f c0 (br_f c0 ⟨rfl, rfl, t0, t1, t2⟩)
theorem i_vc_tier {k : Nat} {u : SX} {v : SY} (I : i_Rel k u v) (hk : k + 3 ≤ 1536) : wpX_tier (fun r => wpY_tier (fun r' => r' = r ∧ i_Rel (k + 3) u v) v) u := by
  have R := I
  obtain ⟨rfl, t0, t1, t2⟩ := I
  obtain ⟨f, t, b⟩ := u
  dsimp only at t0 t1 t2
  unfold wpX_tier wpY_tier
  dsimp only
  rw [t0, t1, t2]
  refine br_c (fun c0 => br_c (fun c1 => br_c (fun c2 => ?_) (fun c2 => ?_)) (fun c1 => ?_)) (fun c0 => ?_)
  · exact br_t c0 (br_t c1 (br_t c2 ⟨rfl, R⟩))
  · exact br_t c0 (br_t c1 (br_f c2 ⟨rfl, R⟩))
  · exact br_t c0 (br_f c1 ⟨rfl, R⟩)
  · exact br_f c0 ⟨rfl, R⟩
theorem i_vc_volume {k : Nat} {u : SX} {v : SY} (I : i_Rel k u v) (hk : k + 3 ≤ 1536) : wpX_volume (fun r => wpY_volume (fun r' => r' = r ∧ i_Rel (k + 3) u v) v) u := by
  have R := I
  obtain ⟨rfl, _⟩ := I
  obtain ⟨f, t, b⟩ := u
  exact ⟨rfl, R⟩
theorem i_vc_newMonth {k : Nat} {u : SX} {v : SY} (I : i_Rel k u v) (hk : k + 3 ≤ 1536) : wpX_newMonth (fun u' => wpY_newMonth (fun v' => i_Rel (k + 3) u' v') v) u := by
  obtain ⟨rfl, t0, t1, t2⟩ := I
  obtain ⟨f, t, b⟩ := u
  exact ⟨rfl, t0, t1, t2⟩
end
