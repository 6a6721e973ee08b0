section
/-- the component's five words are the first five cells of the reference's array; the round indices are equal -/
def i_Rel (_ : Nat) (u : SX) (v : SY) : Prop := u = (v.2 0, v.2 1, v.2 2, v.2 3, v.2 4, v.1)
theorem i_up {k : Nat} {u : SX} {v : SY} (h : i_Rel k u v) : i_Rel (k + 4) u v := h
theorem i_vc0 : wpX_init (fun u => wpY_init (fun v => i_Rel 0 u v)) := rfl
/-- an index that passes both guards is one of five -/
theorem ap_cases {x : Int32} (h0 : ¬ x < 0) (h4 : x ≤ 4) : x = 0 ∨ x = 1 ∨ x = 2 ∨ x = 3 ∨ x = 4 := by
  have e0 : (0 : Int32).toInt = 0 := by decide
  have e1 : (1 : Int32).toInt = 1 := by decide
  have e2 : (2 : Int32).toInt = 2 := by decide
  have e3 : (3 : Int32).toInt = 3 := by decide
  have e4 : (4 : Int32).toInt = 4 := by decide
  rw [Int32.lt_iff_toInt_lt, e0] at h0
  rw [Int32.le_iff_toInt_le, e4] at h4
  rw [← Int32.toInt_inj, ← Int32.toInt_inj, ← Int32.toInt_inj, ← Int32.toInt_inj, ← Int32.toInt_inj, e0, e1, e2, e3, e4]
  omega
theorem ap_in0 : vp_in 0 5 := vp_in_iff.mpr (by decide)
theorem ap_in1 : vp_in 1 5 := vp_in_iff.mpr (by decide)
theorem ap_in2 : vp_in 2 5 := vp_in_iff.mpr (by decide)
theorem ap_in3 : vp_in 3 5 := vp_in_iff.mpr (by decide)
theorem ap_in4 : vp_in 4 5 := vp_in_iff.mpr (by decide)
theorem ap_n0 : (0 : Int32).toNatClampNeg = 0 := by decide
theorem ap_n1 : (1 : Int32).toNatClampNeg = 1 := by decide
theorem ap_n2 : (2 : Int32).toNatClampNeg = 2 := by decide
theorem ap_n3 : (3 : Int32).toNatClampNeg = 3 := by decide
theorem ap_n4 : (4 : Int32).toNatClampNeg = 4 := by decide
/-- the round index wraps at the same place -/
theorem ap_12 {r : Int32} (h : r + 1 = 12) : r = 11 := by
  have e : r + 1 - 1 = 12 - 1 := congrArg (fun t => t - 1) h
  rw [Int32.add_sub_cancel] at e
  exact e.trans (by decide)
/-- the reference's rotation, its left count reckoned -/
theorem ap_ror (post : Int64 → Prop) (x : Int64) (n m : Int32) (h : 64 - n = m) (hp : post (((x.toUInt64 >>> (n.toInt64.toUInt64 &&& Int64.toUInt64 63)).toInt64) ||| (x <<< (m.toInt64 &&& 63)))) : wpY_ror post x n := by
  subst h
  exact hp
/-- the array behind a round holds the five new words -/
theorem ap_chain (k : Nat) (a : Nat → Int64) (b0 b1 b2 b3 b4 : Int64) (r : Int32) : i_Rel k (b0, b1, b2, b3, b4, r) (r, vp_updL (vp_updL (vp_updL (vp_updL (vp_updL a 1 b1) 2 b2) 3 b3) 4 b4) 0 b0) := rfl
end
section
theorem ap_set (k : Nat) (r : Int32) (a : Nat → Int64) (v1 : Int32) (a1 : Int64) : wpX_set (fun q u' => wpY_set (fun q' v' => q' = q ∧ i_Rel (k + 4) u' v') (r, a) v1 a1) (a 0, a 1, a 2, a 3, a 4, r) v1 a1 := by
  by_cases h0 : v1 < 0
  · exact br_t h0 (br_t h0 ⟨rfl, rfl⟩)
  · by_cases h4 : v1 ≤ 4
    · rcases ap_cases h0 h4 with rfl | rfl | rfl | rfl | rfl
      · exact br_f h0 (br_t h4 (br_t rfl (br_f h0 (br_t h4 ⟨ap_in0, fun b eb => ⟨rfl, by rw [eb, ap_n0]; exact rfl⟩⟩))))
      · exact br_f h0 (br_t h4 (br_f (by decide) (br_t rfl (br_f h0 (br_t h4 ⟨ap_in1, fun b eb => ⟨rfl, by rw [eb, ap_n1]; exact rfl⟩⟩)))))
      · exact br_f h0 (br_t h4 (br_f (by decide) (br_f (by decide) (br_t rfl (br_f h0 (br_t h4 ⟨ap_in2, fun b eb => ⟨rfl, by rw [eb, ap_n2]; exact rfl⟩⟩))))))
      · exact br_f h0 (br_t h4 (br_f (by decide) (br_f (by decide) (br_f (by decide) (br_t rfl (br_f h0 (br_t h4 ⟨ap_in3, fun b eb => ⟨rfl, by rw [eb, ap_n3]; exact rfl⟩⟩)))))))
      · exact br_f h0 (br_t h4 (br_f (by decide) (br_f (by decide) (br_f (by decide) (br_f (by decide) (br_f h0 (br_t h4 ⟨ap_in4, fun b eb => ⟨rfl, by rw [eb, ap_n4]; exact rfl⟩⟩)))))))
    · exact br_f h0 (br_f h4 (br_f h0 (br_f h4 ⟨rfl, rfl⟩)))
theorem ap_word (k : Nat) (r : Int32) (a : Nat → Int64) (v1 : Int32) : wpX_word (fun q => wpY_word (fun q' => q' = q ∧ i_Rel (k + 4) (a 0, a 1, a 2, a 3, a 4, r) (r, a)) (r, a) v1) (a 0, a 1, a 2, a 3, a 4, r) v1 := by
  by_cases h0 : v1 < 0
  · exact br_t h0 (br_t h0 ⟨rfl, rfl⟩)
  · by_cases h4 : v1 ≤ 4
    · rcases ap_cases h0 h4 with rfl | rfl | rfl | rfl | rfl
      · exact br_f h0 (br_t h4 (br_t rfl (br_f h0 (br_t h4 ⟨ap_in0, congrArg a ap_n0, rfl⟩))))
      · exact br_f h0 (br_t h4 (br_f (by decide) (br_t rfl (br_f h0 (br_t h4 ⟨ap_in1, congrArg a ap_n1, rfl⟩)))))
      · exact br_f h0 (br_t h4 (br_f (by decide) (br_f (by decide) (br_t rfl (br_f h0 (br_t h4 ⟨ap_in2, congrArg a ap_n2, rfl⟩))))))
      · exact br_f h0 (br_t h4 (br_f (by decide) (br_f (by decide) (br_f (by decide) (br_t rfl (br_f h0 (br_t h4 ⟨ap_in3, congrArg a ap_n3, rfl⟩)))))))
      · exact br_f h0 (br_t h4 (br_f (by decide) (br_f (by decide) (br_f (by decide) (br_f (by decide) (br_f h0 (br_t h4 ⟨ap_in4, congrArg a ap_n4, rfl⟩)))))))
    · exact br_f h0 (br_f h4 (br_f h0 (br_f h4 ⟨rfl, rfl⟩)))
theorem ap_round (k : Nat) (r : Int32) (a : Nat → Int64) : wpX_round (fun q u' => wpY_round (fun q' v' => q' = q ∧ i_Rel (k + 4) u' v') (r, a)) (a 0, a 1, a 2, a 3, a 4, r) := by
  intro z1 e1 z2 e2 z3 e3 z4 e4 z5 e5 z6 e6 z7 e7 z8 e8 z9 e9 z10 e10 z11 e11 z12 e12 z13 e13 z14 e14 z15 e15 z16 e16 z17 e17 z18 e18 z19 e19 z20 e20 z21 e21 z22 e22 z23 e23
  have key : ∀ (f : Int32) (post : Int64 → SY → Prop), post z19 (f, vp_updL (vp_updL (vp_updL (vp_updL (vp_updL a 1 z20) 2 z21) 3 z22) 4 z23) 0 z19) → wY_round_26 post r f a := by
    intro f post hp
    intro y0 h0 y1 h1 y2 h2 y3 h3 y4 h4
    subst h0 h1 h2 h3 h4
    intro y h; cases h.trans e1.symm
    intro y h; cases h.trans e2.symm
    intro y h; cases h.trans e3.symm
    intro y h; cases h.trans e4.symm
    intro y h; cases h.trans e5.symm
    intro y h; cases h.trans e6.symm
    intro y h; cases h.trans e7.symm
    intro y h; cases h.trans e8.symm
    intro y h; cases h.trans e9.symm
    intro y h; cases h.trans e10.symm
    intro y h; cases h.trans e11.symm
    intro y h; cases h.trans e12.symm
    intro y h; cases h.trans e13.symm
    intro y h; cases h.trans e14.symm
    intro y h; cases h.trans e15.symm
    intro y h; cases h.trans e16.symm
    intro y h; cases h.trans e17.symm
    intro y h; cases h.trans e18.symm
    refine ap_ror _ _ 61 3 (by decide) (ap_ror _ _ 39 25 (by decide) ?_)
    intro s h; rw [← e20] at h; subst h
    refine ap_ror _ _ 1 63 (by decide) (ap_ror _ _ 6 58 (by decide) ?_)
    intro s h; rw [← e21] at h; subst h
    refine ap_ror _ _ 10 54 (by decide) (ap_ror _ _ 17 47 (by decide) ?_)
    intro s h; rw [← e22] at h; subst h
    refine ap_ror _ _ 7 57 (by decide) (ap_ror _ _ 41 23 (by decide) ?_)
    intro s h; rw [← e23] at h; subst h
    refine ap_ror _ _ 19 45 (by decide) (ap_ror _ _ 28 36 (by decide) ?_)
    intro s h; rw [← e19] at h ⊢; subst h
    exact hp
  by_cases hr : r = 11
  · refine br_t hr ?_
    intro f ef
    have hf : f = 12 := by rw [ef, hr]; decide
    exact br_t hf (key 0 _ ⟨rfl, ap_chain _ _ _ _ _ _ _ _⟩)
  · refine br_f hr ?_
    intro g eg f ef
    have hf : ¬ f = 12 := fun z => hr (ap_12 (ef.symm.trans z))
    cases ef.trans eg.symm
    exact br_f hf (key _ _ ⟨rfl, ap_chain _ _ _ _ _ _ _ _⟩)
end
section
theorem i_vc_set {k : Nat} {u : SX} {v : SY} (I : i_Rel k u v) (hk : k + 4 ≤ 2048) (v1 : Int32) (a1 : Int64) : wpX_set (fun r u' => wpY_set (fun r' v' => r' = r ∧ i_Rel (k + 4) u' v') v v1 a1) u v1 a1 := by
  obtain ⟨r, a⟩ := v
  cases I
  exact ap_set k r a v1 a1
theorem i_vc_round {k : Nat} {u : SX} {v : SY} (I : i_Rel k u v) (hk : k + 4 ≤ 2048) : wpX_round (fun r u' => wpY_round (fun r' v' => r' = r ∧ i_Rel (k + 4) u' v') v) u := by
  obtain ⟨r, a⟩ := v
  cases I
  exact ap_round k r a
theorem i_vc_word {k : Nat} {u : SX} {v : SY} (I : i_Rel k u v) (hk : k + 4 ≤ 2048) (v1 : Int32) : wpX_word (fun r => wpY_word (fun r' => r' = r ∧ i_Rel (k + 4) u v) v v1) u v1 := by
  obtain ⟨r, a⟩ := v
  cases I
  exact ap_word k r a v1
end
