section
/-- the two breakers hold the same five values, field by field -/
def i_Rel (_ : Nat) (u : SX) (v : SY) : Prop := ∃ (t : Int32) (c : Int64) (s f : Int32) (r : Int64), u = (t, c, s, f, r) ∧ v = (s, f, t, c, r)
theorem cb_mk {k : Nat} (t : Int32) (c : Int64) (s f : Int32) (r : Int64) : i_Rel k (t, c, s, f, r) (s, f, t, c, r) := ⟨t, c, s, f, r, rfl, rfl⟩
theorem i_up {k : Nat} {u : SX} {v : SY} (h : i_Rel k u v) : i_Rel (k + 4) u v := h
theorem i_vc0 (k0 : Int32) (k1 : Int64) : wpX_init (fun u => wpY_init (fun v => i_Rel 3 u v) k0 k1) k0 k1 := by
  by_cases h1 : 1 ≤ k0
  · by_cases h2 : 0 ≤ k1
    · exact br_t h1 (br_t h2 (br_t h1 (br_t h2 (cb_mk k0 k1 0 0 0))))
    · exact br_t h1 (br_f h2 (br_t h1 (br_f h2 (cb_mk k0 0 0 0 0))))
  · by_cases h2 : 0 ≤ k1
    · exact br_f h1 (br_t h2 (br_f h1 (br_t h2 (cb_mk 1 k1 0 0 0))))
    · exact br_f h1 (br_f h2 (br_f h1 (br_f h2 (cb_mk 1 0 0 0 0))))
theorem i_vc_allow {k : Nat} {u : SX} {v : SY} (I : i_Rel k u v) (hk : k + 4 ≤ 2051) (a0 : Int64) : wpX_allow (fun r u' => wpY_allow (fun r' v' => r' = r ∧ i_Rel (k + 4) u' v') v a0) u a0 := by
  obtain ⟨t, c, s, f, r, rfl, rfl⟩ := I
  by_cases h0 : s = 0
  · exact br_t h0 (br_t h0 (And.intro rfl (cb_mk t c s f r)))
  · by_cases h2 : s = 2
    · exact br_f h0 (br_t h2 (br_f h0 (br_t h2 (And.intro rfl (cb_mk t c s f r)))))
    · by_cases hr : r ≤ a0
      · exact br_f h0 (br_f h2 (br_t hr (br_f h0 (br_f h2 (br_t hr (And.intro rfl (cb_mk t c 2 f r)))))))
      · exact br_f h0 (br_f h2 (br_f hr (br_f h0 (br_f h2 (br_f hr (And.intro rfl (cb_mk t c s f r)))))))
theorem i_vc_report {k : Nat} {u : SX} {v : SY} (I : i_Rel k u v) (hk : k + 4 ≤ 2051) (v1 : Int32) (a1 : Int64) : wpX_report (fun r u' => wpY_report (fun r' v' => r' = r ∧ i_Rel (k + 4) u' v') v (lw_bz v1) a1) u (lw_bz v1) a1 := by
  obtain ⟨t, c, s, f, r, rfl, rfl⟩ := I
  generalize lw_bz v1 = p
  by_cases h1 : s = 1
  · exact br_t h1 (br_t h1 (And.intro rfl (cb_mk t c s f r)))
  · by_cases hp : p = 0
    · by_cases h0 : s = 0
      · by_cases ht : t ≤ f + 1
        · refine br_f h1 (br_t hp (br_t h0 ?_))
          intro y ey
          subst ey
          refine br_t ht ?_
          intro z ez
          subst ez
          refine br_f h1 (br_t hp (br_t h0 ?_))
          intro y ey
          subst ey
          refine br_t ht ?_
          intro z ez
          subst ez
          exact And.intro rfl (cb_mk t c 1 (f + 1) (a1 + c))
        · refine br_f h1 (br_t hp (br_t h0 ?_))
          intro y ey
          subst ey
          refine br_f ht (br_f h1 (br_t hp (br_t h0 ?_)))
          intro y ey
          subst ey
          exact br_f ht (And.intro rfl (cb_mk t c s (f + 1) r))
      · refine br_f h1 (br_t hp (br_f h0 ?_))
        intro z ez
        subst ez
        refine br_f h1 (br_t hp (br_f h0 ?_))
        intro z ez
        subst ez
        exact And.intro rfl (cb_mk t c 1 f (a1 + c))
    · exact br_f h1 (br_f hp (br_f h1 (br_f hp (And.intro rfl (cb_mk t c 0 0 r)))))
theorem i_vc_state {k : Nat} {u : SX} {v : SY} (I : i_Rel k u v) (hk : k + 4 ≤ 2051) : wpX_state (fun r => wpY_state (fun r' => r' = r ∧ i_Rel (k + 4) u v) v) u := by
  obtain ⟨t, c, s, f, r, rfl, rfl⟩ := I
  exact And.intro rfl (cb_mk t c s f r)
end
