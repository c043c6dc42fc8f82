section
/-- the two generators hold the same four fields: last, seq, node, cap -/
def i_Rel (_ : Nat) (u : SX) (v : SY) : Prop := u = v
theorem i_up {k : Nat} {u : SX} {v : SY} (h : i_Rel k u v) : i_Rel (k + 3) u v := h
theorem i_vc0 (k0 : Int32) (k1 : Int32) : wpX_init (fun u => wpY_init (fun v => i_Rel 2 u v) k0 k1) k0 k1 := by
  intro n hn
  by_cases h1 : 1 ≤ k1
  · by_cases h2 : k1 ≤ 4096
    · refine br_t h1 (br_t h2 ?_)
      intro m hm
      cases hm.trans hn.symm
      exact br_t h1 (br_t h2 rfl)
    · refine br_t h1 (br_f h2 ?_)
      intro m hm
      cases hm.trans hn.symm
      exact br_t h1 (br_f h2 rfl)
  · have h3 : (1 : Int32) ≤ 4096 := by decide
    refine br_f h1 (br_t h3 ?_)
    intro m hm
    cases hm.trans hn.symm
    exact br_f h1 rfl
/-- a value that was cast to a short is stored in a short field as it is (row of kit/rows) -/
theorem pk_ns (z : Int32) : narrow .short (.int z.toInt16.toInt32) = .int z.toInt16.toInt32 := congrArg Value.int (by simp)
/-- and it lies within a short's range (row of kit/rows) -/
theorem pk_fs (r : Int32) : fits .short (.int r.toInt16.toInt32) = true := by
  have ⟨a, b⟩ := lg_i2s_range r
  have h1 : (-32768 : Int32).toInt = -32768 := by decide
  have h2 : (32767 : Int32).toInt = 32767 := by decide
  simp only [fits, Bool.and_eq_true, decide_eq_true_eq, Int32.le_iff_toInt_le, h1, h2]
  omega
/-- the reference leaves out the sequence when it is 0; the component's 'or' with 0 changes nothing -/
theorem sf_or0 (x : Int64) : x = x ||| (0 : Int32).toInt64 := by
  have h : (0 : Int32).toInt64 = 0 := by decide
  rw [h]
  exact Int64.or_zero.symm
theorem i_vc_next {k : Nat} {u : SX} {v : SY} (I : i_Rel k u v) (hk : k + 3 ≤ 1538) (a0 : Int64) : wpX_next (fun r u' => wpY_next (fun r' v' => r' = r ∧ i_Rel (k + 3) u' v') v a0) u a0 := by
  cases I
  obtain ⟨l, s, n, c⟩ := u
  by_cases h0 : a0 < 0
  · exact br_t h0 (br_t h0 ⟨rfl, rfl⟩)
  · by_cases h1 : a0 ≤ 2199023255551
    · by_cases h2 : l ≤ a0
      · by_cases h3 : a0 = l
        · by_cases h4 : s + 1 < c
          · refine br_f h0 (br_t h1 (br_t h2 (br_t h3 (br_t h4 fun y ey => ?_))))
            subst ey
            refine And.intro (pk_ns _) (And.intro (pk_fs _) ?_)
            refine br_f h0 (br_t h1 (br_t h2 (br_t h3 (br_t h4 fun z ez => ?_))))
            subst ez
            exact And.intro (pk_ns _) (And.intro (pk_fs _) ⟨rfl, rfl⟩)
          · exact br_f h0 (br_t h1 (br_t h2 (br_t h3 (br_f h4 (br_f h0 (br_t h1 (br_t h2 (br_t h3 (br_f h4 ⟨rfl, rfl⟩)))))))))
        · exact br_f h0 (br_t h1 (br_t h2 (br_f h3 (br_f h0 (br_t h1 (br_t h2 (br_f h3 ⟨sf_or0 _, rfl⟩)))))))
      · exact br_f h0 (br_t h1 (br_f h2 (br_f h0 (br_t h1 (br_f h2 ⟨rfl, rfl⟩)))))
    · exact br_f h0 (br_f h1 (br_f h0 (br_f h1 ⟨rfl, rfl⟩)))
theorem i_vc_timeOf {k : Nat} {u : SX} {v : SY} (I : i_Rel k u v) (hk : k + 3 ≤ 1538) (a0 : Int64) : wpX_timeOf (fun r => wpY_timeOf (fun r' => r' = r ∧ i_Rel (k + 3) u v) v a0) u a0 := by
  cases I
  exact And.intro rfl rfl
theorem i_vc_seqOf {k : Nat} {u : SX} {v : SY} (I : i_Rel k u v) (hk : k + 3 ≤ 1538) (a0 : Int64) : wpX_seqOf (fun r => wpY_seqOf (fun r' => r' = r ∧ i_Rel (k + 3) u v) v a0) u a0 := by
  cases I
  exact And.intro rfl rfl
theorem i_vc_last {k : Nat} {u : SX} {v : SY} (I : i_Rel k u v) (hk : k + 3 ≤ 1538) : wpX_last (fun r => wpY_last (fun r' => r' = r ∧ i_Rel (k + 3) u v) v) u := by
  cases I
  exact And.intro rfl rfl
end
