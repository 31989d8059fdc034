/-! plain law: the model's second -/
set_option maxRecDepth 100000
theorem mset_s {S : MS} {k : Nat} {v : Int32} : (mset S k v).1 k = v := by simp [mset, upd]
theorem mset_n {S : MS} {j k : Nat} {v : Int32} (h : k ≠ j) : (mset S j v).1 k = S.1 k := by simp [mset, upd, h]
theorem mset2 {S : MS} {k : Nat} {a b : Int32} : mset (mset S k a) k b = mset S k b := by
  refine mS_eq (fun j => ?_) rfl
  by_cases h : j = k
  · rw [h, mset_s, mset_s]
  · rw [mset_n h, mset_n h, mset_n h]
theorem v_puffs {S : MS} {K : MS → Prop} (hb : brB (S.1 43)) (hK : K (mset S 43 (imin 60 (imax 0 (S.1 43 - puffV (S.1 35)) + 1)))) : m_puffs S K := by
  unfold m_puffs
  refine v_puff (jnI ?_)
  have fin : ∀ v : Int32, v = imax 0 (S.1 43 - puffV (S.1 35)) → (if v + 1 ≤ 60 then K (mset (mset S 43 (v + 1)) 43 (v + 1)) else K (mset (mset S 43 (v + 1)) 43 60)) := by
    intro v hv
    rw [← hv, ← min60] at hK
    by_cases c : v + 1 ≤ 60
    · rw [if_pos c] at hK ⊢
      rw [mset2]
      exact hK
    · rw [if_neg c] at hK ⊢
      rw [mset2]
      exact hK
  have he := puff_eq hb (puffV_b (S.1 35))
  by_cases c : S.1 43 ≤ puffV (S.1 35)
  · rw [if_pos c] at he ⊢
    exact fin 0 he
  · rw [if_neg c] at he ⊢
    exact v_puff (fin _ he)
abbrev mSt (S : MS) : Int32 := strideV (S.1 35) (S.1 36) (S.1 37) (S.1 38)
abbrev mPf (S : MS) : Int32 := puffV (S.1 35)
abbrev mRk (S : MS) : Int32 := riskV (S.1 35) (S.1 36) (S.1 37) (S.1 38) (S.1 39)
theorem mHop_K {S T : MS} {d : HD} {K : MS → Prop} (hK : K (mHop S d)) (h2 : T.2 = S.2) (h42 : T.1 42 = d.1) (h43 : T.1 43 = d.2.1) (h44 : T.1 44 = d.2.2.1) (h45 : T.1 45 = d.2.2.2.1) (h46 : T.1 46 = d.2.2.2.2.1) (ho : ∀ k, (k < 42 ∨ 46 < k) → T.1 k = S.1 k) : K T := by
  rw [mHop_eq h2 h42 h43 h44 h45 h46 ho]
  exact hK
theorem v_up {S S3 : MS} {d : HD} {wo br : Int32} {K : MS → Prop} (h2 : S3.2 = S.2) (g42 : S3.1 42 = d.1) (g43 : S3.1 43 = br) (g44 : S3.1 44 = wo) (g45 : S3.1 45 = d.2.2.2.1) (g46 : S3.1 46 = d.2.2.2.2.1) (go : ∀ k, (k < 42 ∨ 46 < k) → S3.1 k = S.1 k)
    (hK : K (mHop S (if wo < 100 then (d.1 + mSt S, br, wo, d.2.2.2.1, d.2.2.2.2.1, d.2.2.2.2.2) else (d.1, br, wo - 100, S.1 3, d.2.2.2.2.1 + 1, if d.2.2.2.2.1 = 0 then d.1 else d.2.2.2.2.2)))) : (if S3.1 44 < 100 then m_stride S3 (fun r5 S4 => K (mset S4 42 (S3.1 42 + r5))) else m_falls (mset S3 44 (S3.1 44 - 100)) (fun S6 => K S6)) := by
  rw [g44]
  by_cases c2 : wo < 100
  · rw [if_pos c2] at hK ⊢
    refine v_stride ?_
    rw [go 35 (by decide), go 36 (by decide), go 37 (by decide), go 38 (by decide), g42]
    refine mHop_K hK h2 ?_ ?_ ?_ ?_ ?_ ?_
    · exact mset_s
    · rw [mset_n (j := 42) (k := 43) (by decide)]; exact g43
    · rw [mset_n (j := 42) (k := 44) (by decide)]; exact g44
    · rw [mset_n (j := 42) (k := 45) (by decide)]; exact g45
    · rw [mset_n (j := 42) (k := 46) (by decide)]; exact g46
    · intro k hk
      rw [mset_n (j := 42) (by omega)]
      exact go k hk
  · rw [if_neg c2] at hK ⊢
    unfold m_falls
    obtain ⟨S4, h4⟩ : ∃ S4, S4 = mset S3 44 (wo - 100) := ⟨_, rfl⟩
    have q3 : S4.1 3 = S.1 3 := by rw [h4, mset_n (j := 44) (by decide)]; exact go 3 (by decide)
    have q44 : S4.1 44 = wo - 100 := by rw [h4]; exact mset_s
    have q : ∀ k, k ≠ 44 → S4.1 k = S3.1 k := fun k hk => by rw [h4]; exact mset_n hk
    have q2 : S4.2 = S.2 := by rw [h4]; exact h2
    rw [← h4]
    obtain ⟨S5, h5⟩ : ∃ S5, S5 = mset S4 45 (S4.1 3) := ⟨_, rfl⟩
    have p45 : S5.1 45 = S.1 3 := by rw [h5, mset_s]; exact q3
    have p : ∀ k, k ≠ 45 → S5.1 k = S4.1 k := fun k hk => by rw [h5]; exact mset_n hk
    have p2 : S5.2 = S.2 := by rw [h5]; exact q2
    rw [← h5]
    refine mHop_K hK p2 ?_ ?_ ?_ ?_ ?_ ?_
    · rw [mset_n (j := 46) (k := 42) (by decide), p 42 (by decide), q 42 (by decide)]; exact g42
    · rw [mset_n (j := 46) (k := 43) (by decide), p 43 (by decide), q 43 (by decide)]; exact g43
    · rw [mset_n (j := 46) (k := 44) (by decide), p 44 (by decide)]; exact q44
    · rw [mset_n (j := 46) (k := 45) (by decide)]; exact p45
    · rw [mset_s]
      show S4.1 46 + 1 = _
      rw [q 46 (by decide), g46]
    · intro k hk
      rw [mset_n (j := 46) (by omega), p k (by omega), q k (by omega)]
      exact go k hk
theorem v_second {S : MS} {d : HD} {K : MS → Prop} (hb : brB d.2.1) (hr : S.1 41 = 0 ∨ S.1 41 = 1) (hK : K (mHop S (sec (mSt S) (mPf S) (mRk S) (S.1 3) (S.1 41) d))) : m_second (mHop S d) K := by
  obtain ⟨T, hT⟩ : ∃ T, T = mHop S d := ⟨_, rfl⟩
  have e42 : T.1 42 = d.1 := by rw [hT]; exact mHop_42
  have e43 : T.1 43 = d.2.1 := by rw [hT]; exact mHop_43
  have e44 : T.1 44 = d.2.2.1 := by rw [hT]; exact mHop_44
  have e45 : T.1 45 = d.2.2.2.1 := by rw [hT]; exact mHop_45
  have e46 : T.1 46 = d.2.2.2.2.1 := by rw [hT]; exact mHop_46
  have eo : ∀ k, (k < 42 ∨ 46 < k) → T.1 k = S.1 k := fun k hk => by rw [hT]; exact mHop_o hk
  have e2 : T.2 = S.2 := by rw [hT]; rfl
  rw [← hT]
  unfold m_second
  rw [e45]
  by_cases c1 : d.2.2.2.1 ≤ 0
  · rw [if_pos c1]
    simp only [sec, if_pos c1] at hK
    refine v_riskNow ?_
    rw [eo 35 (by decide), eo 36 (by decide), eo 37 (by decide), eo 38 (by decide), eo 39 (by decide), e43, e44]
    obtain ⟨S1, h1⟩ : ∃ S1, S1 = mset T 44 (d.2.2.1 + (mRk S + (if mPf S ≤ d.2.1 then 0 else 20))) := ⟨_, rfl⟩
    have q44 : S1.1 44 = d.2.2.1 + (mRk S + (if mPf S ≤ d.2.1 then 0 else 20)) := by rw [h1]; exact mset_s
    have q : ∀ k, k ≠ 44 → S1.1 k = T.1 k := fun k hk => by rw [h1]; exact mset_n hk
    have q2 : S1.2 = S.2 := by rw [h1]; exact e2
    rw [← h1]
    refine v_puffs (by rw [q 43 (by decide), e43]; exact hb) ?_
    rw [q 43 (by decide), e43, q 35 (by decide), eo 35 (by decide)]
    obtain ⟨S3, h3⟩ : ∃ S3, S3 = mset S1 43 (imin 60 (imax 0 (d.2.1 - puffV (S.1 35)) + 1)) := ⟨_, rfl⟩
    have p43 : S3.1 43 = imin 60 (imax 0 (d.2.1 - mPf S) + 1) := by rw [h3]; exact mset_s
    have p : ∀ k, k ≠ 43 → S3.1 k = S1.1 k := fun k hk => by rw [h3]; exact mset_n hk
    have p2 : S3.2 = S.2 := by rw [h3]; exact q2
    rw [← h3]
    refine v_up (S := S) (d := d) p2 ?_ p43 ?_ ?_ ?_ ?_ hK
    · rw [p 42 (by decide), q 42 (by decide)]; exact e42
    · rw [p 44 (by decide)]; exact q44
    · rw [p 45 (by decide), q 45 (by decide)]; exact e45
    · rw [p 46 (by decide), q 46 (by decide)]; exact e46
    · intro k hk
      rw [p k (by omega), q k (by omega)]
      exact eo k hk
  · rw [if_neg c1]
    unfold m_rests
    rw [e43, e45, e42, eo 41 (by decide)]
    simp only [sec, if_neg c1] at hK
    have fin : ∀ v : Int32, v = imin 60 (d.2.1 + 2) → (if S.1 41 = 1 then K (mset (mset (mset T 45 (d.2.2.2.1 - 1)) 43 v) 42 (d.1 + 1)) else K (mset (mset T 45 (d.2.2.2.1 - 1)) 43 v)) := by
      intro v hv
      rw [← hv] at hK
      obtain ⟨S1, h1⟩ : ∃ S1, S1 = mset T 45 (d.2.2.2.1 - 1) := ⟨_, rfl⟩
      have q45 : S1.1 45 = d.2.2.2.1 - 1 := by rw [h1]; exact mset_s
      have q : ∀ k, k ≠ 45 → S1.1 k = T.1 k := fun k hk => by rw [h1]; exact mset_n hk
      have q2 : S1.2 = S.2 := by rw [h1]; exact e2
      rw [← h1]
      obtain ⟨S3, h3⟩ : ∃ S3, S3 = mset S1 43 v := ⟨_, rfl⟩
      have p43 : S3.1 43 = v := by rw [h3]; exact mset_s
      have p : ∀ k, k ≠ 43 → S3.1 k = S1.1 k := fun k hk => by rw [h3]; exact mset_n hk
      have p2 : S3.2 = S.2 := by rw [h3]; exact q2
      rw [← h3]
      by_cases c : S.1 41 = 1
      · rw [if_pos c]
        rw [if_neg (by rw [c]; decide)] at hK
        refine mHop_K hK p2 ?_ ?_ ?_ ?_ ?_ ?_
        · exact mset_s
        · rw [mset_n (j := 42) (k := 43) (by decide)]; exact p43
        · rw [mset_n (j := 42) (k := 44) (by decide), p 44 (by decide), q 44 (by decide)]; exact e44
        · rw [mset_n (j := 42) (k := 45) (by decide), p 45 (by decide)]; exact q45
        · rw [mset_n (j := 42) (k := 46) (by decide), p 46 (by decide), q 46 (by decide)]; exact e46
        · intro k hk
          rw [mset_n (j := 42) (by omega), p k (by omega), q k (by omega)]
          exact eo k hk
      · have c0 : S.1 41 = 0 := hr.resolve_right c
        rw [if_neg c]
        rw [if_pos c0] at hK
        refine mHop_K hK p2 ?_ p43 ?_ ?_ ?_ ?_
        · rw [p 42 (by decide), q 42 (by decide), e42]; simp
        · rw [p 44 (by decide), q 44 (by decide)]; exact e44
        · rw [p 45 (by decide)]; exact q45
        · rw [p 46 (by decide), q 46 (by decide)]; exact e46
        · intro k hk
          rw [p k (by omega), q k (by omega)]
          exact eo k hk
    refine jnI ?_
    have hm := min60 (x := d.2.1 + 2)
    by_cases c : d.2.1 + 2 ≤ 60
    · rw [if_pos c] at hm ⊢
      exact fin _ hm
    · rw [if_neg c] at hm ⊢
      exact fin _ hm
