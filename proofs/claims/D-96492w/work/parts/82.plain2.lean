/-! plain law: the model's second and its way -/
set_option maxRecDepth 100000
theorem mS_eq {A B : MS} (h1 : ∀ k, A.1 k = B.1 k) (h2 : A.2 = B.2) : A = B := Prod.ext (funext h1) h2
def oneV (v : Int32) : Int32 := if 1 ≤ v then v else 1
def strideV (kd pt lg sl : Int32) : Int32 := if kd = 1 then oneV (lg - 1) else if kd = 2 then lg + 2 else if kd = 3 then (lg + 1) / 2 else if kd = 4 then oneV ((lg + 1) - sl) else if kd = 5 then lg + pt else if kd = 6 then oneV (lg - sl) else lg
def puffV (kd : Int32) : Int32 := if kd = 1 then 1 else if kd = 2 then 4 else if kd = 3 then 0 else if kd = 4 then 3 else if kd = 5 then 5 else 2
def riskV (kd pt lg sl hl : Int32) : Int32 := if kd = 4 ∨ kd = 6 then (((5 * sl) + (3 * hl)) + strideV kd pt lg sl) / 2 else ((5 * sl) + (3 * hl)) + strideV kd pt lg sl
theorem puffV_b (kd : Int32) : 0 ≤ puffV kd ∧ puffV kd ≤ 5 := by
  unfold puffV
  repeat' split
  all_goals decide
section MV
variable {S : MS} {K : Int32 → MS → Prop}
theorem v_one {v : Int32} (hK : K (oneV v) S) : m_one v S K := by
  unfold m_one
  unfold oneV at hK
  split
  · rw [if_pos (by assumption)] at hK; exact hK
  · rw [if_neg (by assumption)] at hK; exact hK
theorem v_stride (hK : K (strideV (S.1 35) (S.1 36) (S.1 37) (S.1 38)) S) : m_stride S K := by
  unfold m_stride
  unfold strideV at hK
  by_cases c1 : S.1 35 = 1
  · rw [if_pos c1] at hK ⊢; exact v_one hK
  rw [if_neg c1] at hK ⊢
  by_cases c2 : S.1 35 = 2
  · rw [if_pos c2] at hK ⊢; exact hK
  rw [if_neg c2] at hK ⊢
  by_cases c3 : S.1 35 = 3
  · rw [if_pos c3] at hK ⊢; exact hK
  rw [if_neg c3] at hK ⊢
  by_cases c4 : S.1 35 = 4
  · rw [if_pos c4] at hK ⊢; exact v_one hK
  rw [if_neg c4] at hK ⊢
  by_cases c5 : S.1 35 = 5
  · rw [if_pos c5] at hK ⊢; exact hK
  rw [if_neg c5] at hK ⊢
  by_cases c6 : S.1 35 = 6
  · rw [if_pos c6] at hK ⊢; exact v_one hK
  rw [if_neg c6] at hK ⊢
  exact hK
theorem v_puff (hK : K (puffV (S.1 35)) S) : m_puff S K := by
  unfold m_puff
  unfold puffV at hK
  by_cases c1 : S.1 35 = 1
  · rw [if_pos c1] at hK ⊢; exact hK
  rw [if_neg c1] at hK ⊢
  by_cases c2 : S.1 35 = 2
  · rw [if_pos c2] at hK ⊢; exact hK
  rw [if_neg c2] at hK ⊢
  by_cases c3 : S.1 35 = 3
  · rw [if_pos c3] at hK ⊢; exact hK
  rw [if_neg c3] at hK ⊢
  by_cases c4 : S.1 35 = 4
  · rw [if_pos c4] at hK ⊢; exact hK
  rw [if_neg c4] at hK ⊢
  by_cases c5 : S.1 35 = 5
  · rw [if_pos c5] at hK ⊢; exact hK
  rw [if_neg c5] at hK ⊢
  exact hK
theorem v_risk (hK : K (riskV (S.1 35) (S.1 36) (S.1 37) (S.1 38) (S.1 39)) S) : m_risk S K := by
  unfold m_risk
  refine v_stride ?_
  unfold riskV at hK
  by_cases c4 : S.1 35 = 4
  · rw [if_pos (Or.inl c4)] at hK
    rw [if_pos c4]; exact hK
  by_cases c6 : S.1 35 = 6
  · rw [if_pos (Or.inr c6)] at hK
    rw [if_neg c4, if_pos c6]; exact hK
  rw [if_neg (fun h => h.elim c4 c6)] at hK
  rw [if_neg c4, if_neg c6]; exact hK
theorem v_riskNow (hK : K (riskV (S.1 35) (S.1 36) (S.1 37) (S.1 38) (S.1 39) + (if puffV (S.1 35) ≤ S.1 43 then 0 else 20)) S) : m_riskNow S K := by
  unfold m_riskNow
  refine v_risk (v_puff ?_)
  by_cases c : puffV (S.1 35) ≤ S.1 43
  · rw [if_pos c] at hK ⊢; exact hK
  · rw [if_neg c] at hK ⊢; exact hK
end MV
/-- a model that hops: its state's five numbers are d's -/
def mHop (S : MS) (d : HD) : MS := mset (mset (mset (mset (mset S 42 d.1) 43 d.2.1) 44 d.2.2.1) 45 d.2.2.2.1) 46 d.2.2.2.2.1
/-- what a hop leaves alone -/
theorem mHop_o {S : MS} {d : HD} {k : Nat} (h : k < 42 ∨ 46 < k) : (mHop S d).1 k = S.1 k := by
  have h1 : k ≠ 42 := by omega
  have h2 : k ≠ 43 := by omega
  have h3 : k ≠ 44 := by omega
  have h4 : k ≠ 45 := by omega
  have h5 : k ≠ 46 := by omega
  simp [mHop, mset, upd, h1, h2, h3, h4, h5]
theorem mHop_2 {S : MS} {d : HD} : (mHop S d).2 = S.2 := rfl
theorem mHop_42 {S : MS} {d : HD} : (mHop S d).1 42 = d.1 := by simp [mHop, mset, upd]
theorem mHop_43 {S : MS} {d : HD} : (mHop S d).1 43 = d.2.1 := by simp [mHop, mset, upd]
theorem mHop_44 {S : MS} {d : HD} : (mHop S d).1 44 = d.2.2.1 := by simp [mHop, mset, upd]
theorem mHop_45 {S : MS} {d : HD} : (mHop S d).1 45 = d.2.2.2.1 := by simp [mHop, mset, upd]
theorem mHop_46 {S : MS} {d : HD} : (mHop S d).1 46 = d.2.2.2.2.1 := by simp [mHop, mset, upd]
theorem mHop_eq {S T : MS} {d : HD} (h2 : T.2 = S.2) (h42 : T.1 42 = d.1) (h43 : T.1 43 = d.2.1) (h44 : T.1 44 = d.2.2.1) (h45 : T.1 45 = d.2.2.2.1) (h46 : T.1 46 = d.2.2.2.2.1) (ho : ∀ k, (k < 42 ∨ 46 < k) → T.1 k = S.1 k) : T = mHop S d := by
  refine mS_eq (fun k => ?_) h2
  by_cases c : k < 42 ∨ 46 < k
  · rw [ho k c, mHop_o c]
  · have : k = 42 ∨ k = 43 ∨ k = 44 ∨ k = 45 ∨ k = 46 := by omega
    rcases this with rfl | rfl | rfl | rfl | rfl
    · rw [h42, mHop_42]
    · rw [h43, mHop_43]
    · rw [h44, mHop_44]
    · rw [h45, mHop_45]
    · rw [h46, mHop_46]
/-- bounded numbers as integers -/
theorem i_le {a b : Int32} : a ≤ b ↔ a.toInt ≤ b.toInt := Int32.le_iff_toInt_le
theorem i_lt {a b : Int32} : a < b ↔ a.toInt < b.toInt := Int32.lt_iff_toInt_lt
theorem i_sub {a b : Int32} (h1 : -(2 ^ 31 : Int) ≤ a.toInt - b.toInt) (h2 : a.toInt - b.toInt < 2 ^ 31) : (a - b).toInt = a.toInt - b.toInt := by
  rw [Int32.toInt_sub]
  exact Int.bmod_eq_of_le (by omega) (by omega)
theorem i_add {a b : Int32} (h1 : -(2 ^ 31 : Int) ≤ a.toInt + b.toInt) (h2 : a.toInt + b.toInt < 2 ^ 31) : (a + b).toInt = a.toInt + b.toInt := by
  rw [Int32.toInt_add]
  exact Int.bmod_eq_of_le (by omega) (by omega)
def brB (b : Int32) : Prop := 0 ≤ b ∧ b ≤ 60
theorem puff_eq {b p : Int32} (hb : brB b) (hp : 0 ≤ p ∧ p ≤ 5) : (if b ≤ p then 0 else b - p) = imax 0 (b - p) := by
  have b1 := i_le.mp hb.1
  have b2 := i_le.mp hb.2
  have p1 := i_le.mp hp.1
  have p2 := i_le.mp hp.2
  have e0 : (0 : Int32).toInt = 0 := rfl
  have e5 : (5 : Int32).toInt = 5 := rfl
  have e60 : (60 : Int32).toInt = 60 := rfl
  rw [e0] at b1 p1
  rw [e60] at b2
  rw [e5] at p2
  have hs := i_sub (a := b) (b := p) (by omega) (by omega)
  unfold imax
  by_cases c : b ≤ p
  · rw [if_pos c]
    have c' := i_le.mp c
    rw [if_neg (fun h => by have := i_lt.mp h; rw [hs, e0] at this; omega)]
  · rw [if_neg c]
    have c' : ¬ b.toInt ≤ p.toInt := fun h => c (i_le.mpr h)
    rw [if_pos (i_lt.mpr (by rw [hs, e0]; omega))]
theorem br_next {b p : Int32} (hb : brB b) (hp : 0 ≤ p ∧ p ≤ 5) : brB (imin 60 (imax 0 (b - p) + 1)) := by
  have b1 := i_le.mp hb.1
  have b2 := i_le.mp hb.2
  have p1 := i_le.mp hp.1
  have p2 := i_le.mp hp.2
  have e0 : (0 : Int32).toInt = 0 := rfl
  have e1 : (1 : Int32).toInt = 1 := rfl
  have e5 : (5 : Int32).toInt = 5 := rfl
  have e60 : (60 : Int32).toInt = 60 := rfl
  rw [e0] at b1 p1
  rw [e60] at b2
  rw [e5] at p2
  have hs := i_sub (a := b) (b := p) (by omega) (by omega)
  have hm : 0 ≤ (imax 0 (b - p)).toInt ∧ (imax 0 (b - p)).toInt ≤ 60 := by
    unfold imax
    split
    · rename_i h
      have := i_lt.mp h
      rw [hs] at this ⊢
      rw [e0] at this
      omega
    · exact ⟨by decide, by decide⟩
  have ha := i_add (a := imax 0 (b - p)) (b := 1) (by rw [e1]; omega) (by rw [e1]; omega)
  rw [e1] at ha
  unfold imin
  split
  · rename_i h
    have := i_lt.mp h
    rw [ha, e60] at this
    exact ⟨i_le.mpr (by rw [ha, e0]; omega), i_le.mpr (by rw [ha, e60]; omega)⟩
  · exact ⟨by decide, by decide⟩
theorem br_rest {b : Int32} (hb : brB b) : brB (imin 60 (b + 2)) := by
  have b1 := i_le.mp hb.1
  have b2 := i_le.mp hb.2
  have e0 : (0 : Int32).toInt = 0 := rfl
  have e2 : (2 : Int32).toInt = 2 := rfl
  have e60 : (60 : Int32).toInt = 60 := rfl
  rw [e0] at b1
  rw [e60] at b2
  have ha := i_add (a := b) (b := 2) (by rw [e2]; omega) (by rw [e2]; omega)
  rw [e2] at ha
  unfold imin
  split
  · rename_i h
    have := i_lt.mp h
    rw [ha, e60] at this
    exact ⟨i_le.mpr (by rw [ha, e0]; omega), i_le.mpr (by rw [ha, e60]; omega)⟩
  · exact ⟨by decide, by decide⟩
theorem sec_br {st pf rk up rl : Int32} {d : HD} (hb : brB d.2.1) (hp : 0 ≤ pf ∧ pf ≤ 5) : brB (sec st pf rk up rl d).2.1 := by
  have h1 := br_next hb hp
  have h2 := br_rest hb
  unfold sec
  by_cases c1 : d.2.2.2.1 ≤ 0
  · rw [if_pos c1]
    by_cases c2 : d.2.2.1 + (rk + (if pf ≤ d.2.1 then 0 else 20)) < 100
    · rw [if_pos c2]
      exact h1
    · rw [if_neg c2]
      exact h1
  · rw [if_neg c1]
    exact h2
theorem min60 {x : Int32} : (if x ≤ 60 then x else 60) = imin 60 x := by
  unfold imin
  by_cases c : x ≤ 60
  · rw [if_pos c]
    by_cases c2 : x < 60
    · rw [if_pos c2]
    · rw [if_neg c2]
      have h1 := i_le.mp c
      have h2 : ¬ x.toInt < (60 : Int32).toInt := fun h => c2 (i_lt.mpr h)
      exact Int32.toInt_inj.mp (by omega)
  · rw [if_neg c, if_neg (fun h => c (Int32.le_of_lt h))]
