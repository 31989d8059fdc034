/-! plain law: when the model's hopper is in -/
set_option maxRecDepth 100000
theorem gap_eq {b p : Int32} (hb : brB b) (hp : brB p) : (if b ≤ p then 0 else b - p) = imax 0 (b - p) := by
  have b1 := i_le.mp hb.1
  have b2 := i_le.mp hb.2
  have p1 := i_le.mp hp.1
  have p2 := i_le.mp hp.2
  have e0 : (0 : Int32).toInt = 0 := rfl
  have e60 : (60 : Int32).toInt = 60 := rfl
  rw [e0] at b1 p1
  rw [e60] at b2 p2
  have hs := i_sub (a := b) (b := p) (by omega) (by omega)
  unfold imax
  by_cases c : b ≤ p
  · rw [if_pos c]
    have c' := i_le.mp c
    rw [if_neg (fun h => by have := i_lt.mp h; rw [hs, e0] at this; omega)]
  · rw [if_neg c]
    have c' : ¬ b.toInt ≤ p.toInt := fun h => c (i_le.mpr h)
    rw [if_pos (i_lt.mpr (by rw [hs, e0]; omega))]
theorem min999 {x : Int32} : (if x ≤ 999 then x else 999) = imin 999 x := by
  unfold imin
  by_cases c : x ≤ 999
  · rw [if_pos c]
    by_cases c2 : x < 999
    · rw [if_pos c2]
    · rw [if_neg c2]
      have h1 := i_le.mp c
      have h2 : ¬ x.toInt < (999 : Int32).toInt := fun h => c2 (i_lt.mpr h)
      exact Int32.toInt_inj.mp (by omega)
  · rw [if_neg c, if_neg (fun h => c (Int32.le_of_lt h))]
abbrev mSec (S : MS) : HD → HD := sec (mSt S) (mPf S) (mRk S) (S.1 3) (S.1 41)
theorem v_inL {S : MS} {k : Int32 → MS → Prop} (hr : S.1 41 = 0 ∨ S.1 41 = 1) : ∀ (m x fu : Nat) (d : HD), m < fu → x + m = 999 → brB d.2.1 → k (Int32.ofNat (x + (itr (S.1 2) (mSec S) m d).1)) (mHop S (itr (S.1 2) (mSec S) m d).2) → m_in_l6 k fu (Int32.ofNat x) (mHop S d) := by
  intro m
  induction m with
  | zero =>
    intro x fu d hf hx hb hK
    obtain ⟨fu, rfl⟩ : ∃ j, fu = j + 1 := ⟨fu - 1, by omega⟩
    rw [m_in_l6_s, mHop_42, mHop_o (by decide)]
    have hK' : k (Int32.ofNat x) (mHop S d) := hK
    by_cases c : S.1 2 ≤ d.1
    · rw [if_pos c]
      exact hK'
    · rw [if_neg c, if_pos (by rw [show x = 999 by omega]; decide)]
      exact hK'
  | succ m ih =>
    intro x fu d hf hx hb hK
    obtain ⟨fu, rfl⟩ : ∃ j, fu = j + 1 := ⟨fu - 1, by omega⟩
    rw [m_in_l6_s, mHop_42, mHop_o (by decide)]
    by_cases c : d.1 < S.1 2
    · simp only [itr, if_pos c] at hK
      rw [if_neg (fun h => Int32.not_lt.mpr h c)]
      rw [if_neg (fun h => by have := (n_le (a := 999) (b := x) (by omega) (by omega)).mp h; omega)]
      refine v_second hb hr ?_
      rw [n_succ]
      refine ih (x + 1) fu (mSec S d) (by omega) (by omega) (sec_br hb (puffV_b _)) ?_
      rw [show x + 1 + (itr (S.1 2) (mSec S) m (mSec S d)).1 = x + ((itr (S.1 2) (mSec S) m (mSec S d)).1 + 1) by omega]
      exact hK
    · simp only [itr, if_neg c] at hK
      rw [if_pos (Int32.not_lt.mp c)]
      exact hK
/-- what stands where a race starts -/
abbrev d0 (ah br : Int32) : HD := (ah, br, 0, 0, 0, -1)
theorem m_starts_eq {S : MS} {K : MS → Prop} (hK : K (mHop S (d0 (S.1 40) (S.1 5)))) : m_starts S K := hK
theorem v_rope {S : MS} {K : Int32 → MS → Prop} {x : Int32} (h4 : brB (S.1 4)) (h37 : brB (S.1 37)) (hK : K (imin 999 (x + imax 0 (S.1 4 - S.1 37))) S) : m_withRope x S K := by
  unfold m_withRope
  have he := gap_eq h4 h37
  have fin : ∀ v : Int32, v = imax 0 (S.1 4 - S.1 37) → (if x + v ≤ 999 then K (x + v) S else K 999 S) := by
    intro v hv
    rw [← hv, ← min999] at hK
    by_cases c : x + v ≤ 999
    · rw [if_pos c] at hK ⊢
      exact hK
    · rw [if_neg c] at hK ⊢
      exact hK
  refine jnI ?_
  by_cases c : S.1 4 ≤ S.1 37
  · rw [if_pos c] at he ⊢
    exact fin 0 he
  · rw [if_neg c] at he ⊢
    exact fin _ he
/-- when who hops is in -/
def inV (S : MS) : Int32 := tim (S.1 2) (imax 0 (S.1 4 - S.1 37)) (Int32.ofNat (itr (S.1 2) (mSec S) 999 (d0 (S.1 40) (S.1 5))).1) (itr (S.1 2) (mSec S) 999 (d0 (S.1 40) (S.1 5))).2
abbrev inS (S : MS) : MS := mHop S (itr (S.1 2) (mSec S) 999 (d0 (S.1 40) (S.1 5))).2
theorem v_in {S : MS} {K : Int32 → MS → Prop} (hr : S.1 41 = 0 ∨ S.1 41 = 1) (h5 : brB (S.1 5)) (h4 : brB (S.1 4)) (h37 : brB (S.1 37)) (hK : K (inV S) (inS S)) : m_in S K := by
  unfold m_in
  refine m_starts_eq (jnI ?_)
  refine v_inL hr 999 0 NF (d0 (S.1 40) (S.1 5)) (by rw [NF_eq]; omega) rfl h5 ?_
  rw [mHop_42, mHop_o (by decide), Nat.zero_add]
  unfold inV tim at hK
  by_cases c : (itr (S.1 2) (mSec S) 999 (d0 (S.1 40) (S.1 5))).2.1 < S.1 2
  · rw [if_pos c] at hK
    rw [if_neg (fun h => Int32.not_lt.mpr h c)]
    exact hK
  · rw [if_neg c] at hK
    rw [if_pos (Int32.not_lt.mp c)]
    refine v_rope (by rw [mHop_o (by decide)]; exact h4) (by rw [mHop_o (by decide)]; exact h37) ?_
    rw [mHop_o (by decide), mHop_o (by decide)]
    exact hK
