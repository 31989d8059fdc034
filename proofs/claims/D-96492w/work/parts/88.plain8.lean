/-! plain law: when a child is in, by the model -/
set_option maxRecDepth 100000
/-- the same but for the numbers of who hops -/
def jk (T S : MS) : Prop := T.2 = S.2 ∧ ∀ k, (k < 35 ∨ 46 < k) → T.1 k = S.1 k
theorem jk.rf {S : MS} : jk S S := ⟨rfl, fun _ _ => rfl⟩
theorem jk.tr {A B C : MS} (h1 : jk A B) (h2 : jk B C) : jk A C := ⟨h1.1.trans h2.1, fun k hk => (h1.2 k hk).trans (h2.2 k hk)⟩
theorem jk.set {T S : MS} {j : Nat} {v : Int32} (h : jk T S) (hj : 35 ≤ j ∧ j ≤ 46) : jk (mset T j v) S := ⟨h.1, fun k hk => by rw [mset_n (j := j) (by omega)]; exact h.2 k hk⟩
theorem jk.hop {T S : MS} {d : HD} (h : jk T S) : jk (mHop T d) S := ⟨h.1, fun k hk => by rw [mHop_o (by omega)]; exact h.2 k hk⟩
theorem v_ald {S : MS} {k : Nat} {i : Int32} {P : Int32 → Prop} (hi : vp_in i (mLen k)) (hP : P (S.2.1 k i.toNatClampNeg)) : obd (mald S k i) P := by
  refine ⟨_, ?_, hP⟩
  have hi : ¬ (i < 0 ∨ mLen k ≤ i.toNatClampNeg) := hi
  simp [mald, hi]
theorem v_abs {x : Int32} {S : MS} {K : Int32 → MS → Prop} (hK : K (iabs x) S) : m_abs x S K := by
  unfold m_abs
  unfold iabs at hK
  by_cases c : 0 ≤ x
  · rw [if_pos c] at hK ⊢
    exact hK
  · rw [if_neg c] at hK ⊢
    have e : (0 : Int32) - x = -x := by simp
    rw [e] at hK
    exact hK
/-- a sack that may be asked for: there are none, or it is one -/
def skOk (S : MS) (s : Int32) : Prop := S.1 1 = 0 ∨ (0 ≤ s ∧ s < S.1 1)
abbrev mSl (S : MS) (l s : Int32) : Int32 := slackV (S.1 1) l s (S.2.1 17)
abbrev mHl (S : MS) (s : Int32) : Int32 := holesV (S.1 1) s (S.2.1 18)
theorem v_putsIn {S : MS} {s : Int32} {K : MS → Prop} (hs : skOk S s) (h8 : S.1 1 ≤ 8) (hK : ∀ T, T.2 = S.2 → T.1 38 = mSl S (S.1 37) s → T.1 39 = mHl S s → (∀ k, k ≠ 38 → k ≠ 39 → T.1 k = S.1 k) → K T) : m_putsIn s S K := by
  unfold m_putsIn
  have fin : ∀ (a b : Int32), a = mSl S (S.1 37) s → b = mHl S s → K (mset (mset S 38 a) 39 b) := by
    intro a b ha hb
    refine hK _ rfl ?_ ?_ ?_
    · rw [mset_n (j := 39) (by decide), mset_s]; exact ha
    · rw [mset_s]; exact hb
    · intro k h1 h2
      rw [mset_n h2, mset_n h1]
  refine jnI ?_
  rcases hs with h0 | ⟨h1, h2⟩
  · have hlt : ¬ (0 ≤ s ∧ s < S.1 1) := fun h => by
      have a := i_le.mp h.1
      have b := i_lt.mp h.2
      rw [h0] at b
      have e0 : (0 : Int32).toInt = 0 := rfl
      rw [e0] at a b
      omega
    rw [if_pos h0]
    refine (if_pos h0).mpr ?_
    exact fin 0 0 (by unfold mSl slackV; rw [if_neg hlt]) (by unfold mHl holesV; rw [if_neg hlt])
  · have hne : ¬ S.1 1 = 0 := fun h => by
      have a := i_le.mp h1
      have b := i_lt.mp h2
      rw [h] at b
      have e0 : (0 : Int32).toInt = 0 := rfl
      rw [e0] at a b
      omega
    have hi := (in8 h1 h2 h8).1
    rw [if_neg hne]
    refine v_ald hi (v_abs ?_)
    refine (if_neg hne).mpr ?_
    refine v_ald hi ?_
    exact fin _ _ (by unfold mSl slackV; rw [if_pos ⟨h1, h2⟩]) (by unfold mHl holesV; rw [if_pos ⟨h1, h2⟩]; rfl)
/-- who hops is child c -/
def isCh (T S : MS) (c : Int32) : Prop := T.1 35 = S.2.1 11 c.toNatClampNeg ∧ T.1 36 = S.2.1 12 c.toNatClampNeg ∧ T.1 37 = S.2.1 13 c.toNatClampNeg ∧ T.1 38 = mSl S (S.2.1 13 c.toNatClampNeg) (S.2.1 14 c.toNatClampNeg) ∧ T.1 39 = mHl S (S.2.1 14 c.toNatClampNeg) ∧ T.1 40 = S.2.1 15 c.toNatClampNeg ∧ T.1 41 = S.1 6
theorem v_puts {S : MS} {c : Int32} {K : MS → Prop} (hc : vp_in c 8) (hs : skOk S (S.2.1 14 c.toNatClampNeg)) (h8 : S.1 1 ≤ 8) (hK : ∀ T, jk T S → isCh T S c → K T) : m_puts c S K := by
  unfold m_puts
  refine v_ald hc (v_ald hc (v_ald hc (v_ald hc (v_ald hc ?_))))
  obtain ⟨U, hU⟩ : ∃ U, U = mset (mset (mset (mset (mset S 35 (S.2.1 11 c.toNatClampNeg)) 36 (S.2.1 12 c.toNatClampNeg)) 37 (S.2.1 13 c.toNatClampNeg)) 40 (S.2.1 15 c.toNatClampNeg)) 41 (S.1 6) := ⟨_, rfl⟩
  have u2 : U.2 = S.2 := by rw [hU]; rfl
  have uj : jk U S := by
    rw [hU]
    exact ((((jk.rf.set (by decide)).set (by decide)).set (by decide)).set (by decide)).set (by decide)
  have u1 : U.1 1 = S.1 1 := uj.2 1 (by decide)
  have u35 : U.1 35 = S.2.1 11 c.toNatClampNeg := by rw [hU, mset_n (j := 41) (by decide), mset_n (j := 40) (by decide), mset_n (j := 37) (by decide), mset_n (j := 36) (by decide), mset_s]
  have u36 : U.1 36 = S.2.1 12 c.toNatClampNeg := by rw [hU, mset_n (j := 41) (by decide), mset_n (j := 40) (by decide), mset_n (j := 37) (by decide), mset_s]
  have u37 : U.1 37 = S.2.1 13 c.toNatClampNeg := by rw [hU, mset_n (j := 41) (by decide), mset_n (j := 40) (by decide), mset_s]
  have u40 : U.1 40 = S.2.1 15 c.toNatClampNeg := by rw [hU, mset_n (j := 41) (by decide), mset_s]
  have u41 : U.1 41 = S.1 6 := by rw [hU, mset_s]
  show m_putsIn (S.2.1 14 c.toNatClampNeg) (mset (mset (mset (mset (mset S 35 (S.2.1 11 c.toNatClampNeg)) 36 (S.2.1 12 c.toNatClampNeg)) 37 (S.2.1 13 c.toNatClampNeg)) 40 (S.2.1 15 c.toNatClampNeg)) 41 (S.1 6)) (fun S6 => K S6)
  rw [← hU]
  refine v_putsIn (by unfold skOk; rw [u1]; exact hs) (by rw [u1]; exact h8) (fun T t2 t38 t39 to => ?_)
  refine hK T ⟨t2.trans u2, fun k hk => (to k (by omega) (by omega)).trans (uj.2 k hk)⟩ ⟨?_, ?_, ?_, ?_, ?_, ?_, ?_⟩
  · rw [to 35 (by decide) (by decide)]; exact u35
  · rw [to 36 (by decide) (by decide)]; exact u36
  · rw [to 37 (by decide) (by decide)]; exact u37
  · rw [t38]
    unfold mSl
    rw [u1, u2, u37]
  · rw [t39]
    unfold mHl
    rw [u1, u2]
  · rw [to 40 (by decide) (by decide)]; exact u40
  · rw [to 41 (by decide) (by decide)]; exact u41
/-- the bounds that a race asks of the field -/
def fOk (S : MS) : Prop := brB (S.1 5) ∧ brB (S.1 4) ∧ (S.1 6 = 0 ∨ S.1 6 = 1) ∧ S.1 1 ≤ 8
/-- when c is in, as kind kd, in sack s, from ah, rolling rl -/
abbrev tmM (S : MS) (kd pt l s ah rl : Int32) : Int32 := tmV (S.1 2) (S.1 3) (S.1 4) (S.1 5) rl kd pt l (mSl S l s) (mHl S s) ah
theorem v_inT {S T : MS} {K : Int32 → MS → Prop} (hf : fOk S) (hj : jk T S) (hr : T.1 41 = 0 ∨ T.1 41 = 1) (hl : brB (T.1 37)) (hK : ∀ T', jk T' S → K (tmV (S.1 2) (S.1 3) (S.1 4) (S.1 5) (T.1 41) (T.1 35) (T.1 36) (T.1 37) (T.1 38) (T.1 39) (T.1 40)) T') : m_in T K := by
  refine v_in hr (by rw [hj.2 5 (by decide)]; exact hf.1) (by rw [hj.2 4 (by decide)]; exact hf.2.1) hl ?_
  rw [inV_eq, hj.2 2 (by decide), hj.2 3 (by decide), hj.2 4 (by decide), hj.2 5 (by decide)]
  exact hK _ hj.hop
theorem v_inOf {S : MS} {c : Int32} {K : Int32 → MS → Prop} (hf : fOk S) (hc : vp_in c 8) (hs : skOk S (S.2.1 14 c.toNatClampNeg)) (hl : brB (S.2.1 13 c.toNatClampNeg)) (hK : ∀ T, jk T S → K (tmM S (S.2.1 11 c.toNatClampNeg) (S.2.1 12 c.toNatClampNeg) (S.2.1 13 c.toNatClampNeg) (S.2.1 14 c.toNatClampNeg) (S.2.1 15 c.toNatClampNeg) (S.1 6)) T) : m_inOf c S K := by
  unfold m_inOf
  refine v_puts hc hs hf.2.2.2 (fun T hj hi => ?_)
  obtain ⟨i35, i36, i37, i38, i39, i40, i41⟩ := hi
  refine v_inT hf hj (by rw [i41]; exact hf.2.2.1) (by rw [i37]; exact hl) ?_
  rw [i35, i36, i37, i38, i39, i40, i41]
  exact hK
