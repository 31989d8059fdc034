/-! plain law: ranges; a field's sacks and children -/
set_option maxRecDepth 100000
theorem c_lt {x y : Int64} : lg_cmp x y < 0 ↔ x < y := by
  have h := lg_cmp_ge x y
  constructor
  · intro c
    exact Int64.not_le.mp (fun q => Int32.not_le.mpr c (h.mpr q))
  · intro c
    exact Int32.not_le.mp (fun q => Int64.not_le.mpr c (h.mp q))
theorem c_gt {x y : Int64} : 0 < lg_cmp x y ↔ y < x := by
  unfold lg_cmp
  by_cases c : x > y
  · rw [if_pos c]
    exact ⟨fun _ => c, fun _ => by decide⟩
  · rw [if_neg c]
    by_cases c2 : x = y
    · rw [if_pos c2]
      exact ⟨fun h => absurd h (by decide), fun h => absurd h c⟩
    · rw [if_neg c2]
      exact ⟨fun h => absurd h (by decide), fun h => absurd h c⟩
theorem f_in {a b d : Int64} {C : XH} {K : Int32 → XH → Prop} (hK : K (if b ≤ a ∧ a ≤ d then 1 else 0) C) : x_X0_in a b d C K := by
  unfold x_X0_in
  by_cases c1 : lg_cmp a b < 0
  · rw [if_pos c1]
    rw [if_neg (fun h => Int64.not_le.mpr (c_lt.mp c1) h.1)] at hK
    exact hK
  · rw [if_neg c1]
    have h1 : b ≤ a := Int64.not_lt.mp (fun h => c1 (c_lt.mpr h))
    by_cases c2 : 0 < lg_cmp a d
    · rw [if_pos c2]
      rw [if_neg (fun h => Int64.not_le.mpr (c_gt.mp c2) h.2)] at hK
      exact hK
    · rw [if_neg c2]
      have h2 : a ≤ d := Int64.not_lt.mp (fun h => c2 (c_gt.mpr h))
      rw [if_pos ⟨h1, h2⟩] at hK
      exact hK
theorem t64 {x y : Int32} : x.toInt64 ≤ y.toInt64 ↔ x ≤ y := by
  rw [Int64.le_iff_toInt_le, Int32.le_iff_toInt_le, Int32.toInt_toInt64, Int32.toInt_toInt64]
/-- in(v, 0, n - 1) of ints -/
theorem f_in0 {v n : Int32} {C : XH} {K : Int32 → XH → Prop} (hn : brB n) (hK : K (if 0 ≤ v ∧ v < n then 1 else 0) C) : x_X0_in v.toInt64 0 (n - 1).toInt64 C K := by
  refine f_in ?_
  have n1 := i_le.mp hn.1
  have n2 := i_le.mp hn.2
  have e0 : (0 : Int32).toInt = 0 := rfl
  have e1 : (1 : Int32).toInt = 1 := rfl
  have e60 : (60 : Int32).toInt = 60 := rfl
  rw [e0] at n1
  rw [e60] at n2
  have hs := i_sub (a := n) (b := 1) (by rw [e1]; omega) (by rw [e1]; omega)
  rw [e1] at hs
  have q0 : (0 : Int64) ≤ v.toInt64 ↔ 0 ≤ v := t64 (x := 0)
  have q1 : v.toInt64 ≤ (n - 1).toInt64 ↔ v < n := by
    rw [t64, i_le, i_lt, hs]
    omega
  have e : ((0 : Int64) ≤ v.toInt64 ∧ v.toInt64 ≤ (n - 1).toInt64) ↔ (0 ≤ v ∧ v < n) := by rw [q0, q1]
  by_cases c : 0 ≤ v ∧ v < n
  · rw [if_pos c] at hK
    rw [if_pos (e.mpr c)]
    exact hK
  · rw [if_neg c] at hK
    rw [if_neg (fun h => c (e.mp h))]
    exact hK
/-- in(v, a, b) of ints -/
theorem f_ins {v a b : Int32} {C : XH} {K : Int32 → XH → Prop} (hK : K (if a ≤ v ∧ v ≤ b then 1 else 0) C) : x_X0_in v.toInt64 a.toInt64 b.toInt64 C K := by
  refine f_in ?_
  have e : (a.toInt64 ≤ v.toInt64 ∧ v.toInt64 ≤ b.toInt64) ↔ (a ≤ v ∧ v ≤ b) := by rw [t64, t64]
  by_cases c : a ≤ v ∧ v ≤ b
  · rw [if_pos c] at hK
    rw [if_pos (e.mpr c)]
    exact hK
  · rw [if_neg c] at hK
    rw [if_neg (fun h => c (e.mp h))]
    exact hK
/-- a field's data: its numbers, its arrays of ints, its children -/
abbrev FD : Type := (Nat → Int32) × (Nat → Nat → Int32) × (Nat → Option Nat)
abbrev QA (t n : Nat) (f : Nat → Option Nat) : XE := .inl (t, n, .inr (.inr (.inr (.inr f))))
def FRep (C : XH) (f : Nat) (fa : Nat → Nat) (F : FD) : Prop := C f = some (FO (F.1 0) (F.1 1) (F.1 2) (F.1 3) (F.1 4) fa) ∧ C (fa 5) = some (IA 4 (F.2.1 5)) ∧ C (fa 6) = some (QA 7 8 F.2.2) ∧ C (fa 7) = some (IA 8 (F.2.1 7)) ∧ C (fa 8) = some (IA 8 (F.2.1 8)) ∧ C (fa 9) = some (IA 8 (F.2.1 9)) ∧ C (fa 10) = some (IA 8 (F.2.1 10)) ∧ C (fa 11) = some (IA 8 (F.2.1 11)) ∧ C (fa 12) = some (IA 8 (F.2.1 12))
/-- an index below 8 -/
theorem in8 {v n : Int32} (h0 : 0 ≤ v) (h1 : v < n) (hn : n ≤ 8) : vp_in v 8 ∧ v.toNatClampNeg < n.toNatClampNeg ∧ v = Int32.ofNat v.toNatClampNeg := by
  have a0 := i_le.mp h0
  have a1 := i_lt.mp h1
  have a2 := i_le.mp hn
  have e0 : (0 : Int32).toInt = 0 := rfl
  have e8 : (8 : Int32).toInt = 8 := rfl
  rw [e0] at a0
  rw [e8] at a2
  have q : v.toNatClampNeg = v.toInt.toNat := rfl
  have q2 : n.toNatClampNeg = n.toInt.toNat := rfl
  refine ⟨fun h => ?_, by omega, ?_⟩
  · rcases h with h | h
    · exact absurd h0 (Int32.not_le.mpr h)
    · omega
  · refine Int32.toInt_inj.mp ?_
    rw [Int32.toInt_ofNat_of_lt (by omega)]
    omega
section FLD
variable {C : XH} {f : Nat} {fa : Nat → Nat} {F : FD} {K : Int32 → XH → Prop}
theorem f_isSack {v : Int32} (h : FRep C f fa F) (hn : brB (F.1 1)) (hK : K (if 0 ≤ v ∧ v < F.1 1 then 1 else 0) C) : x_X4_isSack f v C K := by
  unfold x_X4_isSack
  exact q_i h.1 rfl (f_in0 hn hK)
theorem f_isChild {v : Int32} (h : FRep C f fa F) (hn : brB (F.1 0)) (hK : K (if 0 ≤ v ∧ v < F.1 0 then 1 else 0) C) : x_X4_isChild f v C K := by
  unfold x_X4_isChild
  exact q_i h.1 rfl (f_in0 hn hK)
def slackV (sacks l s : Int32) (len : Nat → Int32) : Int32 := if 0 ≤ s ∧ s < sacks then iabs (len s.toNatClampNeg - l) else 0
def holesV (sacks s : Int32) (hol : Nat → Int32) : Int32 := if 0 ≤ s ∧ s < sacks then hol s.toNatClampNeg else 0
theorem f_slack {l v : Int32} (h : FRep C f fa F) (hn : brB (F.1 1)) (h8 : F.1 1 ≤ 8) (hK : K (slackV (F.1 1) l v (F.2.1 11)) C) : x_X4_slackIn f l v C K := by
  unfold x_X4_slackIn
  refine ⟨q_c h.1, f_isSack h hn ?_⟩
  unfold slackV at hK
  by_cases c : 0 ≤ v ∧ v < F.1 1
  · rw [if_pos c] at hK
    rw [if_pos c, if_neg (by decide)]
    exact q_r h.1 rfl (q_a h.2.2.2.2.2.2.2.1 (in8 c.1 c.2 h8).1 hK)
  · rw [if_neg c] at hK
    rw [if_neg c, if_pos rfl]
    exact hK
theorem f_holes {v : Int32} (h : FRep C f fa F) (hn : brB (F.1 1)) (h8 : F.1 1 ≤ 8) (hK : K (holesV (F.1 1) v (F.2.1 12)) C) : x_X4_holesIn f v C K := by
  unfold x_X4_holesIn
  refine ⟨q_c h.1, f_isSack h hn ?_⟩
  unfold holesV at hK
  by_cases c : 0 ≤ v ∧ v < F.1 1
  · rw [if_pos c] at hK
    rw [if_pos c, if_neg (by decide)]
    exact q_r h.1 rfl (q_a h.2.2.2.2.2.2.2.2 (in8 c.1 c.2 h8).1 hK)
  · rw [if_neg c] at hK
    rw [if_neg c, if_pos rfl]
    exact hK
end FLD
