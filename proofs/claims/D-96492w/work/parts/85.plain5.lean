/-! plain law: the children's kinds -/
set_option maxRecDepth 100000
abbrev HOb (kd : Nat) (ix pt : Int32) : XE := .inr (13 + kd, [.int ix, .int pt])
theorem one_max {x : Int32} : oneV x = imax 1 x := by
  unfold oneV imax
  by_cases c : 1 ≤ x
  · rw [if_pos c]
    by_cases c2 : 1 < x
    · rw [if_pos c2]
    · rw [if_neg c2]
      have h1 := i_le.mp c
      have h2 : ¬ (1 : Int32).toInt < x.toInt := fun h => c2 (i_lt.mpr h)
      exact Int32.toInt_inj.mp (by omega)
  · rw [if_neg c, if_neg (fun h => c (Int32.le_of_lt h))]
theorem q_cl {C : XH} {a ci : Nat} {fs : List Value} {P : Nat → Prop} (h : C a = some (.inr (ci, fs))) (hP : P ci) : obd (xcl C a) P := ⟨ci, q_c h, hP⟩
theorem q_iH {C : XH} {ci a k : Nat} {fs : List Value} {v : Int32} {P : Int32 → Prop} (h : C a = some (.inr (ci, fs))) (hc : xisH ci = true) (hk : fs[k]? = some (.int v)) (hP : P v) : obd (xgi C xisH a k) P := by
  refine ⟨v, ?_, hP⟩
  simp [xgi, xgv, h, hc, hk, asI]
section HOP
variable {C : XH} {b : Nat} {ix pt : Int32} {K : Int32 → XH → Prop}
theorem kd7 {kd : Nat} (h : kd ≤ 6) : kd = 0 ∨ kd = 1 ∨ kd = 2 ∨ kd = 3 ∨ kd = 4 ∨ kd = 5 ∨ kd = 6 := by omega
theorem h_stride {kd : Nat} {lg sl : Int32} (hk : kd ≤ 6) (h : C b = some (HOb kd ix pt)) (hK : K (strideV (Int32.ofNat kd) pt lg sl) C) : vd_X13_stride b lg sl C K := by
  unfold vd_X13_stride
  rcases kd7 hk with rfl | rfl | rfl | rfl | rfl | rfl | rfl
  · exact q_cl h hK
  · refine q_cl h ?_
    show x_X14_stride b lg sl C K
    unfold x_X14_stride
    refine q_cl h ⟨rfl, ?_⟩
    have hK : K (oneV (lg - 1)) C := hK
    rw [one_max] at hK
    exact hK
  · refine q_cl h ?_
    show x_X15_stride b lg sl C K
    unfold x_X15_stride
    exact q_cl h ⟨rfl, hK⟩
  · exact q_cl h hK
  · refine q_cl h ?_
    show x_X17_stride b lg sl C K
    unfold x_X17_stride vd_X17_free
    refine q_cl h ?_
    have hK : K (oneV ((lg + 1) - sl)) C := hK
    rw [one_max] at hK
    exact hK
  · refine q_cl h ?_
    show x_X18_stride b lg sl C K
    unfold x_X18_stride
    exact q_iH h rfl rfl hK
  · refine q_cl h ?_
    show x_X17_stride b lg sl C K
    unfold x_X17_stride vd_X17_free
    refine q_cl h ?_
    show x_X19_free b lg C (fun r2 C1 => K (imax 1 (r2 - sl)) C1)
    unfold x_X19_free
    refine q_cl h ⟨rfl, ?_⟩
    have hK : K (oneV (lg - sl)) C := hK
    rw [one_max] at hK
    show K (imax 1 (lg + 1 - 1 - sl)) C
    have e : lg + 1 - 1 = lg := by rw [Int32.sub_eq_add_neg, Int32.add_assoc]; simp
    rw [e]
    exact hK
theorem h_puff {kd : Nat} (hk : kd ≤ 6) (h : C b = some (HOb kd ix pt)) (hK : K (puffV (Int32.ofNat kd)) C) : vd_X13_puff b C K := by
  unfold vd_X13_puff
  rcases kd7 hk with rfl | rfl | rfl | rfl | rfl | rfl | rfl
  · exact q_cl h hK
  · refine q_cl h ?_
    show x_X14_puff b C K
    unfold x_X14_puff
    exact q_cl h ⟨rfl, hK⟩
  · refine q_cl h ?_
    show x_X15_puff b C K
    unfold x_X15_puff
    exact q_cl h ⟨rfl, hK⟩
  · refine q_cl h ?_
    show x_X16_puff b C K
    unfold x_X16_puff
    refine q_cl h ⟨rfl, ?_⟩
    unfold x_X14_puff
    exact q_cl h ⟨rfl, hK⟩
  · refine q_cl h ?_
    show x_X17_puff b C K
    unfold x_X17_puff
    exact q_cl h ⟨rfl, hK⟩
  · refine q_cl h ?_
    show x_X18_puff b C K
    unfold x_X18_puff
    refine q_cl h ⟨rfl, ?_⟩
    unfold x_X15_puff
    exact q_cl h ⟨rfl, hK⟩
  · refine q_cl h ?_
    show x_X19_puff b C K
    unfold x_X19_puff
    refine q_cl h ⟨rfl, ?_⟩
    unfold x_X17_puff
    exact q_cl h ⟨rfl, hK⟩
theorem h_risk0 {kd : Nat} {lg sl hl : Int32} (hk : kd ≤ 6) (h : C b = some (HOb kd ix pt)) (hK : K (((5 * sl) + (3 * hl)) + strideV (Int32.ofNat kd) pt lg sl) C) : x_X13_risk b lg sl hl C K := by
  unfold x_X13_risk
  exact h_stride hk h hK
theorem h_risk {kd : Nat} {lg sl hl : Int32} (hk : kd ≤ 6) (h : C b = some (HOb kd ix pt)) (hK : K (riskV (Int32.ofNat kd) pt lg sl hl) C) : vd_X13_risk b lg sl hl C K := by
  unfold vd_X13_risk
  rcases kd7 hk with rfl | rfl | rfl | rfl | rfl | rfl | rfl
  · exact q_cl h (h_risk0 (kd := 0) hk h hK)
  · exact q_cl h (h_risk0 (kd := 1) hk h hK)
  · exact q_cl h (h_risk0 (kd := 2) hk h hK)
  · exact q_cl h (h_risk0 (kd := 3) hk h hK)
  · refine q_cl h ?_
    show x_X17_risk b lg sl hl C K
    unfold x_X17_risk
    exact q_cl h ⟨rfl, h_risk0 (kd := 4) hk h hK⟩
  · exact q_cl h (h_risk0 (kd := 5) hk h hK)
  · refine q_cl h ?_
    show x_X17_risk b lg sl hl C K
    unfold x_X17_risk
    exact q_cl h ⟨rfl, h_risk0 (kd := 6) hk h hK⟩
theorem h_kind {kd : Nat} (hk : kd ≤ 6) (h : C b = some (HOb kd ix pt)) (hK : K (Int32.ofNat kd) C) : vd_X13_kind b C K := by
  unfold vd_X13_kind
  rcases kd7 hk with rfl | rfl | rfl | rfl | rfl | rfl | rfl <;> exact q_cl h hK
end HOP
/-- some runner -/
abbrev RV (v0 : Value) (st pf rk lt pl br wo dn fl wl se : Int32) : XE := .inr (2, [v0, .int st, .int pf, .int rk, .int lt, .int pl, .int br, .int wo, .int dn, .int fl, .int wl, .int se])
def isRun (e : XE) : Prop := ∃ (v0 : Value) (st pf rk lt pl br wo dn fl wl se : Int32), e = RV v0 st pf rk lt pl br wo dn fl wl se
/-- a runner that begins: by the numbers of who hops -/
theorem r_begins {C : XH} {r w b : Nat} {kd : Nat} {ix pt l sl hl ah many sacks races rolling seed : Int32} {fa : Nat → Nat} {g : Nat → Int32} {K : Nat → XH → Prop} (hr : ∃ e, C r = some e ∧ isRun e) (hw : C w = some (FO many sacks races rolling seed fa)) (ha : C (fa 5) = some (IA 4 g)) (hk : kd ≤ 6) (hb : C b = some (HOb kd ix pt))
    (hK : K r (xset C r (ROd w (strideV (Int32.ofNat kd) pt l sl) (puffV (Int32.ofNat kd)) (riskV (Int32.ofNat kd) pt l sl hl) (imax 0 (g 2 - l)) (d0 ah (g 3)) 0))) : x_X2_begins r w b l sl hl ah C K := by
  obtain ⟨e0, hr, v0, st, pf, rk, lt, pl, br, wo, dn, fl, wl, se, rfl⟩ := hr
  have hne : w ≠ r := ne_at hw hr (by intro e; cases e)
  have hna : fa 5 ≠ r := ne_at ha hr (by intro e; cases e)
  have hnb : b ≠ r := ne_at hb hr (by intro e; have := congrArg (fun z => match z with | Sum.inr o => o.1 | Sum.inl _ => 0) e; simp at this; omega)
  unfold x_X2_begins
  refine q_p hr (by simp) (h_stride hk (by rw [xset_ne hnb]; exact hb) (q_p xset_self (by simp) ?_))
  rw [xset2]
  refine h_puff hk (by rw [xset_ne hnb]; exact hb) (q_p xset_self (by simp) ?_)
  rw [xset2]
  refine h_risk hk (by rw [xset_ne hnb]; exact hb) (q_p xset_self (by simp) ?_)
  rw [xset2]
  refine q_r (by rw [xset_ne hne]; exact hw) rfl (q_a (by rw [xset_ne hna]; exact ha) (by unfold vp_in; decide) (q_p xset_self (by simp) ?_))
  rw [xset2]
  refine q_p xset_self (by simp) ?_
  rw [xset2]
  refine q_r (by rw [xset_ne hne]; exact hw) rfl (q_a (by rw [xset_ne hna]; exact ha) (by unfold vp_in; decide) (q_p xset_self (by simp) ?_))
  rw [xset2]
  refine q_p xset_self (by simp) ?_
  rw [xset2]
  refine q_p xset_self (by simp) ?_
  rw [xset2]
  refine q_p xset_self (by simp) ?_
  rw [xset2]
  refine q_p xset_self (by simp) ?_
  rw [xset2]
  refine q_p xset_self (by simp) ?_
  rw [xset2]
  exact hK
