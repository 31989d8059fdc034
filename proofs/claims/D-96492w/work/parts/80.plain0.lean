/-! plain law: the clean heap read and written; a runner's second -/
set_option maxRecDepth 100000
theorem q_i {C : XH} {ci a k : Nat} {fs : List Value} {v : Int32} {P : Int32 → Prop} (h : C a = some (.inr (ci, fs))) (hk : fs[k]? = some (.int v)) (hP : P v) : obd (xgi C (xis ci) a k) P := by
  refine ⟨v, ?_, hP⟩
  simp [xgi, xgv, h, xis, hk, asI]
theorem q_r {C : XH} {ci a k : Nat} {fs : List Value} {v : Nat} {P : Nat → Prop} (h : C a = some (.inr (ci, fs))) (hk : fs[k]? = some (.ref v)) (hP : P v) : obd (xgr C (xis ci) a k) P := by
  refine ⟨v, ?_, hP⟩
  simp [xgr, xgv, h, xis, hk, asR]
theorem q_o {C : XH} {ci a k : Nat} {fs : List Value} {v : Option Nat} {P : Option Nat → Prop} (h : C a = some (.inr (ci, fs))) (hk : fs[k]? = some (va_rf v)) (hP : P v) : obd (xgo C (xis ci) a k) P := by
  refine ⟨v, ?_, hP⟩
  cases v <;> simp [xgo, xgv, h, xis, hk, asO, va_rf]
theorem q_p {C : XH} {ci a k : Nat} {fs : List Value} {v : Value} {P : XH → Prop} (h : C a = some (.inr (ci, fs))) (hk : k < fs.length) (hP : P (xset C a (.inr (ci, fs.set k v)))) : obd (xpv C (xis ci) a k v) P := by
  refine ⟨_, ?_, hP⟩
  simp [xpv, h, xis, hk]
theorem q_c {C : XH} {ci a : Nat} {fs : List Value} (h : C a = some (.inr (ci, fs))) : xcl C a = some ci := by
  simp [xcl, h]
theorem q_a {C : XH} {t a n : Nat} {f : Nat → Int32} {i : Int32} {P : Int32 → Prop} (h : C a = some (.inl (t, n, .inl f))) (hi : vp_in i n) (hP : P (f i.toNatClampNeg)) : obd (xai C t a i) P := by
  refine ⟨_, ?_, hP⟩
  have hi : ¬ (i < 0 ∨ n ≤ i.toNatClampNeg) := hi
  simp [xai, h, hi]
theorem q_s {C : XH} {a n : Nat} {f : Nat → Int32} {i v : Int32} {P : XH → Prop} (h : C a = some (.inl (0, n, .inl f))) (hi : vp_in i n) (hP : P (xset C a (.inl (0, n, .inl (upd f i.toNatClampNeg v))))) : obd (xsi C a i v) P := by
  refine ⟨_, ?_, hP⟩
  have hi : ¬ (i < 0 ∨ n ≤ i.toNatClampNeg) := hi
  simp [xsi, h, hi]
theorem q_q {C : XH} {t a n v : Nat} {f : Nat → Option Nat} {i : Int32} {P : Nat → Prop} (h : C a = some (.inl (t, n, .inr (.inr (.inr (.inr f)))))) (hi : vp_in i n) (hv : f i.toNatClampNeg = some v) (hP : P v) : obd (xar C t a i) P := by
  refine ⟨v, ?_, hP⟩
  have hi : ¬ (i < 0 ∨ n ≤ i.toNatClampNeg) := hi
  simp [xar, h, hi, hv]
theorem xset2 {C : XH} {a : Nat} {e e' : XE} : xset (xset C a e) a e' = xset C a e' := by
  funext q
  by_cases h : q = a
  · rw [h, xset_self, xset_self]
  · rw [xset_ne h, xset_ne h, xset_ne h]
theorem jnI {α : Type} {K : α} {B : α → Prop} (h : B K) : jn K B := h
abbrev HD : Type := Int32 × Int32 × Int32 × Int32 × Int32 × Int32
abbrev HP : Type := Int32 × Int32 × Int32 × Int32
/-- what a second does: place, breath, wobble, down, fell, wall; by stride, puff, risk; up, rolling -/
def sec (st pf rk up rl : Int32) (d : HD) : HD :=
  if d.2.2.2.1 ≤ 0 then
    (if d.2.2.1 + (rk + (if pf ≤ d.2.1 then 0 else 20)) < 100 then (d.1 + st, imin 60 (imax 0 (d.2.1 - pf) + 1), d.2.2.1 + (rk + (if pf ≤ d.2.1 then 0 else 20)), d.2.2.2.1, d.2.2.2.2.1, d.2.2.2.2.2)
    else (d.1, imin 60 (imax 0 (d.2.1 - pf) + 1), d.2.2.1 + (rk + (if pf ≤ d.2.1 then 0 else 20)) - 100, up, d.2.2.2.2.1 + 1, if d.2.2.2.2.1 = 0 then d.1 else d.2.2.2.2.2))
  else (d.1 + (if rl = 0 then 0 else 1), imin 60 (d.2.1 + 2), d.2.2.1, d.2.2.2.1 - 1, d.2.2.2.2.1, d.2.2.2.2.2)
abbrev RL (w : Nat) (st pf rk lt pl br wo dn fl wl se : Int32) : List Value := [.ref w, .int st, .int pf, .int rk, .int lt, .int pl, .int br, .int wo, .int dn, .int fl, .int wl, .int se]
abbrev RO (w : Nat) (st pf rk lt pl br wo dn fl wl se : Int32) : XE := .inr (2, RL w st pf rk lt pl br wo dn fl wl se)
section RUN
variable {C : XH} {r w a5 : Nat} {st pf rk lt pl br wo dn fl wl se : Int32} {K : XH → Prop}
theorem r_mends {x : Int32} (h : C r = some (RO w st pf rk lt pl br wo dn fl wl se)) (hK : K (xset C r (RO w st pf rk lt pl (imin 60 (br + x)) wo dn fl wl se))) : x_X2_mends r x C K := by
  unfold x_X2_mends
  refine q_i h rfl ?_
  exact q_p h (by simp) hK
theorem r_puffs (h : C r = some (RO w st pf rk lt pl br wo dn fl wl se)) (hK : K (xset C r (RO w st pf rk lt pl (imin 60 (imax 0 (br - pf) + 1)) wo dn fl wl se))) : x_X2_puffs r C K := by
  unfold x_X2_puffs
  refine q_i h rfl (q_i h rfl (q_p h (by simp) ⟨q_c xset_self, r_mends xset_self ?_⟩))
  rw [xset2]
  exact hK
theorem r_riskNow {K : Int32 → XH → Prop} (h : C r = some (RO w st pf rk lt pl br wo dn fl wl se)) (hK : K (rk + (if pf ≤ br then 0 else 20)) C) : x_X2_riskNow r C K := by
  unfold x_X2_riskNow
  refine q_i h rfl (q_i h rfl (q_i h rfl ?_))
  by_cases c : pf ≤ br
  · rw [if_pos c] at hK ⊢
    exact hK
  · rw [if_neg c] at hK ⊢
    exact hK
theorem ne_at {C : XH} {a b : Nat} {e f : XE} (h1 : C a = some e) (h2 : C b = some f) (h : e ≠ f) : a ≠ b := fun q => h (by rw [q, h2] at h1; exact (Option.some.inj h1).symm)
/-- the field of a race: many, sacks, races, rolling, seed; its arrays -/
abbrev FO (many sacks races rolling seed : Int32) (fa : Nat → Nat) : XE := .inr (4, [.int many, .int sacks, .int races, .int rolling, .int seed, .ref (fa 5), .ref (fa 6), .ref (fa 7), .ref (fa 8), .ref (fa 9), .ref (fa 10), .ref (fa 11), .ref (fa 12)])
abbrev IA (n : Nat) (f : Nat → Int32) : XE := .inl (0, n, .inl f)
variable {many sacks races rolling seed : Int32} {fa : Nat → Nat} {g : Nat → Int32}
theorem r_lies (h : C r = some (RO w st pf rk lt pl br wo dn fl wl se)) (hw : C w = some (FO many sacks races rolling seed fa)) (hK : K (xset C r (RO w st pf rk lt (pl + (if rolling = 0 then 0 else 1)) (imin 60 (br + 2)) wo (dn - 1) fl wl se))) : x_X2_lies r C K := by
  have hne : w ≠ r := ne_at hw h (by intro e; cases e)
  unfold x_X2_lies
  refine q_i h rfl (q_p h (by simp) ⟨q_c xset_self, r_mends xset_self ?_⟩)
  rw [xset2]
  refine q_i xset_self rfl (q_r xset_self rfl (q_i (by rw [xset_ne hne]; exact hw) rfl ?_))
  by_cases c : rolling = 0
  · rw [if_pos c] at hK ⊢
    refine q_p xset_self (by simp) ?_
    rw [xset2]
    exact hK
  · rw [if_neg c] at hK ⊢
    refine q_p xset_self (by simp) ?_
    rw [xset2]
    exact hK
theorem r_goes0 (h : C r = some (RO w st pf rk lt pl br wo dn fl wl se)) (hK : K (xset C r (RO w st pf rk lt (pl + st) br wo dn fl wl se))) : x_X2_goes r 0 C K := by
  unfold x_X2_goes
  rw [if_pos rfl]
  exact q_i h rfl (q_i h rfl (q_p h (by simp) hK))
theorem r_goes1 (h : C r = some (RO w st pf rk lt pl br wo dn fl wl se)) (hw : C w = some (FO many sacks races rolling seed fa)) (ha : C (fa 5) = some (IA 4 g)) (hK : K (xset C r (RO w st pf rk lt pl br wo (g 1) (fl + 1) (if fl = 0 then pl else wl) se))) : x_X2_goes r 1 C K := by
  have hne : w ≠ r := ne_at hw h (by intro e; cases e)
  have hna : fa 5 ≠ r := ne_at ha h (by intro e; cases e)
  unfold x_X2_goes
  rw [if_neg (by decide)]
  have go : ∀ x : Int32, x = (if fl = 0 then pl else wl) → obd (xpv C (xis 2) r 10 (.int x)) (fun C6 => obd (xgr C6 (xis 2) r 0) (fun ad7 => obd (xgr C6 (xis 4) ad7 5) (fun ad8 => obd (xai C6 0 ad8 1) (fun v9 => obd (xpv C6 (xis 2) r 8 (.int v9)) (fun C10 => obd (xgi C10 (xis 2) r 9) (fun v11 => obd (xpv C10 (xis 2) r 9 (.int (v11 + 1))) (fun C12 => K C12))))))) := by
    intro x hx
    refine q_p h (by simp) (q_r xset_self rfl (q_r (by rw [xset_ne hne]; exact hw) rfl (q_a (by rw [xset_ne hna]; exact ha) (by unfold vp_in; decide) (q_p xset_self (by simp) (q_i xset_self rfl (q_p xset_self (by simp) ?_))))))
    rw [xset2, xset2, hx]
    exact hK
  refine q_i h rfl (jnI ?_)
  by_cases c : fl = 0
  · rw [if_pos c]
    exact q_i h rfl (go pl (by rw [if_pos c]))
  · rw [if_neg c]
    exact q_i h rfl (go wl (by rw [if_neg c]))
theorem r_passes {d : HD} (h : C r = some (RO w st pf rk lt d.1 d.2.1 d.2.2.1 d.2.2.2.1 d.2.2.2.2.1 d.2.2.2.2.2 se)) (hw : C w = some (FO many sacks races rolling seed fa)) (ha : C (fa 5) = some (IA 4 g))
    (hK : K (xset C r (RO w st pf rk lt (sec st pf rk (g 1) rolling d).1 (sec st pf rk (g 1) rolling d).2.1 (sec st pf rk (g 1) rolling d).2.2.1 (sec st pf rk (g 1) rolling d).2.2.2.1 (sec st pf rk (g 1) rolling d).2.2.2.2.1 (sec st pf rk (g 1) rolling d).2.2.2.2.2 (se + 1)))) : x_X2_passes r C K := by
  have hne : w ≠ r := ne_at hw h (by intro e; cases e)
  have hna : fa 5 ≠ r := ne_at ha h (by intro e; cases e)
  unfold x_X2_passes
  refine q_i h rfl (q_p h (by simp) (q_i xset_self rfl ?_))
  by_cases c1 : d.2.2.2.1 ≤ 0
  · rw [if_pos c1]
    simp only [sec, if_pos c1] at hK
    refine q_i xset_self rfl ⟨q_c xset_self, r_riskNow xset_self (q_p xset_self (by simp) ⟨q_c xset_self, r_puffs xset_self ?_⟩)⟩
    rw [xset2, xset2]
    refine q_i xset_self rfl (jnI ?_)
    by_cases c2 : d.2.2.1 + (rk + (if pf ≤ d.2.1 then 0 else 20)) < 100
    · rw [if_pos c2] at hK
      refine (if_pos c2).mpr ?_
      refine q_i xset_self rfl (jnI ?_)
      rw [if_pos rfl]
      refine q_p xset_self (by simp) ⟨q_c xset_self, r_goes0 xset_self ?_⟩
      rw [xset2, xset2]
      simpa using hK
    · rw [if_neg c2] at hK
      refine (if_neg c2).mpr ?_
      refine q_i xset_self rfl (jnI ?_)
      rw [if_neg (by decide)]
      refine q_p xset_self (by simp) ⟨q_c xset_self, r_goes1 xset_self (by rw [xset_ne hne, xset_ne hne]; exact hw) (by rw [xset_ne hna, xset_ne hna]; exact ha) ?_⟩
      rw [xset2, xset2]
      exact hK
  · rw [if_neg c1]
    simp only [sec, if_neg c1] at hK
    refine ⟨q_c xset_self, r_lies xset_self (by rw [xset_ne hne]; exact hw) ?_⟩
    rw [xset2]
    exact hK
end RUN
