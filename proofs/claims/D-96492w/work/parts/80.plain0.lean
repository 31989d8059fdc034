/-! plain law: the clean heap read and written; a runner's second -/
set_option maxRecDepth 100000
theorem q_i {C : XH} {ci a k : Nat} {fs : List Value} {v : Int32} {P : Int32 → Prop} (h : C a = some (.inr (ci, fs))) (hk : fs[k]? = some (.int v)) (hP : P v) : obd (xgi C (xis ci) a k) P := by
  refine ⟨v, ?_, hP⟩
  simp [xgi, xgv, h, xis, hk, asI]
theorem q_r {C : XH} {ci a k : Nat} {fs : List Value} {v : Nat} {P : Nat → Prop} (h : C a = some (.inr (ci, fs))) (hk : fs[k]? = some (.ref v)) (hP : P v) : obd (xgr C (xis ci) a k) P := by
  refine ⟨v, ?_, hP⟩
  simp [xgr, xgv, h, xis, hk, asR]
theorem q_o {C : XH} {ci a k : Nat} {fs : List Value} {v : Option Nat} {P : Option Nat → Prop} (h : C a = some (.inr (ci, fs))) (hk : fs[k]? = some (va_rf v)) (hP : P v) : obd (xgo C (xis ci) a k) P := by
  refine ⟨v, ?_, hP⟩
  cases v <;> simp [xgo, xgv, h, xis, hk, asO, va_rf]
theorem q_p {C : XH} {ci a k : Nat} {fs : List Value} {v : Value} {P : XH → Prop} (h : C a = some (.inr (ci, fs))) (hk : k < fs.length) (hP : P (xset C a (.inr (ci, fs.set k v)))) : obd (xpv C (xis ci) a k v) P := by
  refine ⟨_, ?_, hP⟩
  simp [xpv, h, xis, hk]
theorem q_c {C : XH} {ci a : Nat} {fs : List Value} (h : C a = some (.inr (ci, fs))) : xcl C a = some ci := by
  simp [xcl, h]
theorem q_a {C : XH} {t a n : Nat} {f : Nat → Int32} {i : Int32} {P : Int32 → Prop} (h : C a = some (.inl (t, n, .inl f))) (hi : vp_in i n) (hP : P (f i.toNatClampNeg)) : obd (xai C t a i) P := by
  refine ⟨_, ?_, hP⟩
  have hi : ¬ (i < 0 ∨ n ≤ i.toNatClampNeg) := hi
  simp [xai, h, hi]
theorem q_s {C : XH} {a n : Nat} {f : Nat → Int32} {i v : Int32} {P : XH → Prop} (h : C a = some (.inl (0, n, .inl f))) (hi : vp_in i n) (hP : P (xset C a (.inl (0, n, .inl (upd f i.toNatClampNeg v))))) : obd (xsi C a i v) P := by
  refine ⟨_, ?_, hP⟩
  have hi : ¬ (i < 0 ∨ n ≤ i.toNatClampNeg) := hi
  simp [xsi, h, hi]
theorem q_q {C : XH} {t a n v : Nat} {f : Nat → Option Nat} {i : Int32} {P : Nat → Prop} (h : C a = some (.inl (t, n, .inr (.inr (.inr (.inr f)))))) (hi : vp_in i n) (hv : f i.toNatClampNeg = some v) (hP : P v) : obd (xar C t a i) P := by
  refine ⟨v, ?_, hP⟩
  have hi : ¬ (i < 0 ∨ n ≤ i.toNatClampNeg) := hi
  simp [xar, h, hi, hv]
theorem xset2 {C : XH} {a : Nat} {e e' : XE} : xset (xset C a e) a e' = xset C a e' := by
  funext q
  by_cases h : q = a
  · rw [h, xset_self, xset_self]
  · rw [xset_ne h, xset_ne h, xset_ne h]
theorem jnI {α : Type} {K : α} {B : α → Prop} (h : B K) : jn K B := h
/-- a runner's twelve fields -/
abbrev RL (w : Nat) (st pf rk lt pl br wo dn fl wl se : Int32) : List Value := [.ref w, .int st, .int pf, .int rk, .int lt, .int pl, .int br, .int wo, .int dn, .int fl, .int wl, .int se]
abbrev RO (w : Nat) (st pf rk lt pl br wo dn fl wl se : Int32) : XE := .inr (2, RL w st pf rk lt pl br wo dn fl wl se)
section RUN
variable {C : XH} {r w a5 : Nat} {st pf rk lt pl br wo dn fl wl se : Int32} {K : XH → Prop}
theorem r_mends {x : Int32} (h : C r = some (RO w st pf rk lt pl br wo dn fl wl se)) (hK : K (xset C r (RO w st pf rk lt pl (imin 60 (br + x)) wo dn fl wl se))) : x_X2_mends r x C K := by
  unfold x_X2_mends
  refine q_i h rfl ?_
  exact q_p h (by simp) hK
theorem r_puffs (h : C r = some (RO w st pf rk lt pl br wo dn fl wl se)) (hK : K (xset C r (RO w st pf rk lt pl (imin 60 (imax 0 (br - pf) + 1)) wo dn fl wl se))) : x_X2_puffs r C K := by
  unfold x_X2_puffs
  refine q_i h rfl (q_i h rfl (q_p h (by simp) ⟨q_c xset_self, r_mends xset_self ?_⟩))
  rw [xset2]
  exact hK
end RUN
