/-! plain law: a runner's way -/
set_option maxRecDepth 100000
/-- so many seconds at most, as long as it isn't there: how many went by, and what is then -/
def itr (way : Int32) (f : HD → HD) : Nat → HD → Nat × HD
  | 0, d => (0, d)
  | n + 1, d => if d.1 < way then ((itr way f n (f d)).1 + 1, (itr way f n (f d)).2) else (0, d)
theorem itr_le (way : Int32) (f : HD → HD) : ∀ (n : Nat) (d : HD), (itr way f n d).1 ≤ n := by
  intro n
  induction n with
  | zero => intro d; exact Nat.le_refl 0
  | succ n ih =>
    intro d
    unfold itr
    split
    · have := ih (f d)
      show _ + 1 ≤ n + 1
      omega
    · exact Nat.zero_le _
theorem xset_id {C : XH} {a : Nat} {e : XE} (h : C a = some e) : xset C a e = C := by
  funext q
  by_cases hq : q = a
  · rw [hq, xset_self, h]
  · rw [xset_ne hq]
/-- small numbers -/
theorem n_le {a b : Nat} (ha : a < 2 ^ 31) (hb : b < 2 ^ 31) : (Int32.ofNat a ≤ Int32.ofNat b) ↔ a ≤ b := Int32.ofNat_le_ofNat ha hb
theorem n_lt {a b : Nat} (ha : a < 2 ^ 31) (hb : b < 2 ^ 31) : (Int32.ofNat a < Int32.ofNat b) ↔ a < b := Int32.ofNat_lt_ofNat ha hb
theorem n_add (a b : Nat) : Int32.ofNat a + Int32.ofNat b = Int32.ofNat (a + b) := (Int32.ofNat_add a b).symm
theorem n_succ (a : Nat) : Int32.ofNat a + 1 = Int32.ofNat (a + 1) := n_add a 1
abbrev ROd (w : Nat) (st pf rk lt : Int32) (d : HD) (se : Int32) : XE := RO w st pf rk lt d.1 d.2.1 d.2.2.1 d.2.2.2.1 d.2.2.2.2.1 d.2.2.2.2.2 se
section RUN1
variable {C : XH} {r w : Nat} {st pf rk lt se : Int32} {d : HD} {many sacks races rolling seed : Int32} {fa : Nat → Nat} {g : Nat → Int32}
theorem r_isThere {K : Int32 → XH → Prop} (h : C r = some (ROd w st pf rk lt d se)) (hw : C w = some (FO many sacks races rolling seed fa)) (ha : C (fa 5) = some (IA 4 g)) (hK : K (if d.1 < g 0 then 0 else 1) C) : x_X2_isThere r C K := by
  unfold x_X2_isThere
  refine q_i h rfl (q_r h rfl (q_r hw rfl (q_a ha (by unfold vp_in; decide) ?_)))
  show (if d.1 < g 0 then K 0 C else K 1 C)
  by_cases c : d.1 < g 0
  · rw [if_pos c] at hK ⊢
    exact hK
  · rw [if_neg c] at hK ⊢
    exact hK
theorem r_manyL {K : Nat → XH → Prop} {N : Nat} (hN : N < 2000) : ∀ (m x fu : Nat) (C : XH) (d : HD) (se : Int32), m < fu → x + m = N → C r = some (ROd w st pf rk lt d se) → C w = some (FO many sacks races rolling seed fa) → C (fa 5) = some (IA 4 g) →
    K r (xset C r (ROd w st pf rk lt (itr (g 0) (sec st pf rk (g 1) rolling) m d).2 (se + Int32.ofNat (itr (g 0) (sec st pf rk (g 1) rolling) m d).1))) → x_X2_passesMany_l2 K r (Int32.ofNat N) fu (Int32.ofNat x) C := by
  intro m
  induction m with
  | zero =>
    intro x fu C d se hf hx h hw ha hK
    obtain ⟨fu, rfl⟩ : ∃ k, fu = k + 1 := ⟨fu - 1, by omega⟩
    rw [x_X2_passesMany_l2_s, if_pos ((n_le (by omega) (by omega)).mpr (by omega))]
    have e : se + Int32.ofNat 0 = se := by simp
    have e2 : xset C r (ROd w st pf rk lt d se) = C := xset_id h
    have hK' : K r (xset C r (ROd w st pf rk lt d (se + Int32.ofNat 0))) := hK
    rw [e, e2] at hK'
    exact hK'
  | succ m ih =>
    intro x fu C d se hf hx h hw ha hK
    obtain ⟨fu, rfl⟩ : ∃ k, fu = k + 1 := ⟨fu - 1, by omega⟩
    have hne : w ≠ r := ne_at hw h (by intro e; cases e)
    have hna : fa 5 ≠ r := ne_at ha h (by intro e; cases e)
    rw [x_X2_passesMany_l2_s, if_neg (fun hc => by have := (n_le (by omega) (by omega)).mp hc; omega)]
    refine ⟨q_c h, r_isThere h hw ha ?_⟩
    by_cases c : d.1 < g 0
    · simp only [itr, if_pos c] at hK
      rw [if_pos c, if_pos rfl]
      refine ⟨q_c h, r_passes (d := d) h hw ha ?_⟩
      rw [n_succ]
      refine ih (x + 1) fu _ (sec st pf rk (g 1) rolling d) (se + 1) (by omega) (by omega) xset_self (by rw [xset_ne hne]; exact hw) (by rw [xset_ne hna]; exact ha) ?_
      rw [xset2]
      have e : se + 1 + Int32.ofNat (itr (g 0) (sec st pf rk (g 1) rolling) m (sec st pf rk (g 1) rolling d)).1 = se + Int32.ofNat ((itr (g 0) (sec st pf rk (g 1) rolling) m (sec st pf rk (g 1) rolling d)).1 + 1) := by
        rw [← n_succ, Int32.add_assoc, Int32.add_comm 1]
      rw [e]
      exact hK
    · simp only [itr, if_neg c] at hK
      rw [if_neg c, if_neg (by decide)]
      have e : se + Int32.ofNat 0 = se := by simp
      rw [e] at hK
      have e2 : xset C r (ROd w st pf rk lt d se) = C := xset_id h
      rw [e2] at hK
      exact hK
theorem r_many {K : Nat → XH → Prop} {N : Nat} (hN : N < 2000) (h : C r = some (ROd w st pf rk lt d se)) (hw : C w = some (FO many sacks races rolling seed fa)) (ha : C (fa 5) = some (IA 4 g))
    (hK : K r (xset C r (ROd w st pf rk lt (itr (g 0) (sec st pf rk (g 1) rolling) N d).2 (se + Int32.ofNat (itr (g 0) (sec st pf rk (g 1) rolling) N d).1)))) : x_X2_passesMany r (Int32.ofNat N) C K := by
  unfold x_X2_passesMany
  exact r_manyL hN N 0 NF C d se (by rw [NF_eq]; exact hN) (by omega) h hw ha hK
/-- when a runner is in, if d is what is then, k the seconds -/
def tim (way lt : Int32) (k : Int32) (d : HD) : Int32 := if d.1 < way then 999 else imin 999 (k + lt)
theorem r_time {K : Int32 → XH → Prop} (h : C r = some (ROd w st pf rk lt d se)) (hw : C w = some (FO many sacks races rolling seed fa)) (ha : C (fa 5) = some (IA 4 g)) (hK : K (tim (g 0) lt se d) C) : x_X2_time r C K := by
  unfold x_X2_time
  refine ⟨q_c h, r_isThere h hw ha ?_⟩
  unfold tim at hK
  by_cases c : d.1 < g 0
  · rw [if_pos c] at hK
    rw [if_pos c, if_pos rfl]
    exact hK
  · rw [if_neg c] at hK
    rw [if_neg c, if_neg (by decide)]
    exact q_i h rfl (q_i h rfl hK)
theorem r_comesIn {K : Int32 → XH → Prop} (h : C r = some (ROd w st pf rk lt d se)) (hw : C w = some (FO many sacks races rolling seed fa)) (ha : C (fa 5) = some (IA 4 g))
    (hK : K (tim (g 0) lt (se + Int32.ofNat (itr (g 0) (sec st pf rk (g 1) rolling) 999 d).1) (itr (g 0) (sec st pf rk (g 1) rolling) 999 d).2) (xset C r (ROd w st pf rk lt (itr (g 0) (sec st pf rk (g 1) rolling) 999 d).2 (se + Int32.ofNat (itr (g 0) (sec st pf rk (g 1) rolling) 999 d).1)))) : x_X2_comesIn r C K := by
  have hne : w ≠ r := ne_at hw h (by intro e; cases e)
  have hna : fa 5 ≠ r := ne_at ha h (by intro e; cases e)
  unfold x_X2_comesIn
  refine ⟨q_c h, r_many (N := 999) (by omega) h hw ha ⟨q_c xset_self, r_time xset_self (by rw [xset_ne hne]; exact hw) (by rw [xset_ne hna]; exact ha) hK⟩⟩
end RUN1
