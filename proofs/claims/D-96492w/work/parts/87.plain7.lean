/-! plain law: when a child is in -/
set_option maxRecDepth 100000
theorem FRep.other {C : XH} {f a : Nat} {fa : Nat → Nat} {F : FD} {e : XE} (h : FRep C f fa F) (h0 : f ≠ a) (h1 : ∀ k, 5 ≤ k → k ≤ 12 → fa k ≠ a) : FRep (xset C a e) f fa F :=
  ⟨by rw [xset_ne h0]; exact h.1, by rw [xset_ne (h1 5 (by omega) (by omega))]; exact h.2.1, by rw [xset_ne (h1 6 (by omega) (by omega))]; exact h.2.2.1, by rw [xset_ne (h1 7 (by omega) (by omega))]; exact h.2.2.2.1, by rw [xset_ne (h1 8 (by omega) (by omega))]; exact h.2.2.2.2.1, by rw [xset_ne (h1 9 (by omega) (by omega))]; exact h.2.2.2.2.2.1, by rw [xset_ne (h1 10 (by omega) (by omega))]; exact h.2.2.2.2.2.2.1, by rw [xset_ne (h1 11 (by omega) (by omega))]; exact h.2.2.2.2.2.2.2.1, by rw [xset_ne (h1 12 (by omega) (by omega))]; exact h.2.2.2.2.2.2.2.2⟩
/-- a runner is none of a field's cells -/
theorem FRep.run {C : XH} {f r : Nat} {fa : Nat → Nat} {F : FD} {e e' : XE} (h : FRep C f fa F) (hr : C r = some e') (hi : isRun e') : FRep (xset C r e) f fa F := by
  obtain ⟨v0, st, pf, rk, lt, pl, br, wo, dn, fl, wl, se, rfl⟩ := hi
  refine h.other (ne_at h.1 hr (by intro e; cases e)) (fun k h5 h12 => ?_)
  have hk : k = 5 ∨ k = 6 ∨ k = 7 ∨ k = 8 ∨ k = 9 ∨ k = 10 ∨ k = 11 ∨ k = 12 := by omega
  rcases hk with rfl | rfl | rfl | rfl | rfl | rfl | rfl | rfl
  · exact ne_at h.2.1 hr (by intro e; cases e)
  · exact ne_at h.2.2.1 hr (by intro e; cases e)
  · exact ne_at h.2.2.2.1 hr (by intro e; cases e)
  · exact ne_at h.2.2.2.2.1 hr (by intro e; cases e)
  · exact ne_at h.2.2.2.2.2.1 hr (by intro e; cases e)
  · exact ne_at h.2.2.2.2.2.2.1 hr (by intro e; cases e)
  · exact ne_at h.2.2.2.2.2.2.2.1 hr (by intro e; cases e)
  · exact ne_at h.2.2.2.2.2.2.2.2 hr (by intro e; cases e)
theorem isRun_d {w : Nat} {st pf rk lt se : Int32} {d : HD} : isRun (ROd w st pf rk lt d se) := ⟨_, _, _, _, _, _, _, _, _, _, _, _, rfl⟩
/-- when who hops is in: way, up, rope, wind; rolling; kind, part, legs, slack, holes, ahead -/
def tmV (way up rope wind rl kd pt l sl hl ah : Int32) : Int32 := tim way (imax 0 (rope - l)) (Int32.ofNat (itr way (sec (strideV kd pt l sl) (puffV kd) (riskV kd pt l sl hl) up rl) 999 (d0 ah wind)).1) (itr way (sec (strideV kd pt l sl) (puffV kd) (riskV kd pt l sl hl) up rl) 999 (d0 ah wind)).2
theorem inV_eq (S : MS) : inV S = tmV (S.1 2) (S.1 3) (S.1 4) (S.1 5) (S.1 41) (S.1 35) (S.1 36) (S.1 37) (S.1 38) (S.1 39) (S.1 40) := rfl
section WAY
variable {C : XH} {r f b : Nat} {fa : Nat → Nat} {F : FD} {kd : Nat} {ix pt c s : Int32}
/-- the runner ready for child c, hopped by b, in sack s -/
abbrev ROk (f : Nat) (F : FD) (kd : Nat) (pt c s : Int32) : XE := ROd f (strideV (Int32.ofNat kd) pt (F.2.1 7 c.toNatClampNeg) (slackV (F.1 1) (F.2.1 7 c.toNatClampNeg) s (F.2.1 11))) (puffV (Int32.ofNat kd)) (riskV (Int32.ofNat kd) pt (F.2.1 7 c.toNatClampNeg) (slackV (F.1 1) (F.2.1 7 c.toNatClampNeg) s (F.2.1 11)) (holesV (F.1 1) s (F.2.1 12))) (imax 0 (F.2.1 5 2 - F.2.1 7 c.toNatClampNeg)) (d0 (F.2.1 9 c.toNatClampNeg) (F.2.1 5 3)) 0
theorem r_ofKind {K : Nat → XH → Prop} (hr : ∃ e, C r = some e ∧ isRun e) (h : FRep C f fa F) (hs : brB (F.1 1)) (hs8 : F.1 1 ≤ 8) (hc : vp_in c 8) (hk : kd ≤ 6) (hb : C b = some (HOb kd ix pt)) (hK : K r (xset C r (ROk f F kd pt c s))) : x_X2_ofKind r f b c s C K := by
  unfold x_X2_ofKind
  refine q_r h.1 rfl (q_a h.2.2.2.1 hc (q_r h.1 rfl (q_a h.2.2.2.1 hc ⟨q_c h.1, f_slack h hs hs8 ⟨q_c h.1, f_holes h hs hs8 (q_r h.1 rfl (q_a h.2.2.2.2.2.1 hc ⟨?_, r_begins hr h.1 h.2.1 hk hb hK⟩))⟩⟩)))
  obtain ⟨e, hr, v0, st, pf, rk, lt, pl, br, wo, dn, fl, wl, se, rfl⟩ := hr
  exact q_c hr
/-- when child c is in, hopped by b, in sack s -/
abbrev tmF (F : FD) (kd : Nat) (pt c s : Int32) : Int32 := tmV (F.2.1 5 0) (F.2.1 5 1) (F.2.1 5 2) (F.2.1 5 3) (F.1 3) (Int32.ofNat kd) pt (F.2.1 7 c.toNatClampNeg) (slackV (F.1 1) (F.2.1 7 c.toNatClampNeg) s (F.2.1 11)) (holesV (F.1 1) s (F.2.1 12)) (F.2.1 9 c.toNatClampNeg)
theorem r_in {K : Int32 → XH → Prop} (hr : ∃ e, C r = some e ∧ isRun e) (h : FRep C f fa F) (hs : brB (F.1 1)) (hs8 : F.1 1 ≤ 8) (hc : vp_in c 8) (hk : kd ≤ 6) (hb : C b = some (HOb kd ix pt)) (hK : ∀ e, isRun e → K (tmF F kd pt c s) (xset C r e)) : x_X2_ofKind r f b c s C (fun q C1 => xcl C1 q = some 2 ∧ x_X2_comesIn q C1 K) := by
  refine r_ofKind hr h hs hs8 hc hk hb ⟨q_c xset_self, ?_⟩
  obtain ⟨e, hr, hi⟩ := hr
  have h1 := h.run (e := ROk f F kd pt c s) hr hi
  refine r_comesIn xset_self h1.1 h1.2.1 ?_
  rw [xset2]
  have e0 : (0 : Int32) + Int32.ofNat (itr (F.2.1 5 0) (sec (strideV (Int32.ofNat kd) pt (F.2.1 7 c.toNatClampNeg) (slackV (F.1 1) (F.2.1 7 c.toNatClampNeg) s (F.2.1 11))) (puffV (Int32.ofNat kd)) (riskV (Int32.ofNat kd) pt (F.2.1 7 c.toNatClampNeg) (slackV (F.1 1) (F.2.1 7 c.toNatClampNeg) s (F.2.1 11)) (holesV (F.1 1) s (F.2.1 12))) (F.2.1 5 1) (F.1 3)) 999 (d0 (F.2.1 9 c.toNatClampNeg) (F.2.1 5 3))).1 = Int32.ofNat (itr (F.2.1 5 0) (sec (strideV (Int32.ofNat kd) pt (F.2.1 7 c.toNatClampNeg) (slackV (F.1 1) (F.2.1 7 c.toNatClampNeg) s (F.2.1 11))) (puffV (Int32.ofNat kd)) (riskV (Int32.ofNat kd) pt (F.2.1 7 c.toNatClampNeg) (slackV (F.1 1) (F.2.1 7 c.toNatClampNeg) s (F.2.1 11)) (holesV (F.1 1) s (F.2.1 12))) (F.2.1 5 1) (F.1 3)) 999 (d0 (F.2.1 9 c.toNatClampNeg) (F.2.1 5 3))).1 := by simp
  rw [e0]
  exact hK _ isRun_d
end WAY
