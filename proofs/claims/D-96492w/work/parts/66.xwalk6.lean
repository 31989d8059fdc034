set_option maxRecDepth 100000
def vd_X13_kind (b : Nat)  (C : XH) (K : Int32 → XH → Prop) : Prop := obd (xcl C b) (fun ci => if ci = 13 then x_X13_kind b  C K else if ci = 14 then x_X14_kind b  C K else if ci = 15 then x_X15_kind b  C K else if ci = 16 then x_X16_kind b  C K else if ci = 17 then x_X17_kind b  C K else if ci = 18 then x_X18_kind b  C K else if ci = 19 then x_X19_kind b  C K else False)
theorem vdc_X13_kind {p : Program} {l : Launch} {e : Env} {R : Room} {s : State} {m : MethodId} {args : Array Value} {below : List Frame} {meth : Method} {c : Code} {H : Heap} {locs : List Loc} {cells slots : Nat} {own : String} {cc : ByteArray} {nL : Nat} {ret : Option FieldType} {pc : Nat} {ls : Array Slot} {rest : List Value} {D : va_G} {dT : Nat → ClassId} {adK adV : Nat → Nat} {A : Nat → Prop} {C : XH} {index : Nat} (X : xX p s m args meth c own cc nL ret) (hK : va_K D aCl (aT dT) s) (hA : ∀ q : Nat, s.heap.size ≤ q → A q) (hG : xG adK adV A s s.heap) (hI : xI D dT A s.heap C H locs) (b : Nat)  (K : Int32 → XH → Prop) (hs : vd_X13_kind b  C K) (w1 : Cond.methodLink own index ⟨RX13, "kind", "()I"⟩ ∈ lw_all) (hR : 0 + 1 ≤ R.frames ∧ 8 + (0 + 11) + 1 ≤ R.locals) (hsz : ls.size = nL) (hrm : (rest.map fun v => v.category).sum ≤ 8) (hdg : decode cc pc = .ok (.invokevirtual index, 3)) (hf : cells + 0 ≤ R.cells ∧ slots + 0 ≤ R.slots) : xCtx p l e R s m args below meth c H locs cells slots 0 0 D dT C pc ls ([] ++ .ref b :: rest) rest (fun D dT A => xQi D dT K A) (.ref b :: []) := by
  obtain ⟨ci, hci, hs⟩ := hs
  obtain ⟨fs, hb⟩ := xcl_spec hci
  by_cases h13 : ci = 13
  · subst h13
    replace hs := ifp rfl hs
    exact x_runO (As := []) X hK hA hG hI hb (q := (RX13, TX13, 2)) rfl (xet_X13_kind l b  _ _ hs) iX13_kind RX13 w1 q881 q879 q880 q879 q117 q900 (by decide +kernel) ⟨Nat.le_trans (Nat.le_of_ble_eq_true rfl) hR.1, Nat.le_trans (Nat.le_of_ble_eq_true rfl) hR.2⟩ rfl hsz rfl hrm hdg hf
  · replace hs := ifn h13 hs
    by_cases h14 : ci = 14
    · subst h14
      replace hs := ifp rfl hs
      exact x_runO (As := []) X hK hA hG hI hb (q := (RX14, TX14, 2)) rfl (xet_X14_kind l b  _ _ hs) iX14_kind RX13 w1 q881 q879 q885 q886 q118 q900 (by decide +kernel) ⟨Nat.le_trans (Nat.le_of_ble_eq_true rfl) hR.1, Nat.le_trans (Nat.le_of_ble_eq_true rfl) hR.2⟩ rfl hsz rfl hrm hdg hf
    · replace hs := ifn h14 hs
      by_cases h15 : ci = 15
      · subst h15
        replace hs := ifp rfl hs
        exact x_runO (As := []) X hK hA hG hI hb (q := (RX15, TX15, 2)) rfl (xet_X15_kind l b  _ _ hs) iX15_kind RX13 w1 q881 q879 q888 q889 q119 q900 (by decide +kernel) ⟨Nat.le_trans (Nat.le_of_ble_eq_true rfl) hR.1, Nat.le_trans (Nat.le_of_ble_eq_true rfl) hR.2⟩ rfl hsz rfl hrm hdg hf
      · replace hs := ifn h15 hs
        by_cases h16 : ci = 16
        · subst h16
          replace hs := ifp rfl hs
          exact x_runO (As := []) X hK hA hG hI hb (q := (RX16, TX16, 2)) rfl (xet_X16_kind l b  _ _ hs) iX16_kind RX13 w1 q881 q879 q882 q883 q120 q900 (by decide +kernel) ⟨Nat.le_trans (Nat.le_of_ble_eq_true rfl) hR.1, Nat.le_trans (Nat.le_of_ble_eq_true rfl) hR.2⟩ rfl hsz rfl hrm hdg hf
        · replace hs := ifn h16 hs
          by_cases h17 : ci = 17
          · subst h17
            replace hs := ifp rfl hs
            exact x_runO (As := []) X hK hA hG hI hb (q := (RX17, TX17, 2)) rfl (xet_X17_kind l b  _ _ hs) iX17_kind RX13 w1 q881 q879 q894 q895 q121 q900 (by decide +kernel) ⟨Nat.le_trans (Nat.le_of_ble_eq_true rfl) hR.1, Nat.le_trans (Nat.le_of_ble_eq_true rfl) hR.2⟩ rfl hsz rfl hrm hdg hf
          · replace hs := ifn h17 hs
            by_cases h18 : ci = 18
            · subst h18
              replace hs := ifp rfl hs
              exact x_runO (As := []) X hK hA hG hI hb (q := (RX18, TX18, 2)) rfl (xet_X18_kind l b  _ _ hs) iX18_kind RX13 w1 q881 q879 q891 q892 q122 q900 (by decide +kernel) ⟨Nat.le_trans (Nat.le_of_ble_eq_true rfl) hR.1, Nat.le_trans (Nat.le_of_ble_eq_true rfl) hR.2⟩ rfl hsz rfl hrm hdg hf
            · replace hs := ifn h18 hs
              by_cases h19 : ci = 19
              · subst h19
                replace hs := ifp rfl hs
                exact x_runO (As := []) X hK hA hG hI hb (q := (RX19, TX19, 2)) rfl (xet_X19_kind l b  _ _ hs) iX19_kind RX13 w1 q881 q879 q897 q898 q123 q900 (by decide +kernel) ⟨Nat.le_trans (Nat.le_of_ble_eq_true rfl) hR.1, Nat.le_trans (Nat.le_of_ble_eq_true rfl) hR.2⟩ rfl hsz rfl hrm hdg hf
              · replace hs := ifn h19 hs
                exact hs.elim
def vd_X13_puff (b : Nat)  (C : XH) (K : Int32 → XH → Prop) : Prop := obd (xcl C b) (fun ci => if ci = 13 then x_X13_puff b  C K else if ci = 14 then x_X14_puff b  C K else if ci = 15 then x_X15_puff b  C K else if ci = 16 then x_X16_puff b  C K else if ci = 17 then x_X17_puff b  C K else if ci = 18 then x_X18_puff b  C K else if ci = 19 then x_X19_puff b  C K else False)
theorem vdc_X13_puff {p : Program} {l : Launch} {e : Env} {R : Room} {s : State} {m : MethodId} {args : Array Value} {below : List Frame} {meth : Method} {c : Code} {H : Heap} {locs : List Loc} {cells slots : Nat} {own : String} {cc : ByteArray} {nL : Nat} {ret : Option FieldType} {pc : Nat} {ls : Array Slot} {rest : List Value} {D : va_G} {dT : Nat → ClassId} {adK adV : Nat → Nat} {A : Nat → Prop} {C : XH} {index : Nat} (X : xX p s m args meth c own cc nL ret) (hK : va_K D aCl (aT dT) s) (hA : ∀ q : Nat, s.heap.size ≤ q → A q) (hG : xG adK adV A s s.heap) (hI : xI D dT A s.heap C H locs) (b : Nat)  (K : Int32 → XH → Prop) (hs : vd_X13_puff b  C K) (w1 : Cond.methodLink own index ⟨RX13, "puff", "()I"⟩ ∈ lw_all) (hR : 2 + 1 ≤ R.frames ∧ 8 + (0 + 11) + 41 ≤ R.locals) (hsz : ls.size = nL) (hrm : (rest.map fun v => v.category).sum ≤ 8) (hdg : decode cc pc = .ok (.invokevirtual index, 3)) (hf : cells + 0 ≤ R.cells ∧ slots + 0 ≤ R.slots) : xCtx p l e R s m args below meth c H locs cells slots 0 0 D dT C pc ls ([] ++ .ref b :: rest) rest (fun D dT A => xQi D dT K A) (.ref b :: []) := by
  obtain ⟨ci, hci, hs⟩ := hs
  obtain ⟨fs, hb⟩ := xcl_spec hci
  by_cases h13 : ci = 13
  · subst h13
    replace hs := ifp rfl hs
    exact x_runO (As := []) X hK hA hG hI hb (q := (RX13, TX13, 2)) rfl (xet_X13_puff l b  _ _ hs) iX13_puff RX13 w1 q2033 q686 q2040 q686 q117 q687 (by decide +kernel) ⟨Nat.le_trans (Nat.le_of_ble_eq_true rfl) hR.1, Nat.le_trans (Nat.le_of_ble_eq_true rfl) hR.2⟩ rfl hsz rfl hrm hdg hf
  · replace hs := ifn h13 hs
    by_cases h14 : ci = 14
    · subst h14
      replace hs := ifp rfl hs
      exact x_runO (As := []) X hK hA hG hI hb (q := (RX14, TX14, 2)) rfl (xet_X14_puff l b  _ _ hs) iX14_puff RX13 w1 q2033 q686 q2036 q675 q118 q687 (by decide +kernel) ⟨Nat.le_trans (Nat.le_of_ble_eq_true rfl) hR.1, Nat.le_trans (Nat.le_of_ble_eq_true rfl) hR.2⟩ rfl hsz rfl hrm hdg hf
    · replace hs := ifn h14 hs
      by_cases h15 : ci = 15
      · subst h15
        replace hs := ifp rfl hs
        exact x_runO (As := []) X hK hA hG hI hb (q := (RX15, TX15, 2)) rfl (xet_X15_puff l b  _ _ hs) iX15_puff RX13 w1 q2033 q686 q2037 q903 q119 q687 (by decide +kernel) ⟨Nat.le_trans (Nat.le_of_ble_eq_true rfl) hR.1, Nat.le_trans (Nat.le_of_ble_eq_true rfl) hR.2⟩ rfl hsz rfl hrm hdg hf
      · replace hs := ifn h15 hs
        by_cases h16 : ci = 16
        · subst h16
          replace hs := ifp rfl hs
          exact x_runO (As := []) X hK hA hG hI hb (q := (RX16, TX16, 2)) rfl (xet_X16_puff l b  _ _ hs) iX16_puff RX13 w1 q2033 q686 q2035 q679 q120 q687 (by decide +kernel) ⟨Nat.le_trans (Nat.le_of_ble_eq_true rfl) hR.1, Nat.le_trans (Nat.le_of_ble_eq_true rfl) hR.2⟩ rfl hsz rfl hrm hdg hf
        · replace hs := ifn h16 hs
          by_cases h17 : ci = 17
          · subst h17
            replace hs := ifp rfl hs
            exact x_runO (As := []) X hK hA hG hI hb (q := (RX17, TX17, 2)) rfl (xet_X17_puff l b  _ _ hs) iX17_puff RX13 w1 q2033 q686 q2041 q909 q121 q687 (by decide +kernel) ⟨Nat.le_trans (Nat.le_of_ble_eq_true rfl) hR.1, Nat.le_trans (Nat.le_of_ble_eq_true rfl) hR.2⟩ rfl hsz rfl hrm hdg hf
          · replace hs := ifn h17 hs
            by_cases h18 : ci = 18
            · subst h18
              replace hs := ifp rfl hs
              exact x_runO (As := []) X hK hA hG hI hb (q := (RX18, TX18, 2)) rfl (xet_X18_puff l b  _ _ hs) iX18_puff RX13 w1 q2033 q686 q2038 q906 q122 q687 (by decide +kernel) ⟨Nat.le_trans (Nat.le_of_ble_eq_true rfl) hR.1, Nat.le_trans (Nat.le_of_ble_eq_true rfl) hR.2⟩ rfl hsz rfl hrm hdg hf
            · replace hs := ifn h18 hs
              by_cases h19 : ci = 19
              · subst h19
                replace hs := ifp rfl hs
                exact x_runO (As := []) X hK hA hG hI hb (q := (RX19, TX19, 2)) rfl (xet_X19_puff l b  _ _ hs) iX19_puff RX13 w1 q2033 q686 q2042 q912 q123 q687 (by decide +kernel) ⟨Nat.le_trans (Nat.le_of_ble_eq_true rfl) hR.1, Nat.le_trans (Nat.le_of_ble_eq_true rfl) hR.2⟩ rfl hsz rfl hrm hdg hf
              · replace hs := ifn h19 hs
                exact hs.elim
def x_X0_childOf (a0 : Nat) (a1 : Int32) (a2 : Int32) (C : XH) (K : Int32 → XH → Prop) : Prop := obd (xgr C (xis 0) a0 7) (fun ad1 => (xcl C ad1 = some 4 ∧ x_X4_isChild ad1 a1 C (fun r3 C2 => (if r3 = 0 then (xcl C2 a0 = some 0 ∧ x_X0_beyond a0 C2 (fun r44 C43 => K r44 C43)) else (if a2 = 0 then obd (xgr C2 (xis 0) a0 7) (fun ad6 => obd (xgr C2 (xis 4) ad6 6) (fun ad7 => obd (xar C2 7 ad7 a1) (fun ad8 => vd_X13_kind ad8 C2 (fun r10 C9 => K r10 C9)))) else if a2 = 1 then obd (xgr C2 (xis 0) a0 7) (fun ad11 => obd (xgr C2 (xis 4) ad11 6) (fun ad12 => obd (xar C2 7 ad12 a1) (fun ad13 => obd (xgi C2 xisH ad13 1) (fun v14 => K v14 C2)))) else if a2 = 2 then obd (xgr C2 (xis 0) a0 7) (fun ad15 => obd (xgr C2 (xis 4) ad15 7) (fun ad16 => obd (xai C2 0 ad16 a1) (fun v17 => K v17 C2))) else if a2 = 3 then obd (xgr C2 (xis 0) a0 7) (fun ad18 => obd (xgr C2 (xis 4) ad18 8) (fun ad19 => obd (xai C2 0 ad19 a1) (fun v20 => K v20 C2))) else if a2 = 4 then obd (xgr C2 (xis 0) a0 7) (fun ad21 => obd (xgr C2 (xis 4) ad21 9) (fun ad22 => obd (xai C2 0 ad22 a1) (fun v23 => K v23 C2))) else if a2 = 5 then obd (xgr C2 (xis 0) a0 7) (fun ad24 => (xcl C2 ad24 = some 4 ∧ x_X4_strideOf ad24 a1 C2 (fun r26 C25 => K r26 C25))) else if a2 = 6 then obd (xgr C2 (xis 0) a0 7) (fun ad28 => obd (xgr C2 (xis 4) ad28 6) (fun ad29 => obd (xar C2 7 ad29 a1) (fun ad30 => vd_X13_puff ad30 C2 (fun r32 C31 => K r32 C31)))) else if a2 = 7 then obd (xgr C2 (xis 0) a0 7) (fun ad33 => (xcl C2 ad33 = some 4 ∧ x_X4_riskOf ad33 a1 C2 (fun r35 C34 => K r35 C34))) else if a2 = 8 then obd (xgr C2 (xis 0) a0 7) (fun ad37 => obd (xgr C2 (xis 4) ad37 10) (fun ad38 => obd (xai C2 0 ad38 a1) (fun v39 => K v39 C2))) else (xcl C2 a0 = some 0 ∧ x_X0_beyond a0 C2 (fun r41 C40 => K r41 C40)))))))
theorem iX0_childOf : xInf yX0_childOf cX0_childOf 3 (some .int) 2 := ⟨q873, by decide +kernel⟩
set_option maxHeartbeats 4000000 in
theorem xet_X0_childOf (l : Launch) (a0 : Nat) (a1 : Int32) (a2 : Int32) (C : XH) (K : Int32 → XH → Prop) (hs : x_X0_childOf a0 a1 a2 C K) : xMeti l yX0_childOf (ws_ yX0_childOf cX0_childOf 3 (some .int)) 6 131 0 0 C [.ref a0, .int a1, .int a2] K := by
  intro D dT adK adV sz
  refine xEnter (own := RX0) (Qc := xQi D dT K) (by decide) rfl (by rfl) ?_
  intro p e s m args below meth c A ls X hnm hK hA hG hI hl
  have hx := X.1
  have hb := X.2.1
  have hts := X.2.2.2.2.1
  have hown := X.2.2.2.2.2.1
  have hl : lv_has ls 3 [(0, .ref a0), (1, .int a1), (2, .int a2)] := hl
  unfold x_X0_childOf at hs
  refine lv_aload_n hx hb dX0_childOf_0 rfl (lv_at hl 0 rfl) ?_
  obtain ⟨ad1, ead1, hs⟩ := hs
  refine x_get (v := .ref ad1) X hK hI 0 7 rfl in_X0 rfl q335 rfl (xgr_spec ead1) dX0_childOf_1 ?_
  refine lv_iload_n hx hb dX0_childOf_4 rfl (lv_at hl 1 rfl) ?_
  obtain ⟨h3, hs⟩ := hs
  obtain ⟨fh3, h3⟩ := xcl_spec h3
  refine x_goz hA hI (x_runV (As := [.int a1]) (rest := []) X hK hA hG hI h3 (q := (RX4, TX4, 13)) rfl rfl (xet_X4_isChild l ad1 a1 _ _ hs) iX4_isChild q653 q654 q655 q98 ⟨(Nat.le_of_ble_eq_true rfl), (Nat.le_of_ble_eq_true rfl)⟩ rfl hl.1 rfl (Nat.le_of_ble_eq_true rfl) dX0_childOf_5 ⟨(Nat.le_of_ble_eq_true rfl), (Nat.le_of_ble_eq_true rfl)⟩) (fun r3 C2 H locs br3 hs9 hI => ?_)
  replace hs := hs9
  refine lv_if_ne (tgt := 16) hx hb dX0_childOf_8 (by decide) (fun c45 => ?_) (fun c45 => ?_)
  · replace hs := ifn c45 hs
    refine lv_iload_n hx hb dX0_childOf_16 rfl (lv_at hl 2 rfl) ?_
    by_cases c4_0 : a2 = 0
    · replace hs := ifp c4_0 hs
      refine lv_tableIn (tgt := 68) hx hb dX0_childOf_17 (by rw [c4_0]; decide) (by rw [c4_0]; decide) (by rw [c4_0]; rfl) (by decide) ?_
      refine lv_aload_n hx hb dX0_childOf_68 rfl (lv_at hl 0 rfl) ?_
      obtain ⟨ad6, ead6, hs⟩ := hs
      refine x_get (v := .ref ad6) X hK hI 0 7 rfl in_X0 rfl q335 rfl (xgr_spec ead6) dX0_childOf_69 ?_
      obtain ⟨ad7, ead7, hs⟩ := hs
      refine x_get (v := .ref ad7) X hK hI 4 6 rfl in_X4 rfl q272 rfl (xgr_spec ead7) dX0_childOf_72 ?_
      refine lv_iload_n hx hb dX0_childOf_75 rfl (lv_at hl 1 rfl) ?_
      obtain ⟨ad8, ead8, hs⟩ := hs
      refine x_aald X hK hI 7 rfl rfl ead8 dX0_childOf_76 ?_
      refine x_goi hA hI (vdc_X13_kind (rest := []) X hK hA hG hI ad8 _ hs q878 ⟨(Nat.le_of_ble_eq_true rfl), (Nat.le_of_ble_eq_true rfl)⟩ hl.1 (Nat.le_of_ble_eq_true rfl) dX0_childOf_77 ⟨(Nat.le_of_ble_eq_true rfl), (Nat.le_of_ble_eq_true rfl)⟩) (fun r10 C9 H locs hs9 hI => ?_)
      replace hs := hs9
      exact x_reti X hK hI hs (Nat.le_of_ble_eq_true rfl) (Nat.le_of_ble_eq_true rfl) dX0_childOf_80
    · replace hs := ifn c4_0 hs
      by_cases c4_1 : a2 = 1
      · replace hs := ifp c4_1 hs
        refine lv_tableIn (tgt := 81) hx hb dX0_childOf_17 (by rw [c4_1]; decide) (by rw [c4_1]; decide) (by rw [c4_1]; rfl) (by decide) ?_
        refine lv_aload_n hx hb dX0_childOf_81 rfl (lv_at hl 0 rfl) ?_
        obtain ⟨ad11, ead11, hs⟩ := hs
        refine x_get (v := .ref ad11) X hK hI 0 7 rfl in_X0 rfl q335 rfl (xgr_spec ead11) dX0_childOf_82 ?_
        obtain ⟨ad12, ead12, hs⟩ := hs
        refine x_get (v := .ref ad12) X hK hI 4 6 rfl in_X4 rfl q272 rfl (xgr_spec ead12) dX0_childOf_85 ?_
        refine lv_iload_n hx hb dX0_childOf_88 rfl (lv_at hl 1 rfl) ?_
        obtain ⟨ad13, ead13, hs⟩ := hs
        refine x_aald X hK hI 7 rfl rfl ead13 dX0_childOf_89 ?_
        obtain ⟨v14, ev14, hs⟩ := hs
        refine x_getH (v := .int v14) X hK hI 1 (by decide) q811 (fun x hx => hx) (xgi_spec ev14) dX0_childOf_90 ?_
        exact x_reti X hK hI hs (Nat.le_of_ble_eq_true rfl) (Nat.le_of_ble_eq_true rfl) dX0_childOf_93
      · replace hs := ifn c4_1 hs
        by_cases c4_2 : a2 = 2
        · replace hs := ifp c4_2 hs
          refine lv_tableIn (tgt := 94) hx hb dX0_childOf_17 (by rw [c4_2]; decide) (by rw [c4_2]; decide) (by rw [c4_2]; rfl) (by decide) ?_
          refine lv_aload_n hx hb dX0_childOf_94 rfl (lv_at hl 0 rfl) ?_
          obtain ⟨ad15, ead15, hs⟩ := hs
          refine x_get (v := .ref ad15) X hK hI 0 7 rfl in_X0 rfl q335 rfl (xgr_spec ead15) dX0_childOf_95 ?_
          obtain ⟨ad16, ead16, hs⟩ := hs
          refine x_get (v := .ref ad16) X hK hI 4 7 rfl in_X4 rfl q276 rfl (xgr_spec ead16) dX0_childOf_98 ?_
          refine lv_iload_n hx hb dX0_childOf_101 rfl (lv_at hl 1 rfl) ?_
          obtain ⟨v17, ev17, hs⟩ := hs
          refine x_iald X hK hI ev17 dX0_childOf_102 ?_
          exact x_reti X hK hI hs (Nat.le_of_ble_eq_true rfl) (Nat.le_of_ble_eq_true rfl) dX0_childOf_103
        · replace hs := ifn c4_2 hs
          by_cases c4_3 : a2 = 3
          · replace hs := ifp c4_3 hs
            refine lv_tableIn (tgt := 104) hx hb dX0_childOf_17 (by rw [c4_3]; decide) (by rw [c4_3]; decide) (by rw [c4_3]; rfl) (by decide) ?_
            refine lv_aload_n hx hb dX0_childOf_104 rfl (lv_at hl 0 rfl) ?_
            obtain ⟨ad18, ead18, hs⟩ := hs
            refine x_get (v := .ref ad18) X hK hI 0 7 rfl in_X0 rfl q335 rfl (xgr_spec ead18) dX0_childOf_105 ?_
            obtain ⟨ad19, ead19, hs⟩ := hs
            refine x_get (v := .ref ad19) X hK hI 4 8 rfl in_X4 rfl q280 rfl (xgr_spec ead19) dX0_childOf_108 ?_
            refine lv_iload_n hx hb dX0_childOf_111 rfl (lv_at hl 1 rfl) ?_
            obtain ⟨v20, ev20, hs⟩ := hs
            refine x_iald X hK hI ev20 dX0_childOf_112 ?_
            exact x_reti X hK hI hs (Nat.le_of_ble_eq_true rfl) (Nat.le_of_ble_eq_true rfl) dX0_childOf_113
          · replace hs := ifn c4_3 hs
            by_cases c4_4 : a2 = 4
            · replace hs := ifp c4_4 hs
              refine lv_tableIn (tgt := 114) hx hb dX0_childOf_17 (by rw [c4_4]; decide) (by rw [c4_4]; decide) (by rw [c4_4]; rfl) (by decide) ?_
              refine lv_aload_n hx hb dX0_childOf_114 rfl (lv_at hl 0 rfl) ?_
              obtain ⟨ad21, ead21, hs⟩ := hs
              refine x_get (v := .ref ad21) X hK hI 0 7 rfl in_X0 rfl q335 rfl (xgr_spec ead21) dX0_childOf_115 ?_
              obtain ⟨ad22, ead22, hs⟩ := hs
              refine x_get (v := .ref ad22) X hK hI 4 9 rfl in_X4 rfl q284 rfl (xgr_spec ead22) dX0_childOf_118 ?_
              refine lv_iload_n hx hb dX0_childOf_121 rfl (lv_at hl 1 rfl) ?_
              obtain ⟨v23, ev23, hs⟩ := hs
              refine x_iald X hK hI ev23 dX0_childOf_122 ?_
              exact x_reti X hK hI hs (Nat.le_of_ble_eq_true rfl) (Nat.le_of_ble_eq_true rfl) dX0_childOf_123
            · replace hs := ifn c4_4 hs
              by_cases c4_5 : a2 = 5
              · replace hs := ifp c4_5 hs
                refine lv_tableIn (tgt := 124) hx hb dX0_childOf_17 (by rw [c4_5]; decide) (by rw [c4_5]; decide) (by rw [c4_5]; rfl) (by decide) ?_
                refine lv_aload_n hx hb dX0_childOf_124 rfl (lv_at hl 0 rfl) ?_
                obtain ⟨ad24, ead24, hs⟩ := hs
                refine x_get (v := .ref ad24) X hK hI 0 7 rfl in_X0 rfl q335 rfl (xgr_spec ead24) dX0_childOf_125 ?_
                refine lv_iload_n hx hb dX0_childOf_128 rfl (lv_at hl 1 rfl) ?_
                obtain ⟨h26, hs⟩ := hs
                obtain ⟨fh26, h26⟩ := xcl_spec h26
                refine x_goi hA hI (x_runV (As := [.int a1]) (rest := []) X hK hA hG hI h26 (q := (RX4, TX4, 13)) rfl rfl (xet_X4_strideOf l ad24 a1 _ _ hs) iX4_strideOf q901 q690 q691 q98 ⟨(Nat.le_of_ble_eq_true rfl), (Nat.le_of_ble_eq_true rfl)⟩ rfl hl.1 rfl (Nat.le_of_ble_eq_true rfl) dX0_childOf_129 ⟨(Nat.le_of_ble_eq_true rfl), (Nat.le_of_ble_eq_true rfl)⟩) (fun r26 C25 H locs hs9 hI => ?_)
                replace hs := hs9
                exact x_reti X hK hI hs (Nat.le_of_ble_eq_true rfl) (Nat.le_of_ble_eq_true rfl) dX0_childOf_132
              · replace hs := ifn c4_5 hs
                by_cases c4_6 : a2 = 6
                · replace hs := ifp c4_6 hs
                  refine lv_tableIn (tgt := 133) hx hb dX0_childOf_17 (by rw [c4_6]; decide) (by rw [c4_6]; decide) (by rw [c4_6]; rfl) (by decide) ?_
                  refine lv_aload_n hx hb dX0_childOf_133 rfl (lv_at hl 0 rfl) ?_
                  obtain ⟨ad28, ead28, hs⟩ := hs
                  refine x_get (v := .ref ad28) X hK hI 0 7 rfl in_X0 rfl q335 rfl (xgr_spec ead28) dX0_childOf_134 ?_
                  obtain ⟨ad29, ead29, hs⟩ := hs
                  refine x_get (v := .ref ad29) X hK hI 4 6 rfl in_X4 rfl q272 rfl (xgr_spec ead29) dX0_childOf_137 ?_
                  refine lv_iload_n hx hb dX0_childOf_140 rfl (lv_at hl 1 rfl) ?_
                  obtain ⟨ad30, ead30, hs⟩ := hs
                  refine x_aald X hK hI 7 rfl rfl ead30 dX0_childOf_141 ?_
                  refine x_goi hA hI (vdc_X13_puff (rest := []) X hK hA hG hI ad30 _ hs q902 ⟨(Nat.le_of_ble_eq_true rfl), (Nat.le_of_ble_eq_true rfl)⟩ hl.1 (Nat.le_of_ble_eq_true rfl) dX0_childOf_142 ⟨(Nat.le_of_ble_eq_true rfl), (Nat.le_of_ble_eq_true rfl)⟩) (fun r32 C31 H locs hs9 hI => ?_)
                  replace hs := hs9
                  exact x_reti X hK hI hs (Nat.le_of_ble_eq_true rfl) (Nat.le_of_ble_eq_true rfl) dX0_childOf_145
                · replace hs := ifn c4_6 hs
                  by_cases c4_7 : a2 = 7
                  · replace hs := ifp c4_7 hs
                    refine lv_tableIn (tgt := 146) hx hb dX0_childOf_17 (by rw [c4_7]; decide) (by rw [c4_7]; decide) (by rw [c4_7]; rfl) (by decide) ?_
                    refine lv_aload_n hx hb dX0_childOf_146 rfl (lv_at hl 0 rfl) ?_
                    obtain ⟨ad33, ead33, hs⟩ := hs
                    refine x_get (v := .ref ad33) X hK hI 0 7 rfl in_X0 rfl q335 rfl (xgr_spec ead33) dX0_childOf_147 ?_
                    refine lv_iload_n hx hb dX0_childOf_150 rfl (lv_at hl 1 rfl) ?_
                    obtain ⟨h35, hs⟩ := hs
                    obtain ⟨fh35, h35⟩ := xcl_spec h35
                    refine x_goi hA hI (x_runV (As := [.int a1]) (rest := []) X hK hA hG hI h35 (q := (RX4, TX4, 13)) rfl rfl (xet_X4_riskOf l ad33 a1 _ _ hs) iX4_riskOf q915 q746 q747 q98 ⟨(Nat.le_of_ble_eq_true rfl), (Nat.le_of_ble_eq_true rfl)⟩ rfl hl.1 rfl (Nat.le_of_ble_eq_true rfl) dX0_childOf_151 ⟨(Nat.le_of_ble_eq_true rfl), (Nat.le_of_ble_eq_true rfl)⟩) (fun r35 C34 H locs hs9 hI => ?_)
                    replace hs := hs9
                    exact x_reti X hK hI hs (Nat.le_of_ble_eq_true rfl) (Nat.le_of_ble_eq_true rfl) dX0_childOf_154
                  · replace hs := ifn c4_7 hs
                    by_cases c4_8 : a2 = 8
                    · replace hs := ifp c4_8 hs
                      refine lv_tableIn (tgt := 155) hx hb dX0_childOf_17 (by rw [c4_8]; decide) (by rw [c4_8]; decide) (by rw [c4_8]; rfl) (by decide) ?_
                      refine lv_aload_n hx hb dX0_childOf_155 rfl (lv_at hl 0 rfl) ?_
                      obtain ⟨ad37, ead37, hs⟩ := hs
                      refine x_get (v := .ref ad37) X hK hI 0 7 rfl in_X0 rfl q335 rfl (xgr_spec ead37) dX0_childOf_156 ?_
                      obtain ⟨ad38, ead38, hs⟩ := hs
                      refine x_get (v := .ref ad38) X hK hI 4 10 rfl in_X4 rfl q286 rfl (xgr_spec ead38) dX0_childOf_159 ?_
                      refine lv_iload_n hx hb dX0_childOf_162 rfl (lv_at hl 1 rfl) ?_
                      obtain ⟨v39, ev39, hs⟩ := hs
                      refine x_iald X hK hI ev39 dX0_childOf_163 ?_
                      exact x_reti X hK hI hs (Nat.le_of_ble_eq_true rfl) (Nat.le_of_ble_eq_true rfl) dX0_childOf_164
                    · replace hs := ifn c4_8 hs
                      refine lv_tableOut (tgt := 165) hx hb dX0_childOf_17 (sw_out (fun k h1 h2 => by
                        have h3 : k = 0 ∨ k = 1 ∨ k = 2 ∨ k = 3 ∨ k = 4 ∨ k = 5 ∨ k = 6 ∨ k = 7 ∨ k = 8 := by omega
                        rcases h3 with rfl | rfl | rfl | rfl | rfl | rfl | rfl | rfl | rfl
                        · exact lv_neT c4_0 rfl
                        · exact lv_neT c4_1 rfl
                        · exact lv_neT c4_2 rfl
                        · exact lv_neT c4_3 rfl
                        · exact lv_neT c4_4 rfl
                        · exact lv_neT c4_5 rfl
                        · exact lv_neT c4_6 rfl
                        · exact lv_neT c4_7 rfl
                        · exact lv_neT c4_8 rfl
                        )) (by decide) ?_
                      refine lv_aload_n hx hb dX0_childOf_165 rfl (lv_at hl 0 rfl) ?_
                      obtain ⟨h41, hs⟩ := hs
                      obtain ⟨fh41, h41⟩ := xcl_spec h41
                      refine x_goi hA hI (x_runV (As := []) (rest := []) X hK hA hG hI h41 (q := (RX0, TX0, 10)) rfl rfl (xet_X0_beyond l a0 _ _ hs) iX0_beyond q874 q876 qs4 q94 ⟨(Nat.le_of_ble_eq_true rfl), (Nat.le_of_ble_eq_true rfl)⟩ rfl hl.1 rfl (Nat.le_of_ble_eq_true rfl) dX0_childOf_166 ⟨(Nat.le_of_ble_eq_true rfl), (Nat.le_of_ble_eq_true rfl)⟩) (fun r41 C40 H locs hs9 hI => ?_)
                      replace hs := hs9
                      exact x_reti X hK hI hs (Nat.le_of_ble_eq_true rfl) (Nat.le_of_ble_eq_true rfl) dX0_childOf_169
  · replace hs := ifp c45 hs
    refine lv_aload_n hx hb dX0_childOf_11 rfl (lv_at hl 0 rfl) ?_
    obtain ⟨h44, hs⟩ := hs
    obtain ⟨fh44, h44⟩ := xcl_spec h44
    refine x_goi hA hI (x_runV (As := []) (rest := []) X hK hA hG hI h44 (q := (RX0, TX0, 10)) rfl rfl (xet_X0_beyond l a0 _ _ hs) iX0_beyond q874 q876 qs4 q94 ⟨(Nat.le_of_ble_eq_true rfl), (Nat.le_of_ble_eq_true rfl)⟩ rfl hl.1 rfl (Nat.le_of_ble_eq_true rfl) dX0_childOf_12 ⟨(Nat.le_of_ble_eq_true rfl), (Nat.le_of_ble_eq_true rfl)⟩) (fun r44 C43 H locs hs9 hI => ?_)
    replace hs := hs9
    exact x_reti X hK hI hs (Nat.le_of_ble_eq_true rfl) (Nat.le_of_ble_eq_true rfl) dX0_childOf_15
def x_X0_sackOf (a0 : Nat) (a1 : Int32) (a2 : Int32) (C : XH) (K : Int32 → XH → Prop) : Prop := obd (xgr C (xis 0) a0 7) (fun ad1 => (xcl C ad1 = some 4 ∧ x_X4_isSack ad1 a1 C (fun r3 C2 => x_X0_need r3 (-1) C2 (fun C5 => x_X0_in ((a2 : Int32).toInt64) 0 1 C5 (fun r7 C6 => x_X0_need r7 (-5) C6 (fun C8 => (if a2 = 0 then obd (xgr C8 (xis 0) a0 7) (fun ad12 => obd (xgr C8 (xis 4) ad12 11) (fun ad13 => obd (xai C8 0 ad13 a1) (fun v14 => K v14 C8))) else obd (xgr C8 (xis 0) a0 7) (fun ad9 => obd (xgr C8 (xis 4) ad9 12) (fun ad10 => obd (xai C8 0 ad10 a1) (fun v11 => K v11 C8))))) (fun ad16 C17 => (xcl C17 a0 = some 0 ∧ x_X0_refused a0 ad16 C17 (fun r19 C18 => K r19 C18))))) (fun ad21 C22 => (xcl C22 a0 = some 0 ∧ x_X0_refused a0 ad21 C22 (fun r24 C23 => K r24 C23))))))
theorem iX0_sackOf : xInfW yX0_sackOf cX0_sackOf 4 (some .int) [(0, 49, 50, 21)] 2 := ⟨q919, by decide +kernel⟩
set_option maxHeartbeats 4000000 in
theorem xet_X0_sackOf (l : Launch) (hl0 : l.stackTraces = false) (a0 : Nat) (a1 : Int32) (a2 : Int32) (C : XH) (K : Int32 → XH → Prop) (hs : x_X0_sackOf a0 a1 a2 C K) : xMetX l yX0_sackOf (wsW_ yX0_sackOf cX0_sackOf 4 (some .int) [(0, 49, 50, 21)]) 5 114 2 14 C [.ref a0, .int a1, .int a2] (fun D dT A => xQi D dT K A) xE0 := by
  intro D dT adK adV sz
  refine xEnterW (own := RX0) (Qc := xQi D dT K) (XC := xXC D dT xE0) (by decide) rfl (by rfl) ?_
  intro p e s m args below meth c A ls X hnm hK hA hG hT hI hl
  have hx := X.1
  have hb := X.2.1
  have hts := X.2.2.2.2.1
  have hown := X.2.2.2.2.2.1
  have hl : lv_has ls 4 [(0, .ref a0), (1, .int a1), (2, .int a2)] := hl
  unfold x_X0_sackOf at hs
  refine lv_aload_n hx hb dX0_sackOf_0 rfl (lv_at hl 0 rfl) ?_
  obtain ⟨ad1, ead1, hs⟩ := hs
  refine x_get (v := .ref ad1) X hK hI 0 7 rfl in_X0 rfl q335 rfl (xgr_spec ead1) dX0_sackOf_1 ?_
  refine lv_iload_n hx hb dX0_sackOf_4 rfl (lv_at hl 1 rfl) ?_
  obtain ⟨h3, hs⟩ := hs
  obtain ⟨fh3, h3⟩ := xcl_spec h3
  refine x_goz hA hI (x_runV (As := [.int a1]) (rest := []) X hK hA hG hI h3 (q := (RX4, TX4, 13)) rfl rfl (xet_X4_isSack l ad1 a1 _ _ hs) iX4_isSack q920 q698 q699 q98 ⟨(Nat.le_of_ble_eq_true rfl), (Nat.le_of_ble_eq_true rfl)⟩ rfl hl.1 rfl (Nat.le_of_ble_eq_true rfl) dX0_sackOf_5 ⟨(Nat.le_of_ble_eq_true rfl), (Nat.le_of_ble_eq_true rfl)⟩) (fun r3 C2 H locs br3 hs9 hI => ?_)
  replace hs := hs9
  refine lv_iconst (v := (-1)) hx hb dX0_sackOf_8 (by decide) ?_
  refine xT_gov hA hI (x_runST (As := [.int r3, .int (-1)]) (rest := []) X hK hA hG hI (xet_X0_need l hl0 r3 (-1) _ _ _ hs) iX0_need q469 q470 q94 ⟨(Nat.le_of_ble_eq_true rfl), (Nat.le_of_ble_eq_true rfl)⟩ rfl hl.1 rfl (Nat.le_of_ble_eq_true rfl) dX0_sackOf_9 ⟨(Nat.le_of_ble_eq_true rfl), (Nat.le_of_ble_eq_true rfl)⟩) (fun En ce ad21 C22 H locs hs9 hI hce hvm hcl => ?_) (fun C5 H locs hs9 hI => ?_)
  · obtain ⟨rfl, hs0⟩ := hs9
    replace hs := hs0
    refine x_catch (k := 0) (a1 := 0) (a2 := 49) (a3 := 50) (a4 := 21) X hG hT rfl (x_cov rfl) rfl (by decide) q363 (by decide) hce hvm hcl ?_
    refine lv_astore_n (lv' := [(3, .ref ad21), (0, .ref a0), (1, .int a1), (2, .int a2)]) hx hb dX0_sackOf_50 rfl hl (by decide) rfl (fun ls hl => ?_)
    refine lv_aload_n hx hb dX0_sackOf_51 rfl (lv_at hl 1 rfl) ?_
    refine lv_aload_n hx hb dX0_sackOf_52 rfl (lv_at hl 0 rfl) ?_
    obtain ⟨h24, hs⟩ := hs
    obtain ⟨fh24, h24⟩ := xcl_spec h24
    refine x_goi hA hI (x_runV (As := [.ref ad21]) (rest := []) X hK hA hG hI h24 (q := (RX0, TX0, 10)) rfl rfl (xet_X0_refused l a0 ad21 _ _ hs) iX0_refused q538 q540 qs2 q94 ⟨(Nat.le_of_ble_eq_true rfl), (Nat.le_of_ble_eq_true rfl)⟩ rfl hl.1 rfl (Nat.le_of_ble_eq_true rfl) dX0_sackOf_53 ⟨(Nat.le_of_ble_eq_true rfl), (Nat.le_of_ble_eq_true rfl)⟩) (fun r24 C23 H locs hs9 hI => ?_)
    replace hs := hs9
    exact vx_ret (x_reti X hK hI hs (Nat.le_of_ble_eq_true rfl) (Nat.le_of_ble_eq_true rfl) dX0_sackOf_56)
  · replace hs := hs9
    refine lv_iload_n hx hb dX0_sackOf_12 rfl (lv_at hl 2 rfl) ?_
    refine lv_i2l (v := ((a2 : Int32).toInt64)) hx hb dX0_sackOf_13 rfl ?_
    refine lv_lconst (v := 0) hx hb dX0_sackOf_14 (by decide) ?_
    refine lv_lconst (v := 1) hx hb dX0_sackOf_15 (by decide) ?_
    refine x_goz hA hI (x_runS (As := [.long ((a2 : Int32).toInt64), .long 0, .long 1]) (rest := []) X hK hA hG hI (xet_X0_in l ((a2 : Int32).toInt64) 0 1 _ _ hs) iX0_in q473 q474 q94 ⟨(Nat.le_of_ble_eq_true rfl), (Nat.le_of_ble_eq_true rfl)⟩ rfl hl.1 rfl (Nat.le_of_ble_eq_true rfl) dX0_sackOf_16 ⟨(Nat.le_of_ble_eq_true rfl), (Nat.le_of_ble_eq_true rfl)⟩) (fun r7 C6 H locs br7 hs9 hI => ?_)
    replace hs := hs9
    refine lv_bipush (v := (-5)) hx hb dX0_sackOf_19 (by decide) ?_
    refine xT_gov hA hI (x_runST (As := [.int r7, .int (-5)]) (rest := []) X hK hA hG hI (xet_X0_need l hl0 r7 (-5) _ _ _ hs) iX0_need q469 q470 q94 ⟨(Nat.le_of_ble_eq_true rfl), (Nat.le_of_ble_eq_true rfl)⟩ rfl hl.1 rfl (Nat.le_of_ble_eq_true rfl) dX0_sackOf_21 ⟨(Nat.le_of_ble_eq_true rfl), (Nat.le_of_ble_eq_true rfl)⟩) (fun En ce ad16 C17 H locs hs9 hI hce hvm hcl => ?_) (fun C8 H locs hs9 hI => ?_)
    · obtain ⟨rfl, hs0⟩ := hs9
      replace hs := hs0
      refine x_catch (k := 0) (a1 := 0) (a2 := 49) (a3 := 50) (a4 := 21) X hG hT rfl (x_cov rfl) rfl (by decide) q363 (by decide) hce hvm hcl ?_
      refine lv_astore_n (lv' := [(3, .ref ad16), (0, .ref a0), (1, .int a1), (2, .int a2)]) hx hb dX0_sackOf_50 rfl hl (by decide) rfl (fun ls hl => ?_)
      refine lv_aload_n hx hb dX0_sackOf_51 rfl (lv_at hl 1 rfl) ?_
      refine lv_aload_n hx hb dX0_sackOf_52 rfl (lv_at hl 0 rfl) ?_
      obtain ⟨h19, hs⟩ := hs
      obtain ⟨fh19, h19⟩ := xcl_spec h19
      refine x_goi hA hI (x_runV (As := [.ref ad16]) (rest := []) X hK hA hG hI h19 (q := (RX0, TX0, 10)) rfl rfl (xet_X0_refused l a0 ad16 _ _ hs) iX0_refused q538 q540 qs2 q94 ⟨(Nat.le_of_ble_eq_true rfl), (Nat.le_of_ble_eq_true rfl)⟩ rfl hl.1 rfl (Nat.le_of_ble_eq_true rfl) dX0_sackOf_53 ⟨(Nat.le_of_ble_eq_true rfl), (Nat.le_of_ble_eq_true rfl)⟩) (fun r19 C18 H locs hs9 hI => ?_)
      replace hs := hs9
      exact vx_ret (x_reti X hK hI hs (Nat.le_of_ble_eq_true rfl) (Nat.le_of_ble_eq_true rfl) dX0_sackOf_56)
    · replace hs := hs9
      refine lv_iload_n hx hb dX0_sackOf_24 rfl (lv_at hl 2 rfl) ?_
      refine lv_if_ne (tgt := 40) hx hb dX0_sackOf_25 (by decide) (fun c14 => ?_) (fun c14 => ?_)
      · replace hs := ifn c14 hs
        refine lv_aload_n hx hb dX0_sackOf_40 rfl (lv_at hl 0 rfl) ?_
        obtain ⟨ad9, ead9, hs⟩ := hs
        refine x_get (v := .ref ad9) X hK hI 0 7 rfl in_X0 rfl q335 rfl (xgr_spec ead9) dX0_sackOf_41 ?_
        obtain ⟨ad10, ead10, hs⟩ := hs
        refine x_get (v := .ref ad10) X hK hI 4 12 rfl in_X4 rfl q290 rfl (xgr_spec ead10) dX0_sackOf_44 ?_
        refine lv_iload_n hx hb dX0_sackOf_47 rfl (lv_at hl 1 rfl) ?_
        obtain ⟨v11, ev11, hs⟩ := hs
        refine x_iald X hK hI ev11 dX0_sackOf_48 ?_
        exact vx_ret (x_reti X hK hI hs (Nat.le_of_ble_eq_true rfl) (Nat.le_of_ble_eq_true rfl) dX0_sackOf_49)
      · replace hs := ifp c14 hs
        refine lv_aload_n hx hb dX0_sackOf_28 rfl (lv_at hl 0 rfl) ?_
        obtain ⟨ad12, ead12, hs⟩ := hs
        refine x_get (v := .ref ad12) X hK hI 0 7 rfl in_X0 rfl q335 rfl (xgr_spec ead12) dX0_sackOf_29 ?_
        obtain ⟨ad13, ead13, hs⟩ := hs
        refine x_get (v := .ref ad13) X hK hI 4 11 rfl in_X4 rfl q288 rfl (xgr_spec ead13) dX0_sackOf_32 ?_
        refine lv_iload_n hx hb dX0_sackOf_35 rfl (lv_at hl 1 rfl) ?_
        obtain ⟨v14, ev14, hs⟩ := hs
        refine x_iald X hK hI ev14 dX0_sackOf_36 ?_
        refine lv_goto (tgt := 49) hx hb dX0_sackOf_37 (by decide) ?_
        exact vx_ret (x_reti X hK hI hs (Nat.le_of_ble_eq_true rfl) (Nat.le_of_ble_eq_true rfl) dX0_sackOf_49)
def x_X0_wears (a0 : Nat) (a1 : Int32) (a2 : Int32) (C : XH) (K : Int32 → XH → Prop) : Prop := obd (xgr C (xis 0) a0 7) (fun ad1 => (xcl C ad1 = some 4 ∧ x_X4_isChild ad1 a1 C (fun r3 C2 => jn (fun (C5 : XH) => x_X0_need 0 (-1) C5 (fun C6 => obd (xgr C6 (xis 0) a0 7) (fun ad7 => obd (xgr C6 (xis 4) ad7 8) (fun ad8 => obd (xai C6 0 ad8 a1) (fun v9 => obd (xgr C6 (xis 0) a0 7) (fun ad10 => obd (xgr C6 (xis 4) ad10 8) (fun ad11 => obd (xsi C6 ad11 a1 a2) (fun C12 => K v9 C12))))))) (fun ad13 C14 => (xcl C14 a0 = some 0 ∧ x_X0_refused a0 ad13 C14 (fun r16 C15 => K r16 C15)))) (fun k26_5 => jn (fun (v18 : Int32) (C19 : XH) => x_X0_need v18 (-1) C19 (fun C20 => obd (xgr C20 (xis 0) a0 7) (fun ad21 => obd (xgr C20 (xis 4) ad21 8) (fun ad22 => obd (xai C20 0 ad22 a1) (fun v23 => obd (xgr C20 (xis 0) a0 7) (fun ad24 => obd (xgr C20 (xis 4) ad24 8) (fun ad25 => obd (xsi C20 ad25 a1 a2) (fun C26 => K v23 C26))))))) (fun ad27 C28 => (xcl C28 a0 = some 0 ∧ x_X0_refused a0 ad27 C28 (fun r30 C29 => K r30 C29)))) (fun k27_19 => (if r3 = 0 then k26_5 C2 else obd (xgr C2 (xis 0) a0 7) (fun ad32 => (xcl C2 ad32 = some 4 ∧ x_X4_isSack ad32 a2 C2 (fun r34 C33 => (if r34 = 0 then k26_5 C33 else k27_19 1 C33))))))))))
theorem iX0_wears : xInfW yX0_wears cX0_wears 4 (some .int) [(0, 52, 53, 21)] 2 := ⟨q924, by decide +kernel⟩
set_option maxHeartbeats 4000000 in
theorem xet_X0_wears (l : Launch) (hl0 : l.stackTraces = false) (a0 : Nat) (a1 : Int32) (a2 : Int32) (C : XH) (K : Int32 → XH → Prop) (hs : x_X0_wears a0 a1 a2 C K) : xMetX l yX0_wears (wsW_ yX0_wears cX0_wears 4 (some .int) [(0, 52, 53, 21)]) 5 114 1 7 C [.ref a0, .int a1, .int a2] (fun D dT A => xQi D dT K A) xE0 := by
  intro D dT adK adV sz
  refine xEnterW (own := RX0) (Qc := xQi D dT K) (XC := xXC D dT xE0) (by decide) rfl (by rfl) ?_
  intro p e s m args below meth c A ls X hnm hK hA hG hT hI hl
  have hx := X.1
  have hb := X.2.1
  have hts := X.2.2.2.2.1
  have hown := X.2.2.2.2.2.1
  have hl : lv_has ls 4 [(0, .ref a0), (1, .int a1), (2, .int a2)] := hl
  unfold x_X0_wears at hs
  refine lv_aload_n hx hb dX0_wears_0 rfl (lv_at hl 0 rfl) ?_
  obtain ⟨ad1, ead1, hs⟩ := hs
  refine x_get (v := .ref ad1) X hK hI 0 7 rfl in_X0 rfl q335 rfl (xgr_spec ead1) dX0_wears_1 ?_
  refine lv_iload_n hx hb dX0_wears_4 rfl (lv_at hl 1 rfl) ?_
  obtain ⟨h3, hs⟩ := hs
  obtain ⟨fh3, h3⟩ := xcl_spec h3
  refine x_goz hA hI (x_runV (As := [.int a1]) (rest := []) X hK hA hG hI h3 (q := (RX4, TX4, 13)) rfl rfl (xet_X4_isChild l ad1 a1 _ _ hs) iX4_isChild q653 q654 q655 q98 ⟨(Nat.le_of_ble_eq_true rfl), (Nat.le_of_ble_eq_true rfl)⟩ rfl hl.1 rfl (Nat.le_of_ble_eq_true rfl) dX0_wears_5 ⟨(Nat.le_of_ble_eq_true rfl), (Nat.le_of_ble_eq_true rfl)⟩) (fun r3 C2 H locs br3 hs9 hI => ?_)
  replace hs := hs9
  obtain ⟨k26_5, hk26_5, hs⟩ := jn_ex hs
  have Ek26_5 : ∀ (C5 : XH) (H : Heap) (locs : List Loc) (ls : Array Slot), k26_5 C5 → xI D dT A s.heap C5 H locs → lv_has ls 4 [(0, .ref a0), (1, .int a1), (2, .int a2)] → W p l e (xRm 5 114 1 7) s m args below meth c H locs 0 0 (vx_MQ below (xQi D dT K A) (xXC D dT xE0 A) args s 1 7 A) (F0 m 26 ls []) := by
    intro C5 H locs ls hs hI hl
    rw [hk26_5] at hs
    refine lv_iconst (v := 0) hx hb dX0_wears_26 (by decide) ?_
    refine lv_iconst (v := (-1)) hx hb dX0_wears_27 (by decide) ?_
    refine xT_gov hA hI (x_runST (As := [.int 0, .int (-1)]) (rest := []) X hK hA hG hI (xet_X0_need l hl0 0 (-1) _ _ _ hs) iX0_need q469 q470 q94 ⟨(Nat.le_of_ble_eq_true rfl), (Nat.le_of_ble_eq_true rfl)⟩ rfl hl.1 rfl (Nat.le_of_ble_eq_true rfl) dX0_wears_28 ⟨(Nat.le_of_ble_eq_true rfl), (Nat.le_of_ble_eq_true rfl)⟩) (fun En ce ad13 C14 H locs hs9 hI hce hvm hcl => ?_) (fun C6 H locs hs9 hI => ?_)
    · obtain ⟨rfl, hs0⟩ := hs9
      replace hs := hs0
      refine x_catch (k := 0) (a1 := 0) (a2 := 52) (a3 := 53) (a4 := 21) X hG hT rfl (x_cov rfl) rfl (by decide) q363 (by decide) hce hvm hcl ?_
      refine lv_astore_n (lv' := [(3, .ref ad13), (0, .ref a0), (1, .int a1), (2, .int a2)]) hx hb dX0_wears_53 rfl hl (by decide) rfl (fun ls hl => ?_)
      refine lv_aload_n hx hb dX0_wears_54 rfl (lv_at hl 1 rfl) ?_
      refine lv_aload_n hx hb dX0_wears_55 rfl (lv_at hl 0 rfl) ?_
      obtain ⟨h16, hs⟩ := hs
      obtain ⟨fh16, h16⟩ := xcl_spec h16
      refine x_goi hA hI (x_runV (As := [.ref ad13]) (rest := []) X hK hA hG hI h16 (q := (RX0, TX0, 10)) rfl rfl (xet_X0_refused l a0 ad13 _ _ hs) iX0_refused q538 q540 qs2 q94 ⟨(Nat.le_of_ble_eq_true rfl), (Nat.le_of_ble_eq_true rfl)⟩ rfl hl.1 rfl (Nat.le_of_ble_eq_true rfl) dX0_wears_56 ⟨(Nat.le_of_ble_eq_true rfl), (Nat.le_of_ble_eq_true rfl)⟩) (fun r16 C15 H locs hs9 hI => ?_)
      replace hs := hs9
      exact vx_ret (x_reti X hK hI hs (Nat.le_of_ble_eq_true rfl) (Nat.le_of_ble_eq_true rfl) dX0_wears_59)
    · replace hs := hs9
      refine lv_aload_n hx hb dX0_wears_31 rfl (lv_at hl 0 rfl) ?_
      obtain ⟨ad7, ead7, hs⟩ := hs
      refine x_get (v := .ref ad7) X hK hI 0 7 rfl in_X0 rfl q335 rfl (xgr_spec ead7) dX0_wears_32 ?_
      obtain ⟨ad8, ead8, hs⟩ := hs
      refine x_get (v := .ref ad8) X hK hI 4 8 rfl in_X4 rfl q280 rfl (xgr_spec ead8) dX0_wears_35 ?_
      refine lv_iload_n hx hb dX0_wears_38 rfl (lv_at hl 1 rfl) ?_
      obtain ⟨v9, ev9, hs⟩ := hs
      refine x_iald X hK hI ev9 dX0_wears_39 ?_
      refine lv_istore_n (lv' := [(3, .int v9), (0, .ref a0), (1, .int a1), (2, .int a2)]) hx hb dX0_wears_40 rfl hl (by decide) rfl (fun ls hl => ?_)
      refine lv_aload_n hx hb dX0_wears_41 rfl (lv_at hl 1 rfl) ?_
      obtain ⟨ad10, ead10, hs⟩ := hs
      refine x_get (v := .ref ad10) X hK hI 0 7 rfl in_X0 rfl q335 rfl (xgr_spec ead10) dX0_wears_42 ?_
      obtain ⟨ad11, ead11, hs⟩ := hs
      refine x_get (v := .ref ad11) X hK hI 4 8 rfl in_X4 rfl q280 rfl (xgr_spec ead11) dX0_wears_45 ?_
      refine lv_iload_n hx hb dX0_wears_48 rfl (lv_at hl 2 rfl) ?_
      refine lv_iload_n hx hb dX0_wears_49 rfl (lv_at hl 3 rfl) ?_
      obtain ⟨C12, eC12, hs⟩ := hs
      refine x_iast X hK hI eC12 dX0_wears_50 (fun H locs hI => ?_)
      refine lv_iload_n hx hb dX0_wears_51 rfl (lv_at hl 0 rfl) ?_
      exact vx_ret (x_reti X hK hI hs (Nat.le_of_ble_eq_true rfl) (Nat.le_of_ble_eq_true rfl) dX0_wears_52)
  obtain ⟨k27_19, hk27_19, hs⟩ := jn_ex hs
  have Ek27_19 : ∀ (v18 : Int32) (C19 : XH) (H : Heap) (locs : List Loc) (ls : Array Slot), k27_19 v18 C19 → xI D dT A s.heap C19 H locs → lv_has ls 4 [(0, .ref a0), (1, .int a1), (2, .int a2)] → W p l e (xRm 5 114 1 7) s m args below meth c H locs 0 0 (vx_MQ below (xQi D dT K A) (xXC D dT xE0 A) args s 1 7 A) (F0 m 27 ls [.int v18]) := by
    intro v18 C19 H locs ls hs hI hl
    rw [hk27_19] at hs
    refine lv_iconst (v := (-1)) hx hb dX0_wears_27 (by decide) ?_
    refine xT_gov hA hI (x_runST (As := [.int v18, .int (-1)]) (rest := []) X hK hA hG hI (xet_X0_need l hl0 v18 (-1) _ _ _ hs) iX0_need q469 q470 q94 ⟨(Nat.le_of_ble_eq_true rfl), (Nat.le_of_ble_eq_true rfl)⟩ rfl hl.1 rfl (Nat.le_of_ble_eq_true rfl) dX0_wears_28 ⟨(Nat.le_of_ble_eq_true rfl), (Nat.le_of_ble_eq_true rfl)⟩) (fun En ce ad27 C28 H locs hs9 hI hce hvm hcl => ?_) (fun C20 H locs hs9 hI => ?_)
    · obtain ⟨rfl, hs0⟩ := hs9
      replace hs := hs0
      refine x_catch (k := 0) (a1 := 0) (a2 := 52) (a3 := 53) (a4 := 21) X hG hT rfl (x_cov rfl) rfl (by decide) q363 (by decide) hce hvm hcl ?_
      refine lv_astore_n (lv' := [(3, .ref ad27), (0, .ref a0), (1, .int a1), (2, .int a2)]) hx hb dX0_wears_53 rfl hl (by decide) rfl (fun ls hl => ?_)
      refine lv_aload_n hx hb dX0_wears_54 rfl (lv_at hl 1 rfl) ?_
      refine lv_aload_n hx hb dX0_wears_55 rfl (lv_at hl 0 rfl) ?_
      obtain ⟨h30, hs⟩ := hs
      obtain ⟨fh30, h30⟩ := xcl_spec h30
      refine x_goi hA hI (x_runV (As := [.ref ad27]) (rest := []) X hK hA hG hI h30 (q := (RX0, TX0, 10)) rfl rfl (xet_X0_refused l a0 ad27 _ _ hs) iX0_refused q538 q540 qs2 q94 ⟨(Nat.le_of_ble_eq_true rfl), (Nat.le_of_ble_eq_true rfl)⟩ rfl hl.1 rfl (Nat.le_of_ble_eq_true rfl) dX0_wears_56 ⟨(Nat.le_of_ble_eq_true rfl), (Nat.le_of_ble_eq_true rfl)⟩) (fun r30 C29 H locs hs9 hI => ?_)
      replace hs := hs9
      exact vx_ret (x_reti X hK hI hs (Nat.le_of_ble_eq_true rfl) (Nat.le_of_ble_eq_true rfl) dX0_wears_59)
    · replace hs := hs9
      refine lv_aload_n hx hb dX0_wears_31 rfl (lv_at hl 0 rfl) ?_
      obtain ⟨ad21, ead21, hs⟩ := hs
      refine x_get (v := .ref ad21) X hK hI 0 7 rfl in_X0 rfl q335 rfl (xgr_spec ead21) dX0_wears_32 ?_
      obtain ⟨ad22, ead22, hs⟩ := hs
      refine x_get (v := .ref ad22) X hK hI 4 8 rfl in_X4 rfl q280 rfl (xgr_spec ead22) dX0_wears_35 ?_
      refine lv_iload_n hx hb dX0_wears_38 rfl (lv_at hl 1 rfl) ?_
      obtain ⟨v23, ev23, hs⟩ := hs
      refine x_iald X hK hI ev23 dX0_wears_39 ?_
      refine lv_istore_n (lv' := [(3, .int v23), (0, .ref a0), (1, .int a1), (2, .int a2)]) hx hb dX0_wears_40 rfl hl (by decide) rfl (fun ls hl => ?_)
      refine lv_aload_n hx hb dX0_wears_41 rfl (lv_at hl 1 rfl) ?_
      obtain ⟨ad24, ead24, hs⟩ := hs
      refine x_get (v := .ref ad24) X hK hI 0 7 rfl in_X0 rfl q335 rfl (xgr_spec ead24) dX0_wears_42 ?_
      obtain ⟨ad25, ead25, hs⟩ := hs
      refine x_get (v := .ref ad25) X hK hI 4 8 rfl in_X4 rfl q280 rfl (xgr_spec ead25) dX0_wears_45 ?_
      refine lv_iload_n hx hb dX0_wears_48 rfl (lv_at hl 2 rfl) ?_
      refine lv_iload_n hx hb dX0_wears_49 rfl (lv_at hl 3 rfl) ?_
      obtain ⟨C26, eC26, hs⟩ := hs
      refine x_iast X hK hI eC26 dX0_wears_50 (fun H locs hI => ?_)
      refine lv_iload_n hx hb dX0_wears_51 rfl (lv_at hl 0 rfl) ?_
      exact vx_ret (x_reti X hK hI hs (Nat.le_of_ble_eq_true rfl) (Nat.le_of_ble_eq_true rfl) dX0_wears_52)
  refine lv_if_eq (tgt := 26) hx hb dX0_wears_8 (by decide) (fun c36 => ?_) (fun c36 => ?_)
  · replace hs := ifp c36 hs
    exact Ek26_5 _ _ _ _ hs hI hl
  · replace hs := ifn c36 hs
    refine lv_aload_n hx hb dX0_wears_11 rfl (lv_at hl 0 rfl) ?_
    obtain ⟨ad32, ead32, hs⟩ := hs
    refine x_get (v := .ref ad32) X hK hI 0 7 rfl in_X0 rfl q335 rfl (xgr_spec ead32) dX0_wears_12 ?_
    refine lv_iload_n hx hb dX0_wears_15 rfl (lv_at hl 2 rfl) ?_
    obtain ⟨h34, hs⟩ := hs
    obtain ⟨fh34, h34⟩ := xcl_spec h34
    refine x_goz hA hI (x_runV (As := [.int a2]) (rest := []) X hK hA hG hI h34 (q := (RX4, TX4, 13)) rfl rfl (xet_X4_isSack l ad32 a2 _ _ hs) iX4_isSack q920 q698 q699 q98 ⟨(Nat.le_of_ble_eq_true rfl), (Nat.le_of_ble_eq_true rfl)⟩ rfl hl.1 rfl (Nat.le_of_ble_eq_true rfl) dX0_wears_16 ⟨(Nat.le_of_ble_eq_true rfl), (Nat.le_of_ble_eq_true rfl)⟩) (fun r34 C33 H locs br34 hs9 hI => ?_)
    replace hs := hs9
    refine lv_if_eq (tgt := 26) hx hb dX0_wears_19 (by decide) (fun c35 => ?_) (fun c35 => ?_)
    · replace hs := ifp c35 hs
      exact Ek26_5 _ _ _ _ hs hI hl
    · replace hs := ifn c35 hs
      refine lv_iconst (v := 1) hx hb dX0_wears_22 (by decide) ?_
      refine lv_goto (tgt := 27) hx hb dX0_wears_23 (by decide) ?_
      exact Ek27_19 _ _ _ _ _ hs hI hl
def x_X0_ahead (a0 : Nat) (a1 : Int32) (a2 : Int32) (C : XH) (K : Int32 → XH → Prop) : Prop := (xcl C a0 = some 0 ∧ x_X0_mustChild a0 a1 C (fun C1 => x_X0_in ((a2 : Int32).toInt64) 0 99 C1 (fun r4 C3 => x_X0_need r4 (-6) C3 (fun C5 => obd (xgr C5 (xis 0) a0 7) (fun ad6 => obd (xgr C5 (xis 4) ad6 9) (fun ad7 => obd (xai C5 0 ad7 a1) (fun v8 => obd (xgr C5 (xis 0) a0 7) (fun ad9 => obd (xgr C5 (xis 4) ad9 9) (fun ad10 => obd (xsi C5 ad10 a1 a2) (fun C11 => K v8 C11))))))) (fun ad12 C13 => (xcl C13 a0 = some 0 ∧ x_X0_refused a0 ad12 C13 (fun r15 C14 => K r15 C14))))) (fun ad17 C18 => (xcl C18 a0 = some 0 ∧ x_X0_refused a0 ad17 C18 (fun r20 C19 => K r20 C19))))
theorem iX0_ahead : xInfW yX0_ahead cX0_ahead 4 (some .int) [(0, 40, 41, 21)] 2 := ⟨q928, by decide +kernel⟩
set_option maxHeartbeats 4000000 in
theorem xet_X0_ahead (l : Launch) (hl0 : l.stackTraces = false) (a0 : Nat) (a1 : Int32) (a2 : Int32) (C : XH) (K : Int32 → XH → Prop) (hs : x_X0_ahead a0 a1 a2 C K) : xMetX l yX0_ahead (wsW_ yX0_ahead cX0_ahead 4 (some .int) [(0, 40, 41, 21)]) 6 135 2 14 C [.ref a0, .int a1, .int a2] (fun D dT A => xQi D dT K A) xE0 := by
  intro D dT adK adV sz
  refine xEnterW (own := RX0) (Qc := xQi D dT K) (XC := xXC D dT xE0) (by decide) rfl (by rfl) ?_
  intro p e s m args below meth c A ls X hnm hK hA hG hT hI hl
  have hx := X.1
  have hb := X.2.1
  have hts := X.2.2.2.2.1
  have hown := X.2.2.2.2.2.1
  have hl : lv_has ls 4 [(0, .ref a0), (1, .int a1), (2, .int a2)] := hl
  unfold x_X0_ahead at hs
  refine lv_aload_n hx hb dX0_ahead_0 rfl (lv_at hl 0 rfl) ?_
  refine lv_iload_n hx hb dX0_ahead_1 rfl (lv_at hl 1 rfl) ?_
  obtain ⟨h1, hs⟩ := hs
  obtain ⟨fh1, h1⟩ := xcl_spec h1
  refine xT_gov hA hI (x_runVT (As := [.int a1]) (rest := []) X hK hA hG hI h1 (q := (RX0, TX0, 10)) rfl rfl (xet_X0_mustChild l hl0 a0 a1 _ _ _ hs) iX0_mustChild q649 q651 qs3 q94 ⟨(Nat.le_of_ble_eq_true rfl), (Nat.le_of_ble_eq_true rfl)⟩ rfl hl.1 rfl (Nat.le_of_ble_eq_true rfl) dX0_ahead_2 ⟨(Nat.le_of_ble_eq_true rfl), (Nat.le_of_ble_eq_true rfl)⟩) (fun En ce ad17 C18 H locs hs9 hI hce hvm hcl => ?_) (fun C1 H locs hs9 hI => ?_)
  · obtain ⟨rfl, hs0⟩ := hs9
    replace hs := hs0
    refine x_catch (k := 0) (a1 := 0) (a2 := 40) (a3 := 41) (a4 := 21) X hG hT rfl (x_cov rfl) rfl (by decide) q363 (by decide) hce hvm hcl ?_
    refine lv_astore_n (lv' := [(3, .ref ad17), (0, .ref a0), (1, .int a1), (2, .int a2)]) hx hb dX0_ahead_41 rfl hl (by decide) rfl (fun ls hl => ?_)
    refine lv_aload_n hx hb dX0_ahead_42 rfl (lv_at hl 1 rfl) ?_
    refine lv_aload_n hx hb dX0_ahead_43 rfl (lv_at hl 0 rfl) ?_
    obtain ⟨h20, hs⟩ := hs
    obtain ⟨fh20, h20⟩ := xcl_spec h20
    refine x_goi hA hI (x_runV (As := [.ref ad17]) (rest := []) X hK hA hG hI h20 (q := (RX0, TX0, 10)) rfl rfl (xet_X0_refused l a0 ad17 _ _ hs) iX0_refused q538 q540 qs2 q94 ⟨(Nat.le_of_ble_eq_true rfl), (Nat.le_of_ble_eq_true rfl)⟩ rfl hl.1 rfl (Nat.le_of_ble_eq_true rfl) dX0_ahead_44 ⟨(Nat.le_of_ble_eq_true rfl), (Nat.le_of_ble_eq_true rfl)⟩) (fun r20 C19 H locs hs9 hI => ?_)
    replace hs := hs9
    exact vx_ret (x_reti X hK hI hs (Nat.le_of_ble_eq_true rfl) (Nat.le_of_ble_eq_true rfl) dX0_ahead_47)
  · replace hs := hs9
    refine lv_iload_n hx hb dX0_ahead_5 rfl (lv_at hl 2 rfl) ?_
    refine lv_i2l (v := ((a2 : Int32).toInt64)) hx hb dX0_ahead_6 rfl ?_
    refine lv_lconst (v := 0) hx hb dX0_ahead_7 (by decide) ?_
    refine lv_ldc2 hx hb hown (hts _ q929) dX0_ahead_8 ?_
    refine x_goz hA hI (x_runS (As := [.long ((a2 : Int32).toInt64), .long 0, .long 99]) (rest := []) X hK hA hG hI (xet_X0_in l ((a2 : Int32).toInt64) 0 99 _ _ hs) iX0_in q473 q474 q94 ⟨(Nat.le_of_ble_eq_true rfl), (Nat.le_of_ble_eq_true rfl)⟩ rfl hl.1 rfl (Nat.le_of_ble_eq_true rfl) dX0_ahead_11 ⟨(Nat.le_of_ble_eq_true rfl), (Nat.le_of_ble_eq_true rfl)⟩) (fun r4 C3 H locs br4 hs9 hI => ?_)
    replace hs := hs9
    refine lv_bipush (v := (-6)) hx hb dX0_ahead_14 (by decide) ?_
    refine xT_gov hA hI (x_runST (As := [.int r4, .int (-6)]) (rest := []) X hK hA hG hI (xet_X0_need l hl0 r4 (-6) _ _ _ hs) iX0_need q469 q470 q94 ⟨(Nat.le_of_ble_eq_true rfl), (Nat.le_of_ble_eq_true rfl)⟩ rfl hl.1 rfl (Nat.le_of_ble_eq_true rfl) dX0_ahead_16 ⟨(Nat.le_of_ble_eq_true rfl), (Nat.le_of_ble_eq_true rfl)⟩) (fun En ce ad12 C13 H locs hs9 hI hce hvm hcl => ?_) (fun C5 H locs hs9 hI => ?_)
    · obtain ⟨rfl, hs0⟩ := hs9
      replace hs := hs0
      refine x_catch (k := 0) (a1 := 0) (a2 := 40) (a3 := 41) (a4 := 21) X hG hT rfl (x_cov rfl) rfl (by decide) q363 (by decide) hce hvm hcl ?_
      refine lv_astore_n (lv' := [(3, .ref ad12), (0, .ref a0), (1, .int a1), (2, .int a2)]) hx hb dX0_ahead_41 rfl hl (by decide) rfl (fun ls hl => ?_)
      refine lv_aload_n hx hb dX0_ahead_42 rfl (lv_at hl 1 rfl) ?_
      refine lv_aload_n hx hb dX0_ahead_43 rfl (lv_at hl 0 rfl) ?_
      obtain ⟨h15, hs⟩ := hs
      obtain ⟨fh15, h15⟩ := xcl_spec h15
      refine x_goi hA hI (x_runV (As := [.ref ad12]) (rest := []) X hK hA hG hI h15 (q := (RX0, TX0, 10)) rfl rfl (xet_X0_refused l a0 ad12 _ _ hs) iX0_refused q538 q540 qs2 q94 ⟨(Nat.le_of_ble_eq_true rfl), (Nat.le_of_ble_eq_true rfl)⟩ rfl hl.1 rfl (Nat.le_of_ble_eq_true rfl) dX0_ahead_44 ⟨(Nat.le_of_ble_eq_true rfl), (Nat.le_of_ble_eq_true rfl)⟩) (fun r15 C14 H locs hs9 hI => ?_)
      replace hs := hs9
      exact vx_ret (x_reti X hK hI hs (Nat.le_of_ble_eq_true rfl) (Nat.le_of_ble_eq_true rfl) dX0_ahead_47)
    · replace hs := hs9
      refine lv_aload_n hx hb dX0_ahead_19 rfl (lv_at hl 0 rfl) ?_
      obtain ⟨ad6, ead6, hs⟩ := hs
      refine x_get (v := .ref ad6) X hK hI 0 7 rfl in_X0 rfl q335 rfl (xgr_spec ead6) dX0_ahead_20 ?_
      obtain ⟨ad7, ead7, hs⟩ := hs
      refine x_get (v := .ref ad7) X hK hI 4 9 rfl in_X4 rfl q284 rfl (xgr_spec ead7) dX0_ahead_23 ?_
      refine lv_iload_n hx hb dX0_ahead_26 rfl (lv_at hl 1 rfl) ?_
      obtain ⟨v8, ev8, hs⟩ := hs
      refine x_iald X hK hI ev8 dX0_ahead_27 ?_
      refine lv_istore_n (lv' := [(3, .int v8), (0, .ref a0), (1, .int a1), (2, .int a2)]) hx hb dX0_ahead_28 rfl hl (by decide) rfl (fun ls hl => ?_)
      refine lv_aload_n hx hb dX0_ahead_29 rfl (lv_at hl 1 rfl) ?_
      obtain ⟨ad9, ead9, hs⟩ := hs
      refine x_get (v := .ref ad9) X hK hI 0 7 rfl in_X0 rfl q335 rfl (xgr_spec ead9) dX0_ahead_30 ?_
      obtain ⟨ad10, ead10, hs⟩ := hs
      refine x_get (v := .ref ad10) X hK hI 4 9 rfl in_X4 rfl q284 rfl (xgr_spec ead10) dX0_ahead_33 ?_
      refine lv_iload_n hx hb dX0_ahead_36 rfl (lv_at hl 2 rfl) ?_
      refine lv_iload_n hx hb dX0_ahead_37 rfl (lv_at hl 3 rfl) ?_
      obtain ⟨C11, eC11, hs⟩ := hs
      refine x_iast X hK hI eC11 dX0_ahead_38 (fun H locs hI => ?_)
      refine lv_iload_n hx hb dX0_ahead_39 rfl (lv_at hl 0 rfl) ?_
      exact vx_ret (x_reti X hK hI hs (Nat.le_of_ble_eq_true rfl) (Nat.le_of_ble_eq_true rfl) dX0_ahead_40)
def x_X0_mayAsk (a0 : Int32) (a1 : Int32) (C : XH) (K : Int32 → XH → Prop) : Prop := (if a0 = 0 then x_X0_in ((a1 : Int32).toInt64) 1 200 C (fun r3 C2 => K r3 C2) else if a0 = 1 then x_X0_in ((a1 : Int32).toInt64) 1 20 C (fun r5 C4 => K r5 C4) else if a0 = 2 then x_X0_in ((a1 : Int32).toInt64) 0 9 C (fun r7 C6 => K r7 C6) else (if a0 = 3 then x_X0_in ((a1 : Int32).toInt64) 0 60 C (fun r9 C8 => (if r9 = 0 then K 0 C8 else K 1 C8)) else K 0 C))
theorem iX0_mayAsk : xInf yX0_mayAsk cX0_mayAsk 2 (some .boolean) 2 := ⟨q936, by decide +kernel⟩
set_option maxHeartbeats 4000000 in
theorem xet_X0_mayAsk (l : Launch) (a0 : Int32) (a1 : Int32) (C : XH) (K : Int32 → XH → Prop) (hs : x_X0_mayAsk a0 a1 C K) : xMetz l yX0_mayAsk (ws_ yX0_mayAsk cX0_mayAsk 2 (some .boolean)) 1 25 0 0 C [.int a0, .int a1] K := by
  intro D dT adK adV sz
  refine xEnter (own := RX0) (Qc := xQz D dT K) (by decide) rfl (by rfl) ?_
  intro p e s m args below meth c A ls X hnm hK hA hG hI hl
  have hx := X.1
  have hb := X.2.1
  have hts := X.2.2.2.2.1
  have hown := X.2.2.2.2.2.1
  have hl : lv_has ls 2 [(0, .int a0), (1, .int a1)] := hl
  unfold x_X0_mayAsk at hs
  refine lv_iload_n hx hb dX0_mayAsk_0 rfl (lv_at hl 0 rfl) ?_
  by_cases c0_0 : a0 = 0
  · replace hs := ifp c0_0 hs
    refine lv_tableIn (tgt := 28) hx hb dX0_mayAsk_1 (by rw [c0_0]; decide) (by rw [c0_0]; decide) (by rw [c0_0]; rfl) (by decide) ?_
    refine lv_iload_n hx hb dX0_mayAsk_28 rfl (lv_at hl 1 rfl) ?_
    refine lv_i2l (v := ((a1 : Int32).toInt64)) hx hb dX0_mayAsk_29 rfl ?_
    refine lv_lconst (v := 1) hx hb dX0_mayAsk_30 (by decide) ?_
    refine lv_ldc2 hx hb hown (hts _ q937) dX0_mayAsk_31 ?_
    refine x_goz hA hI (x_runS (As := [.long ((a1 : Int32).toInt64), .long 1, .long 200]) (rest := []) X hK hA hG hI (xet_X0_in l ((a1 : Int32).toInt64) 1 200 _ _ hs) iX0_in q473 q474 q94 ⟨(Nat.le_of_ble_eq_true rfl), (Nat.le_of_ble_eq_true rfl)⟩ rfl hl.1 rfl (Nat.le_of_ble_eq_true rfl) dX0_mayAsk_34 ⟨(Nat.le_of_ble_eq_true rfl), (Nat.le_of_ble_eq_true rfl)⟩) (fun r3 C2 H locs br3 hs9 hI => ?_)
    replace hs := hs9
    exact x_retz X hK hI br3 hs (Nat.le_of_ble_eq_true rfl) (Nat.le_of_ble_eq_true rfl) dX0_mayAsk_37
  · replace hs := ifn c0_0 hs
    by_cases c0_1 : a0 = 1
    · replace hs := ifp c0_1 hs
      refine lv_tableIn (tgt := 38) hx hb dX0_mayAsk_1 (by rw [c0_1]; decide) (by rw [c0_1]; decide) (by rw [c0_1]; rfl) (by decide) ?_
      refine lv_iload_n hx hb dX0_mayAsk_38 rfl (lv_at hl 1 rfl) ?_
      refine lv_i2l (v := ((a1 : Int32).toInt64)) hx hb dX0_mayAsk_39 rfl ?_
      refine lv_lconst (v := 1) hx hb dX0_mayAsk_40 (by decide) ?_
      refine lv_ldc2 hx hb hown (hts _ q938) dX0_mayAsk_41 ?_
      refine x_goz hA hI (x_runS (As := [.long ((a1 : Int32).toInt64), .long 1, .long 20]) (rest := []) X hK hA hG hI (xet_X0_in l ((a1 : Int32).toInt64) 1 20 _ _ hs) iX0_in q473 q474 q94 ⟨(Nat.le_of_ble_eq_true rfl), (Nat.le_of_ble_eq_true rfl)⟩ rfl hl.1 rfl (Nat.le_of_ble_eq_true rfl) dX0_mayAsk_44 ⟨(Nat.le_of_ble_eq_true rfl), (Nat.le_of_ble_eq_true rfl)⟩) (fun r5 C4 H locs br5 hs9 hI => ?_)
      replace hs := hs9
      exact x_retz X hK hI br5 hs (Nat.le_of_ble_eq_true rfl) (Nat.le_of_ble_eq_true rfl) dX0_mayAsk_47
    · replace hs := ifn c0_1 hs
      by_cases c0_2 : a0 = 2
      · replace hs := ifp c0_2 hs
        refine lv_tableIn (tgt := 48) hx hb dX0_mayAsk_1 (by rw [c0_2]; decide) (by rw [c0_2]; decide) (by rw [c0_2]; rfl) (by decide) ?_
        refine lv_iload_n hx hb dX0_mayAsk_48 rfl (lv_at hl 1 rfl) ?_
        refine lv_i2l (v := ((a1 : Int32).toInt64)) hx hb dX0_mayAsk_49 rfl ?_
        refine lv_lconst (v := 0) hx hb dX0_mayAsk_50 (by decide) ?_
        refine lv_ldc2 hx hb hown (hts _ q775) dX0_mayAsk_51 ?_
        refine x_goz hA hI (x_runS (As := [.long ((a1 : Int32).toInt64), .long 0, .long 9]) (rest := []) X hK hA hG hI (xet_X0_in l ((a1 : Int32).toInt64) 0 9 _ _ hs) iX0_in q473 q474 q94 ⟨(Nat.le_of_ble_eq_true rfl), (Nat.le_of_ble_eq_true rfl)⟩ rfl hl.1 rfl (Nat.le_of_ble_eq_true rfl) dX0_mayAsk_54 ⟨(Nat.le_of_ble_eq_true rfl), (Nat.le_of_ble_eq_true rfl)⟩) (fun r7 C6 H locs br7 hs9 hI => ?_)
        replace hs := hs9
        exact x_retz X hK hI br7 hs (Nat.le_of_ble_eq_true rfl) (Nat.le_of_ble_eq_true rfl) dX0_mayAsk_57
      · replace hs := ifn c0_2 hs
        refine lv_tableOut (tgt := 58) hx hb dX0_mayAsk_1 (sw_out (fun k h1 h2 => by
          have h3 : k = 0 ∨ k = 1 ∨ k = 2 := by omega
          rcases h3 with rfl | rfl | rfl
          · exact lv_neT c0_0 rfl
          · exact lv_neT c0_1 rfl
          · exact lv_neT c0_2 rfl
          )) (by decide) ?_
        refine lv_iload_n hx hb dX0_mayAsk_58 rfl (lv_at hl 0 rfl) ?_
        refine lv_iconst (v := 3) hx hb dX0_mayAsk_59 (by decide) ?_
        refine lv_icmp_ne (tgt := 79) hx hb dX0_mayAsk_60 (by decide) (fun c10 => ?_) (fun c10 => ?_)
        · replace hs := ifn c10 hs
          refine lv_iconst (v := 0) hx hb dX0_mayAsk_79 (by decide) ?_
          exact x_retz X hK hI isB0 hs (Nat.le_of_ble_eq_true rfl) (Nat.le_of_ble_eq_true rfl) dX0_mayAsk_80
        · replace hs := ifp c10 hs
          refine lv_iload_n hx hb dX0_mayAsk_63 rfl (lv_at hl 1 rfl) ?_
          refine lv_i2l (v := ((a1 : Int32).toInt64)) hx hb dX0_mayAsk_64 rfl ?_
          refine lv_lconst (v := 0) hx hb dX0_mayAsk_65 (by decide) ?_
          refine lv_ldc2 hx hb hown (hts _ q939) dX0_mayAsk_66 ?_
          refine x_goz hA hI (x_runS (As := [.long ((a1 : Int32).toInt64), .long 0, .long 60]) (rest := []) X hK hA hG hI (xet_X0_in l ((a1 : Int32).toInt64) 0 60 _ _ hs) iX0_in q473 q474 q94 ⟨(Nat.le_of_ble_eq_true rfl), (Nat.le_of_ble_eq_true rfl)⟩ rfl hl.1 rfl (Nat.le_of_ble_eq_true rfl) dX0_mayAsk_69 ⟨(Nat.le_of_ble_eq_true rfl), (Nat.le_of_ble_eq_true rfl)⟩) (fun r9 C8 H locs br9 hs9 hI => ?_)
          replace hs := hs9
          refine lv_if_eq (tgt := 79) hx hb dX0_mayAsk_72 (by decide) (fun c9 => ?_) (fun c9 => ?_)
          · replace hs := ifp c9 hs
            refine lv_iconst (v := 0) hx hb dX0_mayAsk_79 (by decide) ?_
            exact x_retz X hK hI isB0 hs (Nat.le_of_ble_eq_true rfl) (Nat.le_of_ble_eq_true rfl) dX0_mayAsk_80
          · replace hs := ifn c9 hs
            refine lv_iconst (v := 1) hx hb dX0_mayAsk_75 (by decide) ?_
            refine lv_goto (tgt := 80) hx hb dX0_mayAsk_76 (by decide) ?_
            exact x_retz X hK hI isB1 hs (Nat.le_of_ble_eq_true rfl) (Nat.le_of_ble_eq_true rfl) dX0_mayAsk_80
def x_X0_ask (a0 : Nat) (a1 : Int32) (a2 : Int32) (C : XH) (K : Int32 → XH → Prop) : Prop := x_X0_mayAsk a1 a2 C (fun r2 C1 => x_X0_need r2 (-6) C1 (fun C3 => obd (xgr C3 (xis 0) a0 7) (fun ad4 => obd (xgr C3 (xis 4) ad4 5) (fun ad5 => obd (xai C3 0 ad5 a1) (fun v6 => obd (xgr C3 (xis 0) a0 7) (fun ad7 => obd (xgr C3 (xis 4) ad7 5) (fun ad8 => obd (xsi C3 ad8 a1 a2) (fun C9 => K v6 C9))))))) (fun ad10 C11 => (xcl C11 a0 = some 0 ∧ x_X0_refused a0 ad10 C11 (fun r13 C12 => K r13 C12))))
theorem iX0_ask : xInfW yX0_ask cX0_ask 4 (some .int) [(0, 31, 32, 21)] 2 := ⟨q933, by decide +kernel⟩
set_option maxHeartbeats 4000000 in
theorem xet_X0_ask (l : Launch) (hl0 : l.stackTraces = false) (a0 : Nat) (a1 : Int32) (a2 : Int32) (C : XH) (K : Int32 → XH → Prop) (hs : x_X0_ask a0 a1 a2 C K) : xMetX l yX0_ask (wsW_ yX0_ask cX0_ask 4 (some .int) [(0, 31, 32, 21)]) 5 114 1 7 C [.ref a0, .int a1, .int a2] (fun D dT A => xQi D dT K A) xE0 := by
  intro D dT adK adV sz
  refine xEnterW (own := RX0) (Qc := xQi D dT K) (XC := xXC D dT xE0) (by decide) rfl (by rfl) ?_
  intro p e s m args below meth c A ls X hnm hK hA hG hT hI hl
  have hx := X.1
  have hb := X.2.1
  have hts := X.2.2.2.2.1
  have hown := X.2.2.2.2.2.1
  have hl : lv_has ls 4 [(0, .ref a0), (1, .int a1), (2, .int a2)] := hl
  unfold x_X0_ask at hs
  refine lv_iload_n hx hb dX0_ask_0 rfl (lv_at hl 1 rfl) ?_
  refine lv_iload_n hx hb dX0_ask_1 rfl (lv_at hl 2 rfl) ?_
  refine x_goz hA hI (x_runS (As := [.int a1, .int a2]) (rest := []) X hK hA hG hI (xet_X0_mayAsk l a1 a2 _ _ hs) iX0_mayAsk q934 q935 q94 ⟨(Nat.le_of_ble_eq_true rfl), (Nat.le_of_ble_eq_true rfl)⟩ rfl hl.1 rfl (Nat.le_of_ble_eq_true rfl) dX0_ask_2 ⟨(Nat.le_of_ble_eq_true rfl), (Nat.le_of_ble_eq_true rfl)⟩) (fun r2 C1 H locs br2 hs9 hI => ?_)
  replace hs := hs9
  refine lv_bipush (v := (-6)) hx hb dX0_ask_5 (by decide) ?_
  refine xT_gov hA hI (x_runST (As := [.int r2, .int (-6)]) (rest := []) X hK hA hG hI (xet_X0_need l hl0 r2 (-6) _ _ _ hs) iX0_need q469 q470 q94 ⟨(Nat.le_of_ble_eq_true rfl), (Nat.le_of_ble_eq_true rfl)⟩ rfl hl.1 rfl (Nat.le_of_ble_eq_true rfl) dX0_ask_7 ⟨(Nat.le_of_ble_eq_true rfl), (Nat.le_of_ble_eq_true rfl)⟩) (fun En ce ad10 C11 H locs hs9 hI hce hvm hcl => ?_) (fun C3 H locs hs9 hI => ?_)
  · obtain ⟨rfl, hs0⟩ := hs9
    replace hs := hs0
    refine x_catch (k := 0) (a1 := 0) (a2 := 31) (a3 := 32) (a4 := 21) X hG hT rfl (x_cov rfl) rfl (by decide) q363 (by decide) hce hvm hcl ?_
    refine lv_astore_n (lv' := [(3, .ref ad10), (0, .ref a0), (1, .int a1), (2, .int a2)]) hx hb dX0_ask_32 rfl hl (by decide) rfl (fun ls hl => ?_)
    refine lv_aload_n hx hb dX0_ask_33 rfl (lv_at hl 1 rfl) ?_
    refine lv_aload_n hx hb dX0_ask_34 rfl (lv_at hl 0 rfl) ?_
    obtain ⟨h13, hs⟩ := hs
    obtain ⟨fh13, h13⟩ := xcl_spec h13
    refine x_goi hA hI (x_runV (As := [.ref ad10]) (rest := []) X hK hA hG hI h13 (q := (RX0, TX0, 10)) rfl rfl (xet_X0_refused l a0 ad10 _ _ hs) iX0_refused q538 q540 qs2 q94 ⟨(Nat.le_of_ble_eq_true rfl), (Nat.le_of_ble_eq_true rfl)⟩ rfl hl.1 rfl (Nat.le_of_ble_eq_true rfl) dX0_ask_35 ⟨(Nat.le_of_ble_eq_true rfl), (Nat.le_of_ble_eq_true rfl)⟩) (fun r13 C12 H locs hs9 hI => ?_)
    replace hs := hs9
    exact vx_ret (x_reti X hK hI hs (Nat.le_of_ble_eq_true rfl) (Nat.le_of_ble_eq_true rfl) dX0_ask_38)
  · replace hs := hs9
    refine lv_aload_n hx hb dX0_ask_10 rfl (lv_at hl 0 rfl) ?_
    obtain ⟨ad4, ead4, hs⟩ := hs
    refine x_get (v := .ref ad4) X hK hI 0 7 rfl in_X0 rfl q335 rfl (xgr_spec ead4) dX0_ask_11 ?_
    obtain ⟨ad5, ead5, hs⟩ := hs
    refine x_get (v := .ref ad5) X hK hI 4 5 rfl in_X4 rfl q268 rfl (xgr_spec ead5) dX0_ask_14 ?_
    refine lv_iload_n hx hb dX0_ask_17 rfl (lv_at hl 1 rfl) ?_
    obtain ⟨v6, ev6, hs⟩ := hs
    refine x_iald X hK hI ev6 dX0_ask_18 ?_
    refine lv_istore_n (lv' := [(3, .int v6), (0, .ref a0), (1, .int a1), (2, .int a2)]) hx hb dX0_ask_19 rfl hl (by decide) rfl (fun ls hl => ?_)
    refine lv_aload_n hx hb dX0_ask_20 rfl (lv_at hl 1 rfl) ?_
    obtain ⟨ad7, ead7, hs⟩ := hs
    refine x_get (v := .ref ad7) X hK hI 0 7 rfl in_X0 rfl q335 rfl (xgr_spec ead7) dX0_ask_21 ?_
    obtain ⟨ad8, ead8, hs⟩ := hs
    refine x_get (v := .ref ad8) X hK hI 4 5 rfl in_X4 rfl q268 rfl (xgr_spec ead8) dX0_ask_24 ?_
    refine lv_iload_n hx hb dX0_ask_27 rfl (lv_at hl 2 rfl) ?_
    refine lv_iload_n hx hb dX0_ask_28 rfl (lv_at hl 3 rfl) ?_
    obtain ⟨C9, eC9, hs⟩ := hs
    refine x_iast X hK hI eC9 dX0_ask_29 (fun H locs hI => ?_)
    refine lv_iload_n hx hb dX0_ask_30 rfl (lv_at hl 0 rfl) ?_
    exact vx_ret (x_reti X hK hI hs (Nat.le_of_ble_eq_true rfl) (Nat.le_of_ble_eq_true rfl) dX0_ask_31)
def x_X0_roll (a0 : Nat) (a1 : Int32) (C : XH) (K : Int32 → XH → Prop) : Prop := obd (xgr C (xis 0) a0 7) (fun ad1 => obd (xgi C (xis 4) ad1 3) (fun v2 => jn (fun (v3 : Int32) => obd (xgr C (xis 0) a0 7) (fun ad4 => ((a1 = 0 ∨ a1 = 1) ∧ obd (xpv C (xis 4) ad4 3 (.int a1)) (fun C5 => K v3 C5)))) (fun k15_3 => (if v2 = 0 then k15_3 0 else k15_3 1))))
theorem iX0_roll : xInf yX0_roll cX0_roll 3 (some .int) 1 := ⟨q943, by decide +kernel⟩
set_option maxHeartbeats 4000000 in
theorem xet_X0_roll (l : Launch) (a0 : Nat) (a1 : Int32) (C : XH) (K : Int32 → XH → Prop) (hs : x_X0_roll a0 a1 C K) : xMeti l yX0_roll (ws_ yX0_roll cX0_roll 3 (some .int)) 0 0 0 0 C [.ref a0, .int a1] K := by
  intro D dT adK adV sz
  refine xEnter (own := RX0) (Qc := xQi D dT K) (by decide) rfl (by rfl) ?_
  intro p e s m args below meth c A ls X hnm hK hA hG hI hl
  have hx := X.1
  have hb := X.2.1
  have hts := X.2.2.2.2.1
  have hown := X.2.2.2.2.2.1
  have hl : lv_has ls 3 [(0, .ref a0), (1, .int a1)] := hl
  unfold x_X0_roll at hs
  refine lv_aload_n hx hb dX0_roll_0 rfl (lv_at hl 0 rfl) ?_
  obtain ⟨ad1, ead1, hs⟩ := hs
  refine x_get (v := .ref ad1) X hK hI 0 7 rfl in_X0 rfl q335 rfl (xgr_spec ead1) dX0_roll_1 ?_
  obtain ⟨v2, ev2, hs⟩ := hs
  refine x_get (v := .int v2) X hK hI 4 3 rfl in_X4 rfl q262 rfl (xgi_spec ev2) dX0_roll_4 ?_
  obtain ⟨k15_3, hk15_3, hs⟩ := jn_ex hs
  have Ek15_3 : ∀ (v3 : Int32) (H : Heap) (locs : List Loc) (ls : Array Slot), k15_3 v3 → xI D dT A s.heap C H locs → lv_has ls 3 [(0, .ref a0), (1, .int a1)] → W p l e (xRm 0 0 0 0) s m args below meth c H locs 0 0 (MQ below (xQi D dT K A) args s 0 0 A) (F0 m 15 ls [.int v3]) := by
    intro v3 H locs ls hs hI hl
    rw [hk15_3] at hs
    refine lv_istore_n (lv' := [(2, .int v3), (0, .ref a0), (1, .int a1)]) hx hb dX0_roll_15 rfl hl (by decide) rfl (fun ls hl => ?_)
    refine lv_aload_n hx hb dX0_roll_16 rfl (lv_at hl 1 rfl) ?_
    obtain ⟨ad4, ead4, hs⟩ := hs
    refine x_get (v := .ref ad4) X hK hI 0 7 rfl in_X0 rfl q335 rfl (xgr_spec ead4) dX0_roll_17 ?_
    refine lv_iload_n hx hb dX0_roll_20 rfl (lv_at hl 2 rfl) ?_
    obtain ⟨z5, hs⟩ := hs
    obtain ⟨C5, eC5, hs⟩ := hs
    refine x_putB X hK hI 4 3 rfl in_X4 tyX4 tyX4_ok nmX4 rfl q262 rfl rfl rfl z5 eC5 dX0_roll_21 (fun H locs hI => ?_)
    refine lv_iload_n hx hb dX0_roll_24 rfl (lv_at hl 0 rfl) ?_
    exact x_reti X hK hI hs (Nat.le_of_ble_eq_true rfl) (Nat.le_of_ble_eq_true rfl) dX0_roll_25
  refine lv_if_eq (tgt := 14) hx hb dX0_roll_7 (by decide) (fun c6 => ?_) (fun c6 => ?_)
  · replace hs := ifp c6 hs
    refine lv_iconst (v := 0) hx hb dX0_roll_14 (by decide) ?_
    exact Ek15_3 _ _ _ _ hs hI hl
  · replace hs := ifn c6 hs
    refine lv_iconst (v := 1) hx hb dX0_roll_10 (by decide) ?_
    refine lv_goto (tgt := 15) hx hb dX0_roll_11 (by decide) ?_
    exact Ek15_3 _ _ _ _ hs hI hl
def x_X4_take (a0 : Nat) (a1 : Nat) (C : XH) (K : Nat → XH → Prop) : Prop := obd (xgi C (xis 4) a1 0) (fun v1 => obd (xpv C (xis 4) a0 0 (.int v1)) (fun C2 => obd (xgi C2 (xis 4) a1 1) (fun v3 => obd (xpv C2 (xis 4) a0 1 (.int v3)) (fun C4 => obd (xgi C4 (xis 4) a1 2) (fun v5 => obd (xpv C4 (xis 4) a0 2 (.int v5)) (fun C6 => obd (xgi C6 (xis 4) a1 3) (fun v7 => ((v7 = 0 ∨ v7 = 1) ∧ obd (xpv C6 (xis 4) a0 3 (.int v7)) (fun C8 => obd (xgi C8 (xis 4) a1 4) (fun v10 => obd (xpv C8 (xis 4) a0 4 (.int v10)) (fun C11 => obd (xgr C11 (xis 4) a1 5) (fun ad12 => obd (xgr C11 (xis 4) a0 5) (fun ad13 => xcpi 0 C11 ad12 0 ad13 0 4 (fun C14 => obd (xgr C14 (xis 4) a1 6) (fun ad15 => obd (xgr C14 (xis 4) a0 6) (fun ad16 => obd (xgi C14 (xis 4) a0 0) (fun v17 => xcpq C14 ad15 0 ad16 0 v17 (fun C18 => obd (xgr C18 (xis 4) a1 7) (fun ad19 => obd (xgr C18 (xis 4) a0 7) (fun ad20 => obd (xgi C18 (xis 4) a0 0) (fun v21 => xcpi 0 C18 ad19 0 ad20 0 v21 (fun C22 => obd (xgr C22 (xis 4) a1 8) (fun ad23 => obd (xgr C22 (xis 4) a0 8) (fun ad24 => obd (xgi C22 (xis 4) a0 0) (fun v25 => xcpi 0 C22 ad23 0 ad24 0 v25 (fun C26 => obd (xgr C26 (xis 4) a1 9) (fun ad27 => obd (xgr C26 (xis 4) a0 9) (fun ad28 => obd (xgi C26 (xis 4) a0 0) (fun v29 => xcpi 0 C26 ad27 0 ad28 0 v29 (fun C30 => obd (xgr C30 (xis 4) a1 10) (fun ad31 => obd (xgr C30 (xis 4) a0 10) (fun ad32 => obd (xgi C30 (xis 4) a0 0) (fun v33 => xcpi 0 C30 ad31 0 ad32 0 v33 (fun C34 => obd (xgr C34 (xis 4) a1 11) (fun ad35 => obd (xgr C34 (xis 4) a0 11) (fun ad36 => obd (xgi C34 (xis 4) a0 1) (fun v37 => xcpi 0 C34 ad35 0 ad36 0 v37 (fun C38 => obd (xgr C38 (xis 4) a1 12) (fun ad39 => obd (xgr C38 (xis 4) a0 12) (fun ad40 => obd (xgi C38 (xis 4) a0 1) (fun v41 => xcpi 0 C38 ad39 0 ad40 0 v41 (fun C42 => K a0 C42))))))))))))))))))))))))))))))))))))))))))
theorem iX4_take : xInf yX4_take cX4_take 2 (some (.object RX4)) 1 := ⟨q952, by decide +kernel⟩
set_option maxHeartbeats 4000000 in
theorem xet_X4_take (l : Launch) (a0 : Nat) (a1 : Nat) (C : XH) (K : Nat → XH → Prop) (hs : x_X4_take a0 a1 C K) : xMetr l yX4_take (ws_ yX4_take cX4_take 2 (some (.object RX4))) 1 200 0 0 C [.ref a0, .ref a1] K := by
  intro D dT adK adV sz
  refine xEnter (own := RX4) (Qc := xQr D dT K) (by decide) rfl (by rfl) ?_
  intro p e s m args below meth c A ls X hnm hK hA hG hI hl
  have hx := X.1
  have hb := X.2.1
  have hts := X.2.2.2.2.1
  have hown := X.2.2.2.2.2.1
  have hl : lv_has ls 2 [(0, .ref a0), (1, .ref a1)] := hl
  unfold x_X4_take at hs
  refine lv_aload_n hx hb dX4_take_0 rfl (lv_at hl 0 rfl) ?_
  refine lv_aload_n hx hb dX4_take_1 rfl (lv_at hl 1 rfl) ?_
  obtain ⟨v1, ev1, hs⟩ := hs
  refine x_get (v := .int v1) X hK hI 4 0 rfl in_X4 rfl q251 rfl (xgi_spec ev1) dX4_take_2 ?_
  obtain ⟨C2, eC2, hs⟩ := hs
  refine x_put X hK hI 4 0 rfl in_X4 tyX4 tyX4_ok nmX4 rfl q251 rfl rfl rfl rfl eC2 dX4_take_5 (fun H locs hI => ?_)
  refine lv_aload_n hx hb dX4_take_8 rfl (lv_at hl 0 rfl) ?_
  refine lv_aload_n hx hb dX4_take_9 rfl (lv_at hl 1 rfl) ?_
  obtain ⟨v3, ev3, hs⟩ := hs
  refine x_get (v := .int v3) X hK hI 4 1 rfl in_X4 rfl q254 rfl (xgi_spec ev3) dX4_take_10 ?_
  obtain ⟨C4, eC4, hs⟩ := hs
  refine x_put X hK hI 4 1 rfl in_X4 tyX4 tyX4_ok nmX4 rfl q254 rfl rfl rfl rfl eC4 dX4_take_13 (fun H locs hI => ?_)
  refine lv_aload_n hx hb dX4_take_16 rfl (lv_at hl 0 rfl) ?_
  refine lv_aload_n hx hb dX4_take_17 rfl (lv_at hl 1 rfl) ?_
  obtain ⟨v5, ev5, hs⟩ := hs
  refine x_get (v := .int v5) X hK hI 4 2 rfl in_X4 rfl q258 rfl (xgi_spec ev5) dX4_take_18 ?_
  obtain ⟨C6, eC6, hs⟩ := hs
  refine x_put X hK hI 4 2 rfl in_X4 tyX4 tyX4_ok nmX4 rfl q258 rfl rfl rfl rfl eC6 dX4_take_21 (fun H locs hI => ?_)
  refine lv_aload_n hx hb dX4_take_24 rfl (lv_at hl 0 rfl) ?_
  refine lv_aload_n hx hb dX4_take_25 rfl (lv_at hl 1 rfl) ?_
  obtain ⟨v7, ev7, hs⟩ := hs
  refine x_get (v := .int v7) X hK hI 4 3 rfl in_X4 rfl q260 rfl (xgi_spec ev7) dX4_take_26 ?_
  obtain ⟨z8, hs⟩ := hs
  obtain ⟨C8, eC8, hs⟩ := hs
  refine x_putB X hK hI 4 3 rfl in_X4 tyX4 tyX4_ok nmX4 rfl q260 rfl rfl rfl z8 eC8 dX4_take_29 (fun H locs hI => ?_)
  refine lv_aload_n hx hb dX4_take_32 rfl (lv_at hl 0 rfl) ?_
  refine lv_aload_n hx hb dX4_take_33 rfl (lv_at hl 1 rfl) ?_
  obtain ⟨v10, ev10, hs⟩ := hs
  refine x_get (v := .int v10) X hK hI 4 4 rfl in_X4 rfl q263 rfl (xgi_spec ev10) dX4_take_34 ?_
  obtain ⟨C11, eC11, hs⟩ := hs
  refine x_put X hK hI 4 4 rfl in_X4 tyX4 tyX4_ok nmX4 rfl q263 rfl rfl rfl rfl eC11 dX4_take_37 (fun H locs hI => ?_)
  refine lv_aload_n hx hb dX4_take_40 rfl (lv_at hl 1 rfl) ?_
  obtain ⟨ad12, ead12, hs⟩ := hs
  refine x_get (v := .ref ad12) X hK hI 4 5 rfl in_X4 rfl q265 rfl (xgr_spec ead12) dX4_take_41 ?_
  refine lv_iconst (v := 0) hx hb dX4_take_44 (by decide) ?_
  refine lv_aload_n hx hb dX4_take_45 rfl (lv_at hl 0 rfl) ?_
  obtain ⟨ad13, ead13, hs⟩ := hs
  refine x_get (v := .ref ad13) X hK hI 4 5 rfl in_X4 rfl q265 rfl (xgr_spec ead13) dX4_take_46 ?_
  refine lv_iconst (v := 0) hx hb dX4_take_49 (by decide) ?_
  refine lv_iconst (v := 4) hx hb dX4_take_50 (by decide) ?_
  refine x_cpi 0 (Or.inl rfl) (rest := []) X hK hI q953 hs hl.1 (Nat.le_of_ble_eq_true rfl) (Nat.le_of_ble_eq_true rfl) dX4_take_51 (fun C14 H locs hs9 hI => ?_)
  replace hs := hs9
  refine lv_aload_n hx hb dX4_take_54 rfl (lv_at hl 1 rfl) ?_
  obtain ⟨ad15, ead15, hs⟩ := hs
  refine x_get (v := .ref ad15) X hK hI 4 6 rfl in_X4 rfl q269 rfl (xgr_spec ead15) dX4_take_55 ?_
  refine lv_iconst (v := 0) hx hb dX4_take_58 (by decide) ?_
  refine lv_aload_n hx hb dX4_take_59 rfl (lv_at hl 0 rfl) ?_
  obtain ⟨ad16, ead16, hs⟩ := hs
  refine x_get (v := .ref ad16) X hK hI 4 6 rfl in_X4 rfl q269 rfl (xgr_spec ead16) dX4_take_60 ?_
  refine lv_iconst (v := 0) hx hb dX4_take_63 (by decide) ?_
  refine lv_aload_n hx hb dX4_take_64 rfl (lv_at hl 0 rfl) ?_
  obtain ⟨v17, ev17, hs⟩ := hs
  refine x_get (v := .int v17) X hK hI 4 0 rfl in_X4 rfl q251 rfl (xgi_spec ev17) dX4_take_65 ?_
  refine x_cpq (rest := []) X hK hG hI q953 hs hl.1 (Nat.le_of_ble_eq_true rfl) (Nat.le_of_ble_eq_true rfl) dX4_take_68 (fun C18 H locs hs9 hI => ?_)
  replace hs := hs9
  refine lv_aload_n hx hb dX4_take_71 rfl (lv_at hl 1 rfl) ?_
  obtain ⟨ad19, ead19, hs⟩ := hs
  refine x_get (v := .ref ad19) X hK hI 4 7 rfl in_X4 rfl q273 rfl (xgr_spec ead19) dX4_take_72 ?_
  refine lv_iconst (v := 0) hx hb dX4_take_75 (by decide) ?_
  refine lv_aload_n hx hb dX4_take_76 rfl (lv_at hl 0 rfl) ?_
  obtain ⟨ad20, ead20, hs⟩ := hs
  refine x_get (v := .ref ad20) X hK hI 4 7 rfl in_X4 rfl q273 rfl (xgr_spec ead20) dX4_take_77 ?_
  refine lv_iconst (v := 0) hx hb dX4_take_80 (by decide) ?_
  refine lv_aload_n hx hb dX4_take_81 rfl (lv_at hl 0 rfl) ?_
  obtain ⟨v21, ev21, hs⟩ := hs
  refine x_get (v := .int v21) X hK hI 4 0 rfl in_X4 rfl q251 rfl (xgi_spec ev21) dX4_take_82 ?_
  refine x_cpi 0 (Or.inl rfl) (rest := []) X hK hI q953 hs hl.1 (Nat.le_of_ble_eq_true rfl) (Nat.le_of_ble_eq_true rfl) dX4_take_85 (fun C22 H locs hs9 hI => ?_)
  replace hs := hs9
  refine lv_aload_n hx hb dX4_take_88 rfl (lv_at hl 1 rfl) ?_
  obtain ⟨ad23, ead23, hs⟩ := hs
  refine x_get (v := .ref ad23) X hK hI 4 8 rfl in_X4 rfl q277 rfl (xgr_spec ead23) dX4_take_89 ?_
  refine lv_iconst (v := 0) hx hb dX4_take_92 (by decide) ?_
  refine lv_aload_n hx hb dX4_take_93 rfl (lv_at hl 0 rfl) ?_
  obtain ⟨ad24, ead24, hs⟩ := hs
  refine x_get (v := .ref ad24) X hK hI 4 8 rfl in_X4 rfl q277 rfl (xgr_spec ead24) dX4_take_94 ?_
  refine lv_iconst (v := 0) hx hb dX4_take_97 (by decide) ?_
  refine lv_aload_n hx hb dX4_take_98 rfl (lv_at hl 0 rfl) ?_
  obtain ⟨v25, ev25, hs⟩ := hs
  refine x_get (v := .int v25) X hK hI 4 0 rfl in_X4 rfl q251 rfl (xgi_spec ev25) dX4_take_99 ?_
  refine x_cpi 0 (Or.inl rfl) (rest := []) X hK hI q953 hs hl.1 (Nat.le_of_ble_eq_true rfl) (Nat.le_of_ble_eq_true rfl) dX4_take_102 (fun C26 H locs hs9 hI => ?_)
  replace hs := hs9
  refine lv_aload_n hx hb dX4_take_105 rfl (lv_at hl 1 rfl) ?_
  obtain ⟨ad27, ead27, hs⟩ := hs
  refine x_get (v := .ref ad27) X hK hI 4 9 rfl in_X4 rfl q281 rfl (xgr_spec ead27) dX4_take_106 ?_
  refine lv_iconst (v := 0) hx hb dX4_take_109 (by decide) ?_
  refine lv_aload_n hx hb dX4_take_110 rfl (lv_at hl 0 rfl) ?_
  obtain ⟨ad28, ead28, hs⟩ := hs
  refine x_get (v := .ref ad28) X hK hI 4 9 rfl in_X4 rfl q281 rfl (xgr_spec ead28) dX4_take_111 ?_
  refine lv_iconst (v := 0) hx hb dX4_take_114 (by decide) ?_
  refine lv_aload_n hx hb dX4_take_115 rfl (lv_at hl 0 rfl) ?_
  obtain ⟨v29, ev29, hs⟩ := hs
  refine x_get (v := .int v29) X hK hI 4 0 rfl in_X4 rfl q251 rfl (xgi_spec ev29) dX4_take_116 ?_
  refine x_cpi 0 (Or.inl rfl) (rest := []) X hK hI q953 hs hl.1 (Nat.le_of_ble_eq_true rfl) (Nat.le_of_ble_eq_true rfl) dX4_take_119 (fun C30 H locs hs9 hI => ?_)
  replace hs := hs9
  refine lv_aload_n hx hb dX4_take_122 rfl (lv_at hl 1 rfl) ?_
  obtain ⟨ad31, ead31, hs⟩ := hs
  refine x_get (v := .ref ad31) X hK hI 4 10 rfl in_X4 rfl q285 rfl (xgr_spec ead31) dX4_take_123 ?_
  refine lv_iconst (v := 0) hx hb dX4_take_126 (by decide) ?_
  refine lv_aload_n hx hb dX4_take_127 rfl (lv_at hl 0 rfl) ?_
  obtain ⟨ad32, ead32, hs⟩ := hs
  refine x_get (v := .ref ad32) X hK hI 4 10 rfl in_X4 rfl q285 rfl (xgr_spec ead32) dX4_take_128 ?_
  refine lv_iconst (v := 0) hx hb dX4_take_131 (by decide) ?_
  refine lv_aload_n hx hb dX4_take_132 rfl (lv_at hl 0 rfl) ?_
  obtain ⟨v33, ev33, hs⟩ := hs
  refine x_get (v := .int v33) X hK hI 4 0 rfl in_X4 rfl q251 rfl (xgi_spec ev33) dX4_take_133 ?_
  refine x_cpi 0 (Or.inl rfl) (rest := []) X hK hI q953 hs hl.1 (Nat.le_of_ble_eq_true rfl) (Nat.le_of_ble_eq_true rfl) dX4_take_136 (fun C34 H locs hs9 hI => ?_)
  replace hs := hs9
  refine lv_aload_n hx hb dX4_take_139 rfl (lv_at hl 1 rfl) ?_
  obtain ⟨ad35, ead35, hs⟩ := hs
  refine x_get (v := .ref ad35) X hK hI 4 11 rfl in_X4 rfl q287 rfl (xgr_spec ead35) dX4_take_140 ?_
  refine lv_iconst (v := 0) hx hb dX4_take_143 (by decide) ?_
  refine lv_aload_n hx hb dX4_take_144 rfl (lv_at hl 0 rfl) ?_
  obtain ⟨ad36, ead36, hs⟩ := hs
  refine x_get (v := .ref ad36) X hK hI 4 11 rfl in_X4 rfl q287 rfl (xgr_spec ead36) dX4_take_145 ?_
  refine lv_iconst (v := 0) hx hb dX4_take_148 (by decide) ?_
  refine lv_aload_n hx hb dX4_take_149 rfl (lv_at hl 0 rfl) ?_
  obtain ⟨v37, ev37, hs⟩ := hs
  refine x_get (v := .int v37) X hK hI 4 1 rfl in_X4 rfl q254 rfl (xgi_spec ev37) dX4_take_150 ?_
  refine x_cpi 0 (Or.inl rfl) (rest := []) X hK hI q953 hs hl.1 (Nat.le_of_ble_eq_true rfl) (Nat.le_of_ble_eq_true rfl) dX4_take_153 (fun C38 H locs hs9 hI => ?_)
  replace hs := hs9
  refine lv_aload_n hx hb dX4_take_156 rfl (lv_at hl 1 rfl) ?_
  obtain ⟨ad39, ead39, hs⟩ := hs
  refine x_get (v := .ref ad39) X hK hI 4 12 rfl in_X4 rfl q289 rfl (xgr_spec ead39) dX4_take_157 ?_
  refine lv_iconst (v := 0) hx hb dX4_take_160 (by decide) ?_
  refine lv_aload_n hx hb dX4_take_161 rfl (lv_at hl 0 rfl) ?_
  obtain ⟨ad40, ead40, hs⟩ := hs
  refine x_get (v := .ref ad40) X hK hI 4 12 rfl in_X4 rfl q289 rfl (xgr_spec ead40) dX4_take_162 ?_
  refine lv_iconst (v := 0) hx hb dX4_take_165 (by decide) ?_
  refine lv_aload_n hx hb dX4_take_166 rfl (lv_at hl 0 rfl) ?_
  obtain ⟨v41, ev41, hs⟩ := hs
  refine x_get (v := .int v41) X hK hI 4 1 rfl in_X4 rfl q254 rfl (xgi_spec ev41) dX4_take_167 ?_
  refine x_cpi 0 (Or.inl rfl) (rest := []) X hK hI q953 hs hl.1 (Nat.le_of_ble_eq_true rfl) (Nat.le_of_ble_eq_true rfl) dX4_take_170 (fun C42 H locs hs9 hI => ?_)
  replace hs := hs9
  refine lv_aload_n hx hb dX4_take_173 rfl (lv_at hl 0 rfl) ?_
  exact x_retr X hK hI hs (Nat.le_of_ble_eq_true rfl) (Nat.le_of_ble_eq_true rfl) dX4_take_174
