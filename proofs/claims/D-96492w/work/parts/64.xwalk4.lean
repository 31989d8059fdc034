set_option maxRecDepth 100000
def vd_X14_puff (b : Nat)  (C : XH) (K : Int32 → XH → Prop) : Prop := obd (xcl C b) (fun ci => if ci = 14 then x_X14_puff b  C K else if ci = 16 then x_X16_puff b  C K else False)
theorem vdc_X14_puff {p : Program} {l : Launch} {e : Env} {R : Room} {s : State} {m : MethodId} {args : Array Value} {below : List Frame} {meth : Method} {c : Code} {H : Heap} {locs : List Loc} {cells slots : Nat} {own : String} {cc : ByteArray} {nL : Nat} {ret : Option FieldType} {pc : Nat} {ls : Array Slot} {rest : List Value} {D : va_G} {dT : Nat → ClassId} {adK adV : Nat → Nat} {A : Nat → Prop} {C : XH} {index : Nat} (X : xX p s m args meth c own cc nL ret) (hK : va_K D aCl (aT dT) s) (hA : ∀ q : Nat, s.heap.size ≤ q → A q) (hG : xG adK adV A s s.heap) (hI : xI D dT A s.heap C H locs) (b : Nat)  (K : Int32 → XH → Prop) (hs : vd_X14_puff b  C K) (w1 : Cond.methodLink own index ⟨RX14, "puff", "()I"⟩ ∈ lw_all) (hR : 2 + 1 ≤ R.frames ∧ 8 + (0 + 11) + 41 ≤ R.locals) (hsz : ls.size = nL) (hrm : (rest.map fun v => v.category).sum ≤ 8) (hdg : decode cc pc = .ok (.invokevirtual index, 3)) (hf : cells + 0 ≤ R.cells ∧ slots + 0 ≤ R.slots) : xCtx p l e R s m args below meth c H locs cells slots 0 0 D dT C pc ls ([] ++ .ref b :: rest) rest (fun D dT A => xQi D dT K A) (.ref b :: []) := by
  obtain ⟨ci, hci, hs⟩ := hs
  obtain ⟨fs, hb⟩ := xcl_spec hci
  by_cases h14 : ci = 14
  · subst h14
    replace hs := ifp rfl hs
    exact x_runO (As := []) X hK hA hG hI hb (q := (RX14, TX14, 2)) rfl (xet_X14_puff l b  _ _ hs) iX14_puff RX14 w1 q677 q675 q676 q675 q118 q683 (by decide +kernel) ⟨Nat.le_trans (Nat.le_of_ble_eq_true rfl) hR.1, Nat.le_trans (Nat.le_of_ble_eq_true rfl) hR.2⟩ rfl hsz rfl hrm hdg hf
  · replace hs := ifn h14 hs
    by_cases h16 : ci = 16
    · subst h16
      replace hs := ifp rfl hs
      exact x_runO (As := []) X hK hA hG hI hb (q := (RX16, TX16, 2)) rfl (xet_X16_puff l b  _ _ hs) iX16_puff RX14 w1 q677 q675 q678 q679 q120 q683 (by decide +kernel) ⟨Nat.le_trans (Nat.le_of_ble_eq_true rfl) hR.1, Nat.le_trans (Nat.le_of_ble_eq_true rfl) hR.2⟩ rfl hsz rfl hrm hdg hf
    · replace hs := ifn h16 hs
      exact hs.elim
def x_X5_says (a0 : Nat) (a1 : Int32) (a2 : Nat) (C : XH) (K : Int32 → XH → Prop) (E : Nat → XH → Prop) : Prop := jn (fun (x1 : Int32) (C2 : XH) => obd (xgo C2 (xis 5) a0 0) (fun o3 => jn (fun (v4 : Int32) => x_X0_need v4 (-3) C2 (fun C5 => K x1 C5) (fun ad6 C7 => E ad6 C7)) (fun k245_4 => xopt o3 (k245_4 0) (fun ad8 => k245_4 1)))) (fun k233_2 => (if a1 = 1 then obd (xgo C (xis 5) a0 0) (fun o10 => jn (fun (v11 : Int32) (C12 : XH) => k233_2 v11 C12) (fun k61_12 => xopt o10 (k61_12 (-1) C) (fun ad13 => obd (xgo C (xis 5) a0 0) (fun o14 => xcastT C [14, 16] o14 (obd o14 (fun ad20 => vd_X14_puff ad20 C (fun r22 C21 => k61_12 r22 C21))) (fun ad15 => xnew C (.inr (7, [.null, .null, .null, .null, .null, .int 0, .int 0])) (fun ad16 C17 => x_X7_init ad16 (-2) C17 (fun C18 => (xcl C18 ad16 = some 7 ∧ E ad16 C18)))))))) else if a1 = 2 then obd (xgo C (xis 5) a0 0) (fun o23 => jn (fun (v24 : Int32) (C25 : XH) => k233_2 v24 C25) (fun k90_25 => xopt o23 (k90_25 (-1) C) (fun ad26 => obd (xgo C (xis 5) a0 0) (fun o27 => xcastT C [15, 18] o27 (obd o27 (fun ad33 => obd (xgi C xisH ad33 0) (fun v34 => (xcl C a2 = some 4 ∧ x_X4_strideOf a2 v34 C (fun r36 C35 => k90_25 r36 C35))))) (fun ad28 => xnew C (.inr (7, [.null, .null, .null, .null, .null, .int 0, .int 0])) (fun ad29 C30 => x_X7_init ad29 (-2) C30 (fun C31 => (xcl C31 ad29 = some 7 ∧ E ad29 C31)))))))) else if a1 = 3 then obd (xgo C (xis 5) a0 0) (fun o38 => jn (fun (v39 : Int32) (C40 : XH) => k233_2 v39 C40) (fun k115_40 => xopt o38 (k115_40 (-1) C) (fun ad41 => obd (xgo C (xis 5) a0 0) (fun o42 => xcastT C [16] o42 (obd o42 (fun ad48 => (xcl C ad48 = some 16 ∧ x_X16_puff ad48 C (fun r50 C49 => k115_40 r50 C49)))) (fun ad43 => xnew C (.inr (7, [.null, .null, .null, .null, .null, .int 0, .int 0])) (fun ad44 C45 => x_X7_init ad44 (-2) C45 (fun C46 => (xcl C46 ad44 = some 7 ∧ E ad44 C46)))))))) else if a1 = 4 then obd (xgo C (xis 5) a0 0) (fun o52 => jn (fun (v53 : Int32) (C54 : XH) => k233_2 v53 C54) (fun k144_54 => xopt o52 (k144_54 (-1) C) (fun ad55 => obd (xgo C (xis 5) a0 0) (fun o56 => xcastT C [17, 19] o56 (obd o56 (fun ad62 => obd (xgi C xisH ad62 0) (fun v63 => (xcl C a2 = some 4 ∧ x_X4_riskOf a2 v63 C (fun r65 C64 => k144_54 r65 C64))))) (fun ad57 => xnew C (.inr (7, [.null, .null, .null, .null, .null, .int 0, .int 0])) (fun ad58 C59 => x_X7_init ad58 (-2) C59 (fun C60 => (xcl C60 ad58 = some 7 ∧ E ad58 C60)))))))) else if a1 = 5 then obd (xgo C (xis 5) a0 0) (fun o67 => jn (fun (v68 : Int32) (C69 : XH) => k233_2 v68 C69) (fun k173_69 => xopt o67 (k173_69 (-1) C) (fun ad70 => obd (xgo C (xis 5) a0 0) (fun o71 => xcastT C [18] o71 (obd o71 (fun ad77 => obd (xgi C xisH ad77 0) (fun v78 => (xcl C a2 = some 4 ∧ x_X4_strideOf a2 v78 C (fun r80 C79 => k173_69 r80 C79))))) (fun ad72 => xnew C (.inr (7, [.null, .null, .null, .null, .null, .int 0, .int 0])) (fun ad73 C74 => x_X7_init ad73 (-2) C74 (fun C75 => (xcl C75 ad73 = some 7 ∧ E ad73 C75)))))))) else if a1 = 6 then obd (xgo C (xis 5) a0 0) (fun o82 => jn (fun (v83 : Int32) (C84 : XH) => k233_2 v83 C84) (fun k202_84 => xopt o82 (k202_84 (-1) C) (fun ad85 => obd (xgo C (xis 5) a0 0) (fun o86 => xcastT C [19] o86 (obd o86 (fun ad92 => obd (xgi C xisH ad92 0) (fun v93 => (xcl C a2 = some 4 ∧ x_X4_riskOf a2 v93 C (fun r95 C94 => k202_84 r95 C94))))) (fun ad87 => xnew C (.inr (7, [.null, .null, .null, .null, .null, .int 0, .int 0])) (fun ad88 C89 => x_X7_init ad88 (-2) C89 (fun C90 => (xcl C90 ad88 = some 7 ∧ E ad88 C90)))))))) else obd (xgo C (xis 5) a0 0) (fun o97 => jn (fun (v98 : Int32) => k233_2 v98 C) (fun k232_98 => xopt o97 (k232_98 (-1)) (fun ad99 => obd (xgr C (xis 4) a2 7) (fun ad100 => obd (xgo C (xis 5) a0 0) (fun o101 => xcastT C [13, 14, 15, 16, 17, 18, 19] o101 (obd o101 (fun ad107 => obd (xgi C xisH ad107 0) (fun v108 => obd (xai C 0 ad100 v108) (fun v109 => k232_98 v109)))) (fun ad102 => xnew C (.inr (7, [.null, .null, .null, .null, .null, .int 0, .int 0])) (fun ad103 C104 => x_X7_init ad103 (-2) C104 (fun C105 => (xcl C105 ad103 = some 7 ∧ E ad103 C105)))))))))))
theorem iX5_says : xInfW yX5_says cX5_says 4 (some .int) [(0, 251, 252, 21)] 2 := ⟨q672, by decide +kernel⟩
set_option maxHeartbeats 4000000 in
theorem xet_X5_says (l : Launch) (hl0 : l.stackTraces = false) (a0 : Nat) (a1 : Int32) (a2 : Nat) (C : XH) (K : Int32 → XH → Prop) (E : Nat → XH → Prop) (hs : x_X5_says a0 a1 a2 C K E) : xMetX l yX5_says (wsW_ yX5_says cX5_says 4 (some .int) [(0, 251, 252, 21)]) 12 10300 5 1024 C [.ref a0, .int a1, .ref a2] (fun D dT A => xQi D dT K A) (xEK RX7 E) := by
  intro D dT adK adV sz
  refine xEnterW (own := RX5) (Qc := xQi D dT K) (XC := xXC D dT (xEK RX7 E)) (by decide) rfl (by rfl) ?_
  intro p e s m args below meth c A ls X hnm hK hA hG hT hI hl
  have hx := X.1
  have hb := X.2.1
  have hts := X.2.2.2.2.1
  have hown := X.2.2.2.2.2.1
  have hl : lv_has ls 4 [(0, .ref a0), (1, .int a1), (2, .ref a2)] := hl
  unfold x_X5_says at hs
  refine lv_iload_n hx hb dX5_says_0 rfl (lv_at hl 1 rfl) ?_
  obtain ⟨k233_2, hk233_2, hs⟩ := jn_ex hs
  have Ek233_2 : ∀ (x1 : Int32) (C2 : XH) (H : Heap) (locs : List Loc) (ls : Array Slot), k233_2 x1 C2 → xI D dT A s.heap C2 H locs → lv_has ls 4 [(0, .ref a0), (3, .int x1)] → W p l e (xRm 12 10300 5 1024) s m args below meth c H locs 3 1010 (vx_MQ below (xQi D dT K A) (xXC D dT (xEK RX7 E) A) args s 5 1024 A) (F0 m 233 ls []) := by
    intro x1 C2 H locs ls hs hI hl
    rw [hk233_2] at hs
    refine lv_aload_n hx hb dX5_says_233 rfl (lv_at hl 0 rfl) ?_
    obtain ⟨o3, eo3, hs⟩ := hs
    refine x_get (v := va_rf o3) X hK hI 5 0 rfl in_X5 rfl q323 rfl (xgo_spec eo3) dX5_says_234 ?_
    obtain ⟨k245_4, hk245_4, hs⟩ := jn_ex hs
    have Ek245_4 : ∀ (v4 : Int32) (H : Heap) (locs : List Loc) (ls : Array Slot), k245_4 v4 → xI D dT A s.heap C2 H locs → lv_has ls 4 [(3, .int x1)] → W p l e (xRm 12 10300 5 1024) s m args below meth c H locs 3 1010 (vx_MQ below (xQi D dT K A) (xXC D dT (xEK RX7 E) A) args s 5 1024 A) (F0 m 245 ls [.int v4]) := by
      intro v4 H locs ls hs hI hl
      rw [hk245_4] at hs
      refine lv_bipush (v := (-3)) hx hb dX5_says_245 (by decide) ?_
      refine xT_gov hA hI (x_runST (As := [.int v4, .int (-3)]) (rest := []) X hK hA hG hI (xet_X0_need l hl0 v4 (-3) _ _ _ hs) iX0_need q565 q470 q94 ⟨(Nat.le_of_ble_eq_true rfl), (Nat.le_of_ble_eq_true rfl)⟩ rfl hl.1 rfl (Nat.le_of_ble_eq_true rfl) dX5_says_247 ⟨(Nat.le_of_ble_eq_true rfl), (Nat.le_of_ble_eq_true rfl)⟩) (fun En ce ad6 C7 H locs hs9 hI hce hvm hcl => ?_) (fun C5 H locs hs9 hI => ?_)
      · obtain ⟨rfl, hs0⟩ := hs9
        replace hs := hs0
        exact x_pass2 X hK hG hT (by intro z hz; have hz : z ∈ tableOf [(0, 251, 252, 21)] := hz; simp only [tableOf, List.map_cons, List.map_nil, List.mem_cons, List.not_mem_nil, or_false] at hz; rcases hz with rfl; exact Or.inr ⟨by decide, RJ7, q550, by decide⟩) hI hce hvm hcl ⟨rfl, hs⟩ (Nat.le_of_ble_eq_true rfl) (Nat.le_of_ble_eq_true rfl)
      · replace hs := hs9
        refine lv_iload_n hx hb dX5_says_250 rfl (lv_at hl 0 rfl) ?_
        exact vx_ret (x_reti X hK hI hs (Nat.le_of_ble_eq_true rfl) (Nat.le_of_ble_eq_true rfl) dX5_says_251)
    obtain ⟨nad8, rad8⟩ := hs
    have hlad8 := hl
    rcases o3 with _ | ad8
    · have hs := nad8 rfl
      have hl := hlad8
      refine lv_ifnullN (tgt := 244) hx hb dX5_says_237 (by decide) ?_
      refine lv_iconst (v := 0) hx hb dX5_says_244 (by decide) ?_
      exact Ek245_4 _ _ _ _ hs hI (lv_sub hl [1] rfl)
    · have hs := rad8 ad8 rfl
      have hl := hlad8
      refine lv_ifnull hx hb dX5_says_237 ?_
      refine lv_iconst (v := 1) hx hb dX5_says_240 (by decide) ?_
      refine lv_goto (tgt := 245) hx hb dX5_says_241 (by decide) ?_
      exact Ek245_4 _ _ _ _ hs hI (lv_sub hl [1] rfl)
  by_cases c8_0 : a1 = 1
  · replace hs := ifp c8_0 hs
    refine lv_tableIn (tgt := 40) hx hb dX5_says_1 (by rw [c8_0]; decide) (by rw [c8_0]; decide) (by rw [c8_0]; rfl) (by decide) ?_
    refine lv_aload_n hx hb dX5_says_40 rfl (lv_at hl 0 rfl) ?_
    obtain ⟨o10, eo10, hs⟩ := hs
    refine x_get (v := va_rf o10) X hK hI 5 0 rfl in_X5 rfl q323 rfl (xgo_spec eo10) dX5_says_41 ?_
    obtain ⟨k61_12, hk61_12, hs⟩ := jn_ex hs
    have Ek61_12 : ∀ (v11 : Int32) (C12 : XH) (H : Heap) (locs : List Loc) (ls : Array Slot), k61_12 v11 C12 → xI D dT A s.heap C12 H locs → lv_has ls 4 [(0, .ref a0)] → W p l e (xRm 12 10300 5 1024) s m args below meth c H locs 3 1010 (vx_MQ below (xQi D dT K A) (xXC D dT (xEK RX7 E) A) args s 5 1024 A) (F0 m 61 ls [.int v11]) := by
      intro v11 C12 H locs ls hs hI hl
      rw [hk61_12] at hs
      refine lv_istore_n (lv' := [(3, .int v11), (0, .ref a0)]) hx hb dX5_says_61 rfl hl (by decide) rfl (fun ls hl => ?_)
      refine lv_goto (tgt := 233) hx hb dX5_says_62 (by decide) ?_
      exact Ek233_2 _ _ _ _ _ hs hI (lv_sub hl [1, 0] rfl)
    obtain ⟨nad13, rad13⟩ := hs
    have hlad13 := hl
    rcases o10 with _ | ad13
    · have hs := nad13 rfl
      have hl := hlad13
      refine lv_ifnonnullN hx hb dX5_says_44 ?_
      refine lv_iconst (v := (-1)) hx hb dX5_says_47 (by decide) ?_
      refine lv_goto (tgt := 61) hx hb dX5_says_48 (by decide) ?_
      exact W.widen (Nat.le_of_ble_eq_true rfl) (Nat.le_of_ble_eq_true rfl) (Ek61_12 _ _ _ _ _ hs hI (lv_sub hl [0] rfl))
    · have hs := rad13 ad13 rfl
      have hl := hlad13
      refine lv_ifnonnull (tgt := 51) hx hb dX5_says_44 (by decide) ?_
      refine lv_aload_n hx hb dX5_says_51 rfl (lv_at hl 0 rfl) ?_
      obtain ⟨o14, eo14, hs⟩ := hs
      refine x_get (v := va_rf o14) X hK hI 5 0 rfl in_X5 rfl q323 rfl (xgo_spec eo14) dX5_says_52 ?_
      refine x_castT (Tn := RX14) (good := [14, 16]) X hK hG hI (by decide +kernel) (by decide +kernel) (by decide +kernel) q673 hs hl0 hl.1 (Nat.le_of_ble_eq_true rfl) (Nat.le_of_ble_eq_true rfl) (Nat.le_of_ble_eq_true rfl) (Nat.le_of_ble_eq_true rfl) dX5_says_55 (fun ce ad15 H hs9 hI hce hvm hcl => ?_) (fun hs9 => ?_)
      · replace hs := hs9
        refine x_catch (k := 0) (a1 := 0) (a2 := 251) (a3 := 252) (a4 := 21) X hG hT rfl (x_cov rfl) rfl (by decide) q550 (by decide) hce hvm hcl ?_
        refine lv_astore_n (lv' := [(3, .ref ad15), (0, .ref a0), (1, .int a1), (2, .ref a2)]) hx hb dX5_says_252 rfl hl (by decide) rfl (fun ls hl => ?_)
        refine x_new X hK hI hA 7 (fs := [.null, .null, .null, .null, .null, .int 0, .int 0]) rfl in_X7 tyX7 tyX7_ok q566 q446 q107 rfl (Nat.le_of_ble_eq_true rfl) (Nat.le_of_ble_eq_true rfl) hs dX5_says_253 (fun ad16 C17 H hs9 hI => ?_)
        replace hs := hs9
        refine lv_dup hx hb dX5_says_256 rfl ?_
        refine lv_bipush (v := (-2)) hx hb dX5_says_257 (by decide) ?_
        refine x_gov hA hI (x_runI (As := [.int (-2)]) (rest := [.ref ad16]) X hK hA hG hI (xet_X7_init l ad16 (-2) _ _ hs) iX7_init rfl q567 q455 q107 ⟨(Nat.le_of_ble_eq_true rfl), (Nat.le_of_ble_eq_true rfl)⟩ rfl hl.1 rfl (Nat.le_of_ble_eq_true rfl) dX5_says_259 ⟨(Nat.le_of_ble_eq_true rfl), (Nat.le_of_ble_eq_true rfl)⟩) (fun C18 H locs hs9 hI => ?_)
        replace hs := hs9
        obtain ⟨hf18, hs⟩ := hs
        obtain ⟨f18, hf18⟩ := xcl_spec hf18
        obtain ⟨ce, hce, hvm, hcl⟩ := x_thrown hK hI hf18 rfl
        refine vx_athrow hx hb dX5_says_262 ?_
        exact x_pass X hK hT rfl hI hce hvm hcl ⟨rfl, hs⟩ (Nat.le_of_ble_eq_true rfl) (Nat.le_of_ble_eq_true rfl)
      · replace hs := hs9
        obtain ⟨ad20, ead20, hzad20⟩ := hs
        have hlad20 := hl
        cases ead20
        have hs := hzad20
        have hl := hlad20
        refine x_goi hA hI (vdc_X14_puff (rest := []) X hK hA hG hI ad20 _ hs q674 ⟨(Nat.le_of_ble_eq_true rfl), (Nat.le_of_ble_eq_true rfl)⟩ hl.1 (Nat.le_of_ble_eq_true rfl) dX5_says_58 ⟨(Nat.le_of_ble_eq_true rfl), (Nat.le_of_ble_eq_true rfl)⟩) (fun r22 C21 H locs hs9 hI => ?_)
        replace hs := hs9
        exact W.widen (Nat.le_of_ble_eq_true rfl) (Nat.le_of_ble_eq_true rfl) (Ek61_12 _ _ _ _ _ hs hI (lv_sub hl [0] rfl))
  · replace hs := ifn c8_0 hs
    by_cases c8_1 : a1 = 2
    · replace hs := ifp c8_1 hs
      refine lv_tableIn (tgt := 65) hx hb dX5_says_1 (by rw [c8_1]; decide) (by rw [c8_1]; decide) (by rw [c8_1]; rfl) (by decide) ?_
      refine lv_aload_n hx hb dX5_says_65 rfl (lv_at hl 0 rfl) ?_
      obtain ⟨o23, eo23, hs⟩ := hs
      refine x_get (v := va_rf o23) X hK hI 5 0 rfl in_X5 rfl q323 rfl (xgo_spec eo23) dX5_says_66 ?_
      obtain ⟨k90_25, hk90_25, hs⟩ := jn_ex hs
      have Ek90_25 : ∀ (v24 : Int32) (C25 : XH) (H : Heap) (locs : List Loc) (ls : Array Slot), k90_25 v24 C25 → xI D dT A s.heap C25 H locs → lv_has ls 4 [(0, .ref a0)] → W p l e (xRm 12 10300 5 1024) s m args below meth c H locs 3 1010 (vx_MQ below (xQi D dT K A) (xXC D dT (xEK RX7 E) A) args s 5 1024 A) (F0 m 90 ls [.int v24]) := by
        intro v24 C25 H locs ls hs hI hl
        rw [hk90_25] at hs
        refine lv_istore_n (lv' := [(3, .int v24), (0, .ref a0)]) hx hb dX5_says_90 rfl hl (by decide) rfl (fun ls hl => ?_)
        refine lv_goto (tgt := 233) hx hb dX5_says_91 (by decide) ?_
        exact Ek233_2 _ _ _ _ _ hs hI (lv_sub hl [1, 0] rfl)
      obtain ⟨nad26, rad26⟩ := hs
      have hlad26 := hl
      rcases o23 with _ | ad26
      · have hs := nad26 rfl
        have hl := hlad26
        refine lv_ifnonnullN hx hb dX5_says_69 ?_
        refine lv_iconst (v := (-1)) hx hb dX5_says_72 (by decide) ?_
        refine lv_goto (tgt := 90) hx hb dX5_says_73 (by decide) ?_
        exact W.widen (Nat.le_of_ble_eq_true rfl) (Nat.le_of_ble_eq_true rfl) (Ek90_25 _ _ _ _ _ hs hI (lv_sub hl [0] rfl))
      · have hs := rad26 ad26 rfl
        have hl := hlad26
        refine lv_ifnonnull (tgt := 76) hx hb dX5_says_69 (by decide) ?_
        refine lv_aload_n hx hb dX5_says_76 rfl (lv_at hl 2 rfl) ?_
        refine lv_aload_n hx hb dX5_says_77 rfl (lv_at hl 0 rfl) ?_
        obtain ⟨o27, eo27, hs⟩ := hs
        refine x_get (v := va_rf o27) X hK hI 5 0 rfl in_X5 rfl q323 rfl (xgo_spec eo27) dX5_says_78 ?_
        refine x_castT (Tn := RX15) (good := [15, 18]) X hK hG hI (by decide +kernel) (by decide +kernel) (by decide +kernel) q688 hs hl0 hl.1 (Nat.le_of_ble_eq_true rfl) (Nat.le_of_ble_eq_true rfl) (Nat.le_of_ble_eq_true rfl) (Nat.le_of_ble_eq_true rfl) dX5_says_81 (fun ce ad28 H hs9 hI hce hvm hcl => ?_) (fun hs9 => ?_)
        · replace hs := hs9
          refine x_catch (k := 0) (a1 := 0) (a2 := 251) (a3 := 252) (a4 := 21) X hG hT rfl (x_cov rfl) rfl (by decide) q550 (by decide) hce hvm hcl ?_
          refine lv_astore_n (lv' := [(3, .ref ad28), (0, .ref a0), (1, .int a1), (2, .ref a2)]) hx hb dX5_says_252 rfl hl (by decide) rfl (fun ls hl => ?_)
          refine x_new X hK hI hA 7 (fs := [.null, .null, .null, .null, .null, .int 0, .int 0]) rfl in_X7 tyX7 tyX7_ok q566 q446 q107 rfl (Nat.le_of_ble_eq_true rfl) (Nat.le_of_ble_eq_true rfl) hs dX5_says_253 (fun ad29 C30 H hs9 hI => ?_)
          replace hs := hs9
          refine lv_dup hx hb dX5_says_256 rfl ?_
          refine lv_bipush (v := (-2)) hx hb dX5_says_257 (by decide) ?_
          refine x_gov hA hI (x_runI (As := [.int (-2)]) (rest := [.ref ad29]) X hK hA hG hI (xet_X7_init l ad29 (-2) _ _ hs) iX7_init rfl q567 q455 q107 ⟨(Nat.le_of_ble_eq_true rfl), (Nat.le_of_ble_eq_true rfl)⟩ rfl hl.1 rfl (Nat.le_of_ble_eq_true rfl) dX5_says_259 ⟨(Nat.le_of_ble_eq_true rfl), (Nat.le_of_ble_eq_true rfl)⟩) (fun C31 H locs hs9 hI => ?_)
          replace hs := hs9
          obtain ⟨hf31, hs⟩ := hs
          obtain ⟨f31, hf31⟩ := xcl_spec hf31
          obtain ⟨ce, hce, hvm, hcl⟩ := x_thrown hK hI hf31 rfl
          refine vx_athrow hx hb dX5_says_262 ?_
          exact x_pass X hK hT rfl hI hce hvm hcl ⟨rfl, hs⟩ (Nat.le_of_ble_eq_true rfl) (Nat.le_of_ble_eq_true rfl)
        · replace hs := hs9
          obtain ⟨ad33, ead33, hzad33⟩ := hs
          have hlad33 := hl
          cases ead33
          have hs := hzad33
          have hl := hlad33
          obtain ⟨v34, ev34, hs⟩ := hs
          refine x_getH (v := .int v34) X hK hI 0 (by decide) q793 (x_same X q794) (xgi_spec ev34) dX5_says_84 ?_
          obtain ⟨h36, hs⟩ := hs
          obtain ⟨fh36, h36⟩ := xcl_spec h36
          refine x_goi hA hI (x_runV (As := [.int v34]) (rest := []) X hK hA hG hI h36 (q := (RX4, TX4, 13)) rfl rfl (xet_X4_strideOf l a2 v34 _ _ hs) iX4_strideOf q689 q690 q691 q98 ⟨(Nat.le_of_ble_eq_true rfl), (Nat.le_of_ble_eq_true rfl)⟩ rfl hl.1 rfl (Nat.le_of_ble_eq_true rfl) dX5_says_87 ⟨(Nat.le_of_ble_eq_true rfl), (Nat.le_of_ble_eq_true rfl)⟩) (fun r36 C35 H locs hs9 hI => ?_)
          replace hs := hs9
          exact W.widen (Nat.le_of_ble_eq_true rfl) (Nat.le_of_ble_eq_true rfl) (Ek90_25 _ _ _ _ _ hs hI (lv_sub hl [0] rfl))
    · replace hs := ifn c8_1 hs
      by_cases c8_2 : a1 = 3
      · replace hs := ifp c8_2 hs
        refine lv_tableIn (tgt := 94) hx hb dX5_says_1 (by rw [c8_2]; decide) (by rw [c8_2]; decide) (by rw [c8_2]; rfl) (by decide) ?_
        refine lv_aload_n hx hb dX5_says_94 rfl (lv_at hl 0 rfl) ?_
        obtain ⟨o38, eo38, hs⟩ := hs
        refine x_get (v := va_rf o38) X hK hI 5 0 rfl in_X5 rfl q323 rfl (xgo_spec eo38) dX5_says_95 ?_
        obtain ⟨k115_40, hk115_40, hs⟩ := jn_ex hs
        have Ek115_40 : ∀ (v39 : Int32) (C40 : XH) (H : Heap) (locs : List Loc) (ls : Array Slot), k115_40 v39 C40 → xI D dT A s.heap C40 H locs → lv_has ls 4 [(0, .ref a0)] → W p l e (xRm 12 10300 5 1024) s m args below meth c H locs 3 1010 (vx_MQ below (xQi D dT K A) (xXC D dT (xEK RX7 E) A) args s 5 1024 A) (F0 m 115 ls [.int v39]) := by
          intro v39 C40 H locs ls hs hI hl
          rw [hk115_40] at hs
          refine lv_istore_n (lv' := [(3, .int v39), (0, .ref a0)]) hx hb dX5_says_115 rfl hl (by decide) rfl (fun ls hl => ?_)
          refine lv_goto (tgt := 233) hx hb dX5_says_116 (by decide) ?_
          exact Ek233_2 _ _ _ _ _ hs hI (lv_sub hl [1, 0] rfl)
        obtain ⟨nad41, rad41⟩ := hs
        have hlad41 := hl
        rcases o38 with _ | ad41
        · have hs := nad41 rfl
          have hl := hlad41
          refine lv_ifnonnullN hx hb dX5_says_98 ?_
          refine lv_iconst (v := (-1)) hx hb dX5_says_101 (by decide) ?_
          refine lv_goto (tgt := 115) hx hb dX5_says_102 (by decide) ?_
          exact W.widen (Nat.le_of_ble_eq_true rfl) (Nat.le_of_ble_eq_true rfl) (Ek115_40 _ _ _ _ _ hs hI (lv_sub hl [0] rfl))
        · have hs := rad41 ad41 rfl
          have hl := hlad41
          refine lv_ifnonnull (tgt := 105) hx hb dX5_says_98 (by decide) ?_
          refine lv_aload_n hx hb dX5_says_105 rfl (lv_at hl 0 rfl) ?_
          obtain ⟨o42, eo42, hs⟩ := hs
          refine x_get (v := va_rf o42) X hK hI 5 0 rfl in_X5 rfl q323 rfl (xgo_spec eo42) dX5_says_106 ?_
          refine x_castT (Tn := RX16) (good := [16]) X hK hG hI (by decide +kernel) (by decide +kernel) (by decide +kernel) q742 hs hl0 hl.1 (Nat.le_of_ble_eq_true rfl) (Nat.le_of_ble_eq_true rfl) (Nat.le_of_ble_eq_true rfl) (Nat.le_of_ble_eq_true rfl) dX5_says_109 (fun ce ad43 H hs9 hI hce hvm hcl => ?_) (fun hs9 => ?_)
          · replace hs := hs9
            refine x_catch (k := 0) (a1 := 0) (a2 := 251) (a3 := 252) (a4 := 21) X hG hT rfl (x_cov rfl) rfl (by decide) q550 (by decide) hce hvm hcl ?_
            refine lv_astore_n (lv' := [(3, .ref ad43), (0, .ref a0), (1, .int a1), (2, .ref a2)]) hx hb dX5_says_252 rfl hl (by decide) rfl (fun ls hl => ?_)
            refine x_new X hK hI hA 7 (fs := [.null, .null, .null, .null, .null, .int 0, .int 0]) rfl in_X7 tyX7 tyX7_ok q566 q446 q107 rfl (Nat.le_of_ble_eq_true rfl) (Nat.le_of_ble_eq_true rfl) hs dX5_says_253 (fun ad44 C45 H hs9 hI => ?_)
            replace hs := hs9
            refine lv_dup hx hb dX5_says_256 rfl ?_
            refine lv_bipush (v := (-2)) hx hb dX5_says_257 (by decide) ?_
            refine x_gov hA hI (x_runI (As := [.int (-2)]) (rest := [.ref ad44]) X hK hA hG hI (xet_X7_init l ad44 (-2) _ _ hs) iX7_init rfl q567 q455 q107 ⟨(Nat.le_of_ble_eq_true rfl), (Nat.le_of_ble_eq_true rfl)⟩ rfl hl.1 rfl (Nat.le_of_ble_eq_true rfl) dX5_says_259 ⟨(Nat.le_of_ble_eq_true rfl), (Nat.le_of_ble_eq_true rfl)⟩) (fun C46 H locs hs9 hI => ?_)
            replace hs := hs9
            obtain ⟨hf46, hs⟩ := hs
            obtain ⟨f46, hf46⟩ := xcl_spec hf46
            obtain ⟨ce, hce, hvm, hcl⟩ := x_thrown hK hI hf46 rfl
            refine vx_athrow hx hb dX5_says_262 ?_
            exact x_pass X hK hT rfl hI hce hvm hcl ⟨rfl, hs⟩ (Nat.le_of_ble_eq_true rfl) (Nat.le_of_ble_eq_true rfl)
          · replace hs := hs9
            obtain ⟨ad48, ead48, hzad48⟩ := hs
            have hlad48 := hl
            cases ead48
            have hs := hzad48
            have hl := hlad48
            obtain ⟨h50, hs⟩ := hs
            obtain ⟨fh50, h50⟩ := xcl_spec h50
            refine x_goi hA hI (x_runV (As := []) (rest := []) X hK hA hG hI h50 (q := (RX16, TX16, 2)) rfl rfl (xet_X16_puff l ad48 _ _ hs) iX16_puff q743 q679 q2034 q120 ⟨(Nat.le_of_ble_eq_true rfl), (Nat.le_of_ble_eq_true rfl)⟩ rfl hl.1 rfl (Nat.le_of_ble_eq_true rfl) dX5_says_112 ⟨(Nat.le_of_ble_eq_true rfl), (Nat.le_of_ble_eq_true rfl)⟩) (fun r50 C49 H locs hs9 hI => ?_)
            replace hs := hs9
            exact W.widen (Nat.le_of_ble_eq_true rfl) (Nat.le_of_ble_eq_true rfl) (Ek115_40 _ _ _ _ _ hs hI (lv_sub hl [0] rfl))
      · replace hs := ifn c8_2 hs
        by_cases c8_3 : a1 = 4
        · replace hs := ifp c8_3 hs
          refine lv_tableIn (tgt := 119) hx hb dX5_says_1 (by rw [c8_3]; decide) (by rw [c8_3]; decide) (by rw [c8_3]; rfl) (by decide) ?_
          refine lv_aload_n hx hb dX5_says_119 rfl (lv_at hl 0 rfl) ?_
          obtain ⟨o52, eo52, hs⟩ := hs
          refine x_get (v := va_rf o52) X hK hI 5 0 rfl in_X5 rfl q323 rfl (xgo_spec eo52) dX5_says_120 ?_
          obtain ⟨k144_54, hk144_54, hs⟩ := jn_ex hs
          have Ek144_54 : ∀ (v53 : Int32) (C54 : XH) (H : Heap) (locs : List Loc) (ls : Array Slot), k144_54 v53 C54 → xI D dT A s.heap C54 H locs → lv_has ls 4 [(0, .ref a0)] → W p l e (xRm 12 10300 5 1024) s m args below meth c H locs 3 1010 (vx_MQ below (xQi D dT K A) (xXC D dT (xEK RX7 E) A) args s 5 1024 A) (F0 m 144 ls [.int v53]) := by
            intro v53 C54 H locs ls hs hI hl
            rw [hk144_54] at hs
            refine lv_istore_n (lv' := [(3, .int v53), (0, .ref a0)]) hx hb dX5_says_144 rfl hl (by decide) rfl (fun ls hl => ?_)
            refine lv_goto (tgt := 233) hx hb dX5_says_145 (by decide) ?_
            exact Ek233_2 _ _ _ _ _ hs hI (lv_sub hl [1, 0] rfl)
          obtain ⟨nad55, rad55⟩ := hs
          have hlad55 := hl
          rcases o52 with _ | ad55
          · have hs := nad55 rfl
            have hl := hlad55
            refine lv_ifnonnullN hx hb dX5_says_123 ?_
            refine lv_iconst (v := (-1)) hx hb dX5_says_126 (by decide) ?_
            refine lv_goto (tgt := 144) hx hb dX5_says_127 (by decide) ?_
            exact W.widen (Nat.le_of_ble_eq_true rfl) (Nat.le_of_ble_eq_true rfl) (Ek144_54 _ _ _ _ _ hs hI (lv_sub hl [0] rfl))
          · have hs := rad55 ad55 rfl
            have hl := hlad55
            refine lv_ifnonnull (tgt := 130) hx hb dX5_says_123 (by decide) ?_
            refine lv_aload_n hx hb dX5_says_130 rfl (lv_at hl 2 rfl) ?_
            refine lv_aload_n hx hb dX5_says_131 rfl (lv_at hl 0 rfl) ?_
            obtain ⟨o56, eo56, hs⟩ := hs
            refine x_get (v := va_rf o56) X hK hI 5 0 rfl in_X5 rfl q323 rfl (xgo_spec eo56) dX5_says_132 ?_
            refine x_castT (Tn := RX17) (good := [17, 19]) X hK hG hI (by decide +kernel) (by decide +kernel) (by decide +kernel) q744 hs hl0 hl.1 (Nat.le_of_ble_eq_true rfl) (Nat.le_of_ble_eq_true rfl) (Nat.le_of_ble_eq_true rfl) (Nat.le_of_ble_eq_true rfl) dX5_says_135 (fun ce ad57 H hs9 hI hce hvm hcl => ?_) (fun hs9 => ?_)
            · replace hs := hs9
              refine x_catch (k := 0) (a1 := 0) (a2 := 251) (a3 := 252) (a4 := 21) X hG hT rfl (x_cov rfl) rfl (by decide) q550 (by decide) hce hvm hcl ?_
              refine lv_astore_n (lv' := [(3, .ref ad57), (0, .ref a0), (1, .int a1), (2, .ref a2)]) hx hb dX5_says_252 rfl hl (by decide) rfl (fun ls hl => ?_)
              refine x_new X hK hI hA 7 (fs := [.null, .null, .null, .null, .null, .int 0, .int 0]) rfl in_X7 tyX7 tyX7_ok q566 q446 q107 rfl (Nat.le_of_ble_eq_true rfl) (Nat.le_of_ble_eq_true rfl) hs dX5_says_253 (fun ad58 C59 H hs9 hI => ?_)
              replace hs := hs9
              refine lv_dup hx hb dX5_says_256 rfl ?_
              refine lv_bipush (v := (-2)) hx hb dX5_says_257 (by decide) ?_
              refine x_gov hA hI (x_runI (As := [.int (-2)]) (rest := [.ref ad58]) X hK hA hG hI (xet_X7_init l ad58 (-2) _ _ hs) iX7_init rfl q567 q455 q107 ⟨(Nat.le_of_ble_eq_true rfl), (Nat.le_of_ble_eq_true rfl)⟩ rfl hl.1 rfl (Nat.le_of_ble_eq_true rfl) dX5_says_259 ⟨(Nat.le_of_ble_eq_true rfl), (Nat.le_of_ble_eq_true rfl)⟩) (fun C60 H locs hs9 hI => ?_)
              replace hs := hs9
              obtain ⟨hf60, hs⟩ := hs
              obtain ⟨f60, hf60⟩ := xcl_spec hf60
              obtain ⟨ce, hce, hvm, hcl⟩ := x_thrown hK hI hf60 rfl
              refine vx_athrow hx hb dX5_says_262 ?_
              exact x_pass X hK hT rfl hI hce hvm hcl ⟨rfl, hs⟩ (Nat.le_of_ble_eq_true rfl) (Nat.le_of_ble_eq_true rfl)
            · replace hs := hs9
              obtain ⟨ad62, ead62, hzad62⟩ := hs
              have hlad62 := hl
              cases ead62
              have hs := hzad62
              have hl := hlad62
              obtain ⟨v63, ev63, hs⟩ := hs
              refine x_getH (v := .int v63) X hK hI 0 (by decide) q795 (x_same X q796) (xgi_spec ev63) dX5_says_138 ?_
              obtain ⟨h65, hs⟩ := hs
              obtain ⟨fh65, h65⟩ := xcl_spec h65
              refine x_goi hA hI (x_runV (As := [.int v63]) (rest := []) X hK hA hG hI h65 (q := (RX4, TX4, 13)) rfl rfl (xet_X4_riskOf l a2 v63 _ _ hs) iX4_riskOf q745 q746 q747 q98 ⟨(Nat.le_of_ble_eq_true rfl), (Nat.le_of_ble_eq_true rfl)⟩ rfl hl.1 rfl (Nat.le_of_ble_eq_true rfl) dX5_says_141 ⟨(Nat.le_of_ble_eq_true rfl), (Nat.le_of_ble_eq_true rfl)⟩) (fun r65 C64 H locs hs9 hI => ?_)
              replace hs := hs9
              exact W.widen (Nat.le_of_ble_eq_true rfl) (Nat.le_of_ble_eq_true rfl) (Ek144_54 _ _ _ _ _ hs hI (lv_sub hl [0] rfl))
        · replace hs := ifn c8_3 hs
          by_cases c8_4 : a1 = 5
          · replace hs := ifp c8_4 hs
            refine lv_tableIn (tgt := 148) hx hb dX5_says_1 (by rw [c8_4]; decide) (by rw [c8_4]; decide) (by rw [c8_4]; rfl) (by decide) ?_
            refine lv_aload_n hx hb dX5_says_148 rfl (lv_at hl 0 rfl) ?_
            obtain ⟨o67, eo67, hs⟩ := hs
            refine x_get (v := va_rf o67) X hK hI 5 0 rfl in_X5 rfl q323 rfl (xgo_spec eo67) dX5_says_149 ?_
            obtain ⟨k173_69, hk173_69, hs⟩ := jn_ex hs
            have Ek173_69 : ∀ (v68 : Int32) (C69 : XH) (H : Heap) (locs : List Loc) (ls : Array Slot), k173_69 v68 C69 → xI D dT A s.heap C69 H locs → lv_has ls 4 [(0, .ref a0)] → W p l e (xRm 12 10300 5 1024) s m args below meth c H locs 3 1010 (vx_MQ below (xQi D dT K A) (xXC D dT (xEK RX7 E) A) args s 5 1024 A) (F0 m 173 ls [.int v68]) := by
              intro v68 C69 H locs ls hs hI hl
              rw [hk173_69] at hs
              refine lv_istore_n (lv' := [(3, .int v68), (0, .ref a0)]) hx hb dX5_says_173 rfl hl (by decide) rfl (fun ls hl => ?_)
              refine lv_goto (tgt := 233) hx hb dX5_says_174 (by decide) ?_
              exact Ek233_2 _ _ _ _ _ hs hI (lv_sub hl [1, 0] rfl)
            obtain ⟨nad70, rad70⟩ := hs
            have hlad70 := hl
            rcases o67 with _ | ad70
            · have hs := nad70 rfl
              have hl := hlad70
              refine lv_ifnonnullN hx hb dX5_says_152 ?_
              refine lv_iconst (v := (-1)) hx hb dX5_says_155 (by decide) ?_
              refine lv_goto (tgt := 173) hx hb dX5_says_156 (by decide) ?_
              exact W.widen (Nat.le_of_ble_eq_true rfl) (Nat.le_of_ble_eq_true rfl) (Ek173_69 _ _ _ _ _ hs hI (lv_sub hl [0] rfl))
            · have hs := rad70 ad70 rfl
              have hl := hlad70
              refine lv_ifnonnull (tgt := 159) hx hb dX5_says_152 (by decide) ?_
              refine lv_aload_n hx hb dX5_says_159 rfl (lv_at hl 2 rfl) ?_
              refine lv_aload_n hx hb dX5_says_160 rfl (lv_at hl 0 rfl) ?_
              obtain ⟨o71, eo71, hs⟩ := hs
              refine x_get (v := va_rf o71) X hK hI 5 0 rfl in_X5 rfl q323 rfl (xgo_spec eo71) dX5_says_161 ?_
              refine x_castT (Tn := RX18) (good := [18]) X hK hG hI (by decide +kernel) (by decide +kernel) (by decide +kernel) q769 hs hl0 hl.1 (Nat.le_of_ble_eq_true rfl) (Nat.le_of_ble_eq_true rfl) (Nat.le_of_ble_eq_true rfl) (Nat.le_of_ble_eq_true rfl) dX5_says_164 (fun ce ad72 H hs9 hI hce hvm hcl => ?_) (fun hs9 => ?_)
              · replace hs := hs9
                refine x_catch (k := 0) (a1 := 0) (a2 := 251) (a3 := 252) (a4 := 21) X hG hT rfl (x_cov rfl) rfl (by decide) q550 (by decide) hce hvm hcl ?_
                refine lv_astore_n (lv' := [(3, .ref ad72), (0, .ref a0), (1, .int a1), (2, .ref a2)]) hx hb dX5_says_252 rfl hl (by decide) rfl (fun ls hl => ?_)
                refine x_new X hK hI hA 7 (fs := [.null, .null, .null, .null, .null, .int 0, .int 0]) rfl in_X7 tyX7 tyX7_ok q566 q446 q107 rfl (Nat.le_of_ble_eq_true rfl) (Nat.le_of_ble_eq_true rfl) hs dX5_says_253 (fun ad73 C74 H hs9 hI => ?_)
                replace hs := hs9
                refine lv_dup hx hb dX5_says_256 rfl ?_
                refine lv_bipush (v := (-2)) hx hb dX5_says_257 (by decide) ?_
                refine x_gov hA hI (x_runI (As := [.int (-2)]) (rest := [.ref ad73]) X hK hA hG hI (xet_X7_init l ad73 (-2) _ _ hs) iX7_init rfl q567 q455 q107 ⟨(Nat.le_of_ble_eq_true rfl), (Nat.le_of_ble_eq_true rfl)⟩ rfl hl.1 rfl (Nat.le_of_ble_eq_true rfl) dX5_says_259 ⟨(Nat.le_of_ble_eq_true rfl), (Nat.le_of_ble_eq_true rfl)⟩) (fun C75 H locs hs9 hI => ?_)
                replace hs := hs9
                obtain ⟨hf75, hs⟩ := hs
                obtain ⟨f75, hf75⟩ := xcl_spec hf75
                obtain ⟨ce, hce, hvm, hcl⟩ := x_thrown hK hI hf75 rfl
                refine vx_athrow hx hb dX5_says_262 ?_
                exact x_pass X hK hT rfl hI hce hvm hcl ⟨rfl, hs⟩ (Nat.le_of_ble_eq_true rfl) (Nat.le_of_ble_eq_true rfl)
              · replace hs := hs9
                obtain ⟨ad77, ead77, hzad77⟩ := hs
                have hlad77 := hl
                cases ead77
                have hs := hzad77
                have hl := hlad77
                obtain ⟨v78, ev78, hs⟩ := hs
                refine x_getH (v := .int v78) X hK hI 0 (by decide) q797 (x_same X q798) (xgi_spec ev78) dX5_says_167 ?_
                obtain ⟨h80, hs⟩ := hs
                obtain ⟨fh80, h80⟩ := xcl_spec h80
                refine x_goi hA hI (x_runV (As := [.int v78]) (rest := []) X hK hA hG hI h80 (q := (RX4, TX4, 13)) rfl rfl (xet_X4_strideOf l a2 v78 _ _ hs) iX4_strideOf q689 q690 q691 q98 ⟨(Nat.le_of_ble_eq_true rfl), (Nat.le_of_ble_eq_true rfl)⟩ rfl hl.1 rfl (Nat.le_of_ble_eq_true rfl) dX5_says_170 ⟨(Nat.le_of_ble_eq_true rfl), (Nat.le_of_ble_eq_true rfl)⟩) (fun r80 C79 H locs hs9 hI => ?_)
                replace hs := hs9
                exact W.widen (Nat.le_of_ble_eq_true rfl) (Nat.le_of_ble_eq_true rfl) (Ek173_69 _ _ _ _ _ hs hI (lv_sub hl [0] rfl))
          · replace hs := ifn c8_4 hs
            by_cases c8_5 : a1 = 6
            · replace hs := ifp c8_5 hs
              refine lv_tableIn (tgt := 177) hx hb dX5_says_1 (by rw [c8_5]; decide) (by rw [c8_5]; decide) (by rw [c8_5]; rfl) (by decide) ?_
              refine lv_aload_n hx hb dX5_says_177 rfl (lv_at hl 0 rfl) ?_
              obtain ⟨o82, eo82, hs⟩ := hs
              refine x_get (v := va_rf o82) X hK hI 5 0 rfl in_X5 rfl q323 rfl (xgo_spec eo82) dX5_says_178 ?_
              obtain ⟨k202_84, hk202_84, hs⟩ := jn_ex hs
              have Ek202_84 : ∀ (v83 : Int32) (C84 : XH) (H : Heap) (locs : List Loc) (ls : Array Slot), k202_84 v83 C84 → xI D dT A s.heap C84 H locs → lv_has ls 4 [(0, .ref a0)] → W p l e (xRm 12 10300 5 1024) s m args below meth c H locs 3 1010 (vx_MQ below (xQi D dT K A) (xXC D dT (xEK RX7 E) A) args s 5 1024 A) (F0 m 202 ls [.int v83]) := by
                intro v83 C84 H locs ls hs hI hl
                rw [hk202_84] at hs
                refine lv_istore_n (lv' := [(3, .int v83), (0, .ref a0)]) hx hb dX5_says_202 rfl hl (by decide) rfl (fun ls hl => ?_)
                refine lv_goto (tgt := 233) hx hb dX5_says_203 (by decide) ?_
                exact Ek233_2 _ _ _ _ _ hs hI (lv_sub hl [1, 0] rfl)
              obtain ⟨nad85, rad85⟩ := hs
              have hlad85 := hl
              rcases o82 with _ | ad85
              · have hs := nad85 rfl
                have hl := hlad85
                refine lv_ifnonnullN hx hb dX5_says_181 ?_
                refine lv_iconst (v := (-1)) hx hb dX5_says_184 (by decide) ?_
                refine lv_goto (tgt := 202) hx hb dX5_says_185 (by decide) ?_
                exact W.widen (Nat.le_of_ble_eq_true rfl) (Nat.le_of_ble_eq_true rfl) (Ek202_84 _ _ _ _ _ hs hI (lv_sub hl [0] rfl))
              · have hs := rad85 ad85 rfl
                have hl := hlad85
                refine lv_ifnonnull (tgt := 188) hx hb dX5_says_181 (by decide) ?_
                refine lv_aload_n hx hb dX5_says_188 rfl (lv_at hl 2 rfl) ?_
                refine lv_aload_n hx hb dX5_says_189 rfl (lv_at hl 0 rfl) ?_
                obtain ⟨o86, eo86, hs⟩ := hs
                refine x_get (v := va_rf o86) X hK hI 5 0 rfl in_X5 rfl q323 rfl (xgo_spec eo86) dX5_says_190 ?_
                refine x_castT (Tn := RX19) (good := [19]) X hK hG hI (by decide +kernel) (by decide +kernel) (by decide +kernel) q770 hs hl0 hl.1 (Nat.le_of_ble_eq_true rfl) (Nat.le_of_ble_eq_true rfl) (Nat.le_of_ble_eq_true rfl) (Nat.le_of_ble_eq_true rfl) dX5_says_193 (fun ce ad87 H hs9 hI hce hvm hcl => ?_) (fun hs9 => ?_)
                · replace hs := hs9
                  refine x_catch (k := 0) (a1 := 0) (a2 := 251) (a3 := 252) (a4 := 21) X hG hT rfl (x_cov rfl) rfl (by decide) q550 (by decide) hce hvm hcl ?_
                  refine lv_astore_n (lv' := [(3, .ref ad87), (0, .ref a0), (1, .int a1), (2, .ref a2)]) hx hb dX5_says_252 rfl hl (by decide) rfl (fun ls hl => ?_)
                  refine x_new X hK hI hA 7 (fs := [.null, .null, .null, .null, .null, .int 0, .int 0]) rfl in_X7 tyX7 tyX7_ok q566 q446 q107 rfl (Nat.le_of_ble_eq_true rfl) (Nat.le_of_ble_eq_true rfl) hs dX5_says_253 (fun ad88 C89 H hs9 hI => ?_)
                  replace hs := hs9
                  refine lv_dup hx hb dX5_says_256 rfl ?_
                  refine lv_bipush (v := (-2)) hx hb dX5_says_257 (by decide) ?_
                  refine x_gov hA hI (x_runI (As := [.int (-2)]) (rest := [.ref ad88]) X hK hA hG hI (xet_X7_init l ad88 (-2) _ _ hs) iX7_init rfl q567 q455 q107 ⟨(Nat.le_of_ble_eq_true rfl), (Nat.le_of_ble_eq_true rfl)⟩ rfl hl.1 rfl (Nat.le_of_ble_eq_true rfl) dX5_says_259 ⟨(Nat.le_of_ble_eq_true rfl), (Nat.le_of_ble_eq_true rfl)⟩) (fun C90 H locs hs9 hI => ?_)
                  replace hs := hs9
                  obtain ⟨hf90, hs⟩ := hs
                  obtain ⟨f90, hf90⟩ := xcl_spec hf90
                  obtain ⟨ce, hce, hvm, hcl⟩ := x_thrown hK hI hf90 rfl
                  refine vx_athrow hx hb dX5_says_262 ?_
                  exact x_pass X hK hT rfl hI hce hvm hcl ⟨rfl, hs⟩ (Nat.le_of_ble_eq_true rfl) (Nat.le_of_ble_eq_true rfl)
                · replace hs := hs9
                  obtain ⟨ad92, ead92, hzad92⟩ := hs
                  have hlad92 := hl
                  cases ead92
                  have hs := hzad92
                  have hl := hlad92
                  obtain ⟨v93, ev93, hs⟩ := hs
                  refine x_getH (v := .int v93) X hK hI 0 (by decide) q799 (x_same X q800) (xgi_spec ev93) dX5_says_196 ?_
                  obtain ⟨h95, hs⟩ := hs
                  obtain ⟨fh95, h95⟩ := xcl_spec h95
                  refine x_goi hA hI (x_runV (As := [.int v93]) (rest := []) X hK hA hG hI h95 (q := (RX4, TX4, 13)) rfl rfl (xet_X4_riskOf l a2 v93 _ _ hs) iX4_riskOf q745 q746 q747 q98 ⟨(Nat.le_of_ble_eq_true rfl), (Nat.le_of_ble_eq_true rfl)⟩ rfl hl.1 rfl (Nat.le_of_ble_eq_true rfl) dX5_says_199 ⟨(Nat.le_of_ble_eq_true rfl), (Nat.le_of_ble_eq_true rfl)⟩) (fun r95 C94 H locs hs9 hI => ?_)
                  replace hs := hs9
                  exact W.widen (Nat.le_of_ble_eq_true rfl) (Nat.le_of_ble_eq_true rfl) (Ek202_84 _ _ _ _ _ hs hI (lv_sub hl [0] rfl))
            · replace hs := ifn c8_5 hs
              refine lv_tableOut (tgt := 206) hx hb dX5_says_1 (sw_out (fun k h1 h2 => by
                have h3 : k = 1 ∨ k = 2 ∨ k = 3 ∨ k = 4 ∨ k = 5 ∨ k = 6 := by omega
                rcases h3 with rfl | rfl | rfl | rfl | rfl | rfl
                · exact lv_neT c8_0 rfl
                · exact lv_neT c8_1 rfl
                · exact lv_neT c8_2 rfl
                · exact lv_neT c8_3 rfl
                · exact lv_neT c8_4 rfl
                · exact lv_neT c8_5 rfl
                )) (by decide) ?_
              refine lv_aload_n hx hb dX5_says_206 rfl (lv_at hl 0 rfl) ?_
              obtain ⟨o97, eo97, hs⟩ := hs
              refine x_get (v := va_rf o97) X hK hI 5 0 rfl in_X5 rfl q323 rfl (xgo_spec eo97) dX5_says_207 ?_
              obtain ⟨k232_98, hk232_98, hs⟩ := jn_ex hs
              have Ek232_98 : ∀ (v98 : Int32) (H : Heap) (locs : List Loc) (ls : Array Slot), k232_98 v98 → xI D dT A s.heap C H locs → lv_has ls 4 [(0, .ref a0)] → W p l e (xRm 12 10300 5 1024) s m args below meth c H locs 3 1010 (vx_MQ below (xQi D dT K A) (xXC D dT (xEK RX7 E) A) args s 5 1024 A) (F0 m 232 ls [.int v98]) := by
                intro v98 H locs ls hs hI hl
                rw [hk232_98] at hs
                refine lv_istore_n (lv' := [(3, .int v98), (0, .ref a0)]) hx hb dX5_says_232 rfl hl (by decide) rfl (fun ls hl => ?_)
                exact Ek233_2 _ _ _ _ _ hs hI (lv_sub hl [1, 0] rfl)
              obtain ⟨nad99, rad99⟩ := hs
              have hlad99 := hl
              rcases o97 with _ | ad99
              · have hs := nad99 rfl
                have hl := hlad99
                refine lv_ifnonnullN hx hb dX5_says_210 ?_
                refine lv_iconst (v := (-1)) hx hb dX5_says_213 (by decide) ?_
                refine lv_goto (tgt := 232) hx hb dX5_says_214 (by decide) ?_
                exact W.widen (Nat.le_of_ble_eq_true rfl) (Nat.le_of_ble_eq_true rfl) (Ek232_98 _ _ _ _ hs hI (lv_sub hl [0] rfl))
              · have hs := rad99 ad99 rfl
                have hl := hlad99
                refine lv_ifnonnull (tgt := 217) hx hb dX5_says_210 (by decide) ?_
                refine lv_aload_n hx hb dX5_says_217 rfl (lv_at hl 2 rfl) ?_
                obtain ⟨ad100, ead100, hs⟩ := hs
                refine x_get (v := .ref ad100) X hK hI 4 7 rfl in_X4 rfl q275 rfl (xgr_spec ead100) dX5_says_218 ?_
                refine lv_aload_n hx hb dX5_says_221 rfl (lv_at hl 0 rfl) ?_
                obtain ⟨o101, eo101, hs⟩ := hs
                refine x_get (v := va_rf o101) X hK hI 5 0 rfl in_X5 rfl q323 rfl (xgo_spec eo101) dX5_says_222 ?_
                refine x_castT (Tn := RX13) (good := [13, 14, 15, 16, 17, 18, 19]) X hK hG hI (by decide +kernel) (by decide +kernel) (by decide +kernel) q592 hs hl0 hl.1 (Nat.le_of_ble_eq_true rfl) (Nat.le_of_ble_eq_true rfl) (Nat.le_of_ble_eq_true rfl) (Nat.le_of_ble_eq_true rfl) dX5_says_225 (fun ce ad102 H hs9 hI hce hvm hcl => ?_) (fun hs9 => ?_)
                · replace hs := hs9
                  refine x_catch (k := 0) (a1 := 0) (a2 := 251) (a3 := 252) (a4 := 21) X hG hT rfl (x_cov rfl) rfl (by decide) q550 (by decide) hce hvm hcl ?_
                  refine lv_astore_n (lv' := [(3, .ref ad102), (0, .ref a0), (1, .int a1), (2, .ref a2)]) hx hb dX5_says_252 rfl hl (by decide) rfl (fun ls hl => ?_)
                  refine x_new X hK hI hA 7 (fs := [.null, .null, .null, .null, .null, .int 0, .int 0]) rfl in_X7 tyX7 tyX7_ok q566 q446 q107 rfl (Nat.le_of_ble_eq_true rfl) (Nat.le_of_ble_eq_true rfl) hs dX5_says_253 (fun ad103 C104 H hs9 hI => ?_)
                  replace hs := hs9
                  refine lv_dup hx hb dX5_says_256 rfl ?_
                  refine lv_bipush (v := (-2)) hx hb dX5_says_257 (by decide) ?_
                  refine x_gov hA hI (x_runI (As := [.int (-2)]) (rest := [.ref ad103]) X hK hA hG hI (xet_X7_init l ad103 (-2) _ _ hs) iX7_init rfl q567 q455 q107 ⟨(Nat.le_of_ble_eq_true rfl), (Nat.le_of_ble_eq_true rfl)⟩ rfl hl.1 rfl (Nat.le_of_ble_eq_true rfl) dX5_says_259 ⟨(Nat.le_of_ble_eq_true rfl), (Nat.le_of_ble_eq_true rfl)⟩) (fun C105 H locs hs9 hI => ?_)
                  replace hs := hs9
                  obtain ⟨hf105, hs⟩ := hs
                  obtain ⟨f105, hf105⟩ := xcl_spec hf105
                  obtain ⟨ce, hce, hvm, hcl⟩ := x_thrown hK hI hf105 rfl
                  refine vx_athrow hx hb dX5_says_262 ?_
                  exact x_pass X hK hT rfl hI hce hvm hcl ⟨rfl, hs⟩ (Nat.le_of_ble_eq_true rfl) (Nat.le_of_ble_eq_true rfl)
                · replace hs := hs9
                  obtain ⟨ad107, ead107, hzad107⟩ := hs
                  have hlad107 := hl
                  cases ead107
                  have hs := hzad107
                  have hl := hlad107
                  obtain ⟨v108, ev108, hs⟩ := hs
                  refine x_getH (v := .int v108) X hK hI 0 (by decide) q801 (fun x hx => hx) (xgi_spec ev108) dX5_says_228 ?_
                  obtain ⟨v109, ev109, hs⟩ := hs
                  refine x_iald X hK hI ev109 dX5_says_231 ?_
                  exact W.widen (Nat.le_of_ble_eq_true rfl) (Nat.le_of_ble_eq_true rfl) (Ek232_98 _ _ _ _ hs hI (lv_sub hl [0] rfl))
def x_X0_says (a0 : Nat) (a1 : Int32) (a2 : Int32) (C : XH) (K : Int32 → XH → Prop) : Prop := (xcl C a0 = some 0 ∧ x_X0_shelf a0 a1 C (fun ad2 C1 => x_X0_in ((a2 : Int32).toInt64) 0 6 C1 (fun r5 C4 => x_X0_need r5 (-1) C4 (fun C6 => obd (xgr C6 (xis 0) a0 7) (fun ad7 => (xcl C6 ad2 = some 5 ∧ x_X5_says ad2 a2 ad7 C6 (fun r9 C8 => K r9 C8) (fun ad11 C12 => (xcl C12 a0 = some 0 ∧ x_X0_refused a0 ad11 C12 (fun r14 C13 => K r14 C13)))))) (fun ad16 C17 => (xcl C17 a0 = some 0 ∧ x_X0_refused a0 ad16 C17 (fun r19 C18 => K r19 C18))))) (fun ad21 C22 => (xcl C22 a0 = some 0 ∧ x_X0_refused a0 ad21 C22 (fun r24 C23 => K r24 C23))))
theorem iX0_says : xInfW yX0_says cX0_says 4 (some .int) [(0, 28, 29, 21)] 2 := ⟨q667, by decide +kernel⟩
set_option maxHeartbeats 4000000 in
theorem xet_X0_says (l : Launch) (hl0 : l.stackTraces = false) (a0 : Nat) (a1 : Int32) (a2 : Int32) (C : XH) (K : Int32 → XH → Prop) (hs : x_X0_says a0 a1 a2 C K) : xMetX l yX0_says (wsW_ yX0_says cX0_says 4 (some .int) [(0, 28, 29, 21)]) 13 10323 10 2048 C [.ref a0, .int a1, .int a2] (fun D dT A => xQi D dT K A) xE0 := by
  intro D dT adK adV sz
  refine xEnterW (own := RX0) (Qc := xQi D dT K) (XC := xXC D dT xE0) (by decide) rfl (by rfl) ?_
  intro p e s m args below meth c A ls X hnm hK hA hG hT hI hl
  have hx := X.1
  have hb := X.2.1
  have hts := X.2.2.2.2.1
  have hown := X.2.2.2.2.2.1
  have hl : lv_has ls 4 [(0, .ref a0), (1, .int a1), (2, .int a2)] := hl
  unfold x_X0_says at hs
  refine lv_aload_n hx hb dX0_says_0 rfl (lv_at hl 0 rfl) ?_
  refine lv_iload_n hx hb dX0_says_1 rfl (lv_at hl 1 rfl) ?_
  obtain ⟨h2, hs⟩ := hs
  obtain ⟨fh2, h2⟩ := xcl_spec h2
  refine xT_gor hA hI (x_runVTW (As := [.int a1]) (rest := []) X hK hA hG hI h2 (q := (RX0, TX0, 10)) rfl rfl (xet_X0_shelf l hl0 a0 a1 _ _ _ hs) iX0_shelf q364 q366 qs0 q94 ⟨(Nat.le_of_ble_eq_true rfl), (Nat.le_of_ble_eq_true rfl)⟩ rfl hl.1 rfl (Nat.le_of_ble_eq_true rfl) dX0_says_2 ⟨(Nat.le_of_ble_eq_true rfl), (Nat.le_of_ble_eq_true rfl)⟩) (fun En ce ad21 C22 H locs hs9 hI hce hvm hcl => ?_) (fun ad2 C1 H locs hs9 hI => ?_)
  · obtain ⟨rfl, hs0⟩ := hs9
    replace hs := hs0
    refine x_catch (k := 0) (a1 := 0) (a2 := 28) (a3 := 29) (a4 := 21) X hG hT rfl (x_cov rfl) rfl (by decide) q363 (by decide) hce hvm hcl ?_
    refine lv_astore_n (lv' := [(3, .ref ad21), (0, .ref a0), (1, .int a1), (2, .int a2)]) hx hb dX0_says_29 rfl hl (by decide) rfl (fun ls hl => ?_)
    refine lv_aload_n hx hb dX0_says_30 rfl (lv_at hl 1 rfl) ?_
    refine lv_aload_n hx hb dX0_says_31 rfl (lv_at hl 0 rfl) ?_
    obtain ⟨h24, hs⟩ := hs
    obtain ⟨fh24, h24⟩ := xcl_spec h24
    refine x_goi hA hI (x_runV (As := [.ref ad21]) (rest := []) X hK hA hG hI h24 (q := (RX0, TX0, 10)) rfl rfl (xet_X0_refused l a0 ad21 _ _ hs) iX0_refused q538 q540 qs2 q94 ⟨(Nat.le_of_ble_eq_true rfl), (Nat.le_of_ble_eq_true rfl)⟩ rfl hl.1 rfl (Nat.le_of_ble_eq_true rfl) dX0_says_32 ⟨(Nat.le_of_ble_eq_true rfl), (Nat.le_of_ble_eq_true rfl)⟩) (fun r24 C23 H locs hs9 hI => ?_)
    replace hs := hs9
    exact vx_ret (x_reti X hK hI hs (Nat.le_of_ble_eq_true rfl) (Nat.le_of_ble_eq_true rfl) dX0_says_35)
  · replace hs := hs9
    refine lv_astore_n (lv' := [(3, .ref ad2), (0, .ref a0), (1, .int a1), (2, .int a2)]) hx hb dX0_says_5 rfl hl (by decide) rfl (fun ls hl => ?_)
    refine lv_iload_n hx hb dX0_says_6 rfl (lv_at hl 3 rfl) ?_
    refine lv_i2l (v := ((a2 : Int32).toInt64)) hx hb dX0_says_7 rfl ?_
    refine lv_lconst (v := 0) hx hb dX0_says_8 (by decide) ?_
    refine lv_ldc2 hx hb hown (hts _ q668) dX0_says_9 ?_
    refine x_goz hA hI (x_runS (As := [.long ((a2 : Int32).toInt64), .long 0, .long 6]) (rest := []) X hK hA hG hI (xet_X0_in l ((a2 : Int32).toInt64) 0 6 _ _ hs) iX0_in q473 q474 q94 ⟨(Nat.le_of_ble_eq_true rfl), (Nat.le_of_ble_eq_true rfl)⟩ rfl hl.1 rfl (Nat.le_of_ble_eq_true rfl) dX0_says_12 ⟨(Nat.le_of_ble_eq_true rfl), (Nat.le_of_ble_eq_true rfl)⟩) (fun r5 C4 H locs br5 hs9 hI => ?_)
    replace hs := hs9
    refine lv_iconst (v := (-1)) hx hb dX0_says_15 (by decide) ?_
    refine xT_gov hA hI (x_runST (As := [.int r5, .int (-1)]) (rest := []) X hK hA hG hI (xet_X0_need l hl0 r5 (-1) _ _ _ hs) iX0_need q469 q470 q94 ⟨(Nat.le_of_ble_eq_true rfl), (Nat.le_of_ble_eq_true rfl)⟩ rfl hl.1 rfl (Nat.le_of_ble_eq_true rfl) dX0_says_16 ⟨(Nat.le_of_ble_eq_true rfl), (Nat.le_of_ble_eq_true rfl)⟩) (fun En ce ad16 C17 H locs hs9 hI hce hvm hcl => ?_) (fun C6 H locs hs9 hI => ?_)
    · obtain ⟨rfl, hs0⟩ := hs9
      replace hs := hs0
      refine x_catch (k := 0) (a1 := 0) (a2 := 28) (a3 := 29) (a4 := 21) X hG hT rfl (x_cov rfl) rfl (by decide) q363 (by decide) hce hvm hcl ?_
      refine lv_astore_n (lv' := [(3, .ref ad16), (0, .ref a0), (1, .int a1), (2, .int a2)]) hx hb dX0_says_29 rfl hl (by decide) rfl (fun ls hl => ?_)
      refine lv_aload_n hx hb dX0_says_30 rfl (lv_at hl 1 rfl) ?_
      refine lv_aload_n hx hb dX0_says_31 rfl (lv_at hl 0 rfl) ?_
      obtain ⟨h19, hs⟩ := hs
      obtain ⟨fh19, h19⟩ := xcl_spec h19
      refine x_goi hA hI (x_runV (As := [.ref ad16]) (rest := []) X hK hA hG hI h19 (q := (RX0, TX0, 10)) rfl rfl (xet_X0_refused l a0 ad16 _ _ hs) iX0_refused q538 q540 qs2 q94 ⟨(Nat.le_of_ble_eq_true rfl), (Nat.le_of_ble_eq_true rfl)⟩ rfl hl.1 rfl (Nat.le_of_ble_eq_true rfl) dX0_says_32 ⟨(Nat.le_of_ble_eq_true rfl), (Nat.le_of_ble_eq_true rfl)⟩) (fun r19 C18 H locs hs9 hI => ?_)
      replace hs := hs9
      exact vx_ret (x_reti X hK hI hs (Nat.le_of_ble_eq_true rfl) (Nat.le_of_ble_eq_true rfl) dX0_says_35)
    · replace hs := hs9
      refine lv_aload_n hx hb dX0_says_19 rfl (lv_at hl 0 rfl) ?_
      refine lv_iload_n hx hb dX0_says_20 rfl (lv_at hl 3 rfl) ?_
      refine lv_aload_n hx hb dX0_says_21 rfl (lv_at hl 1 rfl) ?_
      obtain ⟨ad7, ead7, hs⟩ := hs
      refine x_get (v := .ref ad7) X hK hI 0 7 rfl in_X0 rfl q335 rfl (xgr_spec ead7) dX0_says_22 ?_
      obtain ⟨h9, hs⟩ := hs
      obtain ⟨fh9, h9⟩ := xcl_spec h9
      refine xT_goi hA hI (x_runVTW (As := [.int a2, .ref ad7]) (rest := []) X hK hA hG hI h9 (q := (RX5, TX5, 1)) rfl rfl (xet_X5_says l hl0 ad2 a2 ad7 _ _ _ hs) iX5_says q669 q670 q671 q99 ⟨(Nat.le_of_ble_eq_true rfl), (Nat.le_of_ble_eq_true rfl)⟩ rfl hl.1 rfl (Nat.le_of_ble_eq_true rfl) dX0_says_25 ⟨(Nat.le_of_ble_eq_true rfl), (Nat.le_of_ble_eq_true rfl)⟩) (fun En ce ad11 C12 H locs hs9 hI hce hvm hcl => ?_) (fun r9 C8 H locs hs9 hI => ?_)
      · obtain ⟨rfl, hs0⟩ := hs9
        replace hs := hs0
        refine x_catch (k := 0) (a1 := 0) (a2 := 28) (a3 := 29) (a4 := 21) X hG hT rfl (x_cov rfl) rfl (by decide) q363 (by decide) hce hvm hcl ?_
        refine lv_astore_n (lv' := [(3, .ref ad11), (0, .ref a0), (1, .int a1), (2, .int a2)]) hx hb dX0_says_29 rfl hl (by decide) rfl (fun ls hl => ?_)
        refine lv_aload_n hx hb dX0_says_30 rfl (lv_at hl 1 rfl) ?_
        refine lv_aload_n hx hb dX0_says_31 rfl (lv_at hl 0 rfl) ?_
        obtain ⟨h14, hs⟩ := hs
        obtain ⟨fh14, h14⟩ := xcl_spec h14
        refine x_goi hA hI (x_runV (As := [.ref ad11]) (rest := []) X hK hA hG hI h14 (q := (RX0, TX0, 10)) rfl rfl (xet_X0_refused l a0 ad11 _ _ hs) iX0_refused q538 q540 qs2 q94 ⟨(Nat.le_of_ble_eq_true rfl), (Nat.le_of_ble_eq_true rfl)⟩ rfl hl.1 rfl (Nat.le_of_ble_eq_true rfl) dX0_says_32 ⟨(Nat.le_of_ble_eq_true rfl), (Nat.le_of_ble_eq_true rfl)⟩) (fun r14 C13 H locs hs9 hI => ?_)
        replace hs := hs9
        exact vx_ret (x_reti X hK hI hs (Nat.le_of_ble_eq_true rfl) (Nat.le_of_ble_eq_true rfl) dX0_says_35)
      · replace hs := hs9
        exact vx_ret (x_reti X hK hI hs (Nat.le_of_ble_eq_true rfl) (Nat.le_of_ble_eq_true rfl) dX0_says_28)
def x_X13_init (a0 : Nat) (a1 : Int32) (a2 : Int32) (C : XH) (K : XH → Prop) : Prop := obd (xpv C xisH a0 0 (.int a1)) (fun C1 => obd (xpv C1 xisH a0 1 (.int a2)) (fun C2 => K C2))
theorem iX13_init : xInf yX13_init cX13_init 3 none 2 := ⟨q790, by decide +kernel⟩
set_option maxHeartbeats 4000000 in
theorem xet_X13_init (l : Launch) (a0 : Nat) (a1 : Int32) (a2 : Int32) (C : XH) (K : XH → Prop) (hs : x_X13_init a0 a1 a2 C K) : xMetv l yX13_init (ws_ yX13_init cX13_init 3 none) 1 24 0 0 C [.ref a0, .int a1, .int a2] K := by
  intro D dT adK adV sz
  refine xEnter (own := RX13) (Qc := xQv D dT K) (by decide) rfl (by rfl) ?_
  intro p e s m args below meth c A ls X hnm hK hA hG hI hl
  have hx := X.1
  have hb := X.2.1
  have hts := X.2.2.2.2.1
  have hown := X.2.2.2.2.2.1
  have hl : lv_has ls 3 [(0, .ref a0), (1, .int a1), (2, .int a2)] := hl
  unfold x_X13_init at hs
  refine lv_aload_n hx hb dX13_init_0 rfl (lv_at hl 0 rfl) ?_
  refine W.objInit hx hb hown (hts _ q791) (hts _ q136) (hts _ q137) rfl (by rw [X.2.2.2.1]; exact hl.1) rfl dX13_init_1 (Nat.le_of_ble_eq_true rfl) (Nat.le_of_ble_eq_true rfl) ?_
  show W p l e _ s m args below meth c _ _ _ _ _ (F0 m 4 ls [])
  refine lv_aload_n hx hb dX13_init_4 rfl (lv_at hl 0 rfl) ?_
  refine lv_iload_n hx hb dX13_init_5 rfl (lv_at hl 1 rfl) ?_
  obtain ⟨C1, eC1, hs⟩ := hs
  refine x_putFH X hK hI 0 (by decide) q792 hnm eC1 dX13_init_6 (fun H locs hI => ?_)
  refine lv_aload_n hx hb dX13_init_9 rfl (lv_at hl 0 rfl) ?_
  refine lv_iload_n hx hb dX13_init_10 rfl (lv_at hl 2 rfl) ?_
  obtain ⟨C2, eC2, hs⟩ := hs
  refine x_putFH X hK hI 1 (by decide) q804 hnm eC2 dX13_init_11 (fun H locs hI => ?_)
  exact x_retv X hK hI hs (Nat.le_of_ble_eq_true rfl) (Nat.le_of_ble_eq_true rfl) dX13_init_14
def x_X14_init (a0 : Nat) (a1 : Int32) (a2 : Int32) (C : XH) (K : XH → Prop) : Prop := x_X13_init a0 a1 a2 C (fun C1 => K C1)
theorem iX14_init : xInf yX14_init cX14_init 3 none 2 := ⟨q787, by decide +kernel⟩
set_option maxHeartbeats 4000000 in
theorem xet_X14_init (l : Launch) (a0 : Nat) (a1 : Int32) (a2 : Int32) (C : XH) (K : XH → Prop) (hs : x_X14_init a0 a1 a2 C K) : xMetv l yX14_init (ws_ yX14_init cX14_init 3 none) 2 46 0 0 C [.ref a0, .int a1, .int a2] K := by
  intro D dT adK adV sz
  refine xEnter (own := RX14) (Qc := xQv D dT K) (by decide) rfl (by rfl) ?_
  intro p e s m args below meth c A ls X hnm hK hA hG hI hl
  have hx := X.1
  have hb := X.2.1
  have hts := X.2.2.2.2.1
  have hown := X.2.2.2.2.2.1
  have hl : lv_has ls 3 [(0, .ref a0), (1, .int a1), (2, .int a2)] := hl
  unfold x_X14_init at hs
  refine lv_aload_n hx hb dX14_init_0 rfl (lv_at hl 0 rfl) ?_
  refine lv_iload_n hx hb dX14_init_1 rfl (lv_at hl 1 rfl) ?_
  refine lv_iload_n hx hb dX14_init_2 rfl (lv_at hl 2 rfl) ?_
  refine x_gov hA hI (x_runI (As := [.int a1, .int a2]) (rest := []) X hK hA hG hI (xet_X13_init l a0 a1 a2 _ _ hs) iX13_init rfl q788 q789 q117 ⟨(Nat.le_of_ble_eq_true rfl), (Nat.le_of_ble_eq_true rfl)⟩ rfl hl.1 rfl (Nat.le_of_ble_eq_true rfl) dX14_init_3 ⟨(Nat.le_of_ble_eq_true rfl), (Nat.le_of_ble_eq_true rfl)⟩) (fun C1 H locs hs9 hI => ?_)
  replace hs := hs9
  exact x_retv X hK hI hs (Nat.le_of_ble_eq_true rfl) (Nat.le_of_ble_eq_true rfl) dX14_init_6
def x_X16_init (a0 : Nat) (a1 : Int32) (a2 : Int32) (C : XH) (K : XH → Prop) : Prop := x_X14_init a0 a1 a2 C (fun C1 => K C1)
theorem iX16_init : xInf yX16_init cX16_init 3 none 2 := ⟨q828, by decide +kernel⟩
set_option maxHeartbeats 4000000 in
theorem xet_X16_init (l : Launch) (a0 : Nat) (a1 : Int32) (a2 : Int32) (C : XH) (K : XH → Prop) (hs : x_X16_init a0 a1 a2 C K) : xMetv l yX16_init (ws_ yX16_init cX16_init 3 none) 3 68 0 0 C [.ref a0, .int a1, .int a2] K := by
  intro D dT adK adV sz
  refine xEnter (own := RX16) (Qc := xQv D dT K) (by decide) rfl (by rfl) ?_
  intro p e s m args below meth c A ls X hnm hK hA hG hI hl
  have hx := X.1
  have hb := X.2.1
  have hts := X.2.2.2.2.1
  have hown := X.2.2.2.2.2.1
  have hl : lv_has ls 3 [(0, .ref a0), (1, .int a1), (2, .int a2)] := hl
  unfold x_X16_init at hs
  refine lv_aload_n hx hb dX16_init_0 rfl (lv_at hl 0 rfl) ?_
  refine lv_iload_n hx hb dX16_init_1 rfl (lv_at hl 1 rfl) ?_
  refine lv_iload_n hx hb dX16_init_2 rfl (lv_at hl 2 rfl) ?_
  refine x_gov hA hI (x_runI (As := [.int a1, .int a2]) (rest := []) X hK hA hG hI (xet_X14_init l a0 a1 a2 _ _ hs) iX14_init rfl q829 q786 q118 ⟨(Nat.le_of_ble_eq_true rfl), (Nat.le_of_ble_eq_true rfl)⟩ rfl hl.1 rfl (Nat.le_of_ble_eq_true rfl) dX16_init_3 ⟨(Nat.le_of_ble_eq_true rfl), (Nat.le_of_ble_eq_true rfl)⟩) (fun C1 H locs hs9 hI => ?_)
  replace hs := hs9
  exact x_retv X hK hI hs (Nat.le_of_ble_eq_true rfl) (Nat.le_of_ble_eq_true rfl) dX16_init_6
def x_X15_init (a0 : Nat) (a1 : Int32) (a2 : Int32) (C : XH) (K : XH → Prop) : Prop := x_X13_init a0 a1 a2 C (fun C1 => K C1)
theorem iX15_init : xInf yX15_init cX15_init 3 none 2 := ⟨q820, by decide +kernel⟩
set_option maxHeartbeats 4000000 in
theorem xet_X15_init (l : Launch) (a0 : Nat) (a1 : Int32) (a2 : Int32) (C : XH) (K : XH → Prop) (hs : x_X15_init a0 a1 a2 C K) : xMetv l yX15_init (ws_ yX15_init cX15_init 3 none) 2 46 0 0 C [.ref a0, .int a1, .int a2] K := by
  intro D dT adK adV sz
  refine xEnter (own := RX15) (Qc := xQv D dT K) (by decide) rfl (by rfl) ?_
  intro p e s m args below meth c A ls X hnm hK hA hG hI hl
  have hx := X.1
  have hb := X.2.1
  have hts := X.2.2.2.2.1
  have hown := X.2.2.2.2.2.1
  have hl : lv_has ls 3 [(0, .ref a0), (1, .int a1), (2, .int a2)] := hl
  unfold x_X15_init at hs
  refine lv_aload_n hx hb dX15_init_0 rfl (lv_at hl 0 rfl) ?_
  refine lv_iload_n hx hb dX15_init_1 rfl (lv_at hl 1 rfl) ?_
  refine lv_iload_n hx hb dX15_init_2 rfl (lv_at hl 2 rfl) ?_
  refine x_gov hA hI (x_runI (As := [.int a1, .int a2]) (rest := []) X hK hA hG hI (xet_X13_init l a0 a1 a2 _ _ hs) iX13_init rfl q821 q789 q117 ⟨(Nat.le_of_ble_eq_true rfl), (Nat.le_of_ble_eq_true rfl)⟩ rfl hl.1 rfl (Nat.le_of_ble_eq_true rfl) dX15_init_3 ⟨(Nat.le_of_ble_eq_true rfl), (Nat.le_of_ble_eq_true rfl)⟩) (fun C1 H locs hs9 hI => ?_)
  replace hs := hs9
  exact x_retv X hK hI hs (Nat.le_of_ble_eq_true rfl) (Nat.le_of_ble_eq_true rfl) dX15_init_6
def x_X18_init (a0 : Nat) (a1 : Int32) (a2 : Int32) (C : XH) (K : XH → Prop) : Prop := x_X15_init a0 a1 a2 C (fun C1 => K C1)
theorem iX18_init : xInf yX18_init cX18_init 3 none 2 := ⟨q844, by decide +kernel⟩
set_option maxHeartbeats 4000000 in
theorem xet_X18_init (l : Launch) (a0 : Nat) (a1 : Int32) (a2 : Int32) (C : XH) (K : XH → Prop) (hs : x_X18_init a0 a1 a2 C K) : xMetv l yX18_init (ws_ yX18_init cX18_init 3 none) 3 68 0 0 C [.ref a0, .int a1, .int a2] K := by
  intro D dT adK adV sz
  refine xEnter (own := RX18) (Qc := xQv D dT K) (by decide) rfl (by rfl) ?_
  intro p e s m args below meth c A ls X hnm hK hA hG hI hl
  have hx := X.1
  have hb := X.2.1
  have hts := X.2.2.2.2.1
  have hown := X.2.2.2.2.2.1
  have hl : lv_has ls 3 [(0, .ref a0), (1, .int a1), (2, .int a2)] := hl
  unfold x_X18_init at hs
  refine lv_aload_n hx hb dX18_init_0 rfl (lv_at hl 0 rfl) ?_
  refine lv_iload_n hx hb dX18_init_1 rfl (lv_at hl 1 rfl) ?_
  refine lv_iload_n hx hb dX18_init_2 rfl (lv_at hl 2 rfl) ?_
  refine x_gov hA hI (x_runI (As := [.int a1, .int a2]) (rest := []) X hK hA hG hI (xet_X15_init l a0 a1 a2 _ _ hs) iX15_init rfl q845 q819 q119 ⟨(Nat.le_of_ble_eq_true rfl), (Nat.le_of_ble_eq_true rfl)⟩ rfl hl.1 rfl (Nat.le_of_ble_eq_true rfl) dX18_init_3 ⟨(Nat.le_of_ble_eq_true rfl), (Nat.le_of_ble_eq_true rfl)⟩) (fun C1 H locs hs9 hI => ?_)
  replace hs := hs9
  exact x_retv X hK hI hs (Nat.le_of_ble_eq_true rfl) (Nat.le_of_ble_eq_true rfl) dX18_init_6
def x_X17_init (a0 : Nat) (a1 : Int32) (a2 : Int32) (C : XH) (K : XH → Prop) : Prop := x_X13_init a0 a1 a2 C (fun C1 => K C1)
theorem iX17_init : xInf yX17_init cX17_init 3 none 2 := ⟨q836, by decide +kernel⟩
set_option maxHeartbeats 4000000 in
theorem xet_X17_init (l : Launch) (a0 : Nat) (a1 : Int32) (a2 : Int32) (C : XH) (K : XH → Prop) (hs : x_X17_init a0 a1 a2 C K) : xMetv l yX17_init (ws_ yX17_init cX17_init 3 none) 2 46 0 0 C [.ref a0, .int a1, .int a2] K := by
  intro D dT adK adV sz
  refine xEnter (own := RX17) (Qc := xQv D dT K) (by decide) rfl (by rfl) ?_
  intro p e s m args below meth c A ls X hnm hK hA hG hI hl
  have hx := X.1
  have hb := X.2.1
  have hts := X.2.2.2.2.1
  have hown := X.2.2.2.2.2.1
  have hl : lv_has ls 3 [(0, .ref a0), (1, .int a1), (2, .int a2)] := hl
  unfold x_X17_init at hs
  refine lv_aload_n hx hb dX17_init_0 rfl (lv_at hl 0 rfl) ?_
  refine lv_iload_n hx hb dX17_init_1 rfl (lv_at hl 1 rfl) ?_
  refine lv_iload_n hx hb dX17_init_2 rfl (lv_at hl 2 rfl) ?_
  refine x_gov hA hI (x_runI (As := [.int a1, .int a2]) (rest := []) X hK hA hG hI (xet_X13_init l a0 a1 a2 _ _ hs) iX13_init rfl q837 q789 q117 ⟨(Nat.le_of_ble_eq_true rfl), (Nat.le_of_ble_eq_true rfl)⟩ rfl hl.1 rfl (Nat.le_of_ble_eq_true rfl) dX17_init_3 ⟨(Nat.le_of_ble_eq_true rfl), (Nat.le_of_ble_eq_true rfl)⟩) (fun C1 H locs hs9 hI => ?_)
  replace hs := hs9
  exact x_retv X hK hI hs (Nat.le_of_ble_eq_true rfl) (Nat.le_of_ble_eq_true rfl) dX17_init_6
def x_X19_init (a0 : Nat) (a1 : Int32) (a2 : Int32) (C : XH) (K : XH → Prop) : Prop := x_X17_init a0 a1 a2 C (fun C1 => K C1)
theorem iX19_init : xInf yX19_init cX19_init 3 none 2 := ⟨q853, by decide +kernel⟩
set_option maxHeartbeats 4000000 in
theorem xet_X19_init (l : Launch) (a0 : Nat) (a1 : Int32) (a2 : Int32) (C : XH) (K : XH → Prop) (hs : x_X19_init a0 a1 a2 C K) : xMetv l yX19_init (ws_ yX19_init cX19_init 3 none) 3 68 0 0 C [.ref a0, .int a1, .int a2] K := by
  intro D dT adK adV sz
  refine xEnter (own := RX19) (Qc := xQv D dT K) (by decide) rfl (by rfl) ?_
  intro p e s m args below meth c A ls X hnm hK hA hG hI hl
  have hx := X.1
  have hb := X.2.1
  have hts := X.2.2.2.2.1
  have hown := X.2.2.2.2.2.1
  have hl : lv_has ls 3 [(0, .ref a0), (1, .int a1), (2, .int a2)] := hl
  unfold x_X19_init at hs
  refine lv_aload_n hx hb dX19_init_0 rfl (lv_at hl 0 rfl) ?_
  refine lv_iload_n hx hb dX19_init_1 rfl (lv_at hl 1 rfl) ?_
  refine lv_iload_n hx hb dX19_init_2 rfl (lv_at hl 2 rfl) ?_
  refine x_gov hA hI (x_runI (As := [.int a1, .int a2]) (rest := []) X hK hA hG hI (xet_X17_init l a0 a1 a2 _ _ hs) iX17_init rfl q854 q835 q121 ⟨(Nat.le_of_ble_eq_true rfl), (Nat.le_of_ble_eq_true rfl)⟩ rfl hl.1 rfl (Nat.le_of_ble_eq_true rfl) dX19_init_3 ⟨(Nat.le_of_ble_eq_true rfl), (Nat.le_of_ble_eq_true rfl)⟩) (fun C1 H locs hs9 hI => ?_)
  replace hs := hs9
  exact x_retv X hK hI hs (Nat.le_of_ble_eq_true rfl) (Nat.le_of_ble_eq_true rfl) dX19_init_6
def x_X0_hopperOfKind (a0 : Int32) (a1 : Int32) (a2 : Int32) (C : XH) (K : Nat → XH → Prop) : Prop := (if a0 = 1 then xnew C (.inr (14, [.int 0, .int 0])) (fun ad2 C3 => x_X14_init ad2 a1 a2 C3 (fun C4 => K ad2 C4)) else if a0 = 2 then xnew C (.inr (15, [.int 0, .int 0])) (fun ad5 C6 => x_X15_init ad5 a1 a2 C6 (fun C7 => K ad5 C7)) else if a0 = 3 then xnew C (.inr (16, [.int 0, .int 0])) (fun ad8 C9 => x_X16_init ad8 a1 a2 C9 (fun C10 => K ad8 C10)) else if a0 = 4 then xnew C (.inr (17, [.int 0, .int 0])) (fun ad11 C12 => x_X17_init ad11 a1 a2 C12 (fun C13 => K ad11 C13)) else if a0 = 5 then xnew C (.inr (18, [.int 0, .int 0])) (fun ad14 C15 => x_X18_init ad14 a1 a2 C15 (fun C16 => K ad14 C16)) else if a0 = 6 then xnew C (.inr (19, [.int 0, .int 0])) (fun ad17 C18 => x_X19_init ad17 a1 a2 C18 (fun C19 => K ad17 C19)) else xnew C (.inr (13, [.int 0, .int 0])) (fun ad20 C21 => x_X13_init ad20 a1 a2 C21 (fun C22 => K ad20 C22)))
theorem iX0_hopperOfKind : xInf yX0_hopperOfKind cX0_hopperOfKind 3 (some (.object RX13)) 3 := ⟨q782, by decide +kernel⟩
set_option maxHeartbeats 4000000 in
theorem xet_X0_hopperOfKind (l : Launch) (a0 : Int32) (a1 : Int32) (a2 : Int32) (C : XH) (K : Nat → XH → Prop) (hs : x_X0_hopperOfKind a0 a1 a2 C K) : xMetr l yX0_hopperOfKind (ws_ yX0_hopperOfKind cX0_hopperOfKind 3 (some (.object RX13))) 4 90 1 2 C [.int a0, .int a1, .int a2] K := by
  intro D dT adK adV sz
  refine xEnter (own := RX0) (Qc := xQr D dT K) (by decide) rfl (by rfl) ?_
  intro p e s m args below meth c A ls X hnm hK hA hG hI hl
  have hx := X.1
  have hb := X.2.1
  have hts := X.2.2.2.2.1
  have hown := X.2.2.2.2.2.1
  have hl : lv_has ls 3 [(0, .int a0), (1, .int a1), (2, .int a2)] := hl
  unfold x_X0_hopperOfKind at hs
  refine lv_iload_n hx hb dX0_hopperOfKind_0 rfl (lv_at hl 0 rfl) ?_
  by_cases c0_0 : a0 = 1
  · replace hs := ifp c0_0 hs
    refine lv_tableIn (tgt := 40) hx hb dX0_hopperOfKind_1 (by rw [c0_0]; decide) (by rw [c0_0]; decide) (by rw [c0_0]; rfl) (by decide) ?_
    refine x_new X hK hI hA 14 (fs := [.int 0, .int 0]) rfl in_X14 tyX14 tyX14_ok q783 q784 q118 rfl (Nat.le_of_ble_eq_true rfl) (Nat.le_of_ble_eq_true rfl) hs dX0_hopperOfKind_40 (fun ad2 C3 H hs9 hI => ?_)
    replace hs := hs9
    refine lv_dup hx hb dX0_hopperOfKind_43 rfl ?_
    refine lv_iload_n hx hb dX0_hopperOfKind_44 rfl (lv_at hl 1 rfl) ?_
    refine lv_iload_n hx hb dX0_hopperOfKind_45 rfl (lv_at hl 2 rfl) ?_
    refine x_gov hA hI (x_runI (As := [.int a1, .int a2]) (rest := [.ref ad2]) X hK hA hG hI (xet_X14_init l ad2 a1 a2 _ _ hs) iX14_init rfl q785 q786 q118 ⟨(Nat.le_of_ble_eq_true rfl), (Nat.le_of_ble_eq_true rfl)⟩ rfl hl.1 rfl (Nat.le_of_ble_eq_true rfl) dX0_hopperOfKind_46 ⟨(Nat.le_of_ble_eq_true rfl), (Nat.le_of_ble_eq_true rfl)⟩) (fun C4 H locs hs9 hI => ?_)
    replace hs := hs9
    exact x_retr X hK hI hs (Nat.le_of_ble_eq_true rfl) (Nat.le_of_ble_eq_true rfl) dX0_hopperOfKind_49
  · replace hs := ifn c0_0 hs
    by_cases c0_1 : a0 = 2
    · replace hs := ifp c0_1 hs
      refine lv_tableIn (tgt := 50) hx hb dX0_hopperOfKind_1 (by rw [c0_1]; decide) (by rw [c0_1]; decide) (by rw [c0_1]; rfl) (by decide) ?_
      refine x_new X hK hI hA 15 (fs := [.int 0, .int 0]) rfl in_X15 tyX15 tyX15_ok q816 q817 q119 rfl (Nat.le_of_ble_eq_true rfl) (Nat.le_of_ble_eq_true rfl) hs dX0_hopperOfKind_50 (fun ad5 C6 H hs9 hI => ?_)
      replace hs := hs9
      refine lv_dup hx hb dX0_hopperOfKind_53 rfl ?_
      refine lv_iload_n hx hb dX0_hopperOfKind_54 rfl (lv_at hl 1 rfl) ?_
      refine lv_iload_n hx hb dX0_hopperOfKind_55 rfl (lv_at hl 2 rfl) ?_
      refine x_gov hA hI (x_runI (As := [.int a1, .int a2]) (rest := [.ref ad5]) X hK hA hG hI (xet_X15_init l ad5 a1 a2 _ _ hs) iX15_init rfl q818 q819 q119 ⟨(Nat.le_of_ble_eq_true rfl), (Nat.le_of_ble_eq_true rfl)⟩ rfl hl.1 rfl (Nat.le_of_ble_eq_true rfl) dX0_hopperOfKind_56 ⟨(Nat.le_of_ble_eq_true rfl), (Nat.le_of_ble_eq_true rfl)⟩) (fun C7 H locs hs9 hI => ?_)
      replace hs := hs9
      exact x_retr X hK hI hs (Nat.le_of_ble_eq_true rfl) (Nat.le_of_ble_eq_true rfl) dX0_hopperOfKind_59
    · replace hs := ifn c0_1 hs
      by_cases c0_2 : a0 = 3
      · replace hs := ifp c0_2 hs
        refine lv_tableIn (tgt := 60) hx hb dX0_hopperOfKind_1 (by rw [c0_2]; decide) (by rw [c0_2]; decide) (by rw [c0_2]; rfl) (by decide) ?_
        refine x_new X hK hI hA 16 (fs := [.int 0, .int 0]) rfl in_X16 tyX16 tyX16_ok q824 q825 q120 rfl (Nat.le_of_ble_eq_true rfl) (Nat.le_of_ble_eq_true rfl) hs dX0_hopperOfKind_60 (fun ad8 C9 H hs9 hI => ?_)
        replace hs := hs9
        refine lv_dup hx hb dX0_hopperOfKind_63 rfl ?_
        refine lv_iload_n hx hb dX0_hopperOfKind_64 rfl (lv_at hl 1 rfl) ?_
        refine lv_iload_n hx hb dX0_hopperOfKind_65 rfl (lv_at hl 2 rfl) ?_
        refine x_gov hA hI (x_runI (As := [.int a1, .int a2]) (rest := [.ref ad8]) X hK hA hG hI (xet_X16_init l ad8 a1 a2 _ _ hs) iX16_init rfl q826 q827 q120 ⟨(Nat.le_of_ble_eq_true rfl), (Nat.le_of_ble_eq_true rfl)⟩ rfl hl.1 rfl (Nat.le_of_ble_eq_true rfl) dX0_hopperOfKind_66 ⟨(Nat.le_of_ble_eq_true rfl), (Nat.le_of_ble_eq_true rfl)⟩) (fun C10 H locs hs9 hI => ?_)
        replace hs := hs9
        exact x_retr X hK hI hs (Nat.le_of_ble_eq_true rfl) (Nat.le_of_ble_eq_true rfl) dX0_hopperOfKind_69
      · replace hs := ifn c0_2 hs
        by_cases c0_3 : a0 = 4
        · replace hs := ifp c0_3 hs
          refine lv_tableIn (tgt := 70) hx hb dX0_hopperOfKind_1 (by rw [c0_3]; decide) (by rw [c0_3]; decide) (by rw [c0_3]; rfl) (by decide) ?_
          refine x_new X hK hI hA 17 (fs := [.int 0, .int 0]) rfl in_X17 tyX17 tyX17_ok q832 q833 q121 rfl (Nat.le_of_ble_eq_true rfl) (Nat.le_of_ble_eq_true rfl) hs dX0_hopperOfKind_70 (fun ad11 C12 H hs9 hI => ?_)
          replace hs := hs9
          refine lv_dup hx hb dX0_hopperOfKind_73 rfl ?_
          refine lv_iload_n hx hb dX0_hopperOfKind_74 rfl (lv_at hl 1 rfl) ?_
          refine lv_iload_n hx hb dX0_hopperOfKind_75 rfl (lv_at hl 2 rfl) ?_
          refine x_gov hA hI (x_runI (As := [.int a1, .int a2]) (rest := [.ref ad11]) X hK hA hG hI (xet_X17_init l ad11 a1 a2 _ _ hs) iX17_init rfl q834 q835 q121 ⟨(Nat.le_of_ble_eq_true rfl), (Nat.le_of_ble_eq_true rfl)⟩ rfl hl.1 rfl (Nat.le_of_ble_eq_true rfl) dX0_hopperOfKind_76 ⟨(Nat.le_of_ble_eq_true rfl), (Nat.le_of_ble_eq_true rfl)⟩) (fun C13 H locs hs9 hI => ?_)
          replace hs := hs9
          exact x_retr X hK hI hs (Nat.le_of_ble_eq_true rfl) (Nat.le_of_ble_eq_true rfl) dX0_hopperOfKind_79
        · replace hs := ifn c0_3 hs
          by_cases c0_4 : a0 = 5
          · replace hs := ifp c0_4 hs
            refine lv_tableIn (tgt := 80) hx hb dX0_hopperOfKind_1 (by rw [c0_4]; decide) (by rw [c0_4]; decide) (by rw [c0_4]; rfl) (by decide) ?_
            refine x_new X hK hI hA 18 (fs := [.int 0, .int 0]) rfl in_X18 tyX18 tyX18_ok q840 q841 q122 rfl (Nat.le_of_ble_eq_true rfl) (Nat.le_of_ble_eq_true rfl) hs dX0_hopperOfKind_80 (fun ad14 C15 H hs9 hI => ?_)
            replace hs := hs9
            refine lv_dup hx hb dX0_hopperOfKind_83 rfl ?_
            refine lv_iload_n hx hb dX0_hopperOfKind_84 rfl (lv_at hl 1 rfl) ?_
            refine lv_iload_n hx hb dX0_hopperOfKind_85 rfl (lv_at hl 2 rfl) ?_
            refine x_gov hA hI (x_runI (As := [.int a1, .int a2]) (rest := [.ref ad14]) X hK hA hG hI (xet_X18_init l ad14 a1 a2 _ _ hs) iX18_init rfl q842 q843 q122 ⟨(Nat.le_of_ble_eq_true rfl), (Nat.le_of_ble_eq_true rfl)⟩ rfl hl.1 rfl (Nat.le_of_ble_eq_true rfl) dX0_hopperOfKind_86 ⟨(Nat.le_of_ble_eq_true rfl), (Nat.le_of_ble_eq_true rfl)⟩) (fun C16 H locs hs9 hI => ?_)
            replace hs := hs9
            exact x_retr X hK hI hs (Nat.le_of_ble_eq_true rfl) (Nat.le_of_ble_eq_true rfl) dX0_hopperOfKind_89
          · replace hs := ifn c0_4 hs
            by_cases c0_5 : a0 = 6
            · replace hs := ifp c0_5 hs
              refine lv_tableIn (tgt := 90) hx hb dX0_hopperOfKind_1 (by rw [c0_5]; decide) (by rw [c0_5]; decide) (by rw [c0_5]; rfl) (by decide) ?_
              refine x_new X hK hI hA 19 (fs := [.int 0, .int 0]) rfl in_X19 tyX19 tyX19_ok q849 q850 q123 rfl (Nat.le_of_ble_eq_true rfl) (Nat.le_of_ble_eq_true rfl) hs dX0_hopperOfKind_90 (fun ad17 C18 H hs9 hI => ?_)
              replace hs := hs9
              refine lv_dup hx hb dX0_hopperOfKind_93 rfl ?_
              refine lv_iload_n hx hb dX0_hopperOfKind_94 rfl (lv_at hl 1 rfl) ?_
              refine lv_iload_n hx hb dX0_hopperOfKind_95 rfl (lv_at hl 2 rfl) ?_
              refine x_gov hA hI (x_runI (As := [.int a1, .int a2]) (rest := [.ref ad17]) X hK hA hG hI (xet_X19_init l ad17 a1 a2 _ _ hs) iX19_init rfl q851 q852 q123 ⟨(Nat.le_of_ble_eq_true rfl), (Nat.le_of_ble_eq_true rfl)⟩ rfl hl.1 rfl (Nat.le_of_ble_eq_true rfl) dX0_hopperOfKind_96 ⟨(Nat.le_of_ble_eq_true rfl), (Nat.le_of_ble_eq_true rfl)⟩) (fun C19 H locs hs9 hI => ?_)
              replace hs := hs9
              exact x_retr X hK hI hs (Nat.le_of_ble_eq_true rfl) (Nat.le_of_ble_eq_true rfl) dX0_hopperOfKind_99
            · replace hs := ifn c0_5 hs
              refine lv_tableOut (tgt := 100) hx hb dX0_hopperOfKind_1 (sw_out (fun k h1 h2 => by
                have h3 : k = 1 ∨ k = 2 ∨ k = 3 ∨ k = 4 ∨ k = 5 ∨ k = 6 := by omega
                rcases h3 with rfl | rfl | rfl | rfl | rfl | rfl
                · exact lv_neT c0_0 rfl
                · exact lv_neT c0_1 rfl
                · exact lv_neT c0_2 rfl
                · exact lv_neT c0_3 rfl
                · exact lv_neT c0_4 rfl
                · exact lv_neT c0_5 rfl
                )) (by decide) ?_
              refine x_new X hK hI hA 13 (fs := [.int 0, .int 0]) rfl in_X13 tyX13 tyX13_ok q662 q857 q117 rfl (Nat.le_of_ble_eq_true rfl) (Nat.le_of_ble_eq_true rfl) hs dX0_hopperOfKind_100 (fun ad20 C21 H hs9 hI => ?_)
              replace hs := hs9
              refine lv_dup hx hb dX0_hopperOfKind_103 rfl ?_
              refine lv_iload_n hx hb dX0_hopperOfKind_104 rfl (lv_at hl 1 rfl) ?_
              refine lv_iload_n hx hb dX0_hopperOfKind_105 rfl (lv_at hl 2 rfl) ?_
              refine x_gov hA hI (x_runI (As := [.int a1, .int a2]) (rest := [.ref ad20]) X hK hA hG hI (xet_X13_init l ad20 a1 a2 _ _ hs) iX13_init rfl q858 q789 q117 ⟨(Nat.le_of_ble_eq_true rfl), (Nat.le_of_ble_eq_true rfl)⟩ rfl hl.1 rfl (Nat.le_of_ble_eq_true rfl) dX0_hopperOfKind_106 ⟨(Nat.le_of_ble_eq_true rfl), (Nat.le_of_ble_eq_true rfl)⟩) (fun C22 H locs hs9 hI => ?_)
              replace hs := hs9
              exact x_retr X hK hI hs (Nat.le_of_ble_eq_true rfl) (Nat.le_of_ble_eq_true rfl) dX0_hopperOfKind_109
