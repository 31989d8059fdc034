set_option maxRecDepth 100000
def x_X0_given (a0 : Nat) (a1 : Int32) (a2 : Int32) (a3 : Int32) (C : XH) (K : Int32 → XH → Prop) : Prop := x_X0_in ((a1 : Int32).toInt64) 0 2 C (fun r2 C1 => jn (fun (C3 : XH) => jn (fun (C4 : XH) => x_X0_need 1 (-5) C4 (fun C5 => x_X0_need 0 (-6) C5 (fun C6 => obd (xgr C6 (xis 0) a0 5) (fun ad7 => obd (xgr C6 (xis 0) a0 7) (fun ad8 => (xcl C6 ad7 = some 3 ∧ x_X3_of ad7 ad8 a1 a2 C6 (fun ad10 C9 => (if a3 = (-1) then obd (xgr C9 (xis 0) a0 5) (fun ad15 => obd (xgi C9 (xis 3) ad15 7) (fun v16 => K v16 C9)) else obd (xgr C9 (xis 0) a0 5) (fun ad12 => obd (xgr C9 (xis 3) ad12 2) (fun ad13 => obd (xai C9 0 ad13 a3) (fun v14 => K v14 C9))))))))) (fun ad18 C19 => (xcl C19 a0 = some 0 ∧ x_X0_refused a0 ad18 C19 (fun r21 C20 => K r21 C20)))) (fun ad23 C24 => (xcl C24 a0 = some 0 ∧ x_X0_refused a0 ad23 C24 (fun r26 C25 => K r26 C25)))) (fun k73_4 => jn (fun (v28 : Int32) (C29 : XH) => x_X0_need v28 (-5) C29 (fun C30 => x_X0_need 0 (-6) C30 (fun C31 => obd (xgr C31 (xis 0) a0 5) (fun ad32 => obd (xgr C31 (xis 0) a0 7) (fun ad33 => (xcl C31 ad32 = some 3 ∧ x_X3_of ad32 ad33 a1 a2 C31 (fun ad35 C34 => (if a3 = (-1) then obd (xgr C34 (xis 0) a0 5) (fun ad40 => obd (xgi C34 (xis 3) ad40 7) (fun v41 => K v41 C34)) else obd (xgr C34 (xis 0) a0 5) (fun ad37 => obd (xgr C34 (xis 3) ad37 2) (fun ad38 => obd (xai C34 0 ad38 a3) (fun v39 => K v39 C34))))))))) (fun ad43 C44 => (xcl C44 a0 = some 0 ∧ x_X0_refused a0 ad43 C44 (fun r46 C45 => K r46 C45)))) (fun ad48 C49 => (xcl C49 a0 = some 0 ∧ x_X0_refused a0 ad48 C49 (fun r51 C50 => K r51 C50)))) (fun k78_29 => k73_4 C3))) (fun k50_3 => jn (fun (v53 : Int32) (C54 : XH) => jn (fun (C55 : XH) => x_X0_need 1 (-5) C55 (fun C56 => x_X0_need v53 (-6) C56 (fun C57 => obd (xgr C57 (xis 0) a0 5) (fun ad58 => obd (xgr C57 (xis 0) a0 7) (fun ad59 => (xcl C57 ad58 = some 3 ∧ x_X3_of ad58 ad59 a1 a2 C57 (fun ad61 C60 => (if a3 = (-1) then obd (xgr C60 (xis 0) a0 5) (fun ad66 => obd (xgi C60 (xis 3) ad66 7) (fun v67 => K v67 C60)) else obd (xgr C60 (xis 0) a0 5) (fun ad63 => obd (xgr C60 (xis 3) ad63 2) (fun ad64 => obd (xai C60 0 ad64 a3) (fun v65 => K v65 C60))))))))) (fun ad69 C70 => (xcl C70 a0 = some 0 ∧ x_X0_refused a0 ad69 C70 (fun r72 C71 => K r72 C71)))) (fun ad74 C75 => (xcl C75 a0 = some 0 ∧ x_X0_refused a0 ad74 C75 (fun r77 C76 => K r77 C76)))) (fun k73_55 => jn (fun (v79 : Int32) (C80 : XH) => x_X0_need v79 (-5) C80 (fun C81 => x_X0_need v53 (-6) C81 (fun C82 => obd (xgr C82 (xis 0) a0 5) (fun ad83 => obd (xgr C82 (xis 0) a0 7) (fun ad84 => (xcl C82 ad83 = some 3 ∧ x_X3_of ad83 ad84 a1 a2 C82 (fun ad86 C85 => (if a3 = (-1) then obd (xgr C85 (xis 0) a0 5) (fun ad91 => obd (xgi C85 (xis 3) ad91 7) (fun v92 => K v92 C85)) else obd (xgr C85 (xis 0) a0 5) (fun ad88 => obd (xgr C85 (xis 3) ad88 2) (fun ad89 => obd (xai C85 0 ad89 a3) (fun v90 => K v90 C85))))))))) (fun ad94 C95 => (xcl C95 a0 = some 0 ∧ x_X0_refused a0 ad94 C95 (fun r97 C96 => K r97 C96)))) (fun ad99 C100 => (xcl C100 a0 = some 0 ∧ x_X0_refused a0 ad99 C100 (fun r102 C101 => K r102 C101)))) (fun k78_80 => (if v53 = 0 then k73_55 C54 else x_X0_in ((a3 : Int32).toInt64) (-1) (((a2 - 1) : Int32).toInt64) C54 (fun r105 C104 => (if r105 = 0 then k78_80 0 C104 else k73_55 C104)))))) (fun k51_54 => (if r2 = 0 then k50_3 C1 else x_X0_in ((a2 : Int32).toInt64) 1 5 C1 (fun r109 C108 => (if r109 = 0 then k50_3 C108 else obd (xgr C108 (xis 0) a0 7) (fun ad110 => obd (xgi C108 (xis 4) ad110 0) (fun v111 => (if v111 < a2 then k50_3 C108 else obd (xgr C108 (xis 0) a0 7) (fun ad112 => obd (xgi C108 (xis 4) ad112 1) (fun v113 => (if v113 < a2 then k50_3 C108 else k51_54 1 C108))))))))))))
theorem iX0_given : xInfW yX0_given cX0_given 5 (some .int) [(0, 128, 129, 21)] 3 := ⟨q1251, by decide +kernel⟩
set_option maxHeartbeats 4000000 in
theorem xet_X0_given (l : Launch) (hl0 : l.stackTraces = false) (a0 : Nat) (a1 : Int32) (a2 : Int32) (a3 : Int32) (C : XH) (K : Int32 → XH → Prop) (hs : x_X0_given a0 a1 a2 a3 C K) : xMetX l yX0_given (wsW_ yX0_given cX0_given 5 (some .int) [(0, 128, 129, 21)]) 12 768 2 14 C [.ref a0, .int a1, .int a2, .int a3] (fun D dT A => xQi D dT K A) xE0 := by
  intro D dT adK adV sz
  refine xEnterW (own := RX0) (Qc := xQi D dT K) (XC := xXC D dT xE0) (by decide) rfl (by rfl) ?_
  intro p e s m args below meth c A ls X hnm hK hA hG hT hI hl
  have hx := X.1
  have hb := X.2.1
  have hts := X.2.2.2.2.1
  have hown := X.2.2.2.2.2.1
  have hl : lv_has ls 5 [(0, .ref a0), (1, .int a1), (2, .int a2), (3, .int a3)] := hl
  unfold x_X0_given at hs
  refine lv_iload_n hx hb dX0_given_0 rfl (lv_at hl 1 rfl) ?_
  refine lv_i2l (v := ((a1 : Int32).toInt64)) hx hb dX0_given_1 rfl ?_
  refine lv_lconst (v := 0) hx hb dX0_given_2 (by decide) ?_
  refine lv_ldc2 hx hb hown (hts _ q1252) dX0_given_3 ?_
  refine x_goz hA hI (x_runS (As := [.long ((a1 : Int32).toInt64), .long 0, .long 2]) (rest := []) X hK hA hG hI (xet_X0_in l ((a1 : Int32).toInt64) 0 2 _ _ hs) iX0_in q473 q474 q94 ⟨(Nat.le_of_ble_eq_true rfl), (Nat.le_of_ble_eq_true rfl)⟩ rfl hl.1 rfl (Nat.le_of_ble_eq_true rfl) dX0_given_6 ⟨(Nat.le_of_ble_eq_true rfl), (Nat.le_of_ble_eq_true rfl)⟩) (fun r2 C1 H locs br2 hs9 hI => ?_)
  replace hs := hs9
  obtain ⟨k50_3, hk50_3, hs⟩ := jn_ex hs
  have Ek50_3 : ∀ (C3 : XH) (H : Heap) (locs : List Loc) (ls : Array Slot), k50_3 C3 → xI D dT A s.heap C3 H locs → lv_has ls 5 [(0, .ref a0), (1, .int a1), (2, .int a2), (3, .int a3)] → W p l e (xRm 12 768 2 14) s m args below meth c H locs 0 0 (vx_MQ below (xQi D dT K A) (xXC D dT xE0 A) args s 2 14 A) (F0 m 50 ls []) := by
    intro C3 H locs ls hs hI hl
    rw [hk50_3] at hs
    refine lv_iconst (v := 0) hx hb dX0_given_50 (by decide) ?_
    refine lv_istore (lv' := [(4, .int 0), (0, .ref a0), (1, .int a1), (2, .int a2), (3, .int a3)]) hx hb dX0_given_51 hl (by decide) rfl (fun ls hl => ?_)
    refine lv_iload hx hb dX0_given_53 (lv_at hl 0 rfl) ?_
    obtain ⟨k73_4, hk73_4, hs⟩ := jn_ex hs
    have Ek73_4 : ∀ (C4 : XH) (H : Heap) (locs : List Loc) (ls : Array Slot), k73_4 C4 → xI D dT A s.heap C4 H locs → lv_has ls 5 [(0, .ref a0), (1, .int a1), (2, .int a2), (3, .int a3), (4, .int 0)] → W p l e (xRm 12 768 2 14) s m args below meth c H locs 0 0 (vx_MQ below (xQi D dT K A) (xXC D dT xE0 A) args s 2 14 A) (F0 m 73 ls []) := by
      intro C4 H locs ls hs hI hl
      rw [hk73_4] at hs
      refine lv_iconst (v := 1) hx hb dX0_given_73 (by decide) ?_
      refine lv_goto (tgt := 78) hx hb dX0_given_74 (by decide) ?_
      refine lv_bipush (v := (-5)) hx hb dX0_given_78 (by decide) ?_
      refine xT_gov hA hI (x_runST (As := [.int 1, .int (-5)]) (rest := []) X hK hA hG hI (xet_X0_need l hl0 1 (-5) _ _ _ hs) iX0_need q469 q470 q94 ⟨(Nat.le_of_ble_eq_true rfl), (Nat.le_of_ble_eq_true rfl)⟩ rfl hl.1 rfl (Nat.le_of_ble_eq_true rfl) dX0_given_80 ⟨(Nat.le_of_ble_eq_true rfl), (Nat.le_of_ble_eq_true rfl)⟩) (fun En ce ad23 C24 H locs hs9 hI hce hvm hcl => ?_) (fun C5 H locs hs9 hI => ?_)
      · obtain ⟨rfl, hs0⟩ := hs9
        replace hs := hs0
        refine x_catch (k := 0) (a1 := 0) (a2 := 128) (a3 := 129) (a4 := 21) X hG hT rfl (x_cov rfl) rfl (by decide) q363 (by decide) hce hvm hcl ?_
        refine lv_astore (lv' := [(4, .ref ad23), (0, .ref a0), (1, .int a1), (2, .int a2), (3, .int a3)]) hx hb dX0_given_129 hl (by decide) rfl (fun ls hl => ?_)
        refine lv_aload_n hx hb dX0_given_131 rfl (lv_at hl 1 rfl) ?_
        refine lv_aload hx hb dX0_given_132 (lv_at hl 0 rfl) ?_
        obtain ⟨h26, hs⟩ := hs
        obtain ⟨fh26, h26⟩ := xcl_spec h26
        refine x_goi hA hI (x_runV (As := [.ref ad23]) (rest := []) X hK hA hG hI h26 (q := (RX0, TX0, 10)) rfl rfl (xet_X0_refused l a0 ad23 _ _ hs) iX0_refused q538 q540 qs2 q94 ⟨(Nat.le_of_ble_eq_true rfl), (Nat.le_of_ble_eq_true rfl)⟩ rfl hl.1 rfl (Nat.le_of_ble_eq_true rfl) dX0_given_134 ⟨(Nat.le_of_ble_eq_true rfl), (Nat.le_of_ble_eq_true rfl)⟩) (fun r26 C25 H locs hs9 hI => ?_)
        replace hs := hs9
        exact vx_ret (x_reti X hK hI hs (Nat.le_of_ble_eq_true rfl) (Nat.le_of_ble_eq_true rfl) dX0_given_137)
      · replace hs := hs9
        refine lv_iload hx hb dX0_given_83 (lv_at hl 4 rfl) ?_
        refine lv_bipush (v := (-6)) hx hb dX0_given_85 (by decide) ?_
        refine xT_gov hA hI (x_runST (As := [.int 0, .int (-6)]) (rest := []) X hK hA hG hI (xet_X0_need l hl0 0 (-6) _ _ _ hs) iX0_need q469 q470 q94 ⟨(Nat.le_of_ble_eq_true rfl), (Nat.le_of_ble_eq_true rfl)⟩ rfl hl.1 rfl (Nat.le_of_ble_eq_true rfl) dX0_given_87 ⟨(Nat.le_of_ble_eq_true rfl), (Nat.le_of_ble_eq_true rfl)⟩) (fun En ce ad18 C19 H locs hs9 hI hce hvm hcl => ?_) (fun C6 H locs hs9 hI => ?_)
        · obtain ⟨rfl, hs0⟩ := hs9
          replace hs := hs0
          refine x_catch (k := 0) (a1 := 0) (a2 := 128) (a3 := 129) (a4 := 21) X hG hT rfl (x_cov rfl) rfl (by decide) q363 (by decide) hce hvm hcl ?_
          refine lv_astore (lv' := [(4, .ref ad18), (0, .ref a0), (1, .int a1), (2, .int a2), (3, .int a3)]) hx hb dX0_given_129 hl (by decide) rfl (fun ls hl => ?_)
          refine lv_aload_n hx hb dX0_given_131 rfl (lv_at hl 1 rfl) ?_
          refine lv_aload hx hb dX0_given_132 (lv_at hl 0 rfl) ?_
          obtain ⟨h21, hs⟩ := hs
          obtain ⟨fh21, h21⟩ := xcl_spec h21
          refine x_goi hA hI (x_runV (As := [.ref ad18]) (rest := []) X hK hA hG hI h21 (q := (RX0, TX0, 10)) rfl rfl (xet_X0_refused l a0 ad18 _ _ hs) iX0_refused q538 q540 qs2 q94 ⟨(Nat.le_of_ble_eq_true rfl), (Nat.le_of_ble_eq_true rfl)⟩ rfl hl.1 rfl (Nat.le_of_ble_eq_true rfl) dX0_given_134 ⟨(Nat.le_of_ble_eq_true rfl), (Nat.le_of_ble_eq_true rfl)⟩) (fun r21 C20 H locs hs9 hI => ?_)
          replace hs := hs9
          exact vx_ret (x_reti X hK hI hs (Nat.le_of_ble_eq_true rfl) (Nat.le_of_ble_eq_true rfl) dX0_given_137)
        · replace hs := hs9
          refine lv_aload_n hx hb dX0_given_90 rfl (lv_at hl 0 rfl) ?_
          obtain ⟨ad7, ead7, hs⟩ := hs
          refine x_get (v := .ref ad7) X hK hI 0 5 rfl in_X0 rfl q333 rfl (xgr_spec ead7) dX0_given_91 ?_
          refine lv_aload_n hx hb dX0_given_94 rfl (lv_at hl 0 rfl) ?_
          obtain ⟨ad8, ead8, hs⟩ := hs
          refine x_get (v := .ref ad8) X hK hI 0 7 rfl in_X0 rfl q335 rfl (xgr_spec ead8) dX0_given_95 ?_
          refine lv_iload_n hx hb dX0_given_98 rfl (lv_at hl 1 rfl) ?_
          refine lv_iload_n hx hb dX0_given_99 rfl (lv_at hl 2 rfl) ?_
          obtain ⟨h10, hs⟩ := hs
          obtain ⟨fh10, h10⟩ := xcl_spec h10
          refine x_gor hA hI (x_runV (As := [.ref ad8, .int a1, .int a2]) (rest := []) X hK hA hG hI h10 (q := (RX3, TX3, 8)) rfl rfl (xet_X3_of l ad7 ad8 a1 a2 _ _ hs) iX3_of q1255 q1256 q1257 q97 ⟨(Nat.le_of_ble_eq_true rfl), (Nat.le_of_ble_eq_true rfl)⟩ rfl hl.1 rfl (Nat.le_of_ble_eq_true rfl) dX0_given_100 ⟨(Nat.le_of_ble_eq_true rfl), (Nat.le_of_ble_eq_true rfl)⟩) (fun ad10 C9 H locs hs9 hI => ?_)
          replace hs := hs9
          refine lv_pop hx hb dX0_given_103 rfl ?_
          refine lv_iload_n hx hb dX0_given_104 rfl (lv_at hl 3 rfl) ?_
          refine lv_iconst (v := (-1)) hx hb dX0_given_105 (by decide) ?_
          refine lv_icmp_ne (tgt := 119) hx hb dX0_given_106 (by decide) (fun c16 => ?_) (fun c16 => ?_)
          · replace hs := ifn c16 hs
            refine lv_aload_n hx hb dX0_given_119 rfl (lv_at hl 0 rfl) ?_
            obtain ⟨ad12, ead12, hs⟩ := hs
            refine x_get (v := .ref ad12) X hK hI 0 5 rfl in_X0 rfl q333 rfl (xgr_spec ead12) dX0_given_120 ?_
            obtain ⟨ad13, ead13, hs⟩ := hs
            refine x_get (v := .ref ad13) X hK hI 3 2 rfl in_X3 rfl q219 rfl (xgr_spec ead13) dX0_given_123 ?_
            refine lv_iload_n hx hb dX0_given_126 rfl (lv_at hl 3 rfl) ?_
            obtain ⟨v14, ev14, hs⟩ := hs
            refine x_iald X hK hI ev14 dX0_given_127 ?_
            exact vx_ret (x_reti X hK hI hs (Nat.le_of_ble_eq_true rfl) (Nat.le_of_ble_eq_true rfl) dX0_given_128)
          · replace hs := ifp c16 hs
            refine lv_aload_n hx hb dX0_given_109 rfl (lv_at hl 0 rfl) ?_
            obtain ⟨ad15, ead15, hs⟩ := hs
            refine x_get (v := .ref ad15) X hK hI 0 5 rfl in_X0 rfl q333 rfl (xgr_spec ead15) dX0_given_110 ?_
            obtain ⟨v16, ev16, hs⟩ := hs
            refine x_get (v := .int v16) X hK hI 3 7 rfl in_X3 rfl q225 rfl (xgi_spec ev16) dX0_given_113 ?_
            refine lv_goto (tgt := 128) hx hb dX0_given_116 (by decide) ?_
            exact vx_ret (x_reti X hK hI hs (Nat.le_of_ble_eq_true rfl) (Nat.le_of_ble_eq_true rfl) dX0_given_128)
    obtain ⟨k78_29, hk78_29, hs⟩ := jn_ex hs
    have Ek78_29 : ∀ (v28 : Int32) (C29 : XH) (H : Heap) (locs : List Loc) (ls : Array Slot), k78_29 v28 C29 → xI D dT A s.heap C29 H locs → lv_has ls 5 [(0, .ref a0), (1, .int a1), (2, .int a2), (3, .int a3), (4, .int 0)] → W p l e (xRm 12 768 2 14) s m args below meth c H locs 0 0 (vx_MQ below (xQi D dT K A) (xXC D dT xE0 A) args s 2 14 A) (F0 m 78 ls [.int v28]) := by
      intro v28 C29 H locs ls hs hI hl
      rw [hk78_29] at hs
      refine lv_bipush (v := (-5)) hx hb dX0_given_78 (by decide) ?_
      refine xT_gov hA hI (x_runST (As := [.int v28, .int (-5)]) (rest := []) X hK hA hG hI (xet_X0_need l hl0 v28 (-5) _ _ _ hs) iX0_need q469 q470 q94 ⟨(Nat.le_of_ble_eq_true rfl), (Nat.le_of_ble_eq_true rfl)⟩ rfl hl.1 rfl (Nat.le_of_ble_eq_true rfl) dX0_given_80 ⟨(Nat.le_of_ble_eq_true rfl), (Nat.le_of_ble_eq_true rfl)⟩) (fun En ce ad48 C49 H locs hs9 hI hce hvm hcl => ?_) (fun C30 H locs hs9 hI => ?_)
      · obtain ⟨rfl, hs0⟩ := hs9
        replace hs := hs0
        refine x_catch (k := 0) (a1 := 0) (a2 := 128) (a3 := 129) (a4 := 21) X hG hT rfl (x_cov rfl) rfl (by decide) q363 (by decide) hce hvm hcl ?_
        refine lv_astore (lv' := [(4, .ref ad48), (0, .ref a0), (1, .int a1), (2, .int a2), (3, .int a3)]) hx hb dX0_given_129 hl (by decide) rfl (fun ls hl => ?_)
        refine lv_aload_n hx hb dX0_given_131 rfl (lv_at hl 1 rfl) ?_
        refine lv_aload hx hb dX0_given_132 (lv_at hl 0 rfl) ?_
        obtain ⟨h51, hs⟩ := hs
        obtain ⟨fh51, h51⟩ := xcl_spec h51
        refine x_goi hA hI (x_runV (As := [.ref ad48]) (rest := []) X hK hA hG hI h51 (q := (RX0, TX0, 10)) rfl rfl (xet_X0_refused l a0 ad48 _ _ hs) iX0_refused q538 q540 qs2 q94 ⟨(Nat.le_of_ble_eq_true rfl), (Nat.le_of_ble_eq_true rfl)⟩ rfl hl.1 rfl (Nat.le_of_ble_eq_true rfl) dX0_given_134 ⟨(Nat.le_of_ble_eq_true rfl), (Nat.le_of_ble_eq_true rfl)⟩) (fun r51 C50 H locs hs9 hI => ?_)
        replace hs := hs9
        exact vx_ret (x_reti X hK hI hs (Nat.le_of_ble_eq_true rfl) (Nat.le_of_ble_eq_true rfl) dX0_given_137)
      · replace hs := hs9
        refine lv_iload hx hb dX0_given_83 (lv_at hl 4 rfl) ?_
        refine lv_bipush (v := (-6)) hx hb dX0_given_85 (by decide) ?_
        refine xT_gov hA hI (x_runST (As := [.int 0, .int (-6)]) (rest := []) X hK hA hG hI (xet_X0_need l hl0 0 (-6) _ _ _ hs) iX0_need q469 q470 q94 ⟨(Nat.le_of_ble_eq_true rfl), (Nat.le_of_ble_eq_true rfl)⟩ rfl hl.1 rfl (Nat.le_of_ble_eq_true rfl) dX0_given_87 ⟨(Nat.le_of_ble_eq_true rfl), (Nat.le_of_ble_eq_true rfl)⟩) (fun En ce ad43 C44 H locs hs9 hI hce hvm hcl => ?_) (fun C31 H locs hs9 hI => ?_)
        · obtain ⟨rfl, hs0⟩ := hs9
          replace hs := hs0
          refine x_catch (k := 0) (a1 := 0) (a2 := 128) (a3 := 129) (a4 := 21) X hG hT rfl (x_cov rfl) rfl (by decide) q363 (by decide) hce hvm hcl ?_
          refine lv_astore (lv' := [(4, .ref ad43), (0, .ref a0), (1, .int a1), (2, .int a2), (3, .int a3)]) hx hb dX0_given_129 hl (by decide) rfl (fun ls hl => ?_)
          refine lv_aload_n hx hb dX0_given_131 rfl (lv_at hl 1 rfl) ?_
          refine lv_aload hx hb dX0_given_132 (lv_at hl 0 rfl) ?_
          obtain ⟨h46, hs⟩ := hs
          obtain ⟨fh46, h46⟩ := xcl_spec h46
          refine x_goi hA hI (x_runV (As := [.ref ad43]) (rest := []) X hK hA hG hI h46 (q := (RX0, TX0, 10)) rfl rfl (xet_X0_refused l a0 ad43 _ _ hs) iX0_refused q538 q540 qs2 q94 ⟨(Nat.le_of_ble_eq_true rfl), (Nat.le_of_ble_eq_true rfl)⟩ rfl hl.1 rfl (Nat.le_of_ble_eq_true rfl) dX0_given_134 ⟨(Nat.le_of_ble_eq_true rfl), (Nat.le_of_ble_eq_true rfl)⟩) (fun r46 C45 H locs hs9 hI => ?_)
          replace hs := hs9
          exact vx_ret (x_reti X hK hI hs (Nat.le_of_ble_eq_true rfl) (Nat.le_of_ble_eq_true rfl) dX0_given_137)
        · replace hs := hs9
          refine lv_aload_n hx hb dX0_given_90 rfl (lv_at hl 0 rfl) ?_
          obtain ⟨ad32, ead32, hs⟩ := hs
          refine x_get (v := .ref ad32) X hK hI 0 5 rfl in_X0 rfl q333 rfl (xgr_spec ead32) dX0_given_91 ?_
          refine lv_aload_n hx hb dX0_given_94 rfl (lv_at hl 0 rfl) ?_
          obtain ⟨ad33, ead33, hs⟩ := hs
          refine x_get (v := .ref ad33) X hK hI 0 7 rfl in_X0 rfl q335 rfl (xgr_spec ead33) dX0_given_95 ?_
          refine lv_iload_n hx hb dX0_given_98 rfl (lv_at hl 1 rfl) ?_
          refine lv_iload_n hx hb dX0_given_99 rfl (lv_at hl 2 rfl) ?_
          obtain ⟨h35, hs⟩ := hs
          obtain ⟨fh35, h35⟩ := xcl_spec h35
          refine x_gor hA hI (x_runV (As := [.ref ad33, .int a1, .int a2]) (rest := []) X hK hA hG hI h35 (q := (RX3, TX3, 8)) rfl rfl (xet_X3_of l ad32 ad33 a1 a2 _ _ hs) iX3_of q1255 q1256 q1257 q97 ⟨(Nat.le_of_ble_eq_true rfl), (Nat.le_of_ble_eq_true rfl)⟩ rfl hl.1 rfl (Nat.le_of_ble_eq_true rfl) dX0_given_100 ⟨(Nat.le_of_ble_eq_true rfl), (Nat.le_of_ble_eq_true rfl)⟩) (fun ad35 C34 H locs hs9 hI => ?_)
          replace hs := hs9
          refine lv_pop hx hb dX0_given_103 rfl ?_
          refine lv_iload_n hx hb dX0_given_104 rfl (lv_at hl 3 rfl) ?_
          refine lv_iconst (v := (-1)) hx hb dX0_given_105 (by decide) ?_
          refine lv_icmp_ne (tgt := 119) hx hb dX0_given_106 (by decide) (fun c41 => ?_) (fun c41 => ?_)
          · replace hs := ifn c41 hs
            refine lv_aload_n hx hb dX0_given_119 rfl (lv_at hl 0 rfl) ?_
            obtain ⟨ad37, ead37, hs⟩ := hs
            refine x_get (v := .ref ad37) X hK hI 0 5 rfl in_X0 rfl q333 rfl (xgr_spec ead37) dX0_given_120 ?_
            obtain ⟨ad38, ead38, hs⟩ := hs
            refine x_get (v := .ref ad38) X hK hI 3 2 rfl in_X3 rfl q219 rfl (xgr_spec ead38) dX0_given_123 ?_
            refine lv_iload_n hx hb dX0_given_126 rfl (lv_at hl 3 rfl) ?_
            obtain ⟨v39, ev39, hs⟩ := hs
            refine x_iald X hK hI ev39 dX0_given_127 ?_
            exact vx_ret (x_reti X hK hI hs (Nat.le_of_ble_eq_true rfl) (Nat.le_of_ble_eq_true rfl) dX0_given_128)
          · replace hs := ifp c41 hs
            refine lv_aload_n hx hb dX0_given_109 rfl (lv_at hl 0 rfl) ?_
            obtain ⟨ad40, ead40, hs⟩ := hs
            refine x_get (v := .ref ad40) X hK hI 0 5 rfl in_X0 rfl q333 rfl (xgr_spec ead40) dX0_given_110 ?_
            obtain ⟨v41, ev41, hs⟩ := hs
            refine x_get (v := .int v41) X hK hI 3 7 rfl in_X3 rfl q225 rfl (xgi_spec ev41) dX0_given_113 ?_
            refine lv_goto (tgt := 128) hx hb dX0_given_116 (by decide) ?_
            exact vx_ret (x_reti X hK hI hs (Nat.le_of_ble_eq_true rfl) (Nat.le_of_ble_eq_true rfl) dX0_given_128)
    refine lv_if_eq (tgt := 73) hx hb dX0_given_55 (by decide) (fun _ => ?_) (fun c => absurd (by decide) c)
    exact Ek73_4 _ _ _ _ hs hI (lv_sub hl [1, 2, 3, 4, 0] rfl)
  obtain ⟨k51_54, hk51_54, hs⟩ := jn_ex hs
  have Ek51_54 : ∀ (v53 : Int32) (C54 : XH) (H : Heap) (locs : List Loc) (ls : Array Slot), k51_54 v53 C54 → xI D dT A s.heap C54 H locs → lv_has ls 5 [(0, .ref a0), (1, .int a1), (2, .int a2), (3, .int a3)] → W p l e (xRm 12 768 2 14) s m args below meth c H locs 0 0 (vx_MQ below (xQi D dT K A) (xXC D dT xE0 A) args s 2 14 A) (F0 m 51 ls [.int v53]) := by
    intro v53 C54 H locs ls hs hI hl
    rw [hk51_54] at hs
    refine lv_istore (lv' := [(4, .int v53), (0, .ref a0), (1, .int a1), (2, .int a2), (3, .int a3)]) hx hb dX0_given_51 hl (by decide) rfl (fun ls hl => ?_)
    refine lv_iload hx hb dX0_given_53 (lv_at hl 0 rfl) ?_
    obtain ⟨k73_55, hk73_55, hs⟩ := jn_ex hs
    have Ek73_55 : ∀ (C55 : XH) (H : Heap) (locs : List Loc) (ls : Array Slot), k73_55 C55 → xI D dT A s.heap C55 H locs → lv_has ls 5 [(0, .ref a0), (1, .int a1), (2, .int a2), (3, .int a3), (4, .int v53)] → W p l e (xRm 12 768 2 14) s m args below meth c H locs 0 0 (vx_MQ below (xQi D dT K A) (xXC D dT xE0 A) args s 2 14 A) (F0 m 73 ls []) := by
      intro C55 H locs ls hs hI hl
      rw [hk73_55] at hs
      refine lv_iconst (v := 1) hx hb dX0_given_73 (by decide) ?_
      refine lv_goto (tgt := 78) hx hb dX0_given_74 (by decide) ?_
      refine lv_bipush (v := (-5)) hx hb dX0_given_78 (by decide) ?_
      refine xT_gov hA hI (x_runST (As := [.int 1, .int (-5)]) (rest := []) X hK hA hG hI (xet_X0_need l hl0 1 (-5) _ _ _ hs) iX0_need q469 q470 q94 ⟨(Nat.le_of_ble_eq_true rfl), (Nat.le_of_ble_eq_true rfl)⟩ rfl hl.1 rfl (Nat.le_of_ble_eq_true rfl) dX0_given_80 ⟨(Nat.le_of_ble_eq_true rfl), (Nat.le_of_ble_eq_true rfl)⟩) (fun En ce ad74 C75 H locs hs9 hI hce hvm hcl => ?_) (fun C56 H locs hs9 hI => ?_)
      · obtain ⟨rfl, hs0⟩ := hs9
        replace hs := hs0
        refine x_catch (k := 0) (a1 := 0) (a2 := 128) (a3 := 129) (a4 := 21) X hG hT rfl (x_cov rfl) rfl (by decide) q363 (by decide) hce hvm hcl ?_
        refine lv_astore (lv' := [(4, .ref ad74), (0, .ref a0), (1, .int a1), (2, .int a2), (3, .int a3)]) hx hb dX0_given_129 hl (by decide) rfl (fun ls hl => ?_)
        refine lv_aload_n hx hb dX0_given_131 rfl (lv_at hl 1 rfl) ?_
        refine lv_aload hx hb dX0_given_132 (lv_at hl 0 rfl) ?_
        obtain ⟨h77, hs⟩ := hs
        obtain ⟨fh77, h77⟩ := xcl_spec h77
        refine x_goi hA hI (x_runV (As := [.ref ad74]) (rest := []) X hK hA hG hI h77 (q := (RX0, TX0, 10)) rfl rfl (xet_X0_refused l a0 ad74 _ _ hs) iX0_refused q538 q540 qs2 q94 ⟨(Nat.le_of_ble_eq_true rfl), (Nat.le_of_ble_eq_true rfl)⟩ rfl hl.1 rfl (Nat.le_of_ble_eq_true rfl) dX0_given_134 ⟨(Nat.le_of_ble_eq_true rfl), (Nat.le_of_ble_eq_true rfl)⟩) (fun r77 C76 H locs hs9 hI => ?_)
        replace hs := hs9
        exact vx_ret (x_reti X hK hI hs (Nat.le_of_ble_eq_true rfl) (Nat.le_of_ble_eq_true rfl) dX0_given_137)
      · replace hs := hs9
        refine lv_iload hx hb dX0_given_83 (lv_at hl 4 rfl) ?_
        refine lv_bipush (v := (-6)) hx hb dX0_given_85 (by decide) ?_
        refine xT_gov hA hI (x_runST (As := [.int v53, .int (-6)]) (rest := []) X hK hA hG hI (xet_X0_need l hl0 v53 (-6) _ _ _ hs) iX0_need q469 q470 q94 ⟨(Nat.le_of_ble_eq_true rfl), (Nat.le_of_ble_eq_true rfl)⟩ rfl hl.1 rfl (Nat.le_of_ble_eq_true rfl) dX0_given_87 ⟨(Nat.le_of_ble_eq_true rfl), (Nat.le_of_ble_eq_true rfl)⟩) (fun En ce ad69 C70 H locs hs9 hI hce hvm hcl => ?_) (fun C57 H locs hs9 hI => ?_)
        · obtain ⟨rfl, hs0⟩ := hs9
          replace hs := hs0
          refine x_catch (k := 0) (a1 := 0) (a2 := 128) (a3 := 129) (a4 := 21) X hG hT rfl (x_cov rfl) rfl (by decide) q363 (by decide) hce hvm hcl ?_
          refine lv_astore (lv' := [(4, .ref ad69), (0, .ref a0), (1, .int a1), (2, .int a2), (3, .int a3)]) hx hb dX0_given_129 hl (by decide) rfl (fun ls hl => ?_)
          refine lv_aload_n hx hb dX0_given_131 rfl (lv_at hl 1 rfl) ?_
          refine lv_aload hx hb dX0_given_132 (lv_at hl 0 rfl) ?_
          obtain ⟨h72, hs⟩ := hs
          obtain ⟨fh72, h72⟩ := xcl_spec h72
          refine x_goi hA hI (x_runV (As := [.ref ad69]) (rest := []) X hK hA hG hI h72 (q := (RX0, TX0, 10)) rfl rfl (xet_X0_refused l a0 ad69 _ _ hs) iX0_refused q538 q540 qs2 q94 ⟨(Nat.le_of_ble_eq_true rfl), (Nat.le_of_ble_eq_true rfl)⟩ rfl hl.1 rfl (Nat.le_of_ble_eq_true rfl) dX0_given_134 ⟨(Nat.le_of_ble_eq_true rfl), (Nat.le_of_ble_eq_true rfl)⟩) (fun r72 C71 H locs hs9 hI => ?_)
          replace hs := hs9
          exact vx_ret (x_reti X hK hI hs (Nat.le_of_ble_eq_true rfl) (Nat.le_of_ble_eq_true rfl) dX0_given_137)
        · replace hs := hs9
          refine lv_aload_n hx hb dX0_given_90 rfl (lv_at hl 0 rfl) ?_
          obtain ⟨ad58, ead58, hs⟩ := hs
          refine x_get (v := .ref ad58) X hK hI 0 5 rfl in_X0 rfl q333 rfl (xgr_spec ead58) dX0_given_91 ?_
          refine lv_aload_n hx hb dX0_given_94 rfl (lv_at hl 0 rfl) ?_
          obtain ⟨ad59, ead59, hs⟩ := hs
          refine x_get (v := .ref ad59) X hK hI 0 7 rfl in_X0 rfl q335 rfl (xgr_spec ead59) dX0_given_95 ?_
          refine lv_iload_n hx hb dX0_given_98 rfl (lv_at hl 1 rfl) ?_
          refine lv_iload_n hx hb dX0_given_99 rfl (lv_at hl 2 rfl) ?_
          obtain ⟨h61, hs⟩ := hs
          obtain ⟨fh61, h61⟩ := xcl_spec h61
          refine x_gor hA hI (x_runV (As := [.ref ad59, .int a1, .int a2]) (rest := []) X hK hA hG hI h61 (q := (RX3, TX3, 8)) rfl rfl (xet_X3_of l ad58 ad59 a1 a2 _ _ hs) iX3_of q1255 q1256 q1257 q97 ⟨(Nat.le_of_ble_eq_true rfl), (Nat.le_of_ble_eq_true rfl)⟩ rfl hl.1 rfl (Nat.le_of_ble_eq_true rfl) dX0_given_100 ⟨(Nat.le_of_ble_eq_true rfl), (Nat.le_of_ble_eq_true rfl)⟩) (fun ad61 C60 H locs hs9 hI => ?_)
          replace hs := hs9
          refine lv_pop hx hb dX0_given_103 rfl ?_
          refine lv_iload_n hx hb dX0_given_104 rfl (lv_at hl 3 rfl) ?_
          refine lv_iconst (v := (-1)) hx hb dX0_given_105 (by decide) ?_
          refine lv_icmp_ne (tgt := 119) hx hb dX0_given_106 (by decide) (fun c67 => ?_) (fun c67 => ?_)
          · replace hs := ifn c67 hs
            refine lv_aload_n hx hb dX0_given_119 rfl (lv_at hl 0 rfl) ?_
            obtain ⟨ad63, ead63, hs⟩ := hs
            refine x_get (v := .ref ad63) X hK hI 0 5 rfl in_X0 rfl q333 rfl (xgr_spec ead63) dX0_given_120 ?_
            obtain ⟨ad64, ead64, hs⟩ := hs
            refine x_get (v := .ref ad64) X hK hI 3 2 rfl in_X3 rfl q219 rfl (xgr_spec ead64) dX0_given_123 ?_
            refine lv_iload_n hx hb dX0_given_126 rfl (lv_at hl 3 rfl) ?_
            obtain ⟨v65, ev65, hs⟩ := hs
            refine x_iald X hK hI ev65 dX0_given_127 ?_
            exact vx_ret (x_reti X hK hI hs (Nat.le_of_ble_eq_true rfl) (Nat.le_of_ble_eq_true rfl) dX0_given_128)
          · replace hs := ifp c67 hs
            refine lv_aload_n hx hb dX0_given_109 rfl (lv_at hl 0 rfl) ?_
            obtain ⟨ad66, ead66, hs⟩ := hs
            refine x_get (v := .ref ad66) X hK hI 0 5 rfl in_X0 rfl q333 rfl (xgr_spec ead66) dX0_given_110 ?_
            obtain ⟨v67, ev67, hs⟩ := hs
            refine x_get (v := .int v67) X hK hI 3 7 rfl in_X3 rfl q225 rfl (xgi_spec ev67) dX0_given_113 ?_
            refine lv_goto (tgt := 128) hx hb dX0_given_116 (by decide) ?_
            exact vx_ret (x_reti X hK hI hs (Nat.le_of_ble_eq_true rfl) (Nat.le_of_ble_eq_true rfl) dX0_given_128)
    obtain ⟨k78_80, hk78_80, hs⟩ := jn_ex hs
    have Ek78_80 : ∀ (v79 : Int32) (C80 : XH) (H : Heap) (locs : List Loc) (ls : Array Slot), k78_80 v79 C80 → xI D dT A s.heap C80 H locs → lv_has ls 5 [(0, .ref a0), (1, .int a1), (2, .int a2), (3, .int a3), (4, .int v53)] → W p l e (xRm 12 768 2 14) s m args below meth c H locs 0 0 (vx_MQ below (xQi D dT K A) (xXC D dT xE0 A) args s 2 14 A) (F0 m 78 ls [.int v79]) := by
      intro v79 C80 H locs ls hs hI hl
      rw [hk78_80] at hs
      refine lv_bipush (v := (-5)) hx hb dX0_given_78 (by decide) ?_
      refine xT_gov hA hI (x_runST (As := [.int v79, .int (-5)]) (rest := []) X hK hA hG hI (xet_X0_need l hl0 v79 (-5) _ _ _ hs) iX0_need q469 q470 q94 ⟨(Nat.le_of_ble_eq_true rfl), (Nat.le_of_ble_eq_true rfl)⟩ rfl hl.1 rfl (Nat.le_of_ble_eq_true rfl) dX0_given_80 ⟨(Nat.le_of_ble_eq_true rfl), (Nat.le_of_ble_eq_true rfl)⟩) (fun En ce ad99 C100 H locs hs9 hI hce hvm hcl => ?_) (fun C81 H locs hs9 hI => ?_)
      · obtain ⟨rfl, hs0⟩ := hs9
        replace hs := hs0
        refine x_catch (k := 0) (a1 := 0) (a2 := 128) (a3 := 129) (a4 := 21) X hG hT rfl (x_cov rfl) rfl (by decide) q363 (by decide) hce hvm hcl ?_
        refine lv_astore (lv' := [(4, .ref ad99), (0, .ref a0), (1, .int a1), (2, .int a2), (3, .int a3)]) hx hb dX0_given_129 hl (by decide) rfl (fun ls hl => ?_)
        refine lv_aload_n hx hb dX0_given_131 rfl (lv_at hl 1 rfl) ?_
        refine lv_aload hx hb dX0_given_132 (lv_at hl 0 rfl) ?_
        obtain ⟨h102, hs⟩ := hs
        obtain ⟨fh102, h102⟩ := xcl_spec h102
        refine x_goi hA hI (x_runV (As := [.ref ad99]) (rest := []) X hK hA hG hI h102 (q := (RX0, TX0, 10)) rfl rfl (xet_X0_refused l a0 ad99 _ _ hs) iX0_refused q538 q540 qs2 q94 ⟨(Nat.le_of_ble_eq_true rfl), (Nat.le_of_ble_eq_true rfl)⟩ rfl hl.1 rfl (Nat.le_of_ble_eq_true rfl) dX0_given_134 ⟨(Nat.le_of_ble_eq_true rfl), (Nat.le_of_ble_eq_true rfl)⟩) (fun r102 C101 H locs hs9 hI => ?_)
        replace hs := hs9
        exact vx_ret (x_reti X hK hI hs (Nat.le_of_ble_eq_true rfl) (Nat.le_of_ble_eq_true rfl) dX0_given_137)
      · replace hs := hs9
        refine lv_iload hx hb dX0_given_83 (lv_at hl 4 rfl) ?_
        refine lv_bipush (v := (-6)) hx hb dX0_given_85 (by decide) ?_
        refine xT_gov hA hI (x_runST (As := [.int v53, .int (-6)]) (rest := []) X hK hA hG hI (xet_X0_need l hl0 v53 (-6) _ _ _ hs) iX0_need q469 q470 q94 ⟨(Nat.le_of_ble_eq_true rfl), (Nat.le_of_ble_eq_true rfl)⟩ rfl hl.1 rfl (Nat.le_of_ble_eq_true rfl) dX0_given_87 ⟨(Nat.le_of_ble_eq_true rfl), (Nat.le_of_ble_eq_true rfl)⟩) (fun En ce ad94 C95 H locs hs9 hI hce hvm hcl => ?_) (fun C82 H locs hs9 hI => ?_)
        · obtain ⟨rfl, hs0⟩ := hs9
          replace hs := hs0
          refine x_catch (k := 0) (a1 := 0) (a2 := 128) (a3 := 129) (a4 := 21) X hG hT rfl (x_cov rfl) rfl (by decide) q363 (by decide) hce hvm hcl ?_
          refine lv_astore (lv' := [(4, .ref ad94), (0, .ref a0), (1, .int a1), (2, .int a2), (3, .int a3)]) hx hb dX0_given_129 hl (by decide) rfl (fun ls hl => ?_)
          refine lv_aload_n hx hb dX0_given_131 rfl (lv_at hl 1 rfl) ?_
          refine lv_aload hx hb dX0_given_132 (lv_at hl 0 rfl) ?_
          obtain ⟨h97, hs⟩ := hs
          obtain ⟨fh97, h97⟩ := xcl_spec h97
          refine x_goi hA hI (x_runV (As := [.ref ad94]) (rest := []) X hK hA hG hI h97 (q := (RX0, TX0, 10)) rfl rfl (xet_X0_refused l a0 ad94 _ _ hs) iX0_refused q538 q540 qs2 q94 ⟨(Nat.le_of_ble_eq_true rfl), (Nat.le_of_ble_eq_true rfl)⟩ rfl hl.1 rfl (Nat.le_of_ble_eq_true rfl) dX0_given_134 ⟨(Nat.le_of_ble_eq_true rfl), (Nat.le_of_ble_eq_true rfl)⟩) (fun r97 C96 H locs hs9 hI => ?_)
          replace hs := hs9
          exact vx_ret (x_reti X hK hI hs (Nat.le_of_ble_eq_true rfl) (Nat.le_of_ble_eq_true rfl) dX0_given_137)
        · replace hs := hs9
          refine lv_aload_n hx hb dX0_given_90 rfl (lv_at hl 0 rfl) ?_
          obtain ⟨ad83, ead83, hs⟩ := hs
          refine x_get (v := .ref ad83) X hK hI 0 5 rfl in_X0 rfl q333 rfl (xgr_spec ead83) dX0_given_91 ?_
          refine lv_aload_n hx hb dX0_given_94 rfl (lv_at hl 0 rfl) ?_
          obtain ⟨ad84, ead84, hs⟩ := hs
          refine x_get (v := .ref ad84) X hK hI 0 7 rfl in_X0 rfl q335 rfl (xgr_spec ead84) dX0_given_95 ?_
          refine lv_iload_n hx hb dX0_given_98 rfl (lv_at hl 1 rfl) ?_
          refine lv_iload_n hx hb dX0_given_99 rfl (lv_at hl 2 rfl) ?_
          obtain ⟨h86, hs⟩ := hs
          obtain ⟨fh86, h86⟩ := xcl_spec h86
          refine x_gor hA hI (x_runV (As := [.ref ad84, .int a1, .int a2]) (rest := []) X hK hA hG hI h86 (q := (RX3, TX3, 8)) rfl rfl (xet_X3_of l ad83 ad84 a1 a2 _ _ hs) iX3_of q1255 q1256 q1257 q97 ⟨(Nat.le_of_ble_eq_true rfl), (Nat.le_of_ble_eq_true rfl)⟩ rfl hl.1 rfl (Nat.le_of_ble_eq_true rfl) dX0_given_100 ⟨(Nat.le_of_ble_eq_true rfl), (Nat.le_of_ble_eq_true rfl)⟩) (fun ad86 C85 H locs hs9 hI => ?_)
          replace hs := hs9
          refine lv_pop hx hb dX0_given_103 rfl ?_
          refine lv_iload_n hx hb dX0_given_104 rfl (lv_at hl 3 rfl) ?_
          refine lv_iconst (v := (-1)) hx hb dX0_given_105 (by decide) ?_
          refine lv_icmp_ne (tgt := 119) hx hb dX0_given_106 (by decide) (fun c92 => ?_) (fun c92 => ?_)
          · replace hs := ifn c92 hs
            refine lv_aload_n hx hb dX0_given_119 rfl (lv_at hl 0 rfl) ?_
            obtain ⟨ad88, ead88, hs⟩ := hs
            refine x_get (v := .ref ad88) X hK hI 0 5 rfl in_X0 rfl q333 rfl (xgr_spec ead88) dX0_given_120 ?_
            obtain ⟨ad89, ead89, hs⟩ := hs
            refine x_get (v := .ref ad89) X hK hI 3 2 rfl in_X3 rfl q219 rfl (xgr_spec ead89) dX0_given_123 ?_
            refine lv_iload_n hx hb dX0_given_126 rfl (lv_at hl 3 rfl) ?_
            obtain ⟨v90, ev90, hs⟩ := hs
            refine x_iald X hK hI ev90 dX0_given_127 ?_
            exact vx_ret (x_reti X hK hI hs (Nat.le_of_ble_eq_true rfl) (Nat.le_of_ble_eq_true rfl) dX0_given_128)
          · replace hs := ifp c92 hs
            refine lv_aload_n hx hb dX0_given_109 rfl (lv_at hl 0 rfl) ?_
            obtain ⟨ad91, ead91, hs⟩ := hs
            refine x_get (v := .ref ad91) X hK hI 0 5 rfl in_X0 rfl q333 rfl (xgr_spec ead91) dX0_given_110 ?_
            obtain ⟨v92, ev92, hs⟩ := hs
            refine x_get (v := .int v92) X hK hI 3 7 rfl in_X3 rfl q225 rfl (xgi_spec ev92) dX0_given_113 ?_
            refine lv_goto (tgt := 128) hx hb dX0_given_116 (by decide) ?_
            exact vx_ret (x_reti X hK hI hs (Nat.le_of_ble_eq_true rfl) (Nat.le_of_ble_eq_true rfl) dX0_given_128)
    refine lv_if_eq (tgt := 73) hx hb dX0_given_55 (by decide) (fun c106 => ?_) (fun c106 => ?_)
    · replace hs := ifp c106 hs
      exact Ek73_55 _ _ _ _ hs hI (lv_sub hl [1, 2, 3, 4, 0] rfl)
    · replace hs := ifn c106 hs
      refine lv_iload_n hx hb dX0_given_58 rfl (lv_at hl 4 rfl) ?_
      refine lv_i2l (v := ((a3 : Int32).toInt64)) hx hb dX0_given_59 rfl ?_
      refine lv_ldc2 hx hb hown (hts _ q1254) dX0_given_60 ?_
      refine lv_iload_n hx hb dX0_given_63 rfl (lv_at hl 3 rfl) ?_
      refine lv_iconst (v := 1) hx hb dX0_given_64 (by decide) ?_
      refine lv_isub hx hb dX0_given_65 ?_
      refine lv_i2l (v := (((a2 - 1) : Int32).toInt64)) hx hb dX0_given_66 rfl ?_
      refine x_goz hA hI (x_runS (As := [.long ((a3 : Int32).toInt64), .long (-1), .long (((a2 - 1) : Int32).toInt64)]) (rest := []) X hK hA hG hI (xet_X0_in l ((a3 : Int32).toInt64) (-1) (((a2 - 1) : Int32).toInt64) _ _ hs) iX0_in q473 q474 q94 ⟨(Nat.le_of_ble_eq_true rfl), (Nat.le_of_ble_eq_true rfl)⟩ rfl hl.1 rfl (Nat.le_of_ble_eq_true rfl) dX0_given_67 ⟨(Nat.le_of_ble_eq_true rfl), (Nat.le_of_ble_eq_true rfl)⟩) (fun r105 C104 H locs br105 hs9 hI => ?_)
      replace hs := hs9
      refine lv_if_eq (tgt := 77) hx hb dX0_given_70 (by decide) (fun c105 => ?_) (fun c105 => ?_)
      · replace hs := ifp c105 hs
        refine lv_iconst (v := 0) hx hb dX0_given_77 (by decide) ?_
        exact Ek78_80 _ _ _ _ _ hs hI (lv_sub hl [1, 2, 3, 4, 0] rfl)
      · replace hs := ifn c105 hs
        exact Ek73_55 _ _ _ _ hs hI (lv_sub hl [1, 2, 3, 4, 0] rfl)
  refine lv_if_eq (tgt := 50) hx hb dX0_given_9 (by decide) (fun c116 => ?_) (fun c116 => ?_)
  · replace hs := ifp c116 hs
    exact Ek50_3 _ _ _ _ hs hI hl
  · replace hs := ifn c116 hs
    refine lv_iload_n hx hb dX0_given_12 rfl (lv_at hl 2 rfl) ?_
    refine lv_i2l (v := ((a2 : Int32).toInt64)) hx hb dX0_given_13 rfl ?_
    refine lv_lconst (v := 1) hx hb dX0_given_14 (by decide) ?_
    refine lv_ldc2 hx hb hown (hts _ q1253) dX0_given_15 ?_
    refine x_goz hA hI (x_runS (As := [.long ((a2 : Int32).toInt64), .long 1, .long 5]) (rest := []) X hK hA hG hI (xet_X0_in l ((a2 : Int32).toInt64) 1 5 _ _ hs) iX0_in q473 q474 q94 ⟨(Nat.le_of_ble_eq_true rfl), (Nat.le_of_ble_eq_true rfl)⟩ rfl hl.1 rfl (Nat.le_of_ble_eq_true rfl) dX0_given_18 ⟨(Nat.le_of_ble_eq_true rfl), (Nat.le_of_ble_eq_true rfl)⟩) (fun r109 C108 H locs br109 hs9 hI => ?_)
    replace hs := hs9
    refine lv_if_eq (tgt := 50) hx hb dX0_given_21 (by decide) (fun c115 => ?_) (fun c115 => ?_)
    · replace hs := ifp c115 hs
      exact Ek50_3 _ _ _ _ hs hI hl
    · replace hs := ifn c115 hs
      refine lv_iload_n hx hb dX0_given_24 rfl (lv_at hl 2 rfl) ?_
      refine lv_aload_n hx hb dX0_given_25 rfl (lv_at hl 0 rfl) ?_
      obtain ⟨ad110, ead110, hs⟩ := hs
      refine x_get (v := .ref ad110) X hK hI 0 7 rfl in_X0 rfl q335 rfl (xgr_spec ead110) dX0_given_26 ?_
      obtain ⟨v111, ev111, hs⟩ := hs
      refine x_get (v := .int v111) X hK hI 4 0 rfl in_X4 rfl q252 rfl (xgi_spec ev111) dX0_given_29 ?_
      refine lv_icmp_gt (tgt := 50) hx hb dX0_given_32 (by decide) (fun c114 => ?_) (fun c114 => ?_)
      · replace hs := ifp c114 hs
        exact Ek50_3 _ _ _ _ hs hI hl
      · replace hs := ifn c114 hs
        refine lv_iload_n hx hb dX0_given_35 rfl (lv_at hl 2 rfl) ?_
        refine lv_aload_n hx hb dX0_given_36 rfl (lv_at hl 0 rfl) ?_
        obtain ⟨ad112, ead112, hs⟩ := hs
        refine x_get (v := .ref ad112) X hK hI 0 7 rfl in_X0 rfl q335 rfl (xgr_spec ead112) dX0_given_37 ?_
        obtain ⟨v113, ev113, hs⟩ := hs
        refine x_get (v := .int v113) X hK hI 4 1 rfl in_X4 rfl q257 rfl (xgi_spec ev113) dX0_given_40 ?_
        refine lv_icmp_gt (tgt := 50) hx hb dX0_given_43 (by decide) (fun c113 => ?_) (fun c113 => ?_)
        · replace hs := ifp c113 hs
          exact Ek50_3 _ _ _ _ hs hI hl
        · replace hs := ifn c113 hs
          refine lv_iconst (v := 1) hx hb dX0_given_46 (by decide) ?_
          refine lv_goto (tgt := 51) hx hb dX0_given_47 (by decide) ?_
          exact Ek51_54 _ _ _ _ _ hs hI hl
def x_X2_ofTwo (a0 : Nat) (a1 : Nat) (a2 : Int32) (a3 : Int32) (a4 : Int32) (C : XH) (K : Nat → XH → Prop) : Prop := obd (xgr C (xis 4) a1 7) (fun ad1 => obd (xai C 0 ad1 a2) (fun v2 => obd (xgr C (xis 4) a1 7) (fun ad3 => obd (xai C 0 ad3 a3) (fun v4 => obd (xgr C (xis 4) a1 7) (fun ad5 => obd (xai C 0 ad5 a2) (fun v6 => obd (xgr C (xis 4) a1 7) (fun ad7 => obd (xai C 0 ad7 a3) (fun v8 => obd (xgr C (xis 4) a1 6) (fun ad9 => obd (xar C 7 ad9 a2) (fun ad10 => (xcl C a1 = some 4 ∧ x_X4_slackIn a1 (imin v2 v4) a4 C (fun r12 C11 => (xcl C11 a1 = some 4 ∧ x_X4_holesIn a1 a4 C11 (fun r15 C14 => obd (xgr C14 (xis 4) a1 9) (fun ad17 => obd (xai C14 0 ad17 a2) (fun v18 => (xcl C14 a0 = some 2 ∧ x_X2_begins a0 a1 ad10 (imin v2 v4) (r12 + (iabs (v6 - v8))) r15 v18 C14 (fun ad20 C19 => K ad20 C19))))))))))))))))))
theorem iX2_ofTwo : xInf yX2_ofTwo cX2_ofTwo 7 (some (.object RX2)) 4 := ⟨q1279, by decide +kernel⟩
set_option maxHeartbeats 4000000 in
theorem xet_X2_ofTwo (l : Launch) (a0 : Nat) (a1 : Nat) (a2 : Int32) (a3 : Int32) (a4 : Int32) (C : XH) (K : Nat → XH → Prop) (hs : x_X2_ofTwo a0 a1 a2 a3 a4 C K) : xMetr l yX2_ofTwo (ws_ yX2_ofTwo cX2_ofTwo 7 (some (.object RX2))) 6 136 0 0 C [.ref a0, .ref a1, .int a2, .int a3, .int a4] K := by
  intro D dT adK adV sz
  refine xEnter (own := RX2) (Qc := xQr D dT K) (by decide) rfl (by rfl) ?_
  intro p e s m args below meth c A ls X hnm hK hA hG hI hl
  have hx := X.1
  have hb := X.2.1
  have hts := X.2.2.2.2.1
  have hown := X.2.2.2.2.2.1
  have hl : lv_has ls 7 [(0, .ref a0), (1, .ref a1), (2, .int a2), (3, .int a3), (4, .int a4)] := hl
  unfold x_X2_ofTwo at hs
  refine lv_aload_n hx hb dX2_ofTwo_0 rfl (lv_at hl 1 rfl) ?_
  obtain ⟨ad1, ead1, hs⟩ := hs
  refine x_get (v := .ref ad1) X hK hI 4 7 rfl in_X4 rfl q274 rfl (xgr_spec ead1) dX2_ofTwo_1 ?_
  refine lv_iload_n hx hb dX2_ofTwo_4 rfl (lv_at hl 2 rfl) ?_
  obtain ⟨v2, ev2, hs⟩ := hs
  refine x_iald X hK hI ev2 dX2_ofTwo_5 ?_
  refine lv_aload_n hx hb dX2_ofTwo_6 rfl (lv_at hl 1 rfl) ?_
  obtain ⟨ad3, ead3, hs⟩ := hs
  refine x_get (v := .ref ad3) X hK hI 4 7 rfl in_X4 rfl q274 rfl (xgr_spec ead3) dX2_ofTwo_7 ?_
  refine lv_iload_n hx hb dX2_ofTwo_10 rfl (lv_at hl 3 rfl) ?_
  obtain ⟨v4, ev4, hs⟩ := hs
  refine x_iald X hK hI ev4 dX2_ofTwo_11 ?_
  refine va_mmin (rest := []) hx hb (X.2.2.2.1.trans hl.1.symm) hown (hts _ q1174) (hts _ q1175) (hts _ q116) (hts _ q1176) (Nat.le_of_ble_eq_true rfl) (Nat.le_of_ble_eq_true rfl) (Nat.le_of_ble_eq_true rfl) (Nat.le_of_ble_eq_true rfl) dX2_ofTwo_12 ?_
  refine lv_istore (lv' := [(5, .int (imin v2 v4)), (0, .ref a0), (1, .ref a1), (2, .int a2), (3, .int a3), (4, .int a4)]) hx hb dX2_ofTwo_15 hl (by decide) rfl (fun ls hl => ?_)
  refine lv_aload_n hx hb dX2_ofTwo_17 rfl (lv_at hl 2 rfl) ?_
  obtain ⟨ad5, ead5, hs⟩ := hs
  refine x_get (v := .ref ad5) X hK hI 4 7 rfl in_X4 rfl q274 rfl (xgr_spec ead5) dX2_ofTwo_18 ?_
  refine lv_iload_n hx hb dX2_ofTwo_21 rfl (lv_at hl 3 rfl) ?_
  obtain ⟨v6, ev6, hs⟩ := hs
  refine x_iald X hK hI ev6 dX2_ofTwo_22 ?_
  refine lv_aload_n hx hb dX2_ofTwo_23 rfl (lv_at hl 2 rfl) ?_
  obtain ⟨ad7, ead7, hs⟩ := hs
  refine x_get (v := .ref ad7) X hK hI 4 7 rfl in_X4 rfl q274 rfl (xgr_spec ead7) dX2_ofTwo_24 ?_
  refine lv_iload_n hx hb dX2_ofTwo_27 rfl (lv_at hl 4 rfl) ?_
  obtain ⟨v8, ev8, hs⟩ := hs
  refine x_iald X hK hI ev8 dX2_ofTwo_28 ?_
  refine lv_isub hx hb dX2_ofTwo_29 ?_
  refine va_mabs (rest := []) hx hb (X.2.2.2.1.trans hl.1.symm) hown (hts _ q1280) (hts _ q702) (hts _ q116) (hts _ q703) (Nat.le_of_ble_eq_true rfl) (Nat.le_of_ble_eq_true rfl) (Nat.le_of_ble_eq_true rfl) (Nat.le_of_ble_eq_true rfl) dX2_ofTwo_30 ?_
  refine lv_istore (lv' := [(6, .int (iabs (v6 - v8))), (5, .int (imin v2 v4)), (0, .ref a0), (1, .ref a1), (2, .int a2), (3, .int a3), (4, .int a4)]) hx hb dX2_ofTwo_33 hl (by decide) rfl (fun ls hl => ?_)
  refine lv_aload_n hx hb dX2_ofTwo_35 rfl (lv_at hl 2 rfl) ?_
  refine lv_aload_n hx hb dX2_ofTwo_36 rfl (lv_at hl 3 rfl) ?_
  refine lv_aload_n hx hb dX2_ofTwo_37 rfl (lv_at hl 3 rfl) ?_
  obtain ⟨ad9, ead9, hs⟩ := hs
  refine x_get (v := .ref ad9) X hK hI 4 6 rfl in_X4 rfl q270 rfl (xgr_spec ead9) dX2_ofTwo_38 ?_
  refine lv_iload_n hx hb dX2_ofTwo_41 rfl (lv_at hl 4 rfl) ?_
  obtain ⟨ad10, ead10, hs⟩ := hs
  refine x_aald X hK hI 7 rfl rfl ead10 dX2_ofTwo_42 ?_
  refine lv_iload hx hb dX2_ofTwo_43 (lv_at hl 1 rfl) ?_
  refine lv_aload_n hx hb dX2_ofTwo_45 rfl (lv_at hl 3 rfl) ?_
  refine lv_iload hx hb dX2_ofTwo_46 (lv_at hl 1 rfl) ?_
  refine lv_iload hx hb dX2_ofTwo_48 (lv_at hl 6 rfl) ?_
  obtain ⟨h12, hs⟩ := hs
  obtain ⟨fh12, h12⟩ := xcl_spec h12
  refine x_goi hA hI (x_runV (As := [.int (imin v2 v4), .int a4]) (rest := [.int (imin v2 v4), .ref ad10, .ref a1, .ref a0]) X hK hA hG hI h12 (q := (RX4, TX4, 13)) rfl rfl (xet_X4_slackIn l a1 (imin v2 v4) a4 _ _ hs) iX4_slackIn q1144 q694 q695 q98 ⟨(Nat.le_of_ble_eq_true rfl), (Nat.le_of_ble_eq_true rfl)⟩ rfl hl.1 rfl (Nat.le_of_ble_eq_true rfl) dX2_ofTwo_50 ⟨(Nat.le_of_ble_eq_true rfl), (Nat.le_of_ble_eq_true rfl)⟩) (fun r12 C11 H locs hs9 hI => ?_)
  replace hs := hs9
  refine lv_iload hx hb dX2_ofTwo_53 (lv_at hl 0 rfl) ?_
  refine lv_iadd hx hb dX2_ofTwo_55 ?_
  refine lv_aload_n hx hb dX2_ofTwo_56 rfl (lv_at hl 3 rfl) ?_
  refine lv_iload hx hb dX2_ofTwo_57 (lv_at hl 6 rfl) ?_
  obtain ⟨h15, hs⟩ := hs
  obtain ⟨fh15, h15⟩ := xcl_spec h15
  refine x_goi hA hI (x_runV (As := [.int a4]) (rest := [.int (r12 + (iabs (v6 - v8))), .int (imin v2 v4), .ref ad10, .ref a1, .ref a0]) X hK hA hG hI h15 (q := (RX4, TX4, 13)) rfl rfl (xet_X4_holesIn l a1 a4 _ _ hs) iX4_holesIn q1145 q750 q751 q98 ⟨(Nat.le_of_ble_eq_true rfl), (Nat.le_of_ble_eq_true rfl)⟩ rfl hl.1 rfl (Nat.le_of_ble_eq_true rfl) dX2_ofTwo_59 ⟨(Nat.le_of_ble_eq_true rfl), (Nat.le_of_ble_eq_true rfl)⟩) (fun r15 C14 H locs hs9 hI => ?_)
  replace hs := hs9
  refine lv_aload_n hx hb dX2_ofTwo_62 rfl (lv_at hl 3 rfl) ?_
  obtain ⟨ad17, ead17, hs⟩ := hs
  refine x_get (v := .ref ad17) X hK hI 4 9 rfl in_X4 rfl q282 rfl (xgr_spec ead17) dX2_ofTwo_63 ?_
  refine lv_iload_n hx hb dX2_ofTwo_66 rfl (lv_at hl 4 rfl) ?_
  obtain ⟨v18, ev18, hs⟩ := hs
  refine x_iald X hK hI ev18 dX2_ofTwo_67 ?_
  obtain ⟨h20, hs⟩ := hs
  obtain ⟨fh20, h20⟩ := xcl_spec h20
  refine x_gor hA hI (x_runV (As := [.ref a1, .ref ad10, .int (imin v2 v4), .int (r12 + (iabs (v6 - v8))), .int r15, .int v18]) (rest := []) X hK hA hG hI h20 (q := (RX2, TX2, 12)) rfl rfl (xet_X2_begins l a0 a1 ad10 (imin v2 v4) (r12 + (iabs (v6 - v8))) r15 v18 _ _ hs) iX2_begins q1146 q1148 qs17 q96 ⟨(Nat.le_of_ble_eq_true rfl), (Nat.le_of_ble_eq_true rfl)⟩ rfl hl.1 rfl (Nat.le_of_ble_eq_true rfl) dX2_ofTwo_68 ⟨(Nat.le_of_ble_eq_true rfl), (Nat.le_of_ble_eq_true rfl)⟩) (fun ad20 C19 H locs hs9 hI => ?_)
  replace hs := hs9
  exact x_retr X hK hI hs (Nat.le_of_ble_eq_true rfl) (Nat.le_of_ble_eq_true rfl) dX2_ofTwo_71
def x_X0_two (a0 : Nat) (a1 : Int32) (a2 : Int32) (a3 : Int32) (C : XH) (K : Int32 → XH → Prop) : Prop := obd (xgr C (xis 0) a0 7) (fun ad1 => (xcl C ad1 = some 4 ∧ x_X4_isChild ad1 a1 C (fun r3 C2 => jn (fun (C5 : XH) => x_X0_need 0 (-1) C5 (fun C6 => jn (fun (v7 : Int32) => x_X0_need v7 (-6) C6 (fun C8 => obd (xgr C8 (xis 0) a0 3) (fun ad9 => obd (xgr C8 (xis 0) a0 7) (fun ad10 => (xcl C8 ad9 = some 2 ∧ x_X2_ofTwo ad9 ad10 a1 a2 a3 C8 (fun ad12 C11 => (xcl C11 ad12 = some 2 ∧ x_X2_comesIn ad12 C11 (fun r15 C14 => K r15 C14))))))) (fun ad17 C18 => (xcl C18 a0 = some 0 ∧ x_X0_refused a0 ad17 C18 (fun r20 C19 => K r20 C19)))) (fun k52_7 => (if a1 = a2 then k52_7 0 else k52_7 1))) (fun ad23 C24 => (xcl C24 a0 = some 0 ∧ x_X0_refused a0 ad23 C24 (fun r26 C25 => K r26 C25)))) (fun k37_5 => jn (fun (v28 : Int32) (C29 : XH) => x_X0_need v28 (-1) C29 (fun C30 => jn (fun (v31 : Int32) => x_X0_need v31 (-6) C30 (fun C32 => obd (xgr C32 (xis 0) a0 3) (fun ad33 => obd (xgr C32 (xis 0) a0 7) (fun ad34 => (xcl C32 ad33 = some 2 ∧ x_X2_ofTwo ad33 ad34 a1 a2 a3 C32 (fun ad36 C35 => (xcl C35 ad36 = some 2 ∧ x_X2_comesIn ad36 C35 (fun r39 C38 => K r39 C38))))))) (fun ad41 C42 => (xcl C42 a0 = some 0 ∧ x_X0_refused a0 ad41 C42 (fun r44 C43 => K r44 C43)))) (fun k52_31 => (if a1 = a2 then k52_31 0 else k52_31 1))) (fun ad47 C48 => (xcl C48 a0 = some 0 ∧ x_X0_refused a0 ad47 C48 (fun r50 C49 => K r50 C49)))) (fun k38_29 => (if r3 = 0 then k37_5 C2 else obd (xgr C2 (xis 0) a0 7) (fun ad52 => (xcl C2 ad52 = some 4 ∧ x_X4_isChild ad52 a2 C2 (fun r54 C53 => (if r54 = 0 then k37_5 C53 else obd (xgr C53 (xis 0) a0 7) (fun ad56 => (xcl C53 ad56 = some 4 ∧ x_X4_isSack ad56 a3 C53 (fun r58 C57 => (if r58 = 0 then k37_5 C57 else k38_29 1 C57))))))))))))))
theorem iX0_two : xInfW yX0_two cX0_two 5 (some .int) [(0, 74, 75, 21)] 3 := ⟨q1275, by decide +kernel⟩
set_option maxHeartbeats 4000000 in
theorem xet_X0_two (l : Launch) (hl0 : l.stackTraces = false) (a0 : Nat) (a1 : Int32) (a2 : Int32) (a3 : Int32) (C : XH) (K : Int32 → XH → Prop) (hs : x_X0_two a0 a1 a2 a3 C K) : xMetX l yX0_two (wsW_ yX0_two cX0_two 5 (some .int) [(0, 74, 75, 21)]) 7 162 2 14 C [.ref a0, .int a1, .int a2, .int a3] (fun D dT A => xQi D dT K A) xE0 := by
  intro D dT adK adV sz
  refine xEnterW (own := RX0) (Qc := xQi D dT K) (XC := xXC D dT xE0) (by decide) rfl (by rfl) ?_
  intro p e s m args below meth c A ls X hnm hK hA hG hT hI hl
  have hx := X.1
  have hb := X.2.1
  have hts := X.2.2.2.2.1
  have hown := X.2.2.2.2.2.1
  have hl : lv_has ls 5 [(0, .ref a0), (1, .int a1), (2, .int a2), (3, .int a3)] := hl
  unfold x_X0_two at hs
  refine lv_aload_n hx hb dX0_two_0 rfl (lv_at hl 0 rfl) ?_
  obtain ⟨ad1, ead1, hs⟩ := hs
  refine x_get (v := .ref ad1) X hK hI 0 7 rfl in_X0 rfl q335 rfl (xgr_spec ead1) dX0_two_1 ?_
  refine lv_iload_n hx hb dX0_two_4 rfl (lv_at hl 1 rfl) ?_
  obtain ⟨h3, hs⟩ := hs
  obtain ⟨fh3, h3⟩ := xcl_spec h3
  refine x_goz hA hI (x_runV (As := [.int a1]) (rest := []) X hK hA hG hI h3 (q := (RX4, TX4, 13)) rfl rfl (xet_X4_isChild l ad1 a1 _ _ hs) iX4_isChild q653 q654 q655 q98 ⟨(Nat.le_of_ble_eq_true rfl), (Nat.le_of_ble_eq_true rfl)⟩ rfl hl.1 rfl (Nat.le_of_ble_eq_true rfl) dX0_two_5 ⟨(Nat.le_of_ble_eq_true rfl), (Nat.le_of_ble_eq_true rfl)⟩) (fun r3 C2 H locs br3 hs9 hI => ?_)
  replace hs := hs9
  obtain ⟨k37_5, hk37_5, hs⟩ := jn_ex hs
  have Ek37_5 : ∀ (C5 : XH) (H : Heap) (locs : List Loc) (ls : Array Slot), k37_5 C5 → xI D dT A s.heap C5 H locs → lv_has ls 5 [(0, .ref a0), (1, .int a1), (2, .int a2), (3, .int a3)] → W p l e (xRm 7 162 2 14) s m args below meth c H locs 0 0 (vx_MQ below (xQi D dT K A) (xXC D dT xE0 A) args s 2 14 A) (F0 m 37 ls []) := by
    intro C5 H locs ls hs hI hl
    rw [hk37_5] at hs
    refine lv_iconst (v := 0) hx hb dX0_two_37 (by decide) ?_
    refine lv_iconst (v := (-1)) hx hb dX0_two_38 (by decide) ?_
    refine xT_gov hA hI (x_runST (As := [.int 0, .int (-1)]) (rest := []) X hK hA hG hI (xet_X0_need l hl0 0 (-1) _ _ _ hs) iX0_need q469 q470 q94 ⟨(Nat.le_of_ble_eq_true rfl), (Nat.le_of_ble_eq_true rfl)⟩ rfl hl.1 rfl (Nat.le_of_ble_eq_true rfl) dX0_two_39 ⟨(Nat.le_of_ble_eq_true rfl), (Nat.le_of_ble_eq_true rfl)⟩) (fun En ce ad23 C24 H locs hs9 hI hce hvm hcl => ?_) (fun C6 H locs hs9 hI => ?_)
    · obtain ⟨rfl, hs0⟩ := hs9
      replace hs := hs0
      refine x_catch (k := 0) (a1 := 0) (a2 := 74) (a3 := 75) (a4 := 21) X hG hT rfl (x_cov rfl) rfl (by decide) q363 (by decide) hce hvm hcl ?_
      refine lv_astore (lv' := [(4, .ref ad23), (0, .ref a0), (1, .int a1), (2, .int a2), (3, .int a3)]) hx hb dX0_two_75 hl (by decide) rfl (fun ls hl => ?_)
      refine lv_aload_n hx hb dX0_two_77 rfl (lv_at hl 1 rfl) ?_
      refine lv_aload hx hb dX0_two_78 (lv_at hl 0 rfl) ?_
      obtain ⟨h26, hs⟩ := hs
      obtain ⟨fh26, h26⟩ := xcl_spec h26
      refine x_goi hA hI (x_runV (As := [.ref ad23]) (rest := []) X hK hA hG hI h26 (q := (RX0, TX0, 10)) rfl rfl (xet_X0_refused l a0 ad23 _ _ hs) iX0_refused q538 q540 qs2 q94 ⟨(Nat.le_of_ble_eq_true rfl), (Nat.le_of_ble_eq_true rfl)⟩ rfl hl.1 rfl (Nat.le_of_ble_eq_true rfl) dX0_two_80 ⟨(Nat.le_of_ble_eq_true rfl), (Nat.le_of_ble_eq_true rfl)⟩) (fun r26 C25 H locs hs9 hI => ?_)
      replace hs := hs9
      exact vx_ret (x_reti X hK hI hs (Nat.le_of_ble_eq_true rfl) (Nat.le_of_ble_eq_true rfl) dX0_two_83)
    · replace hs := hs9
      refine lv_iload_n hx hb dX0_two_42 rfl (lv_at hl 1 rfl) ?_
      refine lv_iload_n hx hb dX0_two_43 rfl (lv_at hl 2 rfl) ?_
      obtain ⟨k52_7, hk52_7, hs⟩ := jn_ex hs
      have Ek52_7 : ∀ (v7 : Int32) (H : Heap) (locs : List Loc) (ls : Array Slot), k52_7 v7 → xI D dT A s.heap C6 H locs → lv_has ls 5 [(0, .ref a0), (1, .int a1), (2, .int a2), (3, .int a3)] → W p l e (xRm 7 162 2 14) s m args below meth c H locs 1 7 (vx_MQ below (xQi D dT K A) (xXC D dT xE0 A) args s 2 14 A) (F0 m 52 ls [.int v7]) := by
        intro v7 H locs ls hs hI hl
        rw [hk52_7] at hs
        refine lv_bipush (v := (-6)) hx hb dX0_two_52 (by decide) ?_
        refine xT_gov hA hI (x_runST (As := [.int v7, .int (-6)]) (rest := []) X hK hA hG hI (xet_X0_need l hl0 v7 (-6) _ _ _ hs) iX0_need q469 q470 q94 ⟨(Nat.le_of_ble_eq_true rfl), (Nat.le_of_ble_eq_true rfl)⟩ rfl hl.1 rfl (Nat.le_of_ble_eq_true rfl) dX0_two_54 ⟨(Nat.le_of_ble_eq_true rfl), (Nat.le_of_ble_eq_true rfl)⟩) (fun En ce ad17 C18 H locs hs9 hI hce hvm hcl => ?_) (fun C8 H locs hs9 hI => ?_)
        · obtain ⟨rfl, hs0⟩ := hs9
          replace hs := hs0
          refine x_catch (k := 0) (a1 := 0) (a2 := 74) (a3 := 75) (a4 := 21) X hG hT rfl (x_cov rfl) rfl (by decide) q363 (by decide) hce hvm hcl ?_
          refine lv_astore (lv' := [(4, .ref ad17), (0, .ref a0), (1, .int a1), (2, .int a2), (3, .int a3)]) hx hb dX0_two_75 hl (by decide) rfl (fun ls hl => ?_)
          refine lv_aload_n hx hb dX0_two_77 rfl (lv_at hl 1 rfl) ?_
          refine lv_aload hx hb dX0_two_78 (lv_at hl 0 rfl) ?_
          obtain ⟨h20, hs⟩ := hs
          obtain ⟨fh20, h20⟩ := xcl_spec h20
          refine x_goi hA hI (x_runV (As := [.ref ad17]) (rest := []) X hK hA hG hI h20 (q := (RX0, TX0, 10)) rfl rfl (xet_X0_refused l a0 ad17 _ _ hs) iX0_refused q538 q540 qs2 q94 ⟨(Nat.le_of_ble_eq_true rfl), (Nat.le_of_ble_eq_true rfl)⟩ rfl hl.1 rfl (Nat.le_of_ble_eq_true rfl) dX0_two_80 ⟨(Nat.le_of_ble_eq_true rfl), (Nat.le_of_ble_eq_true rfl)⟩) (fun r20 C19 H locs hs9 hI => ?_)
          replace hs := hs9
          exact vx_ret (x_reti X hK hI hs (Nat.le_of_ble_eq_true rfl) (Nat.le_of_ble_eq_true rfl) dX0_two_83)
        · replace hs := hs9
          refine lv_aload_n hx hb dX0_two_57 rfl (lv_at hl 0 rfl) ?_
          obtain ⟨ad9, ead9, hs⟩ := hs
          refine x_get (v := .ref ad9) X hK hI 0 3 rfl in_X0 rfl q331 rfl (xgr_spec ead9) dX0_two_58 ?_
          refine lv_aload_n hx hb dX0_two_61 rfl (lv_at hl 0 rfl) ?_
          obtain ⟨ad10, ead10, hs⟩ := hs
          refine x_get (v := .ref ad10) X hK hI 0 7 rfl in_X0 rfl q335 rfl (xgr_spec ead10) dX0_two_62 ?_
          refine lv_iload_n hx hb dX0_two_65 rfl (lv_at hl 1 rfl) ?_
          refine lv_iload_n hx hb dX0_two_66 rfl (lv_at hl 2 rfl) ?_
          refine lv_iload_n hx hb dX0_two_67 rfl (lv_at hl 3 rfl) ?_
          obtain ⟨h12, hs⟩ := hs
          obtain ⟨fh12, h12⟩ := xcl_spec h12
          refine x_gor hA hI (x_runV (As := [.ref ad10, .int a1, .int a2, .int a3]) (rest := []) X hK hA hG hI h12 (q := (RX2, TX2, 12)) rfl rfl (xet_X2_ofTwo l ad9 ad10 a1 a2 a3 _ _ hs) iX2_ofTwo q1276 q1277 q1278 q96 ⟨(Nat.le_of_ble_eq_true rfl), (Nat.le_of_ble_eq_true rfl)⟩ rfl hl.1 rfl (Nat.le_of_ble_eq_true rfl) dX0_two_68 ⟨(Nat.le_of_ble_eq_true rfl), (Nat.le_of_ble_eq_true rfl)⟩) (fun ad12 C11 H locs hs9 hI => ?_)
          replace hs := hs9
          obtain ⟨h15, hs⟩ := hs
          obtain ⟨fh15, h15⟩ := xcl_spec h15
          refine x_goi hA hI (x_runV (As := []) (rest := []) X hK hA hG hI h15 (q := (RX2, TX2, 12)) rfl rfl (xet_X2_comesIn l ad12 _ _ hs) iX2_comesIn q1197 q1198 q1199 q96 ⟨(Nat.le_of_ble_eq_true rfl), (Nat.le_of_ble_eq_true rfl)⟩ rfl hl.1 rfl (Nat.le_of_ble_eq_true rfl) dX0_two_71 ⟨(Nat.le_of_ble_eq_true rfl), (Nat.le_of_ble_eq_true rfl)⟩) (fun r15 C14 H locs hs9 hI => ?_)
          replace hs := hs9
          exact vx_ret (x_reti X hK hI hs (Nat.le_of_ble_eq_true rfl) (Nat.le_of_ble_eq_true rfl) dX0_two_74)
      refine lv_icmp_eq (tgt := 51) hx hb dX0_two_44 (by decide) (fun c21 => ?_) (fun c21 => ?_)
      · replace hs := ifp c21 hs
        refine lv_iconst (v := 0) hx hb dX0_two_51 (by decide) ?_
        exact Ek52_7 _ _ _ _ hs hI hl
      · replace hs := ifn c21 hs
        refine lv_iconst (v := 1) hx hb dX0_two_47 (by decide) ?_
        refine lv_goto (tgt := 52) hx hb dX0_two_48 (by decide) ?_
        exact Ek52_7 _ _ _ _ hs hI hl
  obtain ⟨k38_29, hk38_29, hs⟩ := jn_ex hs
  have Ek38_29 : ∀ (v28 : Int32) (C29 : XH) (H : Heap) (locs : List Loc) (ls : Array Slot), k38_29 v28 C29 → xI D dT A s.heap C29 H locs → lv_has ls 5 [(0, .ref a0), (1, .int a1), (2, .int a2), (3, .int a3)] → W p l e (xRm 7 162 2 14) s m args below meth c H locs 0 0 (vx_MQ below (xQi D dT K A) (xXC D dT xE0 A) args s 2 14 A) (F0 m 38 ls [.int v28]) := by
    intro v28 C29 H locs ls hs hI hl
    rw [hk38_29] at hs
    refine lv_iconst (v := (-1)) hx hb dX0_two_38 (by decide) ?_
    refine xT_gov hA hI (x_runST (As := [.int v28, .int (-1)]) (rest := []) X hK hA hG hI (xet_X0_need l hl0 v28 (-1) _ _ _ hs) iX0_need q469 q470 q94 ⟨(Nat.le_of_ble_eq_true rfl), (Nat.le_of_ble_eq_true rfl)⟩ rfl hl.1 rfl (Nat.le_of_ble_eq_true rfl) dX0_two_39 ⟨(Nat.le_of_ble_eq_true rfl), (Nat.le_of_ble_eq_true rfl)⟩) (fun En ce ad47 C48 H locs hs9 hI hce hvm hcl => ?_) (fun C30 H locs hs9 hI => ?_)
    · obtain ⟨rfl, hs0⟩ := hs9
      replace hs := hs0
      refine x_catch (k := 0) (a1 := 0) (a2 := 74) (a3 := 75) (a4 := 21) X hG hT rfl (x_cov rfl) rfl (by decide) q363 (by decide) hce hvm hcl ?_
      refine lv_astore (lv' := [(4, .ref ad47), (0, .ref a0), (1, .int a1), (2, .int a2), (3, .int a3)]) hx hb dX0_two_75 hl (by decide) rfl (fun ls hl => ?_)
      refine lv_aload_n hx hb dX0_two_77 rfl (lv_at hl 1 rfl) ?_
      refine lv_aload hx hb dX0_two_78 (lv_at hl 0 rfl) ?_
      obtain ⟨h50, hs⟩ := hs
      obtain ⟨fh50, h50⟩ := xcl_spec h50
      refine x_goi hA hI (x_runV (As := [.ref ad47]) (rest := []) X hK hA hG hI h50 (q := (RX0, TX0, 10)) rfl rfl (xet_X0_refused l a0 ad47 _ _ hs) iX0_refused q538 q540 qs2 q94 ⟨(Nat.le_of_ble_eq_true rfl), (Nat.le_of_ble_eq_true rfl)⟩ rfl hl.1 rfl (Nat.le_of_ble_eq_true rfl) dX0_two_80 ⟨(Nat.le_of_ble_eq_true rfl), (Nat.le_of_ble_eq_true rfl)⟩) (fun r50 C49 H locs hs9 hI => ?_)
      replace hs := hs9
      exact vx_ret (x_reti X hK hI hs (Nat.le_of_ble_eq_true rfl) (Nat.le_of_ble_eq_true rfl) dX0_two_83)
    · replace hs := hs9
      refine lv_iload_n hx hb dX0_two_42 rfl (lv_at hl 1 rfl) ?_
      refine lv_iload_n hx hb dX0_two_43 rfl (lv_at hl 2 rfl) ?_
      obtain ⟨k52_31, hk52_31, hs⟩ := jn_ex hs
      have Ek52_31 : ∀ (v31 : Int32) (H : Heap) (locs : List Loc) (ls : Array Slot), k52_31 v31 → xI D dT A s.heap C30 H locs → lv_has ls 5 [(0, .ref a0), (1, .int a1), (2, .int a2), (3, .int a3)] → W p l e (xRm 7 162 2 14) s m args below meth c H locs 1 7 (vx_MQ below (xQi D dT K A) (xXC D dT xE0 A) args s 2 14 A) (F0 m 52 ls [.int v31]) := by
        intro v31 H locs ls hs hI hl
        rw [hk52_31] at hs
        refine lv_bipush (v := (-6)) hx hb dX0_two_52 (by decide) ?_
        refine xT_gov hA hI (x_runST (As := [.int v31, .int (-6)]) (rest := []) X hK hA hG hI (xet_X0_need l hl0 v31 (-6) _ _ _ hs) iX0_need q469 q470 q94 ⟨(Nat.le_of_ble_eq_true rfl), (Nat.le_of_ble_eq_true rfl)⟩ rfl hl.1 rfl (Nat.le_of_ble_eq_true rfl) dX0_two_54 ⟨(Nat.le_of_ble_eq_true rfl), (Nat.le_of_ble_eq_true rfl)⟩) (fun En ce ad41 C42 H locs hs9 hI hce hvm hcl => ?_) (fun C32 H locs hs9 hI => ?_)
        · obtain ⟨rfl, hs0⟩ := hs9
          replace hs := hs0
          refine x_catch (k := 0) (a1 := 0) (a2 := 74) (a3 := 75) (a4 := 21) X hG hT rfl (x_cov rfl) rfl (by decide) q363 (by decide) hce hvm hcl ?_
          refine lv_astore (lv' := [(4, .ref ad41), (0, .ref a0), (1, .int a1), (2, .int a2), (3, .int a3)]) hx hb dX0_two_75 hl (by decide) rfl (fun ls hl => ?_)
          refine lv_aload_n hx hb dX0_two_77 rfl (lv_at hl 1 rfl) ?_
          refine lv_aload hx hb dX0_two_78 (lv_at hl 0 rfl) ?_
          obtain ⟨h44, hs⟩ := hs
          obtain ⟨fh44, h44⟩ := xcl_spec h44
          refine x_goi hA hI (x_runV (As := [.ref ad41]) (rest := []) X hK hA hG hI h44 (q := (RX0, TX0, 10)) rfl rfl (xet_X0_refused l a0 ad41 _ _ hs) iX0_refused q538 q540 qs2 q94 ⟨(Nat.le_of_ble_eq_true rfl), (Nat.le_of_ble_eq_true rfl)⟩ rfl hl.1 rfl (Nat.le_of_ble_eq_true rfl) dX0_two_80 ⟨(Nat.le_of_ble_eq_true rfl), (Nat.le_of_ble_eq_true rfl)⟩) (fun r44 C43 H locs hs9 hI => ?_)
          replace hs := hs9
          exact vx_ret (x_reti X hK hI hs (Nat.le_of_ble_eq_true rfl) (Nat.le_of_ble_eq_true rfl) dX0_two_83)
        · replace hs := hs9
          refine lv_aload_n hx hb dX0_two_57 rfl (lv_at hl 0 rfl) ?_
          obtain ⟨ad33, ead33, hs⟩ := hs
          refine x_get (v := .ref ad33) X hK hI 0 3 rfl in_X0 rfl q331 rfl (xgr_spec ead33) dX0_two_58 ?_
          refine lv_aload_n hx hb dX0_two_61 rfl (lv_at hl 0 rfl) ?_
          obtain ⟨ad34, ead34, hs⟩ := hs
          refine x_get (v := .ref ad34) X hK hI 0 7 rfl in_X0 rfl q335 rfl (xgr_spec ead34) dX0_two_62 ?_
          refine lv_iload_n hx hb dX0_two_65 rfl (lv_at hl 1 rfl) ?_
          refine lv_iload_n hx hb dX0_two_66 rfl (lv_at hl 2 rfl) ?_
          refine lv_iload_n hx hb dX0_two_67 rfl (lv_at hl 3 rfl) ?_
          obtain ⟨h36, hs⟩ := hs
          obtain ⟨fh36, h36⟩ := xcl_spec h36
          refine x_gor hA hI (x_runV (As := [.ref ad34, .int a1, .int a2, .int a3]) (rest := []) X hK hA hG hI h36 (q := (RX2, TX2, 12)) rfl rfl (xet_X2_ofTwo l ad33 ad34 a1 a2 a3 _ _ hs) iX2_ofTwo q1276 q1277 q1278 q96 ⟨(Nat.le_of_ble_eq_true rfl), (Nat.le_of_ble_eq_true rfl)⟩ rfl hl.1 rfl (Nat.le_of_ble_eq_true rfl) dX0_two_68 ⟨(Nat.le_of_ble_eq_true rfl), (Nat.le_of_ble_eq_true rfl)⟩) (fun ad36 C35 H locs hs9 hI => ?_)
          replace hs := hs9
          obtain ⟨h39, hs⟩ := hs
          obtain ⟨fh39, h39⟩ := xcl_spec h39
          refine x_goi hA hI (x_runV (As := []) (rest := []) X hK hA hG hI h39 (q := (RX2, TX2, 12)) rfl rfl (xet_X2_comesIn l ad36 _ _ hs) iX2_comesIn q1197 q1198 q1199 q96 ⟨(Nat.le_of_ble_eq_true rfl), (Nat.le_of_ble_eq_true rfl)⟩ rfl hl.1 rfl (Nat.le_of_ble_eq_true rfl) dX0_two_71 ⟨(Nat.le_of_ble_eq_true rfl), (Nat.le_of_ble_eq_true rfl)⟩) (fun r39 C38 H locs hs9 hI => ?_)
          replace hs := hs9
          exact vx_ret (x_reti X hK hI hs (Nat.le_of_ble_eq_true rfl) (Nat.le_of_ble_eq_true rfl) dX0_two_74)
      refine lv_icmp_eq (tgt := 51) hx hb dX0_two_44 (by decide) (fun c45 => ?_) (fun c45 => ?_)
      · replace hs := ifp c45 hs
        refine lv_iconst (v := 0) hx hb dX0_two_51 (by decide) ?_
        exact Ek52_31 _ _ _ _ hs hI hl
      · replace hs := ifn c45 hs
        refine lv_iconst (v := 1) hx hb dX0_two_47 (by decide) ?_
        refine lv_goto (tgt := 52) hx hb dX0_two_48 (by decide) ?_
        exact Ek52_31 _ _ _ _ hs hI hl
  refine lv_if_eq (tgt := 37) hx hb dX0_two_8 (by decide) (fun c61 => ?_) (fun c61 => ?_)
  · replace hs := ifp c61 hs
    exact Ek37_5 _ _ _ _ hs hI hl
  · replace hs := ifn c61 hs
    refine lv_aload_n hx hb dX0_two_11 rfl (lv_at hl 0 rfl) ?_
    obtain ⟨ad52, ead52, hs⟩ := hs
    refine x_get (v := .ref ad52) X hK hI 0 7 rfl in_X0 rfl q335 rfl (xgr_spec ead52) dX0_two_12 ?_
    refine lv_iload_n hx hb dX0_two_15 rfl (lv_at hl 2 rfl) ?_
    obtain ⟨h54, hs⟩ := hs
    obtain ⟨fh54, h54⟩ := xcl_spec h54
    refine x_goz hA hI (x_runV (As := [.int a2]) (rest := []) X hK hA hG hI h54 (q := (RX4, TX4, 13)) rfl rfl (xet_X4_isChild l ad52 a2 _ _ hs) iX4_isChild q653 q654 q655 q98 ⟨(Nat.le_of_ble_eq_true rfl), (Nat.le_of_ble_eq_true rfl)⟩ rfl hl.1 rfl (Nat.le_of_ble_eq_true rfl) dX0_two_16 ⟨(Nat.le_of_ble_eq_true rfl), (Nat.le_of_ble_eq_true rfl)⟩) (fun r54 C53 H locs br54 hs9 hI => ?_)
    replace hs := hs9
    refine lv_if_eq (tgt := 37) hx hb dX0_two_19 (by decide) (fun c60 => ?_) (fun c60 => ?_)
    · replace hs := ifp c60 hs
      exact Ek37_5 _ _ _ _ hs hI hl
    · replace hs := ifn c60 hs
      refine lv_aload_n hx hb dX0_two_22 rfl (lv_at hl 0 rfl) ?_
      obtain ⟨ad56, ead56, hs⟩ := hs
      refine x_get (v := .ref ad56) X hK hI 0 7 rfl in_X0 rfl q335 rfl (xgr_spec ead56) dX0_two_23 ?_
      refine lv_iload_n hx hb dX0_two_26 rfl (lv_at hl 3 rfl) ?_
      obtain ⟨h58, hs⟩ := hs
      obtain ⟨fh58, h58⟩ := xcl_spec h58
      refine x_goz hA hI (x_runV (As := [.int a3]) (rest := []) X hK hA hG hI h58 (q := (RX4, TX4, 13)) rfl rfl (xet_X4_isSack l ad56 a3 _ _ hs) iX4_isSack q920 q698 q699 q98 ⟨(Nat.le_of_ble_eq_true rfl), (Nat.le_of_ble_eq_true rfl)⟩ rfl hl.1 rfl (Nat.le_of_ble_eq_true rfl) dX0_two_27 ⟨(Nat.le_of_ble_eq_true rfl), (Nat.le_of_ble_eq_true rfl)⟩) (fun r58 C57 H locs br58 hs9 hI => ?_)
      replace hs := hs9
      refine lv_if_eq (tgt := 37) hx hb dX0_two_30 (by decide) (fun c59 => ?_) (fun c59 => ?_)
      · replace hs := ifp c59 hs
        exact Ek37_5 _ _ _ _ hs hI hl
      · replace hs := ifn c59 hs
        refine lv_iconst (v := 1) hx hb dX0_two_33 (by decide) ?_
        refine lv_goto (tgt := 38) hx hb dX0_two_34 (by decide) ?_
        exact Ek38_29 _ _ _ _ _ hs hI hl
def x_X0_pair_l53 (a0 : Nat) (x6 : Int32) (k121_13 : Int32 → Int32 → XH → Prop) : Nat → Int32 → Int32 → Int32 → XH → Prop
  | 0, _, _, _, _ => False
  | n53_18 + 1, x15, x16, x17, C18 => obd (xgr C18 (xis 0) a0 7) (fun ad20 => obd (xgi C18 (xis 4) ad20 0) (fun v21 => (if v21 ≤ x17 then k121_13 x15 x16 C18 else obd (xgr C18 (xis 0) a0 3) (fun ad22 => obd (xgr C18 (xis 0) a0 7) (fun ad23 => obd (xgr C18 (xis 0) a0 7) (fun ad24 => obd (xgr C18 (xis 4) ad24 8) (fun ad25 => obd (xai C18 0 ad25 x6) (fun v26 => (xcl C18 ad22 = some 2 ∧ x_X2_ofTwo ad22 ad23 x6 x17 v26 C18 (fun ad28 C27 => (xcl C27 ad28 = some 2 ∧ x_X2_comesIn ad28 C27 (fun r31 C30 => jn (x_X0_pair_l53 a0 x6 k121_13 n53_18 ((100 * x6) + x17) r31 (x17 + 1) C30) (fun k104_32 => jn (fun (x33 : Int32) (x34 : Int32) => x_X0_pair_l53 a0 x6 k121_13 n53_18 x33 x34 (x17 + 1) C30) (fun k115_34 => (if x15 = (-1) then k104_32 else (if x16 ≤ r31 then k115_34 x15 x16 else k104_32))))))))))))))))
theorem x_X0_pair_l53_s (a0 : Nat) (x6 : Int32) (k121_13 : Int32 → Int32 → XH → Prop) (n53_18 : Nat) (x15 : Int32) (x16 : Int32) (x17 : Int32) (C18 : XH) : x_X0_pair_l53 a0 x6 k121_13 (n53_18 + 1) x15 x16 x17 C18 = (obd (xgr C18 (xis 0) a0 7) (fun ad20 => obd (xgi C18 (xis 4) ad20 0) (fun v21 => (if v21 ≤ x17 then k121_13 x15 x16 C18 else obd (xgr C18 (xis 0) a0 3) (fun ad22 => obd (xgr C18 (xis 0) a0 7) (fun ad23 => obd (xgr C18 (xis 0) a0 7) (fun ad24 => obd (xgr C18 (xis 4) ad24 8) (fun ad25 => obd (xai C18 0 ad25 x6) (fun v26 => (xcl C18 ad22 = some 2 ∧ x_X2_ofTwo ad22 ad23 x6 x17 v26 C18 (fun ad28 C27 => (xcl C27 ad28 = some 2 ∧ x_X2_comesIn ad28 C27 (fun r31 C30 => jn (x_X0_pair_l53 a0 x6 k121_13 n53_18 ((100 * x6) + x17) r31 (x17 + 1) C30) (fun k104_32 => jn (fun (x33 : Int32) (x34 : Int32) => x_X0_pair_l53 a0 x6 k121_13 n53_18 x33 x34 (x17 + 1) C30) (fun k115_34 => (if x15 = (-1) then k104_32 else (if x16 ≤ r31 then k115_34 x15 x16 else k104_32))))))))))))))))) := rfl
def x_X0_pair_l37 (K : Int32 → XH → Prop) (a0 : Nat) : Nat → Int32 → Int32 → Int32 → XH → Prop
  | 0, _, _, _, _ => False
  | n37_7 + 1, x4, x5, x6, C7 => obd (xgr C7 (xis 0) a0 7) (fun ad9 => obd (xgi C7 (xis 4) ad9 0) (fun v10 => (if v10 ≤ x6 then K x4 C7 else jn (fun (x11 : Int32) (x12 : Int32) (C13 : XH) => x_X0_pair_l37 K a0 n37_7 x11 x12 (x6 + 1) C13) (fun k121_13 => x_X0_pair_l53 a0 x6 k121_13 NF x4 x5 (x6 + 1) C7))))
theorem x_X0_pair_l37_s (K : Int32 → XH → Prop) (a0 : Nat) (n37_7 : Nat) (x4 : Int32) (x5 : Int32) (x6 : Int32) (C7 : XH) : x_X0_pair_l37 K a0 (n37_7 + 1) x4 x5 x6 C7 = (obd (xgr C7 (xis 0) a0 7) (fun ad9 => obd (xgi C7 (xis 4) ad9 0) (fun v10 => (if v10 ≤ x6 then K x4 C7 else jn (fun (x11 : Int32) (x12 : Int32) (C13 : XH) => x_X0_pair_l37 K a0 n37_7 x11 x12 (x6 + 1) C13) (fun k121_13 => x_X0_pair_l53 a0 x6 k121_13 NF x4 x5 (x6 + 1) C7))))) := rfl
def x_X0_pair_l53b (a0 : Nat) (x48 : Int32) (k121_55 : Int32 → Int32 → XH → Prop) : Nat → Int32 → Int32 → Int32 → XH → Prop
  | 0, _, _, _, _ => False
  | n53_60 + 1, x57, x58, x59, C60 => obd (xgr C60 (xis 0) a0 7) (fun ad62 => obd (xgi C60 (xis 4) ad62 0) (fun v63 => (if v63 ≤ x59 then k121_55 x57 x58 C60 else obd (xgr C60 (xis 0) a0 3) (fun ad64 => obd (xgr C60 (xis 0) a0 7) (fun ad65 => obd (xgr C60 (xis 0) a0 7) (fun ad66 => obd (xgr C60 (xis 4) ad66 8) (fun ad67 => obd (xai C60 0 ad67 x48) (fun v68 => (xcl C60 ad64 = some 2 ∧ x_X2_ofTwo ad64 ad65 x48 x59 v68 C60 (fun ad70 C69 => (xcl C69 ad70 = some 2 ∧ x_X2_comesIn ad70 C69 (fun r73 C72 => jn (x_X0_pair_l53b a0 x48 k121_55 n53_60 ((100 * x48) + x59) r73 (x59 + 1) C72) (fun k104_74 => jn (fun (x75 : Int32) (x76 : Int32) => x_X0_pair_l53b a0 x48 k121_55 n53_60 x75 x76 (x59 + 1) C72) (fun k115_76 => (if x57 = (-1) then k104_74 else (if x58 ≤ r73 then k115_76 x57 x58 else k104_74))))))))))))))))
theorem x_X0_pair_l53b_s (a0 : Nat) (x48 : Int32) (k121_55 : Int32 → Int32 → XH → Prop) (n53_60 : Nat) (x57 : Int32) (x58 : Int32) (x59 : Int32) (C60 : XH) : x_X0_pair_l53b a0 x48 k121_55 (n53_60 + 1) x57 x58 x59 C60 = (obd (xgr C60 (xis 0) a0 7) (fun ad62 => obd (xgi C60 (xis 4) ad62 0) (fun v63 => (if v63 ≤ x59 then k121_55 x57 x58 C60 else obd (xgr C60 (xis 0) a0 3) (fun ad64 => obd (xgr C60 (xis 0) a0 7) (fun ad65 => obd (xgr C60 (xis 0) a0 7) (fun ad66 => obd (xgr C60 (xis 4) ad66 8) (fun ad67 => obd (xai C60 0 ad67 x48) (fun v68 => (xcl C60 ad64 = some 2 ∧ x_X2_ofTwo ad64 ad65 x48 x59 v68 C60 (fun ad70 C69 => (xcl C69 ad70 = some 2 ∧ x_X2_comesIn ad70 C69 (fun r73 C72 => jn (x_X0_pair_l53b a0 x48 k121_55 n53_60 ((100 * x48) + x59) r73 (x59 + 1) C72) (fun k104_74 => jn (fun (x75 : Int32) (x76 : Int32) => x_X0_pair_l53b a0 x48 k121_55 n53_60 x75 x76 (x59 + 1) C72) (fun k115_76 => (if x57 = (-1) then k104_74 else (if x58 ≤ r73 then k115_76 x57 x58 else k104_74))))))))))))))))) := rfl
def x_X0_pair_l37b (K : Int32 → XH → Prop) (a0 : Nat) : Nat → Int32 → Int32 → Int32 → XH → Prop
  | 0, _, _, _, _ => False
  | n37_49 + 1, x46, x47, x48, C49 => obd (xgr C49 (xis 0) a0 7) (fun ad51 => obd (xgi C49 (xis 4) ad51 0) (fun v52 => (if v52 ≤ x48 then K x46 C49 else jn (fun (x53 : Int32) (x54 : Int32) (C55 : XH) => x_X0_pair_l37b K a0 n37_49 x53 x54 (x48 + 1) C55) (fun k121_55 => x_X0_pair_l53b a0 x48 k121_55 NF x46 x47 (x48 + 1) C49))))
theorem x_X0_pair_l37b_s (K : Int32 → XH → Prop) (a0 : Nat) (n37_49 : Nat) (x46 : Int32) (x47 : Int32) (x48 : Int32) (C49 : XH) : x_X0_pair_l37b K a0 (n37_49 + 1) x46 x47 x48 C49 = (obd (xgr C49 (xis 0) a0 7) (fun ad51 => obd (xgi C49 (xis 4) ad51 0) (fun v52 => (if v52 ≤ x48 then K x46 C49 else jn (fun (x53 : Int32) (x54 : Int32) (C55 : XH) => x_X0_pair_l37b K a0 n37_49 x53 x54 (x48 + 1) C55) (fun k121_55 => x_X0_pair_l53b a0 x48 k121_55 NF x46 x47 (x48 + 1) C49))))) := rfl
def x_X0_pair (a0 : Nat) (C : XH) (K : Int32 → XH → Prop) : Prop := obd (xgr C (xis 0) a0 7) (fun ad1 => obd (xgi C (xis 4) ad1 0) (fun v2 => jn (x_X0_need 0 (-5) C (fun C3 => x_X0_pair_l37 K a0 NF (-1) 0 0 C3) (fun ad39 C40 => (xcl C40 a0 = some 0 ∧ x_X0_refused a0 ad39 C40 (fun r42 C41 => K r42 C41)))) (fun k25_2 => jn (fun (v44 : Int32) => x_X0_need v44 (-5) C (fun C45 => x_X0_pair_l37b K a0 NF (-1) 0 0 C45) (fun ad81 C82 => (xcl C82 a0 = some 0 ∧ x_X0_refused a0 ad81 C82 (fun r84 C83 => K r84 C83)))) (fun k26_44 => (if v2 ≤ 1 then k25_2 else obd (xgr C (xis 0) a0 7) (fun ad86 => obd (xgi C (xis 4) ad86 1) (fun v87 => (if v87 ≤ 0 then k25_2 else k26_44 1))))))))
theorem iX0_pair : xInfW yX0_pair cX0_pair 6 (some .int) [(0, 128, 129, 21)] 0 := ⟨q1284, by decide +kernel⟩
set_option maxHeartbeats 4000000 in
theorem xet_X0_pair (l : Launch) (hl0 : l.stackTraces = false) (a0 : Nat) (C : XH) (K : Int32 → XH → Prop) (hs : x_X0_pair a0 C K) : xMetX l yX0_pair (wsW_ yX0_pair cX0_pair 6 (some .int) [(0, 128, 129, 21)]) 7 162 1 7 C [.ref a0] (fun D dT A => xQi D dT K A) xE0 := by
  intro D dT adK adV sz
  refine xEnterW (own := RX0) (Qc := xQi D dT K) (XC := xXC D dT xE0) (by decide) rfl (by rfl) ?_
  intro p e s m args below meth c A ls X hnm hK hA hG hT hI hl
  have hx := X.1
  have hb := X.2.1
  have hts := X.2.2.2.2.1
  have hown := X.2.2.2.2.2.1
  have hl : lv_has ls 6 [(0, .ref a0)] := hl
  unfold x_X0_pair at hs
  refine lv_aload_n hx hb dX0_pair_0 rfl (lv_at hl 0 rfl) ?_
  obtain ⟨ad1, ead1, hs⟩ := hs
  refine x_get (v := .ref ad1) X hK hI 0 7 rfl in_X0 rfl q335 rfl (xgr_spec ead1) dX0_pair_1 ?_
  obtain ⟨v2, ev2, hs⟩ := hs
  refine x_get (v := .int v2) X hK hI 4 0 rfl in_X4 rfl q252 rfl (xgi_spec ev2) dX0_pair_4 ?_
  refine lv_iconst (v := 1) hx hb dX0_pair_7 (by decide) ?_
  obtain ⟨k25_2, hk25_2, hs⟩ := jn_ex hs
  have Ek25_2 : ∀ (H : Heap) (locs : List Loc) (ls : Array Slot), k25_2 → xI D dT A s.heap C H locs → lv_has ls 6 [(0, .ref a0)] → W p l e (xRm 7 162 1 7) s m args below meth c H locs 0 0 (vx_MQ below (xQi D dT K A) (xXC D dT xE0 A) args s 1 7 A) (F0 m 25 ls []) := by
    intro H locs ls hs hI hl
    rw [hk25_2] at hs
    refine lv_iconst (v := 0) hx hb dX0_pair_25 (by decide) ?_
    refine lv_bipush (v := (-5)) hx hb dX0_pair_26 (by decide) ?_
    refine xT_gov hA hI (x_runST (As := [.int 0, .int (-5)]) (rest := []) X hK hA hG hI (xet_X0_need l hl0 0 (-5) _ _ _ hs) iX0_need q469 q470 q94 ⟨(Nat.le_of_ble_eq_true rfl), (Nat.le_of_ble_eq_true rfl)⟩ rfl hl.1 rfl (Nat.le_of_ble_eq_true rfl) dX0_pair_28 ⟨(Nat.le_of_ble_eq_true rfl), (Nat.le_of_ble_eq_true rfl)⟩) (fun En ce ad39 C40 H locs hs9 hI hce hvm hcl => ?_) (fun C3 H locs hs9 hI => ?_)
    · obtain ⟨rfl, hs0⟩ := hs9
      replace hs := hs0
      refine x_catch (k := 0) (a1 := 0) (a2 := 128) (a3 := 129) (a4 := 21) X hG hT rfl (x_cov rfl) rfl (by decide) q363 (by decide) hce hvm hcl ?_
      refine lv_astore_n (lv' := [(1, .ref ad39), (0, .ref a0)]) hx hb dX0_pair_129 rfl hl (by decide) rfl (fun ls hl => ?_)
      refine lv_aload_n hx hb dX0_pair_130 rfl (lv_at hl 1 rfl) ?_
      refine lv_aload_n hx hb dX0_pair_131 rfl (lv_at hl 0 rfl) ?_
      obtain ⟨h42, hs⟩ := hs
      obtain ⟨fh42, h42⟩ := xcl_spec h42
      refine x_goi hA hI (x_runV (As := [.ref ad39]) (rest := []) X hK hA hG hI h42 (q := (RX0, TX0, 10)) rfl rfl (xet_X0_refused l a0 ad39 _ _ hs) iX0_refused q538 q540 qs2 q94 ⟨(Nat.le_of_ble_eq_true rfl), (Nat.le_of_ble_eq_true rfl)⟩ rfl hl.1 rfl (Nat.le_of_ble_eq_true rfl) dX0_pair_132 ⟨(Nat.le_of_ble_eq_true rfl), (Nat.le_of_ble_eq_true rfl)⟩) (fun r42 C41 H locs hs9 hI => ?_)
      replace hs := hs9
      exact vx_ret (x_reti X hK hI hs (Nat.le_of_ble_eq_true rfl) (Nat.le_of_ble_eq_true rfl) dX0_pair_135)
    · replace hs := hs9
      refine lv_iconst (v := (-1)) hx hb dX0_pair_31 (by decide) ?_
      refine lv_istore_n (lv' := [(1, .int (-1)), (0, .ref a0)]) hx hb dX0_pair_32 rfl hl (by decide) rfl (fun ls hl => ?_)
      refine lv_iconst (v := 0) hx hb dX0_pair_33 (by decide) ?_
      refine lv_istore_n (lv' := [(2, .int 0), (1, .int (-1)), (0, .ref a0)]) hx hb dX0_pair_34 rfl hl (by decide) rfl (fun ls hl => ?_)
      refine lv_iconst (v := 0) hx hb dX0_pair_35 (by decide) ?_
      refine lv_istore_n (lv' := [(3, .int 0), (2, .int 0), (1, .int (-1)), (0, .ref a0)]) hx hb dX0_pair_36 rfl hl (by decide) rfl (fun ls hl => ?_)
      have Lx_X0_pair_l37 : ∀ (n37_7 : Nat) (x4 : Int32) (x5 : Int32) (x6 : Int32) (C7 : XH) (H : Heap) (locs : List Loc) (ls : Array Slot), x_X0_pair_l37 K a0 n37_7 x4 x5 x6 C7 → xI D dT A s.heap C7 H locs → lv_has ls 6 [(0, .ref a0), (1, .int x4), (2, .int x5), (3, .int x6)] → W p l e (xRm 7 162 1 7) s m args below meth c H locs 1 7 (vx_MQ below (xQi D dT K A) (xXC D dT xE0 A) args s 1 7 A) (F0 m 37 ls []) := by
        intro n37_7
        induction n37_7 with
        | zero =>
          intro x4 x5 x6 C7 H locs ls hs
          exact False.elim hs
        | succ n37_7 ihx_X0_pair_l37 =>
          intro x4 x5 x6 C7 H locs ls hs hI hl
          rw [x_X0_pair_l37_s] at hs
          refine lv_iload_n hx hb dX0_pair_37 rfl (lv_at hl 3 rfl) ?_
          refine lv_aload_n hx hb dX0_pair_38 rfl (lv_at hl 0 rfl) ?_
          obtain ⟨ad9, ead9, hs⟩ := hs
          refine x_get (v := .ref ad9) X hK hI 0 7 rfl in_X0 rfl q335 rfl (xgr_spec ead9) dX0_pair_39 ?_
          obtain ⟨v10, ev10, hs⟩ := hs
          refine x_get (v := .int v10) X hK hI 4 0 rfl in_X4 rfl q252 rfl (xgi_spec ev10) dX0_pair_42 ?_
          refine lv_icmp_ge (tgt := 127) hx hb dX0_pair_45 (by decide) (fun c37 => ?_) (fun c37 => ?_)
          · replace hs := ifp c37 hs
            refine lv_iload_n hx hb dX0_pair_127 rfl (lv_at hl 1 rfl) ?_
            exact vx_ret (x_reti X hK hI hs (Nat.le_of_ble_eq_true rfl) (Nat.le_of_ble_eq_true rfl) dX0_pair_128)
          · replace hs := ifn c37 hs
            refine lv_iload_n hx hb dX0_pair_48 rfl (lv_at hl 3 rfl) ?_
            refine lv_iconst (v := 1) hx hb dX0_pair_49 (by decide) ?_
            refine lv_iadd hx hb dX0_pair_50 ?_
            refine lv_istore (lv' := [(4, .int (x6 + 1)), (0, .ref a0), (1, .int x4), (2, .int x5), (3, .int x6)]) hx hb dX0_pair_51 hl (by decide) rfl (fun ls hl => ?_)
            obtain ⟨k121_13, hk121_13, hs⟩ := jn_ex hs
            have Ek121_13 : ∀ (x11 : Int32) (x12 : Int32) (C13 : XH) (H : Heap) (locs : List Loc) (ls : Array Slot), k121_13 x11 x12 C13 → xI D dT A s.heap C13 H locs → lv_has ls 6 [(0, .ref a0), (1, .int x11), (2, .int x12), (3, .int x6)] → W p l e (xRm 7 162 1 7) s m args below meth c H locs 1 7 (vx_MQ below (xQi D dT K A) (xXC D dT xE0 A) args s 1 7 A) (F0 m 121 ls []) := by
              intro x11 x12 C13 H locs ls hs hI hl
              rw [hk121_13] at hs
              refine lv_iinc (v := (x6 + 1)) (lv' := [(3, .int (x6 + 1)), (0, .ref a0), (1, .int x11), (2, .int x12)]) hx hb dX0_pair_121 hl (k := 3) rfl (congrArg (fun z => x6 + z) (show Int32.ofInt (1) = 1 by decide)) (by decide) rfl (fun ls hl => ?_)
              refine lv_goto (tgt := 37) hx hb dX0_pair_124 (by decide) ?_
              exact ihx_X0_pair_l37 _ _ _ _ _ _ _ hs hI (lv_sub hl [1, 2, 3, 0] rfl)
            have Lx_X0_pair_l53 : ∀ (n53_18 : Nat) (x15 : Int32) (x16 : Int32) (x17 : Int32) (C18 : XH) (H : Heap) (locs : List Loc) (ls : Array Slot), x_X0_pair_l53 a0 x6 k121_13 n53_18 x15 x16 x17 C18 → xI D dT A s.heap C18 H locs → lv_has ls 6 [(0, .ref a0), (1, .int x15), (2, .int x16), (3, .int x6), (4, .int x17)] → W p l e (xRm 7 162 1 7) s m args below meth c H locs 1 7 (vx_MQ below (xQi D dT K A) (xXC D dT xE0 A) args s 1 7 A) (F0 m 53 ls []) := by
              intro n53_18
              induction n53_18 with
              | zero =>
                intro x15 x16 x17 C18 H locs ls hs
                exact False.elim hs
              | succ n53_18 ihx_X0_pair_l53 =>
                intro x15 x16 x17 C18 H locs ls hs hI hl
                rw [x_X0_pair_l53_s] at hs
                refine lv_iload hx hb dX0_pair_53 (lv_at hl 4 rfl) ?_
                refine lv_aload_n hx hb dX0_pair_55 rfl (lv_at hl 0 rfl) ?_
                obtain ⟨ad20, ead20, hs⟩ := hs
                refine x_get (v := .ref ad20) X hK hI 0 7 rfl in_X0 rfl q335 rfl (xgr_spec ead20) dX0_pair_56 ?_
                obtain ⟨v21, ev21, hs⟩ := hs
                refine x_get (v := .int v21) X hK hI 4 0 rfl in_X4 rfl q252 rfl (xgi_spec ev21) dX0_pair_59 ?_
                refine lv_icmp_ge (tgt := 121) hx hb dX0_pair_62 (by decide) (fun c36 => ?_) (fun c36 => ?_)
                · replace hs := ifp c36 hs
                  exact Ek121_13 _ _ _ _ _ _ hs hI (lv_sub hl [0, 1, 2, 3] rfl)
                · replace hs := ifn c36 hs
                  refine lv_aload_n hx hb dX0_pair_65 rfl (lv_at hl 0 rfl) ?_
                  obtain ⟨ad22, ead22, hs⟩ := hs
                  refine x_get (v := .ref ad22) X hK hI 0 3 rfl in_X0 rfl q331 rfl (xgr_spec ead22) dX0_pair_66 ?_
                  refine lv_aload_n hx hb dX0_pair_69 rfl (lv_at hl 0 rfl) ?_
                  obtain ⟨ad23, ead23, hs⟩ := hs
                  refine x_get (v := .ref ad23) X hK hI 0 7 rfl in_X0 rfl q335 rfl (xgr_spec ead23) dX0_pair_70 ?_
                  refine lv_iload_n hx hb dX0_pair_73 rfl (lv_at hl 3 rfl) ?_
                  refine lv_iload hx hb dX0_pair_74 (lv_at hl 4 rfl) ?_
                  refine lv_aload_n hx hb dX0_pair_76 rfl (lv_at hl 0 rfl) ?_
                  obtain ⟨ad24, ead24, hs⟩ := hs
                  refine x_get (v := .ref ad24) X hK hI 0 7 rfl in_X0 rfl q335 rfl (xgr_spec ead24) dX0_pair_77 ?_
                  obtain ⟨ad25, ead25, hs⟩ := hs
                  refine x_get (v := .ref ad25) X hK hI 4 8 rfl in_X4 rfl q280 rfl (xgr_spec ead25) dX0_pair_80 ?_
                  refine lv_iload_n hx hb dX0_pair_83 rfl (lv_at hl 3 rfl) ?_
                  obtain ⟨v26, ev26, hs⟩ := hs
                  refine x_iald X hK hI ev26 dX0_pair_84 ?_
                  obtain ⟨h28, hs⟩ := hs
                  obtain ⟨fh28, h28⟩ := xcl_spec h28
                  refine x_gor hA hI (x_runV (As := [.ref ad23, .int x6, .int x17, .int v26]) (rest := []) X hK hA hG hI h28 (q := (RX2, TX2, 12)) rfl rfl (xet_X2_ofTwo l ad22 ad23 x6 x17 v26 _ _ hs) iX2_ofTwo q1276 q1277 q1278 q96 ⟨(Nat.le_of_ble_eq_true rfl), (Nat.le_of_ble_eq_true rfl)⟩ rfl hl.1 rfl (Nat.le_of_ble_eq_true rfl) dX0_pair_85 ⟨(Nat.le_of_ble_eq_true rfl), (Nat.le_of_ble_eq_true rfl)⟩) (fun ad28 C27 H locs hs9 hI => ?_)
                  replace hs := hs9
                  obtain ⟨h31, hs⟩ := hs
                  obtain ⟨fh31, h31⟩ := xcl_spec h31
                  refine x_goi hA hI (x_runV (As := []) (rest := []) X hK hA hG hI h31 (q := (RX2, TX2, 12)) rfl rfl (xet_X2_comesIn l ad28 _ _ hs) iX2_comesIn q1197 q1198 q1199 q96 ⟨(Nat.le_of_ble_eq_true rfl), (Nat.le_of_ble_eq_true rfl)⟩ rfl hl.1 rfl (Nat.le_of_ble_eq_true rfl) dX0_pair_88 ⟨(Nat.le_of_ble_eq_true rfl), (Nat.le_of_ble_eq_true rfl)⟩) (fun r31 C30 H locs hs9 hI => ?_)
                  replace hs := hs9
                  refine lv_istore (lv' := [(5, .int r31), (0, .ref a0), (1, .int x15), (2, .int x16), (3, .int x6), (4, .int x17)]) hx hb dX0_pair_91 hl (by decide) rfl (fun ls hl => ?_)
                  refine lv_iload_n hx hb dX0_pair_93 rfl (lv_at hl 2 rfl) ?_
                  refine lv_iconst (v := (-1)) hx hb dX0_pair_94 (by decide) ?_
                  obtain ⟨k104_32, hk104_32, hs⟩ := jn_ex hs
                  have Ek104_32 : ∀ (H : Heap) (locs : List Loc) (ls : Array Slot), k104_32 → xI D dT A s.heap C30 H locs → lv_has ls 6 [(0, .ref a0), (3, .int x6), (4, .int x17), (5, .int r31)] → W p l e (xRm 7 162 1 7) s m args below meth c H locs 1 7 (vx_MQ below (xQi D dT K A) (xXC D dT xE0 A) args s 1 7 A) (F0 m 104 ls []) := by
                    intro H locs ls hs hI hl
                    rw [hk104_32] at hs
                    refine lv_bipush (v := 100) hx hb dX0_pair_104 (by decide) ?_
                    refine lv_iload_n hx hb dX0_pair_106 rfl (lv_at hl 1 rfl) ?_
                    refine lv_imul hx hb dX0_pair_107 ?_
                    refine lv_iload hx hb dX0_pair_108 (lv_at hl 2 rfl) ?_
                    refine lv_iadd hx hb dX0_pair_110 ?_
                    refine lv_istore_n (lv' := [(1, .int ((100 * x6) + x17)), (0, .ref a0), (3, .int x6), (4, .int x17), (5, .int r31)]) hx hb dX0_pair_111 rfl hl (by decide) rfl (fun ls hl => ?_)
                    refine lv_iload hx hb dX0_pair_112 (lv_at hl 4 rfl) ?_
                    refine lv_istore_n (lv' := [(2, .int r31), (1, .int ((100 * x6) + x17)), (0, .ref a0), (3, .int x6), (4, .int x17), (5, .int r31)]) hx hb dX0_pair_114 rfl hl (by decide) rfl (fun ls hl => ?_)
                    refine lv_iinc (v := (x17 + 1)) (lv' := [(4, .int (x17 + 1)), (2, .int r31), (1, .int ((100 * x6) + x17)), (0, .ref a0), (3, .int x6), (5, .int r31)]) hx hb dX0_pair_115 hl (k := 4) rfl (congrArg (fun z => x17 + z) (show Int32.ofInt (1) = 1 by decide)) (by decide) rfl (fun ls hl => ?_)
                    refine lv_goto (tgt := 53) hx hb dX0_pair_118 (by decide) ?_
                    exact ihx_X0_pair_l53 _ _ _ _ _ _ _ hs hI (lv_sub hl [3, 2, 1, 4, 0] rfl)
                  obtain ⟨k115_34, hk115_34, hs⟩ := jn_ex hs
                  have Ek115_34 : ∀ (x33 : Int32) (x34 : Int32) (H : Heap) (locs : List Loc) (ls : Array Slot), k115_34 x33 x34 → xI D dT A s.heap C30 H locs → lv_has ls 6 [(0, .ref a0), (1, .int x33), (2, .int x34), (3, .int x6), (4, .int x17)] → W p l e (xRm 7 162 1 7) s m args below meth c H locs 1 7 (vx_MQ below (xQi D dT K A) (xXC D dT xE0 A) args s 1 7 A) (F0 m 115 ls []) := by
                    intro x33 x34 H locs ls hs hI hl
                    rw [hk115_34] at hs
                    refine lv_iinc (v := (x17 + 1)) (lv' := [(4, .int (x17 + 1)), (0, .ref a0), (1, .int x33), (2, .int x34), (3, .int x6)]) hx hb dX0_pair_115 hl (k := 4) rfl (congrArg (fun z => x17 + z) (show Int32.ofInt (1) = 1 by decide)) (by decide) rfl (fun ls hl => ?_)
                    refine lv_goto (tgt := 53) hx hb dX0_pair_118 (by decide) ?_
                    exact ihx_X0_pair_l53 _ _ _ _ _ _ _ hs hI (lv_sub hl [1, 2, 3, 4, 0] rfl)
                  refine lv_icmp_eq (tgt := 104) hx hb dX0_pair_95 (by decide) (fun c35 => ?_) (fun c35 => ?_)
                  · replace hs := ifp c35 hs
                    exact Ek104_32 _ _ _ hs hI (lv_sub hl [1, 4, 5, 0] rfl)
                  · replace hs := ifn c35 hs
                    refine lv_iload hx hb dX0_pair_98 (lv_at hl 0 rfl) ?_
                    refine lv_iload_n hx hb dX0_pair_100 rfl (lv_at hl 3 rfl) ?_
                    refine lv_icmp_ge (tgt := 115) hx hb dX0_pair_101 (by decide) (fun c34 => ?_) (fun c34 => ?_)
                    · replace hs := ifp c34 hs
                      exact Ek115_34 _ _ _ _ _ hs hI (lv_sub hl [1, 2, 3, 4, 5] rfl)
                    · replace hs := ifn c34 hs
                      exact Ek104_32 _ _ _ hs hI (lv_sub hl [1, 4, 5, 0] rfl)
            exact Lx_X0_pair_l53 NF _ _ _ _ _ _ _ hs hI (lv_sub hl [1, 2, 3, 4, 0] rfl)
      exact Lx_X0_pair_l37 NF _ _ _ _ _ _ _ hs hI (lv_sub hl [3, 2, 1, 0] rfl)
  obtain ⟨k26_44, hk26_44, hs⟩ := jn_ex hs
  have Ek26_44 : ∀ (v44 : Int32) (H : Heap) (locs : List Loc) (ls : Array Slot), k26_44 v44 → xI D dT A s.heap C H locs → lv_has ls 6 [(0, .ref a0)] → W p l e (xRm 7 162 1 7) s m args below meth c H locs 0 0 (vx_MQ below (xQi D dT K A) (xXC D dT xE0 A) args s 1 7 A) (F0 m 26 ls [.int v44]) := by
    intro v44 H locs ls hs hI hl
    rw [hk26_44] at hs
    refine lv_bipush (v := (-5)) hx hb dX0_pair_26 (by decide) ?_
    refine xT_gov hA hI (x_runST (As := [.int v44, .int (-5)]) (rest := []) X hK hA hG hI (xet_X0_need l hl0 v44 (-5) _ _ _ hs) iX0_need q469 q470 q94 ⟨(Nat.le_of_ble_eq_true rfl), (Nat.le_of_ble_eq_true rfl)⟩ rfl hl.1 rfl (Nat.le_of_ble_eq_true rfl) dX0_pair_28 ⟨(Nat.le_of_ble_eq_true rfl), (Nat.le_of_ble_eq_true rfl)⟩) (fun En ce ad81 C82 H locs hs9 hI hce hvm hcl => ?_) (fun C45 H locs hs9 hI => ?_)
    · obtain ⟨rfl, hs0⟩ := hs9
      replace hs := hs0
      refine x_catch (k := 0) (a1 := 0) (a2 := 128) (a3 := 129) (a4 := 21) X hG hT rfl (x_cov rfl) rfl (by decide) q363 (by decide) hce hvm hcl ?_
      refine lv_astore_n (lv' := [(1, .ref ad81), (0, .ref a0)]) hx hb dX0_pair_129 rfl hl (by decide) rfl (fun ls hl => ?_)
      refine lv_aload_n hx hb dX0_pair_130 rfl (lv_at hl 1 rfl) ?_
      refine lv_aload_n hx hb dX0_pair_131 rfl (lv_at hl 0 rfl) ?_
      obtain ⟨h84, hs⟩ := hs
      obtain ⟨fh84, h84⟩ := xcl_spec h84
      refine x_goi hA hI (x_runV (As := [.ref ad81]) (rest := []) X hK hA hG hI h84 (q := (RX0, TX0, 10)) rfl rfl (xet_X0_refused l a0 ad81 _ _ hs) iX0_refused q538 q540 qs2 q94 ⟨(Nat.le_of_ble_eq_true rfl), (Nat.le_of_ble_eq_true rfl)⟩ rfl hl.1 rfl (Nat.le_of_ble_eq_true rfl) dX0_pair_132 ⟨(Nat.le_of_ble_eq_true rfl), (Nat.le_of_ble_eq_true rfl)⟩) (fun r84 C83 H locs hs9 hI => ?_)
      replace hs := hs9
      exact vx_ret (x_reti X hK hI hs (Nat.le_of_ble_eq_true rfl) (Nat.le_of_ble_eq_true rfl) dX0_pair_135)
    · replace hs := hs9
      refine lv_iconst (v := (-1)) hx hb dX0_pair_31 (by decide) ?_
      refine lv_istore_n (lv' := [(1, .int (-1)), (0, .ref a0)]) hx hb dX0_pair_32 rfl hl (by decide) rfl (fun ls hl => ?_)
      refine lv_iconst (v := 0) hx hb dX0_pair_33 (by decide) ?_
      refine lv_istore_n (lv' := [(2, .int 0), (1, .int (-1)), (0, .ref a0)]) hx hb dX0_pair_34 rfl hl (by decide) rfl (fun ls hl => ?_)
      refine lv_iconst (v := 0) hx hb dX0_pair_35 (by decide) ?_
      refine lv_istore_n (lv' := [(3, .int 0), (2, .int 0), (1, .int (-1)), (0, .ref a0)]) hx hb dX0_pair_36 rfl hl (by decide) rfl (fun ls hl => ?_)
      have Lx_X0_pair_l37b : ∀ (n37_49 : Nat) (x46 : Int32) (x47 : Int32) (x48 : Int32) (C49 : XH) (H : Heap) (locs : List Loc) (ls : Array Slot), x_X0_pair_l37b K a0 n37_49 x46 x47 x48 C49 → xI D dT A s.heap C49 H locs → lv_has ls 6 [(0, .ref a0), (1, .int x46), (2, .int x47), (3, .int x48)] → W p l e (xRm 7 162 1 7) s m args below meth c H locs 1 7 (vx_MQ below (xQi D dT K A) (xXC D dT xE0 A) args s 1 7 A) (F0 m 37 ls []) := by
        intro n37_49
        induction n37_49 with
        | zero =>
          intro x46 x47 x48 C49 H locs ls hs
          exact False.elim hs
        | succ n37_49 ihx_X0_pair_l37b =>
          intro x46 x47 x48 C49 H locs ls hs hI hl
          rw [x_X0_pair_l37b_s] at hs
          refine lv_iload_n hx hb dX0_pair_37 rfl (lv_at hl 3 rfl) ?_
          refine lv_aload_n hx hb dX0_pair_38 rfl (lv_at hl 0 rfl) ?_
          obtain ⟨ad51, ead51, hs⟩ := hs
          refine x_get (v := .ref ad51) X hK hI 0 7 rfl in_X0 rfl q335 rfl (xgr_spec ead51) dX0_pair_39 ?_
          obtain ⟨v52, ev52, hs⟩ := hs
          refine x_get (v := .int v52) X hK hI 4 0 rfl in_X4 rfl q252 rfl (xgi_spec ev52) dX0_pair_42 ?_
          refine lv_icmp_ge (tgt := 127) hx hb dX0_pair_45 (by decide) (fun c79 => ?_) (fun c79 => ?_)
          · replace hs := ifp c79 hs
            refine lv_iload_n hx hb dX0_pair_127 rfl (lv_at hl 1 rfl) ?_
            exact vx_ret (x_reti X hK hI hs (Nat.le_of_ble_eq_true rfl) (Nat.le_of_ble_eq_true rfl) dX0_pair_128)
          · replace hs := ifn c79 hs
            refine lv_iload_n hx hb dX0_pair_48 rfl (lv_at hl 3 rfl) ?_
            refine lv_iconst (v := 1) hx hb dX0_pair_49 (by decide) ?_
            refine lv_iadd hx hb dX0_pair_50 ?_
            refine lv_istore (lv' := [(4, .int (x48 + 1)), (0, .ref a0), (1, .int x46), (2, .int x47), (3, .int x48)]) hx hb dX0_pair_51 hl (by decide) rfl (fun ls hl => ?_)
            obtain ⟨k121_55, hk121_55, hs⟩ := jn_ex hs
            have Ek121_55 : ∀ (x53 : Int32) (x54 : Int32) (C55 : XH) (H : Heap) (locs : List Loc) (ls : Array Slot), k121_55 x53 x54 C55 → xI D dT A s.heap C55 H locs → lv_has ls 6 [(0, .ref a0), (1, .int x53), (2, .int x54), (3, .int x48)] → W p l e (xRm 7 162 1 7) s m args below meth c H locs 1 7 (vx_MQ below (xQi D dT K A) (xXC D dT xE0 A) args s 1 7 A) (F0 m 121 ls []) := by
              intro x53 x54 C55 H locs ls hs hI hl
              rw [hk121_55] at hs
              refine lv_iinc (v := (x48 + 1)) (lv' := [(3, .int (x48 + 1)), (0, .ref a0), (1, .int x53), (2, .int x54)]) hx hb dX0_pair_121 hl (k := 3) rfl (congrArg (fun z => x48 + z) (show Int32.ofInt (1) = 1 by decide)) (by decide) rfl (fun ls hl => ?_)
              refine lv_goto (tgt := 37) hx hb dX0_pair_124 (by decide) ?_
              exact ihx_X0_pair_l37b _ _ _ _ _ _ _ hs hI (lv_sub hl [1, 2, 3, 0] rfl)
            have Lx_X0_pair_l53b : ∀ (n53_60 : Nat) (x57 : Int32) (x58 : Int32) (x59 : Int32) (C60 : XH) (H : Heap) (locs : List Loc) (ls : Array Slot), x_X0_pair_l53b a0 x48 k121_55 n53_60 x57 x58 x59 C60 → xI D dT A s.heap C60 H locs → lv_has ls 6 [(0, .ref a0), (1, .int x57), (2, .int x58), (3, .int x48), (4, .int x59)] → W p l e (xRm 7 162 1 7) s m args below meth c H locs 1 7 (vx_MQ below (xQi D dT K A) (xXC D dT xE0 A) args s 1 7 A) (F0 m 53 ls []) := by
              intro n53_60
              induction n53_60 with
              | zero =>
                intro x57 x58 x59 C60 H locs ls hs
                exact False.elim hs
              | succ n53_60 ihx_X0_pair_l53b =>
                intro x57 x58 x59 C60 H locs ls hs hI hl
                rw [x_X0_pair_l53b_s] at hs
                refine lv_iload hx hb dX0_pair_53 (lv_at hl 4 rfl) ?_
                refine lv_aload_n hx hb dX0_pair_55 rfl (lv_at hl 0 rfl) ?_
                obtain ⟨ad62, ead62, hs⟩ := hs
                refine x_get (v := .ref ad62) X hK hI 0 7 rfl in_X0 rfl q335 rfl (xgr_spec ead62) dX0_pair_56 ?_
                obtain ⟨v63, ev63, hs⟩ := hs
                refine x_get (v := .int v63) X hK hI 4 0 rfl in_X4 rfl q252 rfl (xgi_spec ev63) dX0_pair_59 ?_
                refine lv_icmp_ge (tgt := 121) hx hb dX0_pair_62 (by decide) (fun c78 => ?_) (fun c78 => ?_)
                · replace hs := ifp c78 hs
                  exact Ek121_55 _ _ _ _ _ _ hs hI (lv_sub hl [0, 1, 2, 3] rfl)
                · replace hs := ifn c78 hs
                  refine lv_aload_n hx hb dX0_pair_65 rfl (lv_at hl 0 rfl) ?_
                  obtain ⟨ad64, ead64, hs⟩ := hs
                  refine x_get (v := .ref ad64) X hK hI 0 3 rfl in_X0 rfl q331 rfl (xgr_spec ead64) dX0_pair_66 ?_
                  refine lv_aload_n hx hb dX0_pair_69 rfl (lv_at hl 0 rfl) ?_
                  obtain ⟨ad65, ead65, hs⟩ := hs
                  refine x_get (v := .ref ad65) X hK hI 0 7 rfl in_X0 rfl q335 rfl (xgr_spec ead65) dX0_pair_70 ?_
                  refine lv_iload_n hx hb dX0_pair_73 rfl (lv_at hl 3 rfl) ?_
                  refine lv_iload hx hb dX0_pair_74 (lv_at hl 4 rfl) ?_
                  refine lv_aload_n hx hb dX0_pair_76 rfl (lv_at hl 0 rfl) ?_
                  obtain ⟨ad66, ead66, hs⟩ := hs
                  refine x_get (v := .ref ad66) X hK hI 0 7 rfl in_X0 rfl q335 rfl (xgr_spec ead66) dX0_pair_77 ?_
                  obtain ⟨ad67, ead67, hs⟩ := hs
                  refine x_get (v := .ref ad67) X hK hI 4 8 rfl in_X4 rfl q280 rfl (xgr_spec ead67) dX0_pair_80 ?_
                  refine lv_iload_n hx hb dX0_pair_83 rfl (lv_at hl 3 rfl) ?_
                  obtain ⟨v68, ev68, hs⟩ := hs
                  refine x_iald X hK hI ev68 dX0_pair_84 ?_
                  obtain ⟨h70, hs⟩ := hs
                  obtain ⟨fh70, h70⟩ := xcl_spec h70
                  refine x_gor hA hI (x_runV (As := [.ref ad65, .int x48, .int x59, .int v68]) (rest := []) X hK hA hG hI h70 (q := (RX2, TX2, 12)) rfl rfl (xet_X2_ofTwo l ad64 ad65 x48 x59 v68 _ _ hs) iX2_ofTwo q1276 q1277 q1278 q96 ⟨(Nat.le_of_ble_eq_true rfl), (Nat.le_of_ble_eq_true rfl)⟩ rfl hl.1 rfl (Nat.le_of_ble_eq_true rfl) dX0_pair_85 ⟨(Nat.le_of_ble_eq_true rfl), (Nat.le_of_ble_eq_true rfl)⟩) (fun ad70 C69 H locs hs9 hI => ?_)
                  replace hs := hs9
                  obtain ⟨h73, hs⟩ := hs
                  obtain ⟨fh73, h73⟩ := xcl_spec h73
                  refine x_goi hA hI (x_runV (As := []) (rest := []) X hK hA hG hI h73 (q := (RX2, TX2, 12)) rfl rfl (xet_X2_comesIn l ad70 _ _ hs) iX2_comesIn q1197 q1198 q1199 q96 ⟨(Nat.le_of_ble_eq_true rfl), (Nat.le_of_ble_eq_true rfl)⟩ rfl hl.1 rfl (Nat.le_of_ble_eq_true rfl) dX0_pair_88 ⟨(Nat.le_of_ble_eq_true rfl), (Nat.le_of_ble_eq_true rfl)⟩) (fun r73 C72 H locs hs9 hI => ?_)
                  replace hs := hs9
                  refine lv_istore (lv' := [(5, .int r73), (0, .ref a0), (1, .int x57), (2, .int x58), (3, .int x48), (4, .int x59)]) hx hb dX0_pair_91 hl (by decide) rfl (fun ls hl => ?_)
                  refine lv_iload_n hx hb dX0_pair_93 rfl (lv_at hl 2 rfl) ?_
                  refine lv_iconst (v := (-1)) hx hb dX0_pair_94 (by decide) ?_
                  obtain ⟨k104_74, hk104_74, hs⟩ := jn_ex hs
                  have Ek104_74 : ∀ (H : Heap) (locs : List Loc) (ls : Array Slot), k104_74 → xI D dT A s.heap C72 H locs → lv_has ls 6 [(0, .ref a0), (3, .int x48), (4, .int x59), (5, .int r73)] → W p l e (xRm 7 162 1 7) s m args below meth c H locs 1 7 (vx_MQ below (xQi D dT K A) (xXC D dT xE0 A) args s 1 7 A) (F0 m 104 ls []) := by
                    intro H locs ls hs hI hl
                    rw [hk104_74] at hs
                    refine lv_bipush (v := 100) hx hb dX0_pair_104 (by decide) ?_
                    refine lv_iload_n hx hb dX0_pair_106 rfl (lv_at hl 1 rfl) ?_
                    refine lv_imul hx hb dX0_pair_107 ?_
                    refine lv_iload hx hb dX0_pair_108 (lv_at hl 2 rfl) ?_
                    refine lv_iadd hx hb dX0_pair_110 ?_
                    refine lv_istore_n (lv' := [(1, .int ((100 * x48) + x59)), (0, .ref a0), (3, .int x48), (4, .int x59), (5, .int r73)]) hx hb dX0_pair_111 rfl hl (by decide) rfl (fun ls hl => ?_)
                    refine lv_iload hx hb dX0_pair_112 (lv_at hl 4 rfl) ?_
                    refine lv_istore_n (lv' := [(2, .int r73), (1, .int ((100 * x48) + x59)), (0, .ref a0), (3, .int x48), (4, .int x59), (5, .int r73)]) hx hb dX0_pair_114 rfl hl (by decide) rfl (fun ls hl => ?_)
                    refine lv_iinc (v := (x59 + 1)) (lv' := [(4, .int (x59 + 1)), (2, .int r73), (1, .int ((100 * x48) + x59)), (0, .ref a0), (3, .int x48), (5, .int r73)]) hx hb dX0_pair_115 hl (k := 4) rfl (congrArg (fun z => x59 + z) (show Int32.ofInt (1) = 1 by decide)) (by decide) rfl (fun ls hl => ?_)
                    refine lv_goto (tgt := 53) hx hb dX0_pair_118 (by decide) ?_
                    exact ihx_X0_pair_l53b _ _ _ _ _ _ _ hs hI (lv_sub hl [3, 2, 1, 4, 0] rfl)
                  obtain ⟨k115_76, hk115_76, hs⟩ := jn_ex hs
                  have Ek115_76 : ∀ (x75 : Int32) (x76 : Int32) (H : Heap) (locs : List Loc) (ls : Array Slot), k115_76 x75 x76 → xI D dT A s.heap C72 H locs → lv_has ls 6 [(0, .ref a0), (1, .int x75), (2, .int x76), (3, .int x48), (4, .int x59)] → W p l e (xRm 7 162 1 7) s m args below meth c H locs 1 7 (vx_MQ below (xQi D dT K A) (xXC D dT xE0 A) args s 1 7 A) (F0 m 115 ls []) := by
                    intro x75 x76 H locs ls hs hI hl
                    rw [hk115_76] at hs
                    refine lv_iinc (v := (x59 + 1)) (lv' := [(4, .int (x59 + 1)), (0, .ref a0), (1, .int x75), (2, .int x76), (3, .int x48)]) hx hb dX0_pair_115 hl (k := 4) rfl (congrArg (fun z => x59 + z) (show Int32.ofInt (1) = 1 by decide)) (by decide) rfl (fun ls hl => ?_)
                    refine lv_goto (tgt := 53) hx hb dX0_pair_118 (by decide) ?_
                    exact ihx_X0_pair_l53b _ _ _ _ _ _ _ hs hI (lv_sub hl [1, 2, 3, 4, 0] rfl)
                  refine lv_icmp_eq (tgt := 104) hx hb dX0_pair_95 (by decide) (fun c77 => ?_) (fun c77 => ?_)
                  · replace hs := ifp c77 hs
                    exact Ek104_74 _ _ _ hs hI (lv_sub hl [1, 4, 5, 0] rfl)
                  · replace hs := ifn c77 hs
                    refine lv_iload hx hb dX0_pair_98 (lv_at hl 0 rfl) ?_
                    refine lv_iload_n hx hb dX0_pair_100 rfl (lv_at hl 3 rfl) ?_
                    refine lv_icmp_ge (tgt := 115) hx hb dX0_pair_101 (by decide) (fun c76 => ?_) (fun c76 => ?_)
                    · replace hs := ifp c76 hs
                      exact Ek115_76 _ _ _ _ _ hs hI (lv_sub hl [1, 2, 3, 4, 5] rfl)
                    · replace hs := ifn c76 hs
                      exact Ek104_74 _ _ _ hs hI (lv_sub hl [1, 4, 5, 0] rfl)
            exact Lx_X0_pair_l53b NF _ _ _ _ _ _ _ hs hI (lv_sub hl [1, 2, 3, 4, 0] rfl)
      exact Lx_X0_pair_l37b NF _ _ _ _ _ _ _ hs hI (lv_sub hl [3, 2, 1, 0] rfl)
  refine lv_icmp_le (tgt := 25) hx hb dX0_pair_8 (by decide) (fun c88 => ?_) (fun c88 => ?_)
  · replace hs := ifp c88 hs
    exact Ek25_2 _ _ _ hs hI hl
  · replace hs := ifn c88 hs
    refine lv_aload_n hx hb dX0_pair_11 rfl (lv_at hl 0 rfl) ?_
    obtain ⟨ad86, ead86, hs⟩ := hs
    refine x_get (v := .ref ad86) X hK hI 0 7 rfl in_X0 rfl q335 rfl (xgr_spec ead86) dX0_pair_12 ?_
    obtain ⟨v87, ev87, hs⟩ := hs
    refine x_get (v := .int v87) X hK hI 4 1 rfl in_X4 rfl q257 rfl (xgi_spec ev87) dX0_pair_15 ?_
    refine lv_if_le (tgt := 25) hx hb dX0_pair_18 (by decide) (fun c87 => ?_) (fun c87 => ?_)
    · replace hs := ifp c87 hs
      exact Ek25_2 _ _ _ hs hI hl
    · replace hs := ifn c87 hs
      refine lv_iconst (v := 1) hx hb dX0_pair_21 (by decide) ?_
      refine lv_goto (tgt := 26) hx hb dX0_pair_22 (by decide) ?_
      exact Ek26_44 _ _ _ _ hs hI hl
