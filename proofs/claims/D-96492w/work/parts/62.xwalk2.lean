set_option maxRecDepth 100000
def vd_X8_sort (b : Nat)  (C : XH) (K : Int32 → XH → Prop) : Prop := obd (xcl C b) (fun ci => if ci = 9 then x_X9_sort b  C K else if ci = 10 then x_X10_sort b  C K else if ci = 11 then x_X11_sort b  C K else if ci = 12 then x_X12_sort b  C K else False)
theorem vdc_X8_sort {p : Program} {l : Launch} {e : Env} {R : Room} {s : State} {m : MethodId} {args : Array Value} {below : List Frame} {meth : Method} {c : Code} {H : Heap} {locs : List Loc} {cells slots : Nat} {own : String} {cc : ByteArray} {nL : Nat} {ret : Option FieldType} {pc : Nat} {ls : Array Slot} {rest : List Value} {D : va_G} {dT : Nat → ClassId} {adK adV : Nat → Nat} {A : Nat → Prop} {C : XH} {index : Nat} (X : xX p s m args meth c own cc nL ret) (hK : va_K D aCl (aT dT) s) (hA : ∀ q : Nat, s.heap.size ≤ q → A q) (hG : xG adK adV A s s.heap) (hI : xI D dT A s.heap C H locs) (b : Nat)  (K : Int32 → XH → Prop) (hs : vd_X8_sort b  C K) (w1 : Cond.methodLink own index ⟨RX8, "sort", "()I"⟩ ∈ lw_all) (hR : 0 + 1 ≤ R.frames ∧ 8 + (0 + 11) + 1 ≤ R.locals) (hsz : ls.size = nL) (hrm : (rest.map fun v => v.category).sum ≤ 8) (hdg : decode cc pc = .ok (.invokevirtual index, 3)) (hf : cells + 0 ≤ R.cells ∧ slots + 0 ≤ R.slots) : xCtx p l e R s m args below meth c H locs cells slots 0 0 D dT C pc ls ([] ++ .ref b :: rest) rest (fun D dT A => xQi D dT K A) (.ref b :: []) := by
  obtain ⟨ci, hci, hs⟩ := hs
  obtain ⟨fs, hb⟩ := xcl_spec hci
  by_cases h9 : ci = 9
  · subst h9
    replace hs := ifp rfl hs
    exact x_runA (As := []) X hK hA hG hI hb (q := (RX9, TX9, 1)) rfl (xet_X9_sort l b  _ _ hs) iX9_sort RX8 w1 q595 (by decide) q596 q597 q110 (by decide +kernel) ⟨Nat.le_trans (Nat.le_of_ble_eq_true rfl) hR.1, Nat.le_trans (Nat.le_of_ble_eq_true rfl) hR.2⟩ rfl hsz rfl hrm hdg hf
  · replace hs := ifn h9 hs
    by_cases h10 : ci = 10
    · subst h10
      replace hs := ifp rfl hs
      exact x_runA (As := []) X hK hA hG hI hb (q := (RX10, TX10, 1)) rfl (xet_X10_sort l b  _ _ hs) iX10_sort RX8 w1 q595 (by decide) q605 q606 q111 (by decide +kernel) ⟨Nat.le_trans (Nat.le_of_ble_eq_true rfl) hR.1, Nat.le_trans (Nat.le_of_ble_eq_true rfl) hR.2⟩ rfl hsz rfl hrm hdg hf
    · replace hs := ifn h10 hs
      by_cases h11 : ci = 11
      · subst h11
        replace hs := ifp rfl hs
        exact x_runA (As := []) X hK hA hG hI hb (q := (RX11, TX11, 1)) rfl (xet_X11_sort l b  _ _ hs) iX11_sort RX8 w1 q595 (by decide) q599 q600 q112 (by decide +kernel) ⟨Nat.le_trans (Nat.le_of_ble_eq_true rfl) hR.1, Nat.le_trans (Nat.le_of_ble_eq_true rfl) hR.2⟩ rfl hsz rfl hrm hdg hf
      · replace hs := ifn h11 hs
        by_cases h12 : ci = 12
        · subst h12
          replace hs := ifp rfl hs
          exact x_runA (As := []) X hK hA hG hI hb (q := (RX12, TX12, 1)) rfl (xet_X12_sort l b  _ _ hs) iX12_sort RX8 w1 q595 (by decide) q602 q603 q113 (by decide +kernel) ⟨Nat.le_trans (Nat.le_of_ble_eq_true rfl) hR.1, Nat.le_trans (Nat.le_of_ble_eq_true rfl) hR.2⟩ rfl hsz rfl hrm hdg hf
        · replace hs := ifn h12 hs
          exact hs.elim
def x_X0_copy (a0 : Nat) (a1 : Int32) (a2 : Int32) (a3 : Int32) (a4 : Int32) (a5 : Int32) (C : XH) (K : Int32 → XH → Prop) : Prop := (xcl C a0 = some 0 ∧ x_X0_shelf a0 a1 C (fun ad2 C1 => (xcl C1 a0 = some 0 ∧ x_X0_shelf a0 a2 C1 (fun ad5 C4 => (xcl C4 ad2 = some 5 ∧ x_X5_holdsHopper ad2 C4 (fun r8 C7 => jn (fun (C10 : XH) => x_X0_need 0 (-2) C10 (fun C11 => obd (xgo C11 (xis 5) ad2 0) (fun o12 => jn (fun (C13 : XH) => (xcl C13 ad2 = some 5 ∧ x_X5_row ad2 C13 (fun ad15 C14 => (xcl C14 ad5 = some 5 ∧ x_X5_row ad5 C14 (fun ad18 C17 => jn (fun (v20 : Int32) => x_X0_need v20 (-4) C17 (fun C21 => vd_X8_held ad15 C21 (fun ad23 C22 => vd_X8_held ad18 C22 (fun ad25 C24 => xcpT C24 ad23 a3 ad25 a4 a5 (fun C27 => K 1 C27) (fun ad26 => xnew C24 (.inr (7, [.null, .null, .null, .null, .null, .int 0, .int 0])) (fun ad28 C29 => x_X7_init ad28 (-5) C29 (fun C30 => (xcl C30 ad28 = some 7 ∧ (xcl C30 a0 = some 0 ∧ x_X0_refused a0 ad28 C30 (fun r33 C32 => K r33 C32))))))))) (fun ad35 C36 => (xcl C36 a0 = some 0 ∧ x_X0_refused a0 ad35 C36 (fun r38 C37 => K r38 C37)))) (fun k109_20 => (if a5 < 0 then k109_20 0 else k109_20 1))) (fun ad41 C42 => (xcl C42 a0 = some 0 ∧ x_X0_refused a0 ad41 C42 (fun r44 C43 => K r44 C43))))) (fun ad46 C47 => (xcl C47 a0 = some 0 ∧ x_X0_refused a0 ad46 C47 (fun r49 C48 => K r49 C48))))) (fun k85_13 => xopt o12 (k85_13 C11) (fun ad51 => obd (xgo C11 (xis 5) ad5 0) (fun o52 => xopt o52 (k85_13 C11) (fun ad53 => (xcl C11 ad2 = some 5 ∧ x_X5_row ad2 C11 (fun ad55 C54 => vd_X8_sort ad55 C54 (fun r58 C57 => (xcl C57 ad5 = some 5 ∧ x_X5_row ad5 C57 (fun ad60 C59 => vd_X8_sort ad60 C59 (fun r63 C62 => jn (fun (v64 : Int32) => x_X0_need v64 (-2) C62 (fun C65 => k85_13 C65) (fun ad66 C67 => (xcl C67 a0 = some 0 ∧ x_X0_refused a0 ad66 C67 (fun r69 C68 => K r69 C68)))) (fun k80_64 => (if r58 = r63 then k80_64 1 else k80_64 0)))) (fun ad72 C73 => (xcl C73 a0 = some 0 ∧ x_X0_refused a0 ad72 C73 (fun r75 C74 => K r75 C74)))))) (fun ad77 C78 => (xcl C78 a0 = some 0 ∧ x_X0_refused a0 ad77 C78 (fun r80 C79 => K r80 C79)))))))))) (fun ad82 C83 => (xcl C83 a0 = some 0 ∧ x_X0_refused a0 ad82 C83 (fun r85 C84 => K r85 C84)))) (fun k34_10 => jn (fun (v87 : Int32) (C88 : XH) => x_X0_need v87 (-2) C88 (fun C89 => obd (xgo C89 (xis 5) ad2 0) (fun o90 => jn (fun (C91 : XH) => (xcl C91 ad2 = some 5 ∧ x_X5_row ad2 C91 (fun ad93 C92 => (xcl C92 ad5 = some 5 ∧ x_X5_row ad5 C92 (fun ad96 C95 => jn (fun (v98 : Int32) => x_X0_need v98 (-4) C95 (fun C99 => vd_X8_held ad93 C99 (fun ad101 C100 => vd_X8_held ad96 C100 (fun ad103 C102 => xcpT C102 ad101 a3 ad103 a4 a5 (fun C105 => K 1 C105) (fun ad104 => xnew C102 (.inr (7, [.null, .null, .null, .null, .null, .int 0, .int 0])) (fun ad106 C107 => x_X7_init ad106 (-5) C107 (fun C108 => (xcl C108 ad106 = some 7 ∧ (xcl C108 a0 = some 0 ∧ x_X0_refused a0 ad106 C108 (fun r111 C110 => K r111 C110))))))))) (fun ad113 C114 => (xcl C114 a0 = some 0 ∧ x_X0_refused a0 ad113 C114 (fun r116 C115 => K r116 C115)))) (fun k109_98 => (if a5 < 0 then k109_98 0 else k109_98 1))) (fun ad119 C120 => (xcl C120 a0 = some 0 ∧ x_X0_refused a0 ad119 C120 (fun r122 C121 => K r122 C121))))) (fun ad124 C125 => (xcl C125 a0 = some 0 ∧ x_X0_refused a0 ad124 C125 (fun r127 C126 => K r127 C126))))) (fun k85_91 => xopt o90 (k85_91 C89) (fun ad129 => obd (xgo C89 (xis 5) ad5 0) (fun o130 => xopt o130 (k85_91 C89) (fun ad131 => (xcl C89 ad2 = some 5 ∧ x_X5_row ad2 C89 (fun ad133 C132 => vd_X8_sort ad133 C132 (fun r136 C135 => (xcl C135 ad5 = some 5 ∧ x_X5_row ad5 C135 (fun ad138 C137 => vd_X8_sort ad138 C137 (fun r141 C140 => jn (fun (v142 : Int32) => x_X0_need v142 (-2) C140 (fun C143 => k85_91 C143) (fun ad144 C145 => (xcl C145 a0 = some 0 ∧ x_X0_refused a0 ad144 C145 (fun r147 C146 => K r147 C146)))) (fun k80_142 => (if r136 = r141 then k80_142 1 else k80_142 0)))) (fun ad150 C151 => (xcl C151 a0 = some 0 ∧ x_X0_refused a0 ad150 C151 (fun r153 C152 => K r153 C152)))))) (fun ad155 C156 => (xcl C156 a0 = some 0 ∧ x_X0_refused a0 ad155 C156 (fun r158 C157 => K r158 C157)))))))))) (fun ad160 C161 => (xcl C161 a0 = some 0 ∧ x_X0_refused a0 ad160 C161 (fun r163 C162 => K r163 C162)))) (fun k35_88 => (if r8 = 0 then (xcl C7 ad5 = some 5 ∧ x_X5_holdsHopper ad5 C7 (fun r166 C165 => (if r166 = 0 then k35_88 1 C165 else k34_10 C165))) else k34_10 C7)))))) (fun ad170 C171 => (xcl C171 a0 = some 0 ∧ x_X0_refused a0 ad170 C171 (fun r173 C172 => K r173 C172))))) (fun ad175 C176 => (xcl C176 a0 = some 0 ∧ x_X0_refused a0 ad175 C176 (fun r178 C177 => K r178 C177))))
theorem iX0_copy : xInfW yX0_copy cX0_copy 11 (some .int) [(114, 132, 135, 179), (0, 148, 149, 21)] 5 := ⟨q586, by decide +kernel⟩
set_option maxHeartbeats 4000000 in
theorem xet_X0_copy (l : Launch) (hl0 : l.stackTraces = false) (a0 : Nat) (a1 : Int32) (a2 : Int32) (a3 : Int32) (a4 : Int32) (a5 : Int32) (C : XH) (K : Int32 → XH → Prop) (hs : x_X0_copy a0 a1 a2 a3 a4 a5 C K) : xMetX l yX0_copy (wsW_ yX0_copy cX0_copy 11 (some .int) [(114, 132, 135, 179), (0, 148, 149, 21)]) 13 10322 35 7168 C [.ref a0, .int a1, .int a2, .int a3, .int a4, .int a5] (fun D dT A => xQi D dT K A) xE0 := by
  intro D dT adK adV sz
  refine xEnterW (own := RX0) (Qc := xQi D dT K) (XC := xXC D dT xE0) (by decide) rfl (by rfl) ?_
  intro p e s m args below meth c A ls X hnm hK hA hG hT hI hl
  have hx := X.1
  have hb := X.2.1
  have hts := X.2.2.2.2.1
  have hown := X.2.2.2.2.2.1
  have hl : lv_has ls 11 [(0, .ref a0), (1, .int a1), (2, .int a2), (3, .int a3), (4, .int a4), (5, .int a5)] := hl
  unfold x_X0_copy at hs
  refine lv_aload_n hx hb dX0_copy_0 rfl (lv_at hl 0 rfl) ?_
  refine lv_iload_n hx hb dX0_copy_1 rfl (lv_at hl 1 rfl) ?_
  obtain ⟨h2, hs⟩ := hs
  obtain ⟨fh2, h2⟩ := xcl_spec h2
  refine xT_gor hA hI (x_runVTW (As := [.int a1]) (rest := []) X hK hA hG hI h2 (q := (RX0, TX0, 10)) rfl rfl (xet_X0_shelf l hl0 a0 a1 _ _ _ hs) iX0_shelf q364 q366 qs0 q94 ⟨(Nat.le_of_ble_eq_true rfl), (Nat.le_of_ble_eq_true rfl)⟩ rfl hl.1 rfl (Nat.le_of_ble_eq_true rfl) dX0_copy_2 ⟨(Nat.le_of_ble_eq_true rfl), (Nat.le_of_ble_eq_true rfl)⟩) (fun En ce ad175 C176 H locs hs9 hI hce hvm hcl => ?_) (fun ad2 C1 H locs hs9 hI => ?_)
  · obtain ⟨rfl, hs0⟩ := hs9
    replace hs := hs0
    refine x_catch (k := 1) (a1 := 0) (a2 := 148) (a3 := 149) (a4 := 21) X hG hT rfl (x_cov rfl) rfl (by decide) q363 (by decide) hce hvm hcl ?_
    refine lv_astore (lv' := [(6, .ref ad175), (0, .ref a0), (1, .int a1), (2, .int a2), (3, .int a3), (4, .int a4), (5, .int a5)]) hx hb dX0_copy_149 hl (by decide) rfl (fun ls hl => ?_)
    refine lv_aload_n hx hb dX0_copy_151 rfl (lv_at hl 1 rfl) ?_
    refine lv_aload hx hb dX0_copy_152 (lv_at hl 0 rfl) ?_
    obtain ⟨h178, hs⟩ := hs
    obtain ⟨fh178, h178⟩ := xcl_spec h178
    refine x_goi hA hI (x_runV (As := [.ref ad175]) (rest := []) X hK hA hG hI h178 (q := (RX0, TX0, 10)) rfl rfl (xet_X0_refused l a0 ad175 _ _ hs) iX0_refused q538 q540 qs2 q94 ⟨(Nat.le_of_ble_eq_true rfl), (Nat.le_of_ble_eq_true rfl)⟩ rfl hl.1 rfl (Nat.le_of_ble_eq_true rfl) dX0_copy_154 ⟨(Nat.le_of_ble_eq_true rfl), (Nat.le_of_ble_eq_true rfl)⟩) (fun r178 C177 H locs hs9 hI => ?_)
    replace hs := hs9
    exact vx_ret (x_reti X hK hI hs (Nat.le_of_ble_eq_true rfl) (Nat.le_of_ble_eq_true rfl) dX0_copy_157)
  · replace hs := hs9
    refine lv_astore (lv' := [(6, .ref ad2), (0, .ref a0), (1, .int a1), (2, .int a2), (3, .int a3), (4, .int a4), (5, .int a5)]) hx hb dX0_copy_5 hl (by decide) rfl (fun ls hl => ?_)
    refine lv_aload_n hx hb dX0_copy_7 rfl (lv_at hl 1 rfl) ?_
    refine lv_iload_n hx hb dX0_copy_8 rfl (lv_at hl 3 rfl) ?_
    obtain ⟨h5, hs⟩ := hs
    obtain ⟨fh5, h5⟩ := xcl_spec h5
    refine xT_gor hA hI (x_runVTW (As := [.int a2]) (rest := []) X hK hA hG hI h5 (q := (RX0, TX0, 10)) rfl rfl (xet_X0_shelf l hl0 a0 a2 _ _ _ hs) iX0_shelf q364 q366 qs0 q94 ⟨(Nat.le_of_ble_eq_true rfl), (Nat.le_of_ble_eq_true rfl)⟩ rfl hl.1 rfl (Nat.le_of_ble_eq_true rfl) dX0_copy_9 ⟨(Nat.le_of_ble_eq_true rfl), (Nat.le_of_ble_eq_true rfl)⟩) (fun En ce ad170 C171 H locs hs9 hI hce hvm hcl => ?_) (fun ad5 C4 H locs hs9 hI => ?_)
    · obtain ⟨rfl, hs0⟩ := hs9
      replace hs := hs0
      refine x_catch (k := 1) (a1 := 0) (a2 := 148) (a3 := 149) (a4 := 21) X hG hT rfl (x_cov rfl) rfl (by decide) q363 (by decide) hce hvm hcl ?_
      refine lv_astore (lv' := [(6, .ref ad170), (0, .ref a0), (1, .int a1), (2, .int a2), (3, .int a3), (4, .int a4), (5, .int a5)]) hx hb dX0_copy_149 hl (by decide) rfl (fun ls hl => ?_)
      refine lv_aload_n hx hb dX0_copy_151 rfl (lv_at hl 1 rfl) ?_
      refine lv_aload hx hb dX0_copy_152 (lv_at hl 0 rfl) ?_
      obtain ⟨h173, hs⟩ := hs
      obtain ⟨fh173, h173⟩ := xcl_spec h173
      refine x_goi hA hI (x_runV (As := [.ref ad170]) (rest := []) X hK hA hG hI h173 (q := (RX0, TX0, 10)) rfl rfl (xet_X0_refused l a0 ad170 _ _ hs) iX0_refused q538 q540 qs2 q94 ⟨(Nat.le_of_ble_eq_true rfl), (Nat.le_of_ble_eq_true rfl)⟩ rfl hl.1 rfl (Nat.le_of_ble_eq_true rfl) dX0_copy_154 ⟨(Nat.le_of_ble_eq_true rfl), (Nat.le_of_ble_eq_true rfl)⟩) (fun r173 C172 H locs hs9 hI => ?_)
      replace hs := hs9
      exact vx_ret (x_reti X hK hI hs (Nat.le_of_ble_eq_true rfl) (Nat.le_of_ble_eq_true rfl) dX0_copy_157)
    · replace hs := hs9
      refine lv_astore (lv' := [(7, .ref ad5), (6, .ref ad2), (0, .ref a0), (1, .int a1), (2, .int a2), (3, .int a3), (4, .int a4), (5, .int a5)]) hx hb dX0_copy_12 hl (by decide) rfl (fun ls hl => ?_)
      refine lv_aload hx hb dX0_copy_14 (lv_at hl 1 rfl) ?_
      obtain ⟨h8, hs⟩ := hs
      obtain ⟨fh8, h8⟩ := xcl_spec h8
      refine x_goz hA hI (x_runV (As := []) (rest := []) X hK hA hG hI h8 (q := (RX5, TX5, 1)) rfl rfl (xet_X5_holdsHopper l ad2 _ _ hs) iX5_holdsHopper q588 q589 q590 q99 ⟨(Nat.le_of_ble_eq_true rfl), (Nat.le_of_ble_eq_true rfl)⟩ rfl hl.1 rfl (Nat.le_of_ble_eq_true rfl) dX0_copy_16 ⟨(Nat.le_of_ble_eq_true rfl), (Nat.le_of_ble_eq_true rfl)⟩) (fun r8 C7 H locs br8 hs9 hI => ?_)
      replace hs := hs9
      obtain ⟨k34_10, hk34_10, hs⟩ := jn_ex hs
      have Ek34_10 : ∀ (C10 : XH) (H : Heap) (locs : List Loc) (ls : Array Slot), k34_10 C10 → xI D dT A s.heap C10 H locs → lv_has ls 11 [(0, .ref a0), (3, .int a3), (4, .int a4), (5, .int a5), (6, .ref ad2), (7, .ref ad5)] → W p l e (xRm 13 10322 35 7168) s m args below meth c H locs 8 2034 (vx_MQ below (xQi D dT K A) (xXC D dT xE0 A) args s 35 7168 A) (F0 m 34 ls []) := by
        intro C10 H locs ls hs hI hl
        rw [hk34_10] at hs
        refine lv_iconst (v := 0) hx hb dX0_copy_34 (by decide) ?_
        refine lv_bipush (v := (-2)) hx hb dX0_copy_35 (by decide) ?_
        refine xT_gov hA hI (x_runST (As := [.int 0, .int (-2)]) (rest := []) X hK hA hG hI (xet_X0_need l hl0 0 (-2) _ _ _ hs) iX0_need q469 q470 q94 ⟨(Nat.le_of_ble_eq_true rfl), (Nat.le_of_ble_eq_true rfl)⟩ rfl hl.1 rfl (Nat.le_of_ble_eq_true rfl) dX0_copy_37 ⟨(Nat.le_of_ble_eq_true rfl), (Nat.le_of_ble_eq_true rfl)⟩) (fun En ce ad82 C83 H locs hs9 hI hce hvm hcl => ?_) (fun C11 H locs hs9 hI => ?_)
        · obtain ⟨rfl, hs0⟩ := hs9
          replace hs := hs0
          refine x_catch (k := 1) (a1 := 0) (a2 := 148) (a3 := 149) (a4 := 21) X hG hT rfl (x_cov rfl) rfl (by decide) q363 (by decide) hce hvm hcl ?_
          refine lv_astore (lv' := [(6, .ref ad82), (0, .ref a0), (3, .int a3), (4, .int a4), (5, .int a5), (7, .ref ad5)]) hx hb dX0_copy_149 hl (by decide) rfl (fun ls hl => ?_)
          refine lv_aload_n hx hb dX0_copy_151 rfl (lv_at hl 1 rfl) ?_
          refine lv_aload hx hb dX0_copy_152 (lv_at hl 0 rfl) ?_
          obtain ⟨h85, hs⟩ := hs
          obtain ⟨fh85, h85⟩ := xcl_spec h85
          refine x_goi hA hI (x_runV (As := [.ref ad82]) (rest := []) X hK hA hG hI h85 (q := (RX0, TX0, 10)) rfl rfl (xet_X0_refused l a0 ad82 _ _ hs) iX0_refused q538 q540 qs2 q94 ⟨(Nat.le_of_ble_eq_true rfl), (Nat.le_of_ble_eq_true rfl)⟩ rfl hl.1 rfl (Nat.le_of_ble_eq_true rfl) dX0_copy_154 ⟨(Nat.le_of_ble_eq_true rfl), (Nat.le_of_ble_eq_true rfl)⟩) (fun r85 C84 H locs hs9 hI => ?_)
          replace hs := hs9
          exact vx_ret (x_reti X hK hI hs (Nat.le_of_ble_eq_true rfl) (Nat.le_of_ble_eq_true rfl) dX0_copy_157)
        · replace hs := hs9
          refine lv_aload hx hb dX0_copy_40 (lv_at hl 4 rfl) ?_
          obtain ⟨o12, eo12, hs⟩ := hs
          refine x_get (v := va_rf o12) X hK hI 5 0 rfl in_X5 rfl q324 rfl (xgo_spec eo12) dX0_copy_42 ?_
          obtain ⟨k85_13, hk85_13, hs⟩ := jn_ex hs
          have Ek85_13 : ∀ (C13 : XH) (H : Heap) (locs : List Loc) (ls : Array Slot), k85_13 C13 → xI D dT A s.heap C13 H locs → lv_has ls 11 [(0, .ref a0), (3, .int a3), (4, .int a4), (5, .int a5), (6, .ref ad2), (7, .ref ad5)] → W p l e (xRm 13 10322 35 7168) s m args below meth c H locs 20 4096 (vx_MQ below (xQi D dT K A) (xXC D dT xE0 A) args s 35 7168 A) (F0 m 85 ls []) := by
            intro C13 H locs ls hs hI hl
            rw [hk85_13] at hs
            refine lv_aload hx hb dX0_copy_85 (lv_at hl 4 rfl) ?_
            obtain ⟨h15, hs⟩ := hs
            obtain ⟨fh15, h15⟩ := xcl_spec h15
            refine xT_gor hA hI (x_runVTW (As := []) (rest := []) X hK hA hG hI h15 (q := (RX5, TX5, 1)) rfl rfl (xet_X5_row l hl0 ad2 _ _ _ hs) iX5_row q546 q547 q548 q99 ⟨(Nat.le_of_ble_eq_true rfl), (Nat.le_of_ble_eq_true rfl)⟩ rfl hl.1 rfl (Nat.le_of_ble_eq_true rfl) dX0_copy_87 ⟨(Nat.le_of_ble_eq_true rfl), (Nat.le_of_ble_eq_true rfl)⟩) (fun En ce ad46 C47 H locs hs9 hI hce hvm hcl => ?_) (fun ad15 C14 H locs hs9 hI => ?_)
            · obtain ⟨rfl, hs0⟩ := hs9
              replace hs := hs0
              refine x_catch (k := 1) (a1 := 0) (a2 := 148) (a3 := 149) (a4 := 21) X hG hT rfl (x_cov rfl) rfl (by decide) q363 (by decide) hce hvm hcl ?_
              refine lv_astore (lv' := [(6, .ref ad46), (0, .ref a0), (3, .int a3), (4, .int a4), (5, .int a5), (7, .ref ad5)]) hx hb dX0_copy_149 hl (by decide) rfl (fun ls hl => ?_)
              refine lv_aload_n hx hb dX0_copy_151 rfl (lv_at hl 1 rfl) ?_
              refine lv_aload hx hb dX0_copy_152 (lv_at hl 0 rfl) ?_
              obtain ⟨h49, hs⟩ := hs
              obtain ⟨fh49, h49⟩ := xcl_spec h49
              refine x_goi hA hI (x_runV (As := [.ref ad46]) (rest := []) X hK hA hG hI h49 (q := (RX0, TX0, 10)) rfl rfl (xet_X0_refused l a0 ad46 _ _ hs) iX0_refused q538 q540 qs2 q94 ⟨(Nat.le_of_ble_eq_true rfl), (Nat.le_of_ble_eq_true rfl)⟩ rfl hl.1 rfl (Nat.le_of_ble_eq_true rfl) dX0_copy_154 ⟨(Nat.le_of_ble_eq_true rfl), (Nat.le_of_ble_eq_true rfl)⟩) (fun r49 C48 H locs hs9 hI => ?_)
              replace hs := hs9
              exact vx_ret (x_reti X hK hI hs (Nat.le_of_ble_eq_true rfl) (Nat.le_of_ble_eq_true rfl) dX0_copy_157)
            · replace hs := hs9
              refine lv_astore (lv' := [(8, .ref ad15), (0, .ref a0), (3, .int a3), (4, .int a4), (5, .int a5), (6, .ref ad2), (7, .ref ad5)]) hx hb dX0_copy_90 hl (by decide) rfl (fun ls hl => ?_)
              refine lv_aload hx hb dX0_copy_92 (lv_at hl 6 rfl) ?_
              obtain ⟨h18, hs⟩ := hs
              obtain ⟨fh18, h18⟩ := xcl_spec h18
              refine xT_gor hA hI (x_runVTW (As := []) (rest := []) X hK hA hG hI h18 (q := (RX5, TX5, 1)) rfl rfl (xet_X5_row l hl0 ad5 _ _ _ hs) iX5_row q546 q547 q548 q99 ⟨(Nat.le_of_ble_eq_true rfl), (Nat.le_of_ble_eq_true rfl)⟩ rfl hl.1 rfl (Nat.le_of_ble_eq_true rfl) dX0_copy_94 ⟨(Nat.le_of_ble_eq_true rfl), (Nat.le_of_ble_eq_true rfl)⟩) (fun En ce ad41 C42 H locs hs9 hI hce hvm hcl => ?_) (fun ad18 C17 H locs hs9 hI => ?_)
              · obtain ⟨rfl, hs0⟩ := hs9
                replace hs := hs0
                refine x_catch (k := 1) (a1 := 0) (a2 := 148) (a3 := 149) (a4 := 21) X hG hT rfl (x_cov rfl) rfl (by decide) q363 (by decide) hce hvm hcl ?_
                refine lv_astore (lv' := [(6, .ref ad41), (8, .ref ad15), (0, .ref a0), (3, .int a3), (4, .int a4), (5, .int a5), (7, .ref ad5)]) hx hb dX0_copy_149 hl (by decide) rfl (fun ls hl => ?_)
                refine lv_aload_n hx hb dX0_copy_151 rfl (lv_at hl 2 rfl) ?_
                refine lv_aload hx hb dX0_copy_152 (lv_at hl 0 rfl) ?_
                obtain ⟨h44, hs⟩ := hs
                obtain ⟨fh44, h44⟩ := xcl_spec h44
                refine x_goi hA hI (x_runV (As := [.ref ad41]) (rest := []) X hK hA hG hI h44 (q := (RX0, TX0, 10)) rfl rfl (xet_X0_refused l a0 ad41 _ _ hs) iX0_refused q538 q540 qs2 q94 ⟨(Nat.le_of_ble_eq_true rfl), (Nat.le_of_ble_eq_true rfl)⟩ rfl hl.1 rfl (Nat.le_of_ble_eq_true rfl) dX0_copy_154 ⟨(Nat.le_of_ble_eq_true rfl), (Nat.le_of_ble_eq_true rfl)⟩) (fun r44 C43 H locs hs9 hI => ?_)
                replace hs := hs9
                exact vx_ret (x_reti X hK hI hs (Nat.le_of_ble_eq_true rfl) (Nat.le_of_ble_eq_true rfl) dX0_copy_157)
              · replace hs := hs9
                refine lv_astore (lv' := [(9, .ref ad18), (8, .ref ad15), (0, .ref a0), (3, .int a3), (4, .int a4), (5, .int a5), (6, .ref ad2), (7, .ref ad5)]) hx hb dX0_copy_97 hl (by decide) rfl (fun ls hl => ?_)
                refine lv_iload hx hb dX0_copy_99 (lv_at hl 5 rfl) ?_
                obtain ⟨k109_20, hk109_20, hs⟩ := jn_ex hs
                have Ek109_20 : ∀ (v20 : Int32) (H : Heap) (locs : List Loc) (ls : Array Slot), k109_20 v20 → xI D dT A s.heap C17 H locs → lv_has ls 11 [(0, .ref a0), (3, .int a3), (4, .int a4), (5, .int a5), (8, .ref ad15), (9, .ref ad18)] → W p l e (xRm 13 10322 35 7168) s m args below meth c H locs 30 6144 (vx_MQ below (xQi D dT K A) (xXC D dT xE0 A) args s 35 7168 A) (F0 m 109 ls [.int v20]) := by
                  intro v20 H locs ls hs hI hl
                  rw [hk109_20] at hs
                  refine lv_bipush (v := (-4)) hx hb dX0_copy_109 (by decide) ?_
                  refine xT_gov hA hI (x_runST (As := [.int v20, .int (-4)]) (rest := []) X hK hA hG hI (xet_X0_need l hl0 v20 (-4) _ _ _ hs) iX0_need q469 q470 q94 ⟨(Nat.le_of_ble_eq_true rfl), (Nat.le_of_ble_eq_true rfl)⟩ rfl hl.1 rfl (Nat.le_of_ble_eq_true rfl) dX0_copy_111 ⟨(Nat.le_of_ble_eq_true rfl), (Nat.le_of_ble_eq_true rfl)⟩) (fun En ce ad35 C36 H locs hs9 hI hce hvm hcl => ?_) (fun C21 H locs hs9 hI => ?_)
                  · obtain ⟨rfl, hs0⟩ := hs9
                    replace hs := hs0
                    refine x_catch (k := 1) (a1 := 0) (a2 := 148) (a3 := 149) (a4 := 21) X hG hT rfl (x_cov rfl) rfl (by decide) q363 (by decide) hce hvm hcl ?_
                    refine lv_astore (lv' := [(6, .ref ad35), (0, .ref a0), (3, .int a3), (4, .int a4), (5, .int a5), (8, .ref ad15), (9, .ref ad18)]) hx hb dX0_copy_149 hl (by decide) rfl (fun ls hl => ?_)
                    refine lv_aload_n hx hb dX0_copy_151 rfl (lv_at hl 1 rfl) ?_
                    refine lv_aload hx hb dX0_copy_152 (lv_at hl 0 rfl) ?_
                    obtain ⟨h38, hs⟩ := hs
                    obtain ⟨fh38, h38⟩ := xcl_spec h38
                    refine x_goi hA hI (x_runV (As := [.ref ad35]) (rest := []) X hK hA hG hI h38 (q := (RX0, TX0, 10)) rfl rfl (xet_X0_refused l a0 ad35 _ _ hs) iX0_refused q538 q540 qs2 q94 ⟨(Nat.le_of_ble_eq_true rfl), (Nat.le_of_ble_eq_true rfl)⟩ rfl hl.1 rfl (Nat.le_of_ble_eq_true rfl) dX0_copy_154 ⟨(Nat.le_of_ble_eq_true rfl), (Nat.le_of_ble_eq_true rfl)⟩) (fun r38 C37 H locs hs9 hI => ?_)
                    replace hs := hs9
                    exact vx_ret (x_reti X hK hI hs (Nat.le_of_ble_eq_true rfl) (Nat.le_of_ble_eq_true rfl) dX0_copy_157)
                  · replace hs := hs9
                    refine lv_aload hx hb dX0_copy_114 (lv_at hl 4 rfl) ?_
                    refine x_gor hA hI (vdc_X8_held (rest := []) X hK hA hG hI ad15 _ hs q608 ⟨(Nat.le_of_ble_eq_true rfl), (Nat.le_of_ble_eq_true rfl)⟩ hl.1 (Nat.le_of_ble_eq_true rfl) dX0_copy_116 ⟨(Nat.le_of_ble_eq_true rfl), (Nat.le_of_ble_eq_true rfl)⟩) (fun ad23 C22 H locs hs9 hI => ?_)
                    replace hs := hs9
                    refine lv_iload_n hx hb dX0_copy_119 rfl (lv_at hl 1 rfl) ?_
                    refine lv_aload hx hb dX0_copy_120 (lv_at hl 5 rfl) ?_
                    refine x_gor hA hI (vdc_X8_held (rest := [.int a3, .ref ad23]) X hK hA hG hI ad18 _ hs q608 ⟨(Nat.le_of_ble_eq_true rfl), (Nat.le_of_ble_eq_true rfl)⟩ hl.1 (Nat.le_of_ble_eq_true rfl) dX0_copy_122 ⟨(Nat.le_of_ble_eq_true rfl), (Nat.le_of_ble_eq_true rfl)⟩) (fun ad25 C24 H locs hs9 hI => ?_)
                    replace hs := hs9
                    refine lv_iload hx hb dX0_copy_125 (lv_at hl 2 rfl) ?_
                    refine lv_iload hx hb dX0_copy_127 (lv_at hl 3 rfl) ?_
                    refine x_cpT (rest := []) X hK hG hI q623 hs hl0 hl.1 (Nat.le_of_ble_eq_true rfl) (Nat.le_of_ble_eq_true rfl) (Nat.le_of_ble_eq_true rfl) (Nat.le_of_ble_eq_true rfl) dX0_copy_129 (fun ce ad26 H hs9 hI hce hvm hcl => ?_) (fun C27 H locs hs9 hI => ?_)
                    · replace hs := hs9
                      refine x_catch (k := 0) (a1 := 114) (a2 := 132) (a3 := 135) (a4 := 179) X hG hT rfl (x_cov rfl) rfl (by decide) q587 (by decide) hce hvm hcl ?_
                      refine lv_astore (lv' := [(10, .ref ad26), (0, .ref a0), (3, .int a3), (4, .int a4), (5, .int a5), (8, .ref ad15), (9, .ref ad18)]) hx hb dX0_copy_135 hl (by decide) rfl (fun ls hl => ?_)
                      refine x_new X hK hI hA 7 (fs := [.null, .null, .null, .null, .null, .int 0, .int 0]) rfl in_X7 tyX7 tyX7_ok q363 q446 q107 rfl (Nat.le_of_ble_eq_true rfl) (Nat.le_of_ble_eq_true rfl) hs dX0_copy_137 (fun ad28 C29 H hs9 hI => ?_)
                      replace hs := hs9
                      refine lv_dup hx hb dX0_copy_140 rfl ?_
                      refine lv_bipush (v := (-5)) hx hb dX0_copy_141 (by decide) ?_
                      refine x_gov hA hI (x_runI (As := [.int (-5)]) (rest := [.ref ad28]) X hK hA hG hI (xet_X7_init l ad28 (-5) _ _ hs) iX7_init rfl q454 q455 q107 ⟨(Nat.le_of_ble_eq_true rfl), (Nat.le_of_ble_eq_true rfl)⟩ rfl hl.1 rfl (Nat.le_of_ble_eq_true rfl) dX0_copy_143 ⟨(Nat.le_of_ble_eq_true rfl), (Nat.le_of_ble_eq_true rfl)⟩) (fun C30 H locs hs9 hI => ?_)
                      replace hs := hs9
                      obtain ⟨hf30, hs⟩ := hs
                      obtain ⟨f30, hf30⟩ := xcl_spec hf30
                      obtain ⟨ce, hce, hvm, hcl⟩ := x_thrown hK hI hf30 rfl
                      refine vx_athrow hx hb dX0_copy_146 ?_
                      refine x_catch (k := 1) (a1 := 0) (a2 := 148) (a3 := 149) (a4 := 21) X hG hT rfl (x_cov rfl) rfl (by decide) q363 (by decide) hce hvm hcl ?_
                      refine lv_astore (lv' := [(6, .ref ad28), (10, .ref ad26), (0, .ref a0), (3, .int a3), (4, .int a4), (5, .int a5), (8, .ref ad15), (9, .ref ad18)]) hx hb dX0_copy_149 hl (by decide) rfl (fun ls hl => ?_)
                      refine lv_aload_n hx hb dX0_copy_151 rfl (lv_at hl 2 rfl) ?_
                      refine lv_aload hx hb dX0_copy_152 (lv_at hl 0 rfl) ?_
                      obtain ⟨h33, hs⟩ := hs
                      obtain ⟨fh33, h33⟩ := xcl_spec h33
                      refine x_goi hA hI (x_runV (As := [.ref ad28]) (rest := []) X hK hA hG hI h33 (q := (RX0, TX0, 10)) rfl rfl (xet_X0_refused l a0 ad28 _ _ hs) iX0_refused q538 q540 qs2 q94 ⟨(Nat.le_of_ble_eq_true rfl), (Nat.le_of_ble_eq_true rfl)⟩ rfl hl.1 rfl (Nat.le_of_ble_eq_true rfl) dX0_copy_154 ⟨(Nat.le_of_ble_eq_true rfl), (Nat.le_of_ble_eq_true rfl)⟩) (fun r33 C32 H locs hs9 hI => ?_)
                      replace hs := hs9
                      exact vx_ret (x_reti X hK hI hs (Nat.le_of_ble_eq_true rfl) (Nat.le_of_ble_eq_true rfl) dX0_copy_157)
                    · replace hs := hs9
                      refine lv_goto (tgt := 147) hx hb dX0_copy_132 (by decide) ?_
                      refine lv_iconst (v := 1) hx hb dX0_copy_147 (by decide) ?_
                      exact vx_ret (x_reti X hK hI hs (Nat.le_of_ble_eq_true rfl) (Nat.le_of_ble_eq_true rfl) dX0_copy_148)
                refine lv_if_lt (tgt := 108) hx hb dX0_copy_101 (by decide) (fun c39 => ?_) (fun c39 => ?_)
                · replace hs := ifp c39 hs
                  refine lv_iconst (v := 0) hx hb dX0_copy_108 (by decide) ?_
                  exact Ek109_20 _ _ _ _ hs hI (lv_sub hl [2, 3, 4, 5, 1, 0] rfl)
                · replace hs := ifn c39 hs
                  refine lv_iconst (v := 1) hx hb dX0_copy_104 (by decide) ?_
                  refine lv_goto (tgt := 109) hx hb dX0_copy_105 (by decide) ?_
                  exact Ek109_20 _ _ _ _ hs hI (lv_sub hl [2, 3, 4, 5, 1, 0] rfl)
          obtain ⟨nad51, rad51⟩ := hs
          have hlad51 := hl
          rcases o12 with _ | ad51
          · have hs := nad51 rfl
            have hl := hlad51
            refine lv_ifnullN (tgt := 85) hx hb dX0_copy_45 (by decide) ?_
            exact W.widen (Nat.le_of_ble_eq_true rfl) (Nat.le_of_ble_eq_true rfl) (Ek85_13 _ _ _ _ hs hI hl)
          · have hs := rad51 ad51 rfl
            have hl := hlad51
            refine lv_ifnull hx hb dX0_copy_45 ?_
            refine lv_aload hx hb dX0_copy_48 (lv_at hl 5 rfl) ?_
            obtain ⟨o52, eo52, hs⟩ := hs
            refine x_get (v := va_rf o52) X hK hI 5 0 rfl in_X5 rfl q324 rfl (xgo_spec eo52) dX0_copy_50 ?_
            obtain ⟨nad53, rad53⟩ := hs
            have hlad53 := hl
            rcases o52 with _ | ad53
            · have hs := nad53 rfl
              have hl := hlad53
              refine lv_ifnullN (tgt := 85) hx hb dX0_copy_53 (by decide) ?_
              exact W.widen (Nat.le_of_ble_eq_true rfl) (Nat.le_of_ble_eq_true rfl) (Ek85_13 _ _ _ _ hs hI hl)
            · have hs := rad53 ad53 rfl
              have hl := hlad53
              refine lv_ifnull hx hb dX0_copy_53 ?_
              refine lv_aload hx hb dX0_copy_56 (lv_at hl 4 rfl) ?_
              obtain ⟨h55, hs⟩ := hs
              obtain ⟨fh55, h55⟩ := xcl_spec h55
              refine xT_gor hA hI (x_runVTW (As := []) (rest := []) X hK hA hG hI h55 (q := (RX5, TX5, 1)) rfl rfl (xet_X5_row l hl0 ad2 _ _ _ hs) iX5_row q546 q547 q548 q99 ⟨(Nat.le_of_ble_eq_true rfl), (Nat.le_of_ble_eq_true rfl)⟩ rfl hl.1 rfl (Nat.le_of_ble_eq_true rfl) dX0_copy_58 ⟨(Nat.le_of_ble_eq_true rfl), (Nat.le_of_ble_eq_true rfl)⟩) (fun En ce ad77 C78 H locs hs9 hI hce hvm hcl => ?_) (fun ad55 C54 H locs hs9 hI => ?_)
              · obtain ⟨rfl, hs0⟩ := hs9
                replace hs := hs0
                refine x_catch (k := 1) (a1 := 0) (a2 := 148) (a3 := 149) (a4 := 21) X hG hT rfl (x_cov rfl) rfl (by decide) q363 (by decide) hce hvm hcl ?_
                refine lv_astore (lv' := [(6, .ref ad77), (0, .ref a0), (3, .int a3), (4, .int a4), (5, .int a5), (7, .ref ad5)]) hx hb dX0_copy_149 hl (by decide) rfl (fun ls hl => ?_)
                refine lv_aload_n hx hb dX0_copy_151 rfl (lv_at hl 1 rfl) ?_
                refine lv_aload hx hb dX0_copy_152 (lv_at hl 0 rfl) ?_
                obtain ⟨h80, hs⟩ := hs
                obtain ⟨fh80, h80⟩ := xcl_spec h80
                refine x_goi hA hI (x_runV (As := [.ref ad77]) (rest := []) X hK hA hG hI h80 (q := (RX0, TX0, 10)) rfl rfl (xet_X0_refused l a0 ad77 _ _ hs) iX0_refused q538 q540 qs2 q94 ⟨(Nat.le_of_ble_eq_true rfl), (Nat.le_of_ble_eq_true rfl)⟩ rfl hl.1 rfl (Nat.le_of_ble_eq_true rfl) dX0_copy_154 ⟨(Nat.le_of_ble_eq_true rfl), (Nat.le_of_ble_eq_true rfl)⟩) (fun r80 C79 H locs hs9 hI => ?_)
                replace hs := hs9
                exact vx_ret (x_reti X hK hI hs (Nat.le_of_ble_eq_true rfl) (Nat.le_of_ble_eq_true rfl) dX0_copy_157)
              · replace hs := hs9
                refine x_goi hA hI (vdc_X8_sort (rest := []) X hK hA hG hI ad55 _ hs q593 ⟨(Nat.le_of_ble_eq_true rfl), (Nat.le_of_ble_eq_true rfl)⟩ hl.1 (Nat.le_of_ble_eq_true rfl) dX0_copy_61 ⟨(Nat.le_of_ble_eq_true rfl), (Nat.le_of_ble_eq_true rfl)⟩) (fun r58 C57 H locs hs9 hI => ?_)
                replace hs := hs9
                refine lv_aload hx hb dX0_copy_64 (lv_at hl 5 rfl) ?_
                obtain ⟨h60, hs⟩ := hs
                obtain ⟨fh60, h60⟩ := xcl_spec h60
                refine xT_gor hA hI (x_runVTW (As := []) (rest := [.int r58]) X hK hA hG hI h60 (q := (RX5, TX5, 1)) rfl rfl (xet_X5_row l hl0 ad5 _ _ _ hs) iX5_row q546 q547 q548 q99 ⟨(Nat.le_of_ble_eq_true rfl), (Nat.le_of_ble_eq_true rfl)⟩ rfl hl.1 rfl (Nat.le_of_ble_eq_true rfl) dX0_copy_66 ⟨(Nat.le_of_ble_eq_true rfl), (Nat.le_of_ble_eq_true rfl)⟩) (fun En ce ad72 C73 H locs hs9 hI hce hvm hcl => ?_) (fun ad60 C59 H locs hs9 hI => ?_)
                · obtain ⟨rfl, hs0⟩ := hs9
                  replace hs := hs0
                  refine x_catch (k := 1) (a1 := 0) (a2 := 148) (a3 := 149) (a4 := 21) X hG hT rfl (x_cov rfl) rfl (by decide) q363 (by decide) hce hvm hcl ?_
                  refine lv_astore (lv' := [(6, .ref ad72), (0, .ref a0), (3, .int a3), (4, .int a4), (5, .int a5), (7, .ref ad5)]) hx hb dX0_copy_149 hl (by decide) rfl (fun ls hl => ?_)
                  refine lv_aload_n hx hb dX0_copy_151 rfl (lv_at hl 1 rfl) ?_
                  refine lv_aload hx hb dX0_copy_152 (lv_at hl 0 rfl) ?_
                  obtain ⟨h75, hs⟩ := hs
                  obtain ⟨fh75, h75⟩ := xcl_spec h75
                  refine x_goi hA hI (x_runV (As := [.ref ad72]) (rest := []) X hK hA hG hI h75 (q := (RX0, TX0, 10)) rfl rfl (xet_X0_refused l a0 ad72 _ _ hs) iX0_refused q538 q540 qs2 q94 ⟨(Nat.le_of_ble_eq_true rfl), (Nat.le_of_ble_eq_true rfl)⟩ rfl hl.1 rfl (Nat.le_of_ble_eq_true rfl) dX0_copy_154 ⟨(Nat.le_of_ble_eq_true rfl), (Nat.le_of_ble_eq_true rfl)⟩) (fun r75 C74 H locs hs9 hI => ?_)
                  replace hs := hs9
                  exact vx_ret (x_reti X hK hI hs (Nat.le_of_ble_eq_true rfl) (Nat.le_of_ble_eq_true rfl) dX0_copy_157)
                · replace hs := hs9
                  refine x_goi hA hI (vdc_X8_sort (rest := [.int r58]) X hK hA hG hI ad60 _ hs q593 ⟨(Nat.le_of_ble_eq_true rfl), (Nat.le_of_ble_eq_true rfl)⟩ hl.1 (Nat.le_of_ble_eq_true rfl) dX0_copy_69 ⟨(Nat.le_of_ble_eq_true rfl), (Nat.le_of_ble_eq_true rfl)⟩) (fun r63 C62 H locs hs9 hI => ?_)
                  replace hs := hs9
                  obtain ⟨k80_64, hk80_64, hs⟩ := jn_ex hs
                  have Ek80_64 : ∀ (v64 : Int32) (H : Heap) (locs : List Loc) (ls : Array Slot), k80_64 v64 → xI D dT A s.heap C62 H locs → lv_has ls 11 [(0, .ref a0), (3, .int a3), (4, .int a4), (5, .int a5), (6, .ref ad2), (7, .ref ad5)] → W p l e (xRm 13 10322 35 7168) s m args below meth c H locs 19 4089 (vx_MQ below (xQi D dT K A) (xXC D dT xE0 A) args s 35 7168 A) (F0 m 80 ls [.int v64]) := by
                    intro v64 H locs ls hs hI hl
                    rw [hk80_64] at hs
                    refine lv_bipush (v := (-2)) hx hb dX0_copy_80 (by decide) ?_
                    refine xT_gov hA hI (x_runST (As := [.int v64, .int (-2)]) (rest := []) X hK hA hG hI (xet_X0_need l hl0 v64 (-2) _ _ _ hs) iX0_need q469 q470 q94 ⟨(Nat.le_of_ble_eq_true rfl), (Nat.le_of_ble_eq_true rfl)⟩ rfl hl.1 rfl (Nat.le_of_ble_eq_true rfl) dX0_copy_82 ⟨(Nat.le_of_ble_eq_true rfl), (Nat.le_of_ble_eq_true rfl)⟩) (fun En ce ad66 C67 H locs hs9 hI hce hvm hcl => ?_) (fun C65 H locs hs9 hI => ?_)
                    · obtain ⟨rfl, hs0⟩ := hs9
                      replace hs := hs0
                      refine x_catch (k := 1) (a1 := 0) (a2 := 148) (a3 := 149) (a4 := 21) X hG hT rfl (x_cov rfl) rfl (by decide) q363 (by decide) hce hvm hcl ?_
                      refine lv_astore (lv' := [(6, .ref ad66), (0, .ref a0), (3, .int a3), (4, .int a4), (5, .int a5), (7, .ref ad5)]) hx hb dX0_copy_149 hl (by decide) rfl (fun ls hl => ?_)
                      refine lv_aload_n hx hb dX0_copy_151 rfl (lv_at hl 1 rfl) ?_
                      refine lv_aload hx hb dX0_copy_152 (lv_at hl 0 rfl) ?_
                      obtain ⟨h69, hs⟩ := hs
                      obtain ⟨fh69, h69⟩ := xcl_spec h69
                      refine x_goi hA hI (x_runV (As := [.ref ad66]) (rest := []) X hK hA hG hI h69 (q := (RX0, TX0, 10)) rfl rfl (xet_X0_refused l a0 ad66 _ _ hs) iX0_refused q538 q540 qs2 q94 ⟨(Nat.le_of_ble_eq_true rfl), (Nat.le_of_ble_eq_true rfl)⟩ rfl hl.1 rfl (Nat.le_of_ble_eq_true rfl) dX0_copy_154 ⟨(Nat.le_of_ble_eq_true rfl), (Nat.le_of_ble_eq_true rfl)⟩) (fun r69 C68 H locs hs9 hI => ?_)
                      replace hs := hs9
                      exact vx_ret (x_reti X hK hI hs (Nat.le_of_ble_eq_true rfl) (Nat.le_of_ble_eq_true rfl) dX0_copy_157)
                    · replace hs := hs9
                      exact Ek85_13 _ _ _ _ hs hI hl
                  refine lv_icmp_ne (tgt := 79) hx hb dX0_copy_72 (by decide) (fun c70 => ?_) (fun c70 => ?_)
                  · replace hs := ifn c70 hs
                    refine lv_iconst (v := 0) hx hb dX0_copy_79 (by decide) ?_
                    exact Ek80_64 _ _ _ _ hs hI hl
                  · replace hs := ifp c70 hs
                    refine lv_iconst (v := 1) hx hb dX0_copy_75 (by decide) ?_
                    refine lv_goto (tgt := 80) hx hb dX0_copy_76 (by decide) ?_
                    exact Ek80_64 _ _ _ _ hs hI hl
      obtain ⟨k35_88, hk35_88, hs⟩ := jn_ex hs
      have Ek35_88 : ∀ (v87 : Int32) (C88 : XH) (H : Heap) (locs : List Loc) (ls : Array Slot), k35_88 v87 C88 → xI D dT A s.heap C88 H locs → lv_has ls 11 [(0, .ref a0), (3, .int a3), (4, .int a4), (5, .int a5), (6, .ref ad2), (7, .ref ad5)] → W p l e (xRm 13 10322 35 7168) s m args below meth c H locs 8 2034 (vx_MQ below (xQi D dT K A) (xXC D dT xE0 A) args s 35 7168 A) (F0 m 35 ls [.int v87]) := by
        intro v87 C88 H locs ls hs hI hl
        rw [hk35_88] at hs
        refine lv_bipush (v := (-2)) hx hb dX0_copy_35 (by decide) ?_
        refine xT_gov hA hI (x_runST (As := [.int v87, .int (-2)]) (rest := []) X hK hA hG hI (xet_X0_need l hl0 v87 (-2) _ _ _ hs) iX0_need q469 q470 q94 ⟨(Nat.le_of_ble_eq_true rfl), (Nat.le_of_ble_eq_true rfl)⟩ rfl hl.1 rfl (Nat.le_of_ble_eq_true rfl) dX0_copy_37 ⟨(Nat.le_of_ble_eq_true rfl), (Nat.le_of_ble_eq_true rfl)⟩) (fun En ce ad160 C161 H locs hs9 hI hce hvm hcl => ?_) (fun C89 H locs hs9 hI => ?_)
        · obtain ⟨rfl, hs0⟩ := hs9
          replace hs := hs0
          refine x_catch (k := 1) (a1 := 0) (a2 := 148) (a3 := 149) (a4 := 21) X hG hT rfl (x_cov rfl) rfl (by decide) q363 (by decide) hce hvm hcl ?_
          refine lv_astore (lv' := [(6, .ref ad160), (0, .ref a0), (3, .int a3), (4, .int a4), (5, .int a5), (7, .ref ad5)]) hx hb dX0_copy_149 hl (by decide) rfl (fun ls hl => ?_)
          refine lv_aload_n hx hb dX0_copy_151 rfl (lv_at hl 1 rfl) ?_
          refine lv_aload hx hb dX0_copy_152 (lv_at hl 0 rfl) ?_
          obtain ⟨h163, hs⟩ := hs
          obtain ⟨fh163, h163⟩ := xcl_spec h163
          refine x_goi hA hI (x_runV (As := [.ref ad160]) (rest := []) X hK hA hG hI h163 (q := (RX0, TX0, 10)) rfl rfl (xet_X0_refused l a0 ad160 _ _ hs) iX0_refused q538 q540 qs2 q94 ⟨(Nat.le_of_ble_eq_true rfl), (Nat.le_of_ble_eq_true rfl)⟩ rfl hl.1 rfl (Nat.le_of_ble_eq_true rfl) dX0_copy_154 ⟨(Nat.le_of_ble_eq_true rfl), (Nat.le_of_ble_eq_true rfl)⟩) (fun r163 C162 H locs hs9 hI => ?_)
          replace hs := hs9
          exact vx_ret (x_reti X hK hI hs (Nat.le_of_ble_eq_true rfl) (Nat.le_of_ble_eq_true rfl) dX0_copy_157)
        · replace hs := hs9
          refine lv_aload hx hb dX0_copy_40 (lv_at hl 4 rfl) ?_
          obtain ⟨o90, eo90, hs⟩ := hs
          refine x_get (v := va_rf o90) X hK hI 5 0 rfl in_X5 rfl q324 rfl (xgo_spec eo90) dX0_copy_42 ?_
          obtain ⟨k85_91, hk85_91, hs⟩ := jn_ex hs
          have Ek85_91 : ∀ (C91 : XH) (H : Heap) (locs : List Loc) (ls : Array Slot), k85_91 C91 → xI D dT A s.heap C91 H locs → lv_has ls 11 [(0, .ref a0), (3, .int a3), (4, .int a4), (5, .int a5), (6, .ref ad2), (7, .ref ad5)] → W p l e (xRm 13 10322 35 7168) s m args below meth c H locs 20 4096 (vx_MQ below (xQi D dT K A) (xXC D dT xE0 A) args s 35 7168 A) (F0 m 85 ls []) := by
            intro C91 H locs ls hs hI hl
            rw [hk85_91] at hs
            refine lv_aload hx hb dX0_copy_85 (lv_at hl 4 rfl) ?_
            obtain ⟨h93, hs⟩ := hs
            obtain ⟨fh93, h93⟩ := xcl_spec h93
            refine xT_gor hA hI (x_runVTW (As := []) (rest := []) X hK hA hG hI h93 (q := (RX5, TX5, 1)) rfl rfl (xet_X5_row l hl0 ad2 _ _ _ hs) iX5_row q546 q547 q548 q99 ⟨(Nat.le_of_ble_eq_true rfl), (Nat.le_of_ble_eq_true rfl)⟩ rfl hl.1 rfl (Nat.le_of_ble_eq_true rfl) dX0_copy_87 ⟨(Nat.le_of_ble_eq_true rfl), (Nat.le_of_ble_eq_true rfl)⟩) (fun En ce ad124 C125 H locs hs9 hI hce hvm hcl => ?_) (fun ad93 C92 H locs hs9 hI => ?_)
            · obtain ⟨rfl, hs0⟩ := hs9
              replace hs := hs0
              refine x_catch (k := 1) (a1 := 0) (a2 := 148) (a3 := 149) (a4 := 21) X hG hT rfl (x_cov rfl) rfl (by decide) q363 (by decide) hce hvm hcl ?_
              refine lv_astore (lv' := [(6, .ref ad124), (0, .ref a0), (3, .int a3), (4, .int a4), (5, .int a5), (7, .ref ad5)]) hx hb dX0_copy_149 hl (by decide) rfl (fun ls hl => ?_)
              refine lv_aload_n hx hb dX0_copy_151 rfl (lv_at hl 1 rfl) ?_
              refine lv_aload hx hb dX0_copy_152 (lv_at hl 0 rfl) ?_
              obtain ⟨h127, hs⟩ := hs
              obtain ⟨fh127, h127⟩ := xcl_spec h127
              refine x_goi hA hI (x_runV (As := [.ref ad124]) (rest := []) X hK hA hG hI h127 (q := (RX0, TX0, 10)) rfl rfl (xet_X0_refused l a0 ad124 _ _ hs) iX0_refused q538 q540 qs2 q94 ⟨(Nat.le_of_ble_eq_true rfl), (Nat.le_of_ble_eq_true rfl)⟩ rfl hl.1 rfl (Nat.le_of_ble_eq_true rfl) dX0_copy_154 ⟨(Nat.le_of_ble_eq_true rfl), (Nat.le_of_ble_eq_true rfl)⟩) (fun r127 C126 H locs hs9 hI => ?_)
              replace hs := hs9
              exact vx_ret (x_reti X hK hI hs (Nat.le_of_ble_eq_true rfl) (Nat.le_of_ble_eq_true rfl) dX0_copy_157)
            · replace hs := hs9
              refine lv_astore (lv' := [(8, .ref ad93), (0, .ref a0), (3, .int a3), (4, .int a4), (5, .int a5), (6, .ref ad2), (7, .ref ad5)]) hx hb dX0_copy_90 hl (by decide) rfl (fun ls hl => ?_)
              refine lv_aload hx hb dX0_copy_92 (lv_at hl 6 rfl) ?_
              obtain ⟨h96, hs⟩ := hs
              obtain ⟨fh96, h96⟩ := xcl_spec h96
              refine xT_gor hA hI (x_runVTW (As := []) (rest := []) X hK hA hG hI h96 (q := (RX5, TX5, 1)) rfl rfl (xet_X5_row l hl0 ad5 _ _ _ hs) iX5_row q546 q547 q548 q99 ⟨(Nat.le_of_ble_eq_true rfl), (Nat.le_of_ble_eq_true rfl)⟩ rfl hl.1 rfl (Nat.le_of_ble_eq_true rfl) dX0_copy_94 ⟨(Nat.le_of_ble_eq_true rfl), (Nat.le_of_ble_eq_true rfl)⟩) (fun En ce ad119 C120 H locs hs9 hI hce hvm hcl => ?_) (fun ad96 C95 H locs hs9 hI => ?_)
              · obtain ⟨rfl, hs0⟩ := hs9
                replace hs := hs0
                refine x_catch (k := 1) (a1 := 0) (a2 := 148) (a3 := 149) (a4 := 21) X hG hT rfl (x_cov rfl) rfl (by decide) q363 (by decide) hce hvm hcl ?_
                refine lv_astore (lv' := [(6, .ref ad119), (8, .ref ad93), (0, .ref a0), (3, .int a3), (4, .int a4), (5, .int a5), (7, .ref ad5)]) hx hb dX0_copy_149 hl (by decide) rfl (fun ls hl => ?_)
                refine lv_aload_n hx hb dX0_copy_151 rfl (lv_at hl 2 rfl) ?_
                refine lv_aload hx hb dX0_copy_152 (lv_at hl 0 rfl) ?_
                obtain ⟨h122, hs⟩ := hs
                obtain ⟨fh122, h122⟩ := xcl_spec h122
                refine x_goi hA hI (x_runV (As := [.ref ad119]) (rest := []) X hK hA hG hI h122 (q := (RX0, TX0, 10)) rfl rfl (xet_X0_refused l a0 ad119 _ _ hs) iX0_refused q538 q540 qs2 q94 ⟨(Nat.le_of_ble_eq_true rfl), (Nat.le_of_ble_eq_true rfl)⟩ rfl hl.1 rfl (Nat.le_of_ble_eq_true rfl) dX0_copy_154 ⟨(Nat.le_of_ble_eq_true rfl), (Nat.le_of_ble_eq_true rfl)⟩) (fun r122 C121 H locs hs9 hI => ?_)
                replace hs := hs9
                exact vx_ret (x_reti X hK hI hs (Nat.le_of_ble_eq_true rfl) (Nat.le_of_ble_eq_true rfl) dX0_copy_157)
              · replace hs := hs9
                refine lv_astore (lv' := [(9, .ref ad96), (8, .ref ad93), (0, .ref a0), (3, .int a3), (4, .int a4), (5, .int a5), (6, .ref ad2), (7, .ref ad5)]) hx hb dX0_copy_97 hl (by decide) rfl (fun ls hl => ?_)
                refine lv_iload hx hb dX0_copy_99 (lv_at hl 5 rfl) ?_
                obtain ⟨k109_98, hk109_98, hs⟩ := jn_ex hs
                have Ek109_98 : ∀ (v98 : Int32) (H : Heap) (locs : List Loc) (ls : Array Slot), k109_98 v98 → xI D dT A s.heap C95 H locs → lv_has ls 11 [(0, .ref a0), (3, .int a3), (4, .int a4), (5, .int a5), (8, .ref ad93), (9, .ref ad96)] → W p l e (xRm 13 10322 35 7168) s m args below meth c H locs 30 6144 (vx_MQ below (xQi D dT K A) (xXC D dT xE0 A) args s 35 7168 A) (F0 m 109 ls [.int v98]) := by
                  intro v98 H locs ls hs hI hl
                  rw [hk109_98] at hs
                  refine lv_bipush (v := (-4)) hx hb dX0_copy_109 (by decide) ?_
                  refine xT_gov hA hI (x_runST (As := [.int v98, .int (-4)]) (rest := []) X hK hA hG hI (xet_X0_need l hl0 v98 (-4) _ _ _ hs) iX0_need q469 q470 q94 ⟨(Nat.le_of_ble_eq_true rfl), (Nat.le_of_ble_eq_true rfl)⟩ rfl hl.1 rfl (Nat.le_of_ble_eq_true rfl) dX0_copy_111 ⟨(Nat.le_of_ble_eq_true rfl), (Nat.le_of_ble_eq_true rfl)⟩) (fun En ce ad113 C114 H locs hs9 hI hce hvm hcl => ?_) (fun C99 H locs hs9 hI => ?_)
                  · obtain ⟨rfl, hs0⟩ := hs9
                    replace hs := hs0
                    refine x_catch (k := 1) (a1 := 0) (a2 := 148) (a3 := 149) (a4 := 21) X hG hT rfl (x_cov rfl) rfl (by decide) q363 (by decide) hce hvm hcl ?_
                    refine lv_astore (lv' := [(6, .ref ad113), (0, .ref a0), (3, .int a3), (4, .int a4), (5, .int a5), (8, .ref ad93), (9, .ref ad96)]) hx hb dX0_copy_149 hl (by decide) rfl (fun ls hl => ?_)
                    refine lv_aload_n hx hb dX0_copy_151 rfl (lv_at hl 1 rfl) ?_
                    refine lv_aload hx hb dX0_copy_152 (lv_at hl 0 rfl) ?_
                    obtain ⟨h116, hs⟩ := hs
                    obtain ⟨fh116, h116⟩ := xcl_spec h116
                    refine x_goi hA hI (x_runV (As := [.ref ad113]) (rest := []) X hK hA hG hI h116 (q := (RX0, TX0, 10)) rfl rfl (xet_X0_refused l a0 ad113 _ _ hs) iX0_refused q538 q540 qs2 q94 ⟨(Nat.le_of_ble_eq_true rfl), (Nat.le_of_ble_eq_true rfl)⟩ rfl hl.1 rfl (Nat.le_of_ble_eq_true rfl) dX0_copy_154 ⟨(Nat.le_of_ble_eq_true rfl), (Nat.le_of_ble_eq_true rfl)⟩) (fun r116 C115 H locs hs9 hI => ?_)
                    replace hs := hs9
                    exact vx_ret (x_reti X hK hI hs (Nat.le_of_ble_eq_true rfl) (Nat.le_of_ble_eq_true rfl) dX0_copy_157)
                  · replace hs := hs9
                    refine lv_aload hx hb dX0_copy_114 (lv_at hl 4 rfl) ?_
                    refine x_gor hA hI (vdc_X8_held (rest := []) X hK hA hG hI ad93 _ hs q608 ⟨(Nat.le_of_ble_eq_true rfl), (Nat.le_of_ble_eq_true rfl)⟩ hl.1 (Nat.le_of_ble_eq_true rfl) dX0_copy_116 ⟨(Nat.le_of_ble_eq_true rfl), (Nat.le_of_ble_eq_true rfl)⟩) (fun ad101 C100 H locs hs9 hI => ?_)
                    replace hs := hs9
                    refine lv_iload_n hx hb dX0_copy_119 rfl (lv_at hl 1 rfl) ?_
                    refine lv_aload hx hb dX0_copy_120 (lv_at hl 5 rfl) ?_
                    refine x_gor hA hI (vdc_X8_held (rest := [.int a3, .ref ad101]) X hK hA hG hI ad96 _ hs q608 ⟨(Nat.le_of_ble_eq_true rfl), (Nat.le_of_ble_eq_true rfl)⟩ hl.1 (Nat.le_of_ble_eq_true rfl) dX0_copy_122 ⟨(Nat.le_of_ble_eq_true rfl), (Nat.le_of_ble_eq_true rfl)⟩) (fun ad103 C102 H locs hs9 hI => ?_)
                    replace hs := hs9
                    refine lv_iload hx hb dX0_copy_125 (lv_at hl 2 rfl) ?_
                    refine lv_iload hx hb dX0_copy_127 (lv_at hl 3 rfl) ?_
                    refine x_cpT (rest := []) X hK hG hI q623 hs hl0 hl.1 (Nat.le_of_ble_eq_true rfl) (Nat.le_of_ble_eq_true rfl) (Nat.le_of_ble_eq_true rfl) (Nat.le_of_ble_eq_true rfl) dX0_copy_129 (fun ce ad104 H hs9 hI hce hvm hcl => ?_) (fun C105 H locs hs9 hI => ?_)
                    · replace hs := hs9
                      refine x_catch (k := 0) (a1 := 114) (a2 := 132) (a3 := 135) (a4 := 179) X hG hT rfl (x_cov rfl) rfl (by decide) q587 (by decide) hce hvm hcl ?_
                      refine lv_astore (lv' := [(10, .ref ad104), (0, .ref a0), (3, .int a3), (4, .int a4), (5, .int a5), (8, .ref ad93), (9, .ref ad96)]) hx hb dX0_copy_135 hl (by decide) rfl (fun ls hl => ?_)
                      refine x_new X hK hI hA 7 (fs := [.null, .null, .null, .null, .null, .int 0, .int 0]) rfl in_X7 tyX7 tyX7_ok q363 q446 q107 rfl (Nat.le_of_ble_eq_true rfl) (Nat.le_of_ble_eq_true rfl) hs dX0_copy_137 (fun ad106 C107 H hs9 hI => ?_)
                      replace hs := hs9
                      refine lv_dup hx hb dX0_copy_140 rfl ?_
                      refine lv_bipush (v := (-5)) hx hb dX0_copy_141 (by decide) ?_
                      refine x_gov hA hI (x_runI (As := [.int (-5)]) (rest := [.ref ad106]) X hK hA hG hI (xet_X7_init l ad106 (-5) _ _ hs) iX7_init rfl q454 q455 q107 ⟨(Nat.le_of_ble_eq_true rfl), (Nat.le_of_ble_eq_true rfl)⟩ rfl hl.1 rfl (Nat.le_of_ble_eq_true rfl) dX0_copy_143 ⟨(Nat.le_of_ble_eq_true rfl), (Nat.le_of_ble_eq_true rfl)⟩) (fun C108 H locs hs9 hI => ?_)
                      replace hs := hs9
                      obtain ⟨hf108, hs⟩ := hs
                      obtain ⟨f108, hf108⟩ := xcl_spec hf108
                      obtain ⟨ce, hce, hvm, hcl⟩ := x_thrown hK hI hf108 rfl
                      refine vx_athrow hx hb dX0_copy_146 ?_
                      refine x_catch (k := 1) (a1 := 0) (a2 := 148) (a3 := 149) (a4 := 21) X hG hT rfl (x_cov rfl) rfl (by decide) q363 (by decide) hce hvm hcl ?_
                      refine lv_astore (lv' := [(6, .ref ad106), (10, .ref ad104), (0, .ref a0), (3, .int a3), (4, .int a4), (5, .int a5), (8, .ref ad93), (9, .ref ad96)]) hx hb dX0_copy_149 hl (by decide) rfl (fun ls hl => ?_)
                      refine lv_aload_n hx hb dX0_copy_151 rfl (lv_at hl 2 rfl) ?_
                      refine lv_aload hx hb dX0_copy_152 (lv_at hl 0 rfl) ?_
                      obtain ⟨h111, hs⟩ := hs
                      obtain ⟨fh111, h111⟩ := xcl_spec h111
                      refine x_goi hA hI (x_runV (As := [.ref ad106]) (rest := []) X hK hA hG hI h111 (q := (RX0, TX0, 10)) rfl rfl (xet_X0_refused l a0 ad106 _ _ hs) iX0_refused q538 q540 qs2 q94 ⟨(Nat.le_of_ble_eq_true rfl), (Nat.le_of_ble_eq_true rfl)⟩ rfl hl.1 rfl (Nat.le_of_ble_eq_true rfl) dX0_copy_154 ⟨(Nat.le_of_ble_eq_true rfl), (Nat.le_of_ble_eq_true rfl)⟩) (fun r111 C110 H locs hs9 hI => ?_)
                      replace hs := hs9
                      exact vx_ret (x_reti X hK hI hs (Nat.le_of_ble_eq_true rfl) (Nat.le_of_ble_eq_true rfl) dX0_copy_157)
                    · replace hs := hs9
                      refine lv_goto (tgt := 147) hx hb dX0_copy_132 (by decide) ?_
                      refine lv_iconst (v := 1) hx hb dX0_copy_147 (by decide) ?_
                      exact vx_ret (x_reti X hK hI hs (Nat.le_of_ble_eq_true rfl) (Nat.le_of_ble_eq_true rfl) dX0_copy_148)
                refine lv_if_lt (tgt := 108) hx hb dX0_copy_101 (by decide) (fun c117 => ?_) (fun c117 => ?_)
                · replace hs := ifp c117 hs
                  refine lv_iconst (v := 0) hx hb dX0_copy_108 (by decide) ?_
                  exact Ek109_98 _ _ _ _ hs hI (lv_sub hl [2, 3, 4, 5, 1, 0] rfl)
                · replace hs := ifn c117 hs
                  refine lv_iconst (v := 1) hx hb dX0_copy_104 (by decide) ?_
                  refine lv_goto (tgt := 109) hx hb dX0_copy_105 (by decide) ?_
                  exact Ek109_98 _ _ _ _ hs hI (lv_sub hl [2, 3, 4, 5, 1, 0] rfl)
          obtain ⟨nad129, rad129⟩ := hs
          have hlad129 := hl
          rcases o90 with _ | ad129
          · have hs := nad129 rfl
            have hl := hlad129
            refine lv_ifnullN (tgt := 85) hx hb dX0_copy_45 (by decide) ?_
            exact W.widen (Nat.le_of_ble_eq_true rfl) (Nat.le_of_ble_eq_true rfl) (Ek85_91 _ _ _ _ hs hI hl)
          · have hs := rad129 ad129 rfl
            have hl := hlad129
            refine lv_ifnull hx hb dX0_copy_45 ?_
            refine lv_aload hx hb dX0_copy_48 (lv_at hl 5 rfl) ?_
            obtain ⟨o130, eo130, hs⟩ := hs
            refine x_get (v := va_rf o130) X hK hI 5 0 rfl in_X5 rfl q324 rfl (xgo_spec eo130) dX0_copy_50 ?_
            obtain ⟨nad131, rad131⟩ := hs
            have hlad131 := hl
            rcases o130 with _ | ad131
            · have hs := nad131 rfl
              have hl := hlad131
              refine lv_ifnullN (tgt := 85) hx hb dX0_copy_53 (by decide) ?_
              exact W.widen (Nat.le_of_ble_eq_true rfl) (Nat.le_of_ble_eq_true rfl) (Ek85_91 _ _ _ _ hs hI hl)
            · have hs := rad131 ad131 rfl
              have hl := hlad131
              refine lv_ifnull hx hb dX0_copy_53 ?_
              refine lv_aload hx hb dX0_copy_56 (lv_at hl 4 rfl) ?_
              obtain ⟨h133, hs⟩ := hs
              obtain ⟨fh133, h133⟩ := xcl_spec h133
              refine xT_gor hA hI (x_runVTW (As := []) (rest := []) X hK hA hG hI h133 (q := (RX5, TX5, 1)) rfl rfl (xet_X5_row l hl0 ad2 _ _ _ hs) iX5_row q546 q547 q548 q99 ⟨(Nat.le_of_ble_eq_true rfl), (Nat.le_of_ble_eq_true rfl)⟩ rfl hl.1 rfl (Nat.le_of_ble_eq_true rfl) dX0_copy_58 ⟨(Nat.le_of_ble_eq_true rfl), (Nat.le_of_ble_eq_true rfl)⟩) (fun En ce ad155 C156 H locs hs9 hI hce hvm hcl => ?_) (fun ad133 C132 H locs hs9 hI => ?_)
              · obtain ⟨rfl, hs0⟩ := hs9
                replace hs := hs0
                refine x_catch (k := 1) (a1 := 0) (a2 := 148) (a3 := 149) (a4 := 21) X hG hT rfl (x_cov rfl) rfl (by decide) q363 (by decide) hce hvm hcl ?_
                refine lv_astore (lv' := [(6, .ref ad155), (0, .ref a0), (3, .int a3), (4, .int a4), (5, .int a5), (7, .ref ad5)]) hx hb dX0_copy_149 hl (by decide) rfl (fun ls hl => ?_)
                refine lv_aload_n hx hb dX0_copy_151 rfl (lv_at hl 1 rfl) ?_
                refine lv_aload hx hb dX0_copy_152 (lv_at hl 0 rfl) ?_
                obtain ⟨h158, hs⟩ := hs
                obtain ⟨fh158, h158⟩ := xcl_spec h158
                refine x_goi hA hI (x_runV (As := [.ref ad155]) (rest := []) X hK hA hG hI h158 (q := (RX0, TX0, 10)) rfl rfl (xet_X0_refused l a0 ad155 _ _ hs) iX0_refused q538 q540 qs2 q94 ⟨(Nat.le_of_ble_eq_true rfl), (Nat.le_of_ble_eq_true rfl)⟩ rfl hl.1 rfl (Nat.le_of_ble_eq_true rfl) dX0_copy_154 ⟨(Nat.le_of_ble_eq_true rfl), (Nat.le_of_ble_eq_true rfl)⟩) (fun r158 C157 H locs hs9 hI => ?_)
                replace hs := hs9
                exact vx_ret (x_reti X hK hI hs (Nat.le_of_ble_eq_true rfl) (Nat.le_of_ble_eq_true rfl) dX0_copy_157)
              · replace hs := hs9
                refine x_goi hA hI (vdc_X8_sort (rest := []) X hK hA hG hI ad133 _ hs q593 ⟨(Nat.le_of_ble_eq_true rfl), (Nat.le_of_ble_eq_true rfl)⟩ hl.1 (Nat.le_of_ble_eq_true rfl) dX0_copy_61 ⟨(Nat.le_of_ble_eq_true rfl), (Nat.le_of_ble_eq_true rfl)⟩) (fun r136 C135 H locs hs9 hI => ?_)
                replace hs := hs9
                refine lv_aload hx hb dX0_copy_64 (lv_at hl 5 rfl) ?_
                obtain ⟨h138, hs⟩ := hs
                obtain ⟨fh138, h138⟩ := xcl_spec h138
                refine xT_gor hA hI (x_runVTW (As := []) (rest := [.int r136]) X hK hA hG hI h138 (q := (RX5, TX5, 1)) rfl rfl (xet_X5_row l hl0 ad5 _ _ _ hs) iX5_row q546 q547 q548 q99 ⟨(Nat.le_of_ble_eq_true rfl), (Nat.le_of_ble_eq_true rfl)⟩ rfl hl.1 rfl (Nat.le_of_ble_eq_true rfl) dX0_copy_66 ⟨(Nat.le_of_ble_eq_true rfl), (Nat.le_of_ble_eq_true rfl)⟩) (fun En ce ad150 C151 H locs hs9 hI hce hvm hcl => ?_) (fun ad138 C137 H locs hs9 hI => ?_)
                · obtain ⟨rfl, hs0⟩ := hs9
                  replace hs := hs0
                  refine x_catch (k := 1) (a1 := 0) (a2 := 148) (a3 := 149) (a4 := 21) X hG hT rfl (x_cov rfl) rfl (by decide) q363 (by decide) hce hvm hcl ?_
                  refine lv_astore (lv' := [(6, .ref ad150), (0, .ref a0), (3, .int a3), (4, .int a4), (5, .int a5), (7, .ref ad5)]) hx hb dX0_copy_149 hl (by decide) rfl (fun ls hl => ?_)
                  refine lv_aload_n hx hb dX0_copy_151 rfl (lv_at hl 1 rfl) ?_
                  refine lv_aload hx hb dX0_copy_152 (lv_at hl 0 rfl) ?_
                  obtain ⟨h153, hs⟩ := hs
                  obtain ⟨fh153, h153⟩ := xcl_spec h153
                  refine x_goi hA hI (x_runV (As := [.ref ad150]) (rest := []) X hK hA hG hI h153 (q := (RX0, TX0, 10)) rfl rfl (xet_X0_refused l a0 ad150 _ _ hs) iX0_refused q538 q540 qs2 q94 ⟨(Nat.le_of_ble_eq_true rfl), (Nat.le_of_ble_eq_true rfl)⟩ rfl hl.1 rfl (Nat.le_of_ble_eq_true rfl) dX0_copy_154 ⟨(Nat.le_of_ble_eq_true rfl), (Nat.le_of_ble_eq_true rfl)⟩) (fun r153 C152 H locs hs9 hI => ?_)
                  replace hs := hs9
                  exact vx_ret (x_reti X hK hI hs (Nat.le_of_ble_eq_true rfl) (Nat.le_of_ble_eq_true rfl) dX0_copy_157)
                · replace hs := hs9
                  refine x_goi hA hI (vdc_X8_sort (rest := [.int r136]) X hK hA hG hI ad138 _ hs q593 ⟨(Nat.le_of_ble_eq_true rfl), (Nat.le_of_ble_eq_true rfl)⟩ hl.1 (Nat.le_of_ble_eq_true rfl) dX0_copy_69 ⟨(Nat.le_of_ble_eq_true rfl), (Nat.le_of_ble_eq_true rfl)⟩) (fun r141 C140 H locs hs9 hI => ?_)
                  replace hs := hs9
                  obtain ⟨k80_142, hk80_142, hs⟩ := jn_ex hs
                  have Ek80_142 : ∀ (v142 : Int32) (H : Heap) (locs : List Loc) (ls : Array Slot), k80_142 v142 → xI D dT A s.heap C140 H locs → lv_has ls 11 [(0, .ref a0), (3, .int a3), (4, .int a4), (5, .int a5), (6, .ref ad2), (7, .ref ad5)] → W p l e (xRm 13 10322 35 7168) s m args below meth c H locs 19 4089 (vx_MQ below (xQi D dT K A) (xXC D dT xE0 A) args s 35 7168 A) (F0 m 80 ls [.int v142]) := by
                    intro v142 H locs ls hs hI hl
                    rw [hk80_142] at hs
                    refine lv_bipush (v := (-2)) hx hb dX0_copy_80 (by decide) ?_
                    refine xT_gov hA hI (x_runST (As := [.int v142, .int (-2)]) (rest := []) X hK hA hG hI (xet_X0_need l hl0 v142 (-2) _ _ _ hs) iX0_need q469 q470 q94 ⟨(Nat.le_of_ble_eq_true rfl), (Nat.le_of_ble_eq_true rfl)⟩ rfl hl.1 rfl (Nat.le_of_ble_eq_true rfl) dX0_copy_82 ⟨(Nat.le_of_ble_eq_true rfl), (Nat.le_of_ble_eq_true rfl)⟩) (fun En ce ad144 C145 H locs hs9 hI hce hvm hcl => ?_) (fun C143 H locs hs9 hI => ?_)
                    · obtain ⟨rfl, hs0⟩ := hs9
                      replace hs := hs0
                      refine x_catch (k := 1) (a1 := 0) (a2 := 148) (a3 := 149) (a4 := 21) X hG hT rfl (x_cov rfl) rfl (by decide) q363 (by decide) hce hvm hcl ?_
                      refine lv_astore (lv' := [(6, .ref ad144), (0, .ref a0), (3, .int a3), (4, .int a4), (5, .int a5), (7, .ref ad5)]) hx hb dX0_copy_149 hl (by decide) rfl (fun ls hl => ?_)
                      refine lv_aload_n hx hb dX0_copy_151 rfl (lv_at hl 1 rfl) ?_
                      refine lv_aload hx hb dX0_copy_152 (lv_at hl 0 rfl) ?_
                      obtain ⟨h147, hs⟩ := hs
                      obtain ⟨fh147, h147⟩ := xcl_spec h147
                      refine x_goi hA hI (x_runV (As := [.ref ad144]) (rest := []) X hK hA hG hI h147 (q := (RX0, TX0, 10)) rfl rfl (xet_X0_refused l a0 ad144 _ _ hs) iX0_refused q538 q540 qs2 q94 ⟨(Nat.le_of_ble_eq_true rfl), (Nat.le_of_ble_eq_true rfl)⟩ rfl hl.1 rfl (Nat.le_of_ble_eq_true rfl) dX0_copy_154 ⟨(Nat.le_of_ble_eq_true rfl), (Nat.le_of_ble_eq_true rfl)⟩) (fun r147 C146 H locs hs9 hI => ?_)
                      replace hs := hs9
                      exact vx_ret (x_reti X hK hI hs (Nat.le_of_ble_eq_true rfl) (Nat.le_of_ble_eq_true rfl) dX0_copy_157)
                    · replace hs := hs9
                      exact Ek85_91 _ _ _ _ hs hI hl
                  refine lv_icmp_ne (tgt := 79) hx hb dX0_copy_72 (by decide) (fun c148 => ?_) (fun c148 => ?_)
                  · replace hs := ifn c148 hs
                    refine lv_iconst (v := 0) hx hb dX0_copy_79 (by decide) ?_
                    exact Ek80_142 _ _ _ _ hs hI hl
                  · replace hs := ifp c148 hs
                    refine lv_iconst (v := 1) hx hb dX0_copy_75 (by decide) ?_
                    refine lv_goto (tgt := 80) hx hb dX0_copy_76 (by decide) ?_
                    exact Ek80_142 _ _ _ _ hs hI hl
      refine lv_if_ne (tgt := 34) hx hb dX0_copy_19 (by decide) (fun c168 => ?_) (fun c168 => ?_)
      · replace hs := ifn c168 hs
        exact Ek34_10 _ _ _ _ hs hI (lv_sub hl [2, 5, 6, 7, 1, 0] rfl)
      · replace hs := ifp c168 hs
        refine lv_aload hx hb dX0_copy_22 (lv_at hl 0 rfl) ?_
        obtain ⟨h166, hs⟩ := hs
        obtain ⟨fh166, h166⟩ := xcl_spec h166
        refine x_goz hA hI (x_runV (As := []) (rest := []) X hK hA hG hI h166 (q := (RX5, TX5, 1)) rfl rfl (xet_X5_holdsHopper l ad5 _ _ hs) iX5_holdsHopper q588 q589 q590 q99 ⟨(Nat.le_of_ble_eq_true rfl), (Nat.le_of_ble_eq_true rfl)⟩ rfl hl.1 rfl (Nat.le_of_ble_eq_true rfl) dX0_copy_24 ⟨(Nat.le_of_ble_eq_true rfl), (Nat.le_of_ble_eq_true rfl)⟩) (fun r166 C165 H locs br166 hs9 hI => ?_)
        replace hs := hs9
        refine lv_if_ne (tgt := 34) hx hb dX0_copy_27 (by decide) (fun c167 => ?_) (fun c167 => ?_)
        · replace hs := ifn c167 hs
          exact Ek34_10 _ _ _ _ hs hI (lv_sub hl [2, 5, 6, 7, 1, 0] rfl)
        · replace hs := ifp c167 hs
          refine lv_iconst (v := 1) hx hb dX0_copy_30 (by decide) ?_
          refine lv_goto (tgt := 35) hx hb dX0_copy_31 (by decide) ?_
          exact Ek35_88 _ _ _ _ _ hs hI (lv_sub hl [2, 5, 6, 7, 1, 0] rfl)
def x_X9_getT (a0 : Nat) (a1 : Int32) (C : XH) (K : Int64 → XH → Prop) (E : Nat → XH → Prop) : Prop := obd (xgr C (xis 9) a0 0) (fun ad1 => xaiT C 2 ad1 a1 (fun v3 => K ((v3 : Int32).toInt64) C) (fun ad2 => E ad2 C))
theorem iX9_getT : xInf yX9_get cX9_get 2 (some .long) 1 := ⟨q635, by decide +kernel⟩
set_option maxHeartbeats 4000000 in
theorem xet_X9_getT (l : Launch) (hl0 : l.stackTraces = false) (a0 : Nat) (a1 : Int32) (C : XH) (K : Int64 → XH → Prop) (E : Nat → XH → Prop) (hs : x_X9_getT a0 a1 C K E) : xMetX l yX9_get (ws_ yX9_get cX9_get 2 (some .long)) 12 10300 3 1010 C [.ref a0, .int a1] (fun D dT A => xQl D dT K A) (xEK "java/lang/ArrayIndexOutOfBoundsException" E) := by
  intro D dT adK adV sz
  refine xEnterT (own := RX9) (Qc := xQl D dT K) (XC := xXC D dT (xEK "java/lang/ArrayIndexOutOfBoundsException" E)) (by decide) rfl (by rfl) ?_
  intro p e s m args below meth c A ls X hnm hK hA hG hT hI hl
  have hx := X.1
  have hb := X.2.1
  have hts := X.2.2.2.2.1
  have hown := X.2.2.2.2.2.1
  have hl : lv_has ls 2 [(0, .ref a0), (1, .int a1)] := hl
  unfold x_X9_getT at hs
  refine lv_aload_n hx hb dX9_get_0 rfl (lv_at hl 0 rfl) ?_
  obtain ⟨ad1, ead1, hs⟩ := hs
  refine x_get (v := .ref ad1) X hK hI 9 0 rfl in_X9 rfl q502 rfl (xgr_spec ead1) dX9_get_1 ?_
  refine lv_iload_n hx hb dX9_get_4 rfl (lv_at hl 1 rfl) ?_
  refine x_baldT X hK hG hI hs hl0 hl.1 (Nat.le_of_ble_eq_true rfl) (Nat.le_of_ble_eq_true rfl) (Nat.le_of_ble_eq_true rfl) (Nat.le_of_ble_eq_true rfl) dX9_get_5 (fun ce ad2 H hs9 hI hce hvm hcl => ?_) (fun v3 hs9 => ?_)
  · replace hs := hs9
    exact x_pass X hK hT rfl hI hce hvm hcl ⟨rfl, hs⟩ (Nat.le_of_ble_eq_true rfl) (Nat.le_of_ble_eq_true rfl)
  · replace hs := hs9
    refine lv_i2l (v := ((v3 : Int32).toInt64)) hx hb dX9_get_6 rfl ?_
    exact vx_ret (x_retl X hK hI hs (Nat.le_of_ble_eq_true rfl) (Nat.le_of_ble_eq_true rfl) dX9_get_7)
def x_X11_getT (a0 : Nat) (a1 : Int32) (C : XH) (K : Int64 → XH → Prop) (E : Nat → XH → Prop) : Prop := obd (xgr C (xis 11) a0 0) (fun ad1 => xaiT C 0 ad1 a1 (fun v3 => K ((v3 : Int32).toInt64) C) (fun ad2 => E ad2 C))
theorem iX11_getT : xInf yX11_get cX11_get 2 (some .long) 1 := ⟨q638, by decide +kernel⟩
set_option maxHeartbeats 4000000 in
theorem xet_X11_getT (l : Launch) (hl0 : l.stackTraces = false) (a0 : Nat) (a1 : Int32) (C : XH) (K : Int64 → XH → Prop) (E : Nat → XH → Prop) (hs : x_X11_getT a0 a1 C K E) : xMetX l yX11_get (ws_ yX11_get cX11_get 2 (some .long)) 12 10300 3 1010 C [.ref a0, .int a1] (fun D dT A => xQl D dT K A) (xEK "java/lang/ArrayIndexOutOfBoundsException" E) := by
  intro D dT adK adV sz
  refine xEnterT (own := RX11) (Qc := xQl D dT K) (XC := xXC D dT (xEK "java/lang/ArrayIndexOutOfBoundsException" E)) (by decide) rfl (by rfl) ?_
  intro p e s m args below meth c A ls X hnm hK hA hG hT hI hl
  have hx := X.1
  have hb := X.2.1
  have hts := X.2.2.2.2.1
  have hown := X.2.2.2.2.2.1
  have hl : lv_has ls 2 [(0, .ref a0), (1, .int a1)] := hl
  unfold x_X11_getT at hs
  refine lv_aload_n hx hb dX11_get_0 rfl (lv_at hl 0 rfl) ?_
  obtain ⟨ad1, ead1, hs⟩ := hs
  refine x_get (v := .ref ad1) X hK hI 11 0 rfl in_X11 rfl q523 rfl (xgr_spec ead1) dX11_get_1 ?_
  refine lv_iload_n hx hb dX11_get_4 rfl (lv_at hl 1 rfl) ?_
  refine x_ialdT X hK hG hI hs hl0 hl.1 (Nat.le_of_ble_eq_true rfl) (Nat.le_of_ble_eq_true rfl) (Nat.le_of_ble_eq_true rfl) (Nat.le_of_ble_eq_true rfl) dX11_get_5 (fun ce ad2 H hs9 hI hce hvm hcl => ?_) (fun v3 hs9 => ?_)
  · replace hs := hs9
    exact x_pass X hK hT rfl hI hce hvm hcl ⟨rfl, hs⟩ (Nat.le_of_ble_eq_true rfl) (Nat.le_of_ble_eq_true rfl)
  · replace hs := hs9
    refine lv_i2l (v := ((v3 : Int32).toInt64)) hx hb dX11_get_6 rfl ?_
    exact vx_ret (x_retl X hK hI hs (Nat.le_of_ble_eq_true rfl) (Nat.le_of_ble_eq_true rfl) dX11_get_7)
def x_X12_getT (a0 : Nat) (a1 : Int32) (C : XH) (K : Int64 → XH → Prop) (E : Nat → XH → Prop) : Prop := obd (xgr C (xis 12) a0 0) (fun ad1 => xalT C ad1 a1 (fun v3 => K v3 C) (fun ad2 => E ad2 C))
theorem iX12_getT : xInf yX12_get cX12_get 2 (some .long) 1 := ⟨q641, by decide +kernel⟩
set_option maxHeartbeats 4000000 in
theorem xet_X12_getT (l : Launch) (hl0 : l.stackTraces = false) (a0 : Nat) (a1 : Int32) (C : XH) (K : Int64 → XH → Prop) (E : Nat → XH → Prop) (hs : x_X12_getT a0 a1 C K E) : xMetX l yX12_get (ws_ yX12_get cX12_get 2 (some .long)) 12 10300 3 1010 C [.ref a0, .int a1] (fun D dT A => xQl D dT K A) (xEK "java/lang/ArrayIndexOutOfBoundsException" E) := by
  intro D dT adK adV sz
  refine xEnterT (own := RX12) (Qc := xQl D dT K) (XC := xXC D dT (xEK "java/lang/ArrayIndexOutOfBoundsException" E)) (by decide) rfl (by rfl) ?_
  intro p e s m args below meth c A ls X hnm hK hA hG hT hI hl
  have hx := X.1
  have hb := X.2.1
  have hts := X.2.2.2.2.1
  have hown := X.2.2.2.2.2.1
  have hl : lv_has ls 2 [(0, .ref a0), (1, .int a1)] := hl
  unfold x_X12_getT at hs
  refine lv_aload_n hx hb dX12_get_0 rfl (lv_at hl 0 rfl) ?_
  obtain ⟨ad1, ead1, hs⟩ := hs
  refine x_get (v := .ref ad1) X hK hI 12 0 rfl in_X12 rfl q533 rfl (xgr_spec ead1) dX12_get_1 ?_
  refine lv_iload_n hx hb dX12_get_4 rfl (lv_at hl 1 rfl) ?_
  refine x_laldT X hK hG hI hs hl0 hl.1 (Nat.le_of_ble_eq_true rfl) (Nat.le_of_ble_eq_true rfl) (Nat.le_of_ble_eq_true rfl) (Nat.le_of_ble_eq_true rfl) dX12_get_5 (fun ce ad2 H hs9 hI hce hvm hcl => ?_) (fun v3 hs9 => ?_)
  · replace hs := hs9
    exact x_pass X hK hT rfl hI hce hvm hcl ⟨rfl, hs⟩ (Nat.le_of_ble_eq_true rfl) (Nat.le_of_ble_eq_true rfl)
  · replace hs := hs9
    exact vx_ret (x_retl X hK hI hs (Nat.le_of_ble_eq_true rfl) (Nat.le_of_ble_eq_true rfl) dX12_get_6)
def x_X10_getT (a0 : Nat) (a1 : Int32) (C : XH) (K : Int64 → XH → Prop) (E : Nat → XH → Prop) : Prop := obd (xgr C (xis 10) a0 0) (fun ad1 => xaiT C 3 ad1 a1 (fun v3 => K ((v3 : Int32).toInt64) C) (fun ad2 => E ad2 C))
theorem iX10_getT : xInf yX10_get cX10_get 2 (some .long) 1 := ⟨q644, by decide +kernel⟩
set_option maxHeartbeats 4000000 in
theorem xet_X10_getT (l : Launch) (hl0 : l.stackTraces = false) (a0 : Nat) (a1 : Int32) (C : XH) (K : Int64 → XH → Prop) (E : Nat → XH → Prop) (hs : x_X10_getT a0 a1 C K E) : xMetX l yX10_get (ws_ yX10_get cX10_get 2 (some .long)) 12 10300 3 1010 C [.ref a0, .int a1] (fun D dT A => xQl D dT K A) (xEK "java/lang/ArrayIndexOutOfBoundsException" E) := by
  intro D dT adK adV sz
  refine xEnterT (own := RX10) (Qc := xQl D dT K) (XC := xXC D dT (xEK "java/lang/ArrayIndexOutOfBoundsException" E)) (by decide) rfl (by rfl) ?_
  intro p e s m args below meth c A ls X hnm hK hA hG hT hI hl
  have hx := X.1
  have hb := X.2.1
  have hts := X.2.2.2.2.1
  have hown := X.2.2.2.2.2.1
  have hl : lv_has ls 2 [(0, .ref a0), (1, .int a1)] := hl
  unfold x_X10_getT at hs
  refine lv_aload_n hx hb dX10_get_0 rfl (lv_at hl 0 rfl) ?_
  obtain ⟨ad1, ead1, hs⟩ := hs
  refine x_get (v := .ref ad1) X hK hI 10 0 rfl in_X10 rfl q512 rfl (xgr_spec ead1) dX10_get_1 ?_
  refine lv_iload_n hx hb dX10_get_4 rfl (lv_at hl 1 rfl) ?_
  refine x_saldT X hK hG hI hs hl0 hl.1 (Nat.le_of_ble_eq_true rfl) (Nat.le_of_ble_eq_true rfl) (Nat.le_of_ble_eq_true rfl) (Nat.le_of_ble_eq_true rfl) dX10_get_5 (fun ce ad2 H hs9 hI hce hvm hcl => ?_) (fun v3 hs9 => ?_)
  · replace hs := hs9
    exact x_pass X hK hT rfl hI hce hvm hcl ⟨rfl, hs⟩ (Nat.le_of_ble_eq_true rfl) (Nat.le_of_ble_eq_true rfl)
  · replace hs := hs9
    refine lv_i2l (v := ((v3 : Int32).toInt64)) hx hb dX10_get_6 rfl ?_
    exact vx_ret (x_retl X hK hI hs (Nat.le_of_ble_eq_true rfl) (Nat.le_of_ble_eq_true rfl) dX10_get_7)
def vd_X8_getT (b : Nat) (a1 : Int32) (C : XH) (K : Int64 → XH → Prop) (E : Nat → XH → Prop) : Prop := obd (xcl C b) (fun ci => if ci = 9 then x_X9_getT b a1 C K E else if ci = 10 then x_X10_getT b a1 C K E else if ci = 11 then x_X11_getT b a1 C K E else if ci = 12 then x_X12_getT b a1 C K E else False)
theorem vdc_X8_getT {p : Program} {l : Launch} {e : Env} {R : Room} {s : State} {m : MethodId} {args : Array Value} {below : List Frame} {meth : Method} {c : Code} {H : Heap} {locs : List Loc} {cells slots : Nat} {own : String} {cc : ByteArray} {nL : Nat} {ret : Option FieldType} {pc : Nat} {ls : Array Slot} {rest : List Value} {D : va_G} {dT : Nat → ClassId} {adK adV : Nat → Nat} {A : Nat → Prop} {C : XH} {index : Nat} (X : xX p s m args meth c own cc nL ret) (hK : va_K D aCl (aT dT) s) (hA : ∀ q : Nat, s.heap.size ≤ q → A q) (hG : xG adK adV A s s.heap) (hI : xI D dT A s.heap C H locs) (hl0 : l.stackTraces = false) (b : Nat) (a1 : Int32) (K : Int64 → XH → Prop) (E : Nat → XH → Prop) (hs : vd_X8_getT b a1 C K E) (w1 : Cond.methodLink own index ⟨RX8, "get", "(I)J"⟩ ∈ lw_all) (hR : 12 + 1 ≤ R.frames ∧ 8 + (0 + 11) + 10302 ≤ R.locals) (hsz : ls.size = nL) (hrm : (rest.map fun v => v.category).sum ≤ 8) (hdg : decode cc pc = .ok (.invokevirtual index, 3)) (hf : cells + 3 ≤ R.cells ∧ slots + 1010 ≤ R.slots) : xCtxX p l e R s m args below meth c H locs cells slots 3 1010 D dT C pc ls ([.int a1] ++ .ref b :: rest) rest (fun D dT A => xQl D dT K A) (xEK "java/lang/ArrayIndexOutOfBoundsException" E) (.ref b :: [.int a1]) := by
  obtain ⟨ci, hci, hs⟩ := hs
  obtain ⟨fs, hb⟩ := xcl_spec hci
  by_cases h9 : ci = 9
  · subst h9
    replace hs := ifp rfl hs
    exact x_runAT (As := [.int a1]) X hK hA hG hI hb (q := (RX9, TX9, 1)) rfl (xet_X9_getT l hl0 b a1 _ _ _ hs) iX9_getT RX8 w1 q632 (by decide) q633 q634 q110 (by decide +kernel) ⟨Nat.le_trans (Nat.le_of_ble_eq_true rfl) hR.1, Nat.le_trans (Nat.le_of_ble_eq_true rfl) hR.2⟩ rfl hsz rfl hrm hdg hf
  · replace hs := ifn h9 hs
    by_cases h10 : ci = 10
    · subst h10
      replace hs := ifp rfl hs
      exact x_runAT (As := [.int a1]) X hK hA hG hI hb (q := (RX10, TX10, 1)) rfl (xet_X10_getT l hl0 b a1 _ _ _ hs) iX10_getT RX8 w1 q632 (by decide) q642 q643 q111 (by decide +kernel) ⟨Nat.le_trans (Nat.le_of_ble_eq_true rfl) hR.1, Nat.le_trans (Nat.le_of_ble_eq_true rfl) hR.2⟩ rfl hsz rfl hrm hdg hf
    · replace hs := ifn h10 hs
      by_cases h11 : ci = 11
      · subst h11
        replace hs := ifp rfl hs
        exact x_runAT (As := [.int a1]) X hK hA hG hI hb (q := (RX11, TX11, 1)) rfl (xet_X11_getT l hl0 b a1 _ _ _ hs) iX11_getT RX8 w1 q632 (by decide) q636 q637 q112 (by decide +kernel) ⟨Nat.le_trans (Nat.le_of_ble_eq_true rfl) hR.1, Nat.le_trans (Nat.le_of_ble_eq_true rfl) hR.2⟩ rfl hsz rfl hrm hdg hf
      · replace hs := ifn h11 hs
        by_cases h12 : ci = 12
        · subst h12
          replace hs := ifp rfl hs
          exact x_runAT (As := [.int a1]) X hK hA hG hI hb (q := (RX12, TX12, 1)) rfl (xet_X12_getT l hl0 b a1 _ _ _ hs) iX12_getT RX8 w1 q632 (by decide) q639 q640 q113 (by decide +kernel) ⟨Nat.le_trans (Nat.le_of_ble_eq_true rfl) hR.1, Nat.le_trans (Nat.le_of_ble_eq_true rfl) hR.2⟩ rfl hsz rfl hrm hdg hf
        · replace hs := ifn h12 hs
          exact hs.elim
def x_X0_element (a0 : Nat) (a1 : Int32) (a2 : Int32) (C : XH) (K : Int64 → XH → Prop) : Prop := (xcl C a0 = some 0 ∧ x_X0_shelf a0 a1 C (fun ad2 C1 => (xcl C1 ad2 = some 5 ∧ x_X5_row ad2 C1 (fun ad5 C4 => vd_X8_getT ad5 a2 C4 (fun r8 C7 => K r8 C7) (fun ad9 C10 => K 0 C10)) (fun ad11 C12 => K 0 C12))) (fun ad13 C14 => K 0 C14))
theorem iX0_element : xInfW yX0_element cX0_element 4 (some .long) [(0, 12, 13, 21), (0, 12, 16, 110)] 2 := ⟨q629, by decide +kernel⟩
set_option maxHeartbeats 4000000 in
theorem xet_X0_element (l : Launch) (hl0 : l.stackTraces = false) (a0 : Nat) (a1 : Int32) (a2 : Int32) (C : XH) (K : Int64 → XH → Prop) (hs : x_X0_element a0 a1 a2 C K) : xMetX l yX0_element (wsW_ yX0_element cX0_element 4 (some .long) [(0, 12, 13, 21), (0, 12, 16, 110)]) 13 10322 12 3051 C [.ref a0, .int a1, .int a2] (fun D dT A => xQl D dT K A) xE0 := by
  intro D dT adK adV sz
  refine xEnterW (own := RX0) (Qc := xQl D dT K) (XC := xXC D dT xE0) (by decide) rfl (by rfl) ?_
  intro p e s m args below meth c A ls X hnm hK hA hG hT hI hl
  have hx := X.1
  have hb := X.2.1
  have hts := X.2.2.2.2.1
  have hown := X.2.2.2.2.2.1
  have hl : lv_has ls 4 [(0, .ref a0), (1, .int a1), (2, .int a2)] := hl
  unfold x_X0_element at hs
  refine lv_aload_n hx hb dX0_element_0 rfl (lv_at hl 0 rfl) ?_
  refine lv_iload_n hx hb dX0_element_1 rfl (lv_at hl 1 rfl) ?_
  obtain ⟨h2, hs⟩ := hs
  obtain ⟨fh2, h2⟩ := xcl_spec h2
  refine xT_gor hA hI (x_runVTW (As := [.int a1]) (rest := []) X hK hA hG hI h2 (q := (RX0, TX0, 10)) rfl rfl (xet_X0_shelf l hl0 a0 a1 _ _ _ hs) iX0_shelf q364 q366 qs0 q94 ⟨(Nat.le_of_ble_eq_true rfl), (Nat.le_of_ble_eq_true rfl)⟩ rfl hl.1 rfl (Nat.le_of_ble_eq_true rfl) dX0_element_2 ⟨(Nat.le_of_ble_eq_true rfl), (Nat.le_of_ble_eq_true rfl)⟩) (fun En ce ad13 C14 H locs hs9 hI hce hvm hcl => ?_) (fun ad2 C1 H locs hs9 hI => ?_)
  · obtain ⟨rfl, hs0⟩ := hs9
    replace hs := hs0
    refine x_catch (k := 0) (a1 := 0) (a2 := 12) (a3 := 13) (a4 := 21) X hG hT rfl (x_cov rfl) rfl (by decide) q363 (by decide) hce hvm hcl ?_
    refine lv_astore_n (lv' := [(3, .ref ad13), (0, .ref a0), (1, .int a1), (2, .int a2)]) hx hb dX0_element_13 rfl hl (by decide) rfl (fun ls hl => ?_)
    refine lv_lconst (v := 0) hx hb dX0_element_14 (by decide) ?_
    exact vx_ret (x_retl X hK hI hs (Nat.le_of_ble_eq_true rfl) (Nat.le_of_ble_eq_true rfl) dX0_element_15)
  · replace hs := hs9
    obtain ⟨h5, hs⟩ := hs
    obtain ⟨fh5, h5⟩ := xcl_spec h5
    refine xT_gor hA hI (x_runVTW (As := []) (rest := []) X hK hA hG hI h5 (q := (RX5, TX5, 1)) rfl rfl (xet_X5_row l hl0 ad2 _ _ _ hs) iX5_row q546 q547 q548 q99 ⟨(Nat.le_of_ble_eq_true rfl), (Nat.le_of_ble_eq_true rfl)⟩ rfl hl.1 rfl (Nat.le_of_ble_eq_true rfl) dX0_element_5 ⟨(Nat.le_of_ble_eq_true rfl), (Nat.le_of_ble_eq_true rfl)⟩) (fun En ce ad11 C12 H locs hs9 hI hce hvm hcl => ?_) (fun ad5 C4 H locs hs9 hI => ?_)
    · obtain ⟨rfl, hs0⟩ := hs9
      replace hs := hs0
      refine x_catch (k := 0) (a1 := 0) (a2 := 12) (a3 := 13) (a4 := 21) X hG hT rfl (x_cov rfl) rfl (by decide) q363 (by decide) hce hvm hcl ?_
      refine lv_astore_n (lv' := [(3, .ref ad11), (0, .ref a0), (1, .int a1), (2, .int a2)]) hx hb dX0_element_13 rfl hl (by decide) rfl (fun ls hl => ?_)
      refine lv_lconst (v := 0) hx hb dX0_element_14 (by decide) ?_
      exact vx_ret (x_retl X hK hI hs (Nat.le_of_ble_eq_true rfl) (Nat.le_of_ble_eq_true rfl) dX0_element_15)
    · replace hs := hs9
      refine lv_iload_n hx hb dX0_element_8 rfl (lv_at hl 2 rfl) ?_
      refine xT_gol hA hI (vdc_X8_getT (rest := []) X hK hA hG hI hl0 ad5 a2 _ _ hs q630 ⟨(Nat.le_of_ble_eq_true rfl), (Nat.le_of_ble_eq_true rfl)⟩ hl.1 (Nat.le_of_ble_eq_true rfl) dX0_element_9 ⟨(Nat.le_of_ble_eq_true rfl), (Nat.le_of_ble_eq_true rfl)⟩) (fun En ce ad9 C10 H locs hs9 hI hce hvm hcl => ?_) (fun r8 C7 H locs hs9 hI => ?_)
      · obtain ⟨rfl, hs0⟩ := hs9
        replace hs := hs0
        refine x_catch (k := 1) (a1 := 0) (a2 := 12) (a3 := 16) (a4 := 110) X hG hT rfl (by intro z hz; have hz : z ∈ tableOf [(0, 12, 13, 21)] := hz; simp only [tableOf, List.map_cons, List.map_nil, List.mem_cons, List.not_mem_nil, or_false] at hz; rcases hz with rfl; exact Or.inr ⟨by decide, RX7, q363, by decide⟩) rfl (by decide) q368 (by decide) hce hvm hcl ?_
        refine lv_astore_n (lv' := [(3, .ref ad9), (0, .ref a0), (1, .int a1), (2, .int a2)]) hx hb dX0_element_16 rfl hl (by decide) rfl (fun ls hl => ?_)
        refine lv_lconst (v := 0) hx hb dX0_element_17 (by decide) ?_
        exact vx_ret (x_retl X hK hI hs (Nat.le_of_ble_eq_true rfl) (Nat.le_of_ble_eq_true rfl) dX0_element_18)
      · replace hs := hs9
        exact vx_ret (x_retl X hK hI hs (Nat.le_of_ble_eq_true rfl) (Nat.le_of_ble_eq_true rfl) dX0_element_12)
def x_X4_isChild (a0 : Nat) (a1 : Int32) (C : XH) (K : Int32 → XH → Prop) : Prop := obd (xgi C (xis 4) a0 0) (fun v1 => x_X0_in ((a1 : Int32).toInt64) 0 (((v1 - 1) : Int32).toInt64) C (fun r3 C2 => K r3 C2))
theorem iX4_isChild : xInf yX4_isChild cX4_isChild 2 (some .boolean) 1 := ⟨q656, by decide +kernel⟩
set_option maxHeartbeats 4000000 in
theorem xet_X4_isChild (l : Launch) (a0 : Nat) (a1 : Int32) (C : XH) (K : Int32 → XH → Prop) (hs : x_X4_isChild a0 a1 C K) : xMetz l yX4_isChild (ws_ yX4_isChild cX4_isChild 2 (some .boolean)) 1 25 0 0 C [.ref a0, .int a1] K := by
  intro D dT adK adV sz
  refine xEnter (own := RX4) (Qc := xQz D dT K) (by decide) rfl (by rfl) ?_
  intro p e s m args below meth c A ls X hnm hK hA hG hI hl
  have hx := X.1
  have hb := X.2.1
  have hts := X.2.2.2.2.1
  have hown := X.2.2.2.2.2.1
  have hl : lv_has ls 2 [(0, .ref a0), (1, .int a1)] := hl
  unfold x_X4_isChild at hs
  refine lv_iload_n hx hb dX4_isChild_0 rfl (lv_at hl 1 rfl) ?_
  refine lv_i2l (v := ((a1 : Int32).toInt64)) hx hb dX4_isChild_1 rfl ?_
  refine lv_lconst (v := 0) hx hb dX4_isChild_2 (by decide) ?_
  refine lv_aload_n hx hb dX4_isChild_3 rfl (lv_at hl 0 rfl) ?_
  obtain ⟨v1, ev1, hs⟩ := hs
  refine x_get (v := .int v1) X hK hI 4 0 rfl in_X4 rfl q251 rfl (xgi_spec ev1) dX4_isChild_4 ?_
  refine lv_iconst (v := 1) hx hb dX4_isChild_7 (by decide) ?_
  refine lv_isub hx hb dX4_isChild_8 ?_
  refine lv_i2l (v := (((v1 - 1) : Int32).toInt64)) hx hb dX4_isChild_9 rfl ?_
  refine x_goz hA hI (x_runS (As := [.long ((a1 : Int32).toInt64), .long 0, .long (((v1 - 1) : Int32).toInt64)]) (rest := []) X hK hA hG hI (xet_X0_in l ((a1 : Int32).toInt64) 0 (((v1 - 1) : Int32).toInt64) _ _ hs) iX0_in q657 q474 q94 ⟨(Nat.le_of_ble_eq_true rfl), (Nat.le_of_ble_eq_true rfl)⟩ rfl hl.1 rfl (Nat.le_of_ble_eq_true rfl) dX4_isChild_10 ⟨(Nat.le_of_ble_eq_true rfl), (Nat.le_of_ble_eq_true rfl)⟩) (fun r3 C2 H locs br3 hs9 hI => ?_)
  replace hs := hs9
  exact x_retz X hK hI br3 hs (Nat.le_of_ble_eq_true rfl) (Nat.le_of_ble_eq_true rfl) dX4_isChild_13
def x_X0_mustChild (a0 : Nat) (a1 : Int32) (C : XH) (K : XH → Prop) (E : Nat → XH → Prop) : Prop := obd (xgr C (xis 0) a0 7) (fun ad1 => (xcl C ad1 = some 4 ∧ x_X4_isChild ad1 a1 C (fun r3 C2 => x_X0_need r3 (-1) C2 (fun C5 => K C5) (fun ad6 C7 => E ad6 C7))))
theorem iX0_mustChild : xInf yX0_mustChild cX0_mustChild 2 none 1 := ⟨q652, by decide +kernel⟩
set_option maxHeartbeats 4000000 in
theorem xet_X0_mustChild (l : Launch) (hl0 : l.stackTraces = false) (a0 : Nat) (a1 : Int32) (C : XH) (K : XH → Prop) (E : Nat → XH → Prop) (hs : x_X0_mustChild a0 a1 C K E) : xMetX l yX0_mustChild (ws_ yX0_mustChild cX0_mustChild 2 none) 5 114 1 7 C [.ref a0, .int a1] (fun D dT A => xQv D dT K A) (xEK RX7 E) := by
  intro D dT adK adV sz
  refine xEnterT (own := RX0) (Qc := xQv D dT K) (XC := xXC D dT (xEK RX7 E)) (by decide) rfl (by rfl) ?_
  intro p e s m args below meth c A ls X hnm hK hA hG hT hI hl
  have hx := X.1
  have hb := X.2.1
  have hts := X.2.2.2.2.1
  have hown := X.2.2.2.2.2.1
  have hl : lv_has ls 2 [(0, .ref a0), (1, .int a1)] := hl
  unfold x_X0_mustChild at hs
  refine lv_aload_n hx hb dX0_mustChild_0 rfl (lv_at hl 0 rfl) ?_
  obtain ⟨ad1, ead1, hs⟩ := hs
  refine x_get (v := .ref ad1) X hK hI 0 7 rfl in_X0 rfl q335 rfl (xgr_spec ead1) dX0_mustChild_1 ?_
  refine lv_iload_n hx hb dX0_mustChild_4 rfl (lv_at hl 1 rfl) ?_
  obtain ⟨h3, hs⟩ := hs
  obtain ⟨fh3, h3⟩ := xcl_spec h3
  refine x_goz hA hI (x_runV (As := [.int a1]) (rest := []) X hK hA hG hI h3 (q := (RX4, TX4, 13)) rfl rfl (xet_X4_isChild l ad1 a1 _ _ hs) iX4_isChild q653 q654 q655 q98 ⟨(Nat.le_of_ble_eq_true rfl), (Nat.le_of_ble_eq_true rfl)⟩ rfl hl.1 rfl (Nat.le_of_ble_eq_true rfl) dX0_mustChild_5 ⟨(Nat.le_of_ble_eq_true rfl), (Nat.le_of_ble_eq_true rfl)⟩) (fun r3 C2 H locs br3 hs9 hI => ?_)
  replace hs := hs9
  refine lv_iconst (v := (-1)) hx hb dX0_mustChild_8 (by decide) ?_
  refine xT_gov hA hI (x_runST (As := [.int r3, .int (-1)]) (rest := []) X hK hA hG hI (xet_X0_need l hl0 r3 (-1) _ _ _ hs) iX0_need q469 q470 q94 ⟨(Nat.le_of_ble_eq_true rfl), (Nat.le_of_ble_eq_true rfl)⟩ rfl hl.1 rfl (Nat.le_of_ble_eq_true rfl) dX0_mustChild_9 ⟨(Nat.le_of_ble_eq_true rfl), (Nat.le_of_ble_eq_true rfl)⟩) (fun En ce ad6 C7 H locs hs9 hI hce hvm hcl => ?_) (fun C5 H locs hs9 hI => ?_)
  · obtain ⟨rfl, hs0⟩ := hs9
    replace hs := hs0
    exact x_pass X hK hT rfl hI hce hvm hcl ⟨rfl, hs⟩ (Nat.le_of_ble_eq_true rfl) (Nat.le_of_ble_eq_true rfl)
  · replace hs := hs9
    exact vx_ret (x_retv X hK hI hs (Nat.le_of_ble_eq_true rfl) (Nat.le_of_ble_eq_true rfl) dX0_mustChild_12)
