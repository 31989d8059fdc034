set_option maxRecDepth 100000
def x_X0_seed (a0 : Nat) (a1 : Int32) (C : XH) (K : Int32 → XH → Prop) : Prop := obd (xgr C (xis 0) a0 7) (fun ad1 => obd (xgi C (xis 4) ad1 4) (fun v2 => obd (xgr C (xis 0) a0 7) (fun ad3 => obd (xpv C (xis 4) ad3 4 (.int a1)) (fun C4 => K v2 C4))))
theorem iX0_seed : xInf yX0_seed cX0_seed 3 (some .int) 1 := ⟨q1369, by decide +kernel⟩
set_option maxHeartbeats 4000000 in
theorem xet_X0_seed (l : Launch) (a0 : Nat) (a1 : Int32) (C : XH) (K : Int32 → XH → Prop) (hs : x_X0_seed a0 a1 C K) : xMeti l yX0_seed (ws_ yX0_seed cX0_seed 3 (some .int)) 0 0 0 0 C [.ref a0, .int a1] K := by
  intro D dT adK adV sz
  refine xEnter (own := RX0) (Qc := xQi D dT K) (by decide) rfl (by rfl) ?_
  intro p e s m args below meth c A ls X hnm hK hA hG hI hl
  have hx := X.1
  have hb := X.2.1
  have hts := X.2.2.2.2.1
  have hown := X.2.2.2.2.2.1
  have hl : lv_has ls 3 [(0, .ref a0), (1, .int a1)] := hl
  unfold x_X0_seed at hs
  refine lv_aload_n hx hb dX0_seed_0 rfl (lv_at hl 0 rfl) ?_
  obtain ⟨ad1, ead1, hs⟩ := hs
  refine x_get (v := .ref ad1) X hK hI 0 7 rfl in_X0 rfl q335 rfl (xgr_spec ead1) dX0_seed_1 ?_
  obtain ⟨v2, ev2, hs⟩ := hs
  refine x_get (v := .int v2) X hK hI 4 4 rfl in_X4 rfl q264 rfl (xgi_spec ev2) dX0_seed_4 ?_
  refine lv_istore_n (lv' := [(2, .int v2), (0, .ref a0), (1, .int a1)]) hx hb dX0_seed_7 rfl hl (by decide) rfl (fun ls hl => ?_)
  refine lv_aload_n hx hb dX0_seed_8 rfl (lv_at hl 1 rfl) ?_
  obtain ⟨ad3, ead3, hs⟩ := hs
  refine x_get (v := .ref ad3) X hK hI 0 7 rfl in_X0 rfl q335 rfl (xgr_spec ead3) dX0_seed_9 ?_
  refine lv_iload_n hx hb dX0_seed_12 rfl (lv_at hl 2 rfl) ?_
  obtain ⟨C4, eC4, hs⟩ := hs
  refine x_put X hK hI 4 4 rfl in_X4 tyX4 tyX4_ok nmX4 rfl q264 rfl rfl rfl rfl eC4 dX0_seed_13 (fun H locs hI => ?_)
  refine lv_iload_n hx hb dX0_seed_16 rfl (lv_at hl 0 rfl) ?_
  exact x_reti X hK hI hs (Nat.le_of_ble_eq_true rfl) (Nat.le_of_ble_eq_true rfl) dX0_seed_17
def x_X1_runs (a0 : Nat) (a1 : Int32) (C : XH) (K : XH → Prop) : Prop := obd (xgi C (xis 1) a0 1) (fun v1 => jn (fun (C2 : XH) => obd (xgi C2 (xis 1) a0 1) (fun v3 => obd (xpv C2 (xis 1) a0 1 (.int (v3 + 1))) (fun C4 => K C4))) (fun k19_2 => (if 20 ≤ v1 then k19_2 C else obd (xgr C (xis 1) a0 0) (fun ad5 => obd (xgi C (xis 1) a0 1) (fun v6 => obd (xsi C ad5 v6 a1) (fun C7 => k19_2 C7))))))
theorem iX1_runs : xInf yX1_runs cX1_runs 2 none 1 := ⟨q1384, by decide +kernel⟩
set_option maxHeartbeats 4000000 in
theorem xet_X1_runs (l : Launch) (a0 : Nat) (a1 : Int32) (C : XH) (K : XH → Prop) (hs : x_X1_runs a0 a1 C K) : xMetv l yX1_runs (ws_ yX1_runs cX1_runs 2 none) 0 0 0 0 C [.ref a0, .int a1] K := by
  intro D dT adK adV sz
  refine xEnter (own := RX1) (Qc := xQv D dT K) (by decide) rfl (by rfl) ?_
  intro p e s m args below meth c A ls X hnm hK hA hG hI hl
  have hx := X.1
  have hb := X.2.1
  have hts := X.2.2.2.2.1
  have hown := X.2.2.2.2.2.1
  have hl : lv_has ls 2 [(0, .ref a0), (1, .int a1)] := hl
  unfold x_X1_runs at hs
  refine lv_aload_n hx hb dX1_runs_0 rfl (lv_at hl 0 rfl) ?_
  obtain ⟨v1, ev1, hs⟩ := hs
  refine x_get (v := .int v1) X hK hI 1 1 rfl in_X1 rfl q148 rfl (xgi_spec ev1) dX1_runs_1 ?_
  refine lv_bipush (v := 20) hx hb dX1_runs_4 (by decide) ?_
  obtain ⟨k19_2, hk19_2, hs⟩ := jn_ex hs
  have Ek19_2 : ∀ (C2 : XH) (H : Heap) (locs : List Loc) (ls : Array Slot), k19_2 C2 → xI D dT A s.heap C2 H locs → lv_has ls 2 [(0, .ref a0)] → W p l e (xRm 0 0 0 0) s m args below meth c H locs 0 0 (MQ below (xQv D dT K A) args s 0 0 A) (F0 m 19 ls []) := by
    intro C2 H locs ls hs hI hl
    rw [hk19_2] at hs
    refine lv_aload_n hx hb dX1_runs_19 rfl (lv_at hl 0 rfl) ?_
    refine lv_dup hx hb dX1_runs_20 rfl ?_
    obtain ⟨v3, ev3, hs⟩ := hs
    refine x_get (v := .int v3) X hK hI 1 1 rfl in_X1 rfl q148 rfl (xgi_spec ev3) dX1_runs_21 ?_
    refine lv_iconst (v := 1) hx hb dX1_runs_24 (by decide) ?_
    refine lv_iadd hx hb dX1_runs_25 ?_
    obtain ⟨C4, eC4, hs⟩ := hs
    refine x_put X hK hI 1 1 rfl in_X1 tyX1 tyX1_ok nmX1 rfl q148 rfl rfl rfl rfl eC4 dX1_runs_26 (fun H locs hI => ?_)
    exact x_retv X hK hI hs (Nat.le_of_ble_eq_true rfl) (Nat.le_of_ble_eq_true rfl) dX1_runs_29
  refine lv_icmp_ge (tgt := 19) hx hb dX1_runs_6 (by decide) (fun c7 => ?_) (fun c7 => ?_)
  · replace hs := ifp c7 hs
    exact Ek19_2 _ _ _ _ hs hI (lv_sub hl [0] rfl)
  · replace hs := ifn c7 hs
    refine lv_aload_n hx hb dX1_runs_9 rfl (lv_at hl 0 rfl) ?_
    obtain ⟨ad5, ead5, hs⟩ := hs
    refine x_get (v := .ref ad5) X hK hI 1 0 rfl in_X1 rfl q146 rfl (xgr_spec ead5) dX1_runs_10 ?_
    refine lv_aload_n hx hb dX1_runs_13 rfl (lv_at hl 0 rfl) ?_
    obtain ⟨v6, ev6, hs⟩ := hs
    refine x_get (v := .int v6) X hK hI 1 1 rfl in_X1 rfl q148 rfl (xgi_spec ev6) dX1_runs_14 ?_
    refine lv_iload_n hx hb dX1_runs_17 rfl (lv_at hl 1 rfl) ?_
    obtain ⟨C7, eC7, hs⟩ := hs
    refine x_iast X hK hI eC7 dX1_runs_18 (fun H locs hI => ?_)
    exact Ek19_2 _ _ _ _ hs hI (lv_sub hl [0] rfl)
def x_X13_hopping (a0 : Nat) (a1 : Int32) (a2 : Nat) (C : XH) (K : Int32 → XH → Prop) : Prop := (xcl C a2 = some 1 ∧ x_X1_runs a2 10 C (fun C1 => obd (xgi C1 xisH a0 0) (fun v3 => K (a1 + v3) C1)))
theorem iX13_hopping : xInf yX13_hopping cX13_hopping 3 (some .int) 2 := ⟨q1386, by decide +kernel⟩
set_option maxHeartbeats 4000000 in
theorem xet_X13_hopping (l : Launch) (a0 : Nat) (a1 : Int32) (a2 : Nat) (C : XH) (K : Int32 → XH → Prop) (hs : x_X13_hopping a0 a1 a2 C K) : xMeti l yX13_hopping (ws_ yX13_hopping cX13_hopping 3 (some .int)) 1 21 0 0 C [.ref a0, .int a1, .ref a2] K := by
  intro D dT adK adV sz
  refine xEnter (own := RX13) (Qc := xQi D dT K) (by decide) rfl (by rfl) ?_
  intro p e s m args below meth c A ls X hnm hK hA hG hI hl
  have hx := X.1
  have hb := X.2.1
  have hts := X.2.2.2.2.1
  have hown := X.2.2.2.2.2.1
  have hl : lv_has ls 3 [(0, .ref a0), (1, .int a1), (2, .ref a2)] := hl
  unfold x_X13_hopping at hs
  refine lv_aload_n hx hb dX13_hopping_0 rfl (lv_at hl 2 rfl) ?_
  refine lv_bipush (v := 10) hx hb dX13_hopping_1 (by decide) ?_
  obtain ⟨h1, hs⟩ := hs
  obtain ⟨fh1, h1⟩ := xcl_spec h1
  refine x_gov hA hI (x_runV (As := [.int 10]) (rest := []) X hK hA hG hI h1 (q := (RX1, TX1, 2)) rfl rfl (xet_X1_runs l a2 10 _ _ hs) iX1_runs q1387 q1382 q1383 q95 ⟨(Nat.le_of_ble_eq_true rfl), (Nat.le_of_ble_eq_true rfl)⟩ rfl hl.1 rfl (Nat.le_of_ble_eq_true rfl) dX13_hopping_3 ⟨(Nat.le_of_ble_eq_true rfl), (Nat.le_of_ble_eq_true rfl)⟩) (fun C1 H locs hs9 hI => ?_)
  replace hs := hs9
  refine lv_iload_n hx hb dX13_hopping_6 rfl (lv_at hl 1 rfl) ?_
  refine lv_aload_n hx hb dX13_hopping_7 rfl (lv_at hl 0 rfl) ?_
  obtain ⟨v3, ev3, hs⟩ := hs
  refine x_getH (v := .int v3) X hK hI 0 (by decide) q792 (fun x hx => hx) (xgi_spec ev3) dX13_hopping_8 ?_
  refine lv_iadd hx hb dX13_hopping_11 ?_
  exact x_reti X hK hI hs (Nat.le_of_ble_eq_true rfl) (Nat.le_of_ble_eq_true rfl) dX13_hopping_12
def x_X14_hopping (a0 : Nat) (a1 : Int32) (a2 : Nat) (C : XH) (K : Int32 → XH → Prop) : Prop := (xcl C a2 = some 1 ∧ x_X1_runs a2 20 C (fun C1 => obd (xcl C1 a0) (fun ch4 => xisH ch4 = true ∧ x_X13_hopping a0 a1 a2 C1 (fun r4 C3 => obd (xgi C3 xisH a0 1) (fun v6 => K (r4 + v6) C3)))))
theorem iX14_hopping : xInf yX14_hopping cX14_hopping 3 (some .int) 2 := ⟨q1380, by decide +kernel⟩
set_option maxHeartbeats 4000000 in
theorem xet_X14_hopping (l : Launch) (a0 : Nat) (a1 : Int32) (a2 : Nat) (C : XH) (K : Int32 → XH → Prop) (hs : x_X14_hopping a0 a1 a2 C K) : xMeti l yX14_hopping (ws_ yX14_hopping cX14_hopping 3 (some .int)) 2 43 0 0 C [.ref a0, .int a1, .ref a2] K := by
  intro D dT adK adV sz
  refine xEnter (own := RX14) (Qc := xQi D dT K) (by decide) rfl (by rfl) ?_
  intro p e s m args below meth c A ls X hnm hK hA hG hI hl
  have hx := X.1
  have hb := X.2.1
  have hts := X.2.2.2.2.1
  have hown := X.2.2.2.2.2.1
  have hl : lv_has ls 3 [(0, .ref a0), (1, .int a1), (2, .ref a2)] := hl
  unfold x_X14_hopping at hs
  refine lv_aload_n hx hb dX14_hopping_0 rfl (lv_at hl 2 rfl) ?_
  refine lv_bipush (v := 20) hx hb dX14_hopping_1 (by decide) ?_
  obtain ⟨h1, hs⟩ := hs
  obtain ⟨fh1, h1⟩ := xcl_spec h1
  refine x_gov hA hI (x_runV (As := [.int 20]) (rest := []) X hK hA hG hI h1 (q := (RX1, TX1, 2)) rfl rfl (xet_X1_runs l a2 20 _ _ hs) iX1_runs q1381 q1382 q1383 q95 ⟨(Nat.le_of_ble_eq_true rfl), (Nat.le_of_ble_eq_true rfl)⟩ rfl hl.1 rfl (Nat.le_of_ble_eq_true rfl) dX14_hopping_3 ⟨(Nat.le_of_ble_eq_true rfl), (Nat.le_of_ble_eq_true rfl)⟩) (fun C1 H locs hs9 hI => ?_)
  replace hs := hs9
  refine lv_aload_n hx hb dX14_hopping_6 rfl (lv_at hl 0 rfl) ?_
  refine lv_iload_n hx hb dX14_hopping_7 rfl (lv_at hl 1 rfl) ?_
  refine lv_aload_n hx hb dX14_hopping_8 rfl (lv_at hl 2 rfl) ?_
  obtain ⟨ch4, h4, gh4, hs⟩ := hs
  obtain ⟨fh4, h4⟩ := xcl_spec h4
  obtain ⟨ah4, gh4⟩ := x_aclH gh4
  refine x_goi hA hI (x_runSU (As := [.int a1, .ref a2]) (rest := []) X hK hA hG hI h4 gh4 (xet_X13_hopping l a0 a1 a2 _ _ hs) iX13_hopping (by decide) q1385 q1377 q685 q1375 q117 ⟨(Nat.le_of_ble_eq_true rfl), (Nat.le_of_ble_eq_true rfl)⟩ rfl hl.1 rfl (Nat.le_of_ble_eq_true rfl) dX14_hopping_9 ⟨(Nat.le_of_ble_eq_true rfl), (Nat.le_of_ble_eq_true rfl)⟩) (fun r4 C3 H locs hs9 hI => ?_)
  replace hs := hs9
  refine lv_aload_n hx hb dX14_hopping_12 rfl (lv_at hl 0 rfl) ?_
  obtain ⟨v6, ev6, hs⟩ := hs
  refine x_getH (v := .int v6) X hK hI 1 (by decide) q807 (x_same X q808) (xgi_spec ev6) dX14_hopping_13 ?_
  refine lv_iadd hx hb dX14_hopping_16 ?_
  exact x_reti X hK hI hs (Nat.le_of_ble_eq_true rfl) (Nat.le_of_ble_eq_true rfl) dX14_hopping_17
def x_X17_hopping (a0 : Nat) (a1 : Int32) (a2 : Nat) (C : XH) (K : Int32 → XH → Prop) : Prop := (xcl C a2 = some 1 ∧ x_X1_runs a2 51 C (fun C1 => obd (xcl C1 a0) (fun ch4 => xisH ch4 = true ∧ x_X13_hopping a0 a1 a2 C1 (fun r4 C3 => obd (xgi C3 xisH a0 0) (fun v6 => K (r4 - v6) C3)))))
theorem iX17_hopping : xInf yX17_hopping cX17_hopping 3 (some .int) 2 := ⟨q1393, by decide +kernel⟩
set_option maxHeartbeats 4000000 in
theorem xet_X17_hopping (l : Launch) (a0 : Nat) (a1 : Int32) (a2 : Nat) (C : XH) (K : Int32 → XH → Prop) (hs : x_X17_hopping a0 a1 a2 C K) : xMeti l yX17_hopping (ws_ yX17_hopping cX17_hopping 3 (some .int)) 2 43 0 0 C [.ref a0, .int a1, .ref a2] K := by
  intro D dT adK adV sz
  refine xEnter (own := RX17) (Qc := xQi D dT K) (by decide) rfl (by rfl) ?_
  intro p e s m args below meth c A ls X hnm hK hA hG hI hl
  have hx := X.1
  have hb := X.2.1
  have hts := X.2.2.2.2.1
  have hown := X.2.2.2.2.2.1
  have hl : lv_has ls 3 [(0, .ref a0), (1, .int a1), (2, .ref a2)] := hl
  unfold x_X17_hopping at hs
  refine lv_aload_n hx hb dX17_hopping_0 rfl (lv_at hl 2 rfl) ?_
  refine lv_bipush (v := 51) hx hb dX17_hopping_1 (by decide) ?_
  obtain ⟨h1, hs⟩ := hs
  obtain ⟨fh1, h1⟩ := xcl_spec h1
  refine x_gov hA hI (x_runV (As := [.int 51]) (rest := []) X hK hA hG hI h1 (q := (RX1, TX1, 2)) rfl rfl (xet_X1_runs l a2 51 _ _ hs) iX1_runs q1394 q1382 q1383 q95 ⟨(Nat.le_of_ble_eq_true rfl), (Nat.le_of_ble_eq_true rfl)⟩ rfl hl.1 rfl (Nat.le_of_ble_eq_true rfl) dX17_hopping_3 ⟨(Nat.le_of_ble_eq_true rfl), (Nat.le_of_ble_eq_true rfl)⟩) (fun C1 H locs hs9 hI => ?_)
  replace hs := hs9
  refine lv_aload_n hx hb dX17_hopping_6 rfl (lv_at hl 0 rfl) ?_
  refine lv_iload_n hx hb dX17_hopping_7 rfl (lv_at hl 1 rfl) ?_
  refine lv_aload_n hx hb dX17_hopping_8 rfl (lv_at hl 2 rfl) ?_
  obtain ⟨ch4, h4, gh4, hs⟩ := hs
  obtain ⟨fh4, h4⟩ := xcl_spec h4
  obtain ⟨ah4, gh4⟩ := x_aclH gh4
  refine x_goi hA hI (x_runSU (As := [.int a1, .ref a2]) (rest := []) X hK hA hG hI h4 gh4 (xet_X13_hopping l a0 a1 a2 _ _ hs) iX13_hopping (by decide) q1395 q1377 q765 q1375 q117 ⟨(Nat.le_of_ble_eq_true rfl), (Nat.le_of_ble_eq_true rfl)⟩ rfl hl.1 rfl (Nat.le_of_ble_eq_true rfl) dX17_hopping_9 ⟨(Nat.le_of_ble_eq_true rfl), (Nat.le_of_ble_eq_true rfl)⟩) (fun r4 C3 H locs hs9 hI => ?_)
  replace hs := hs9
  refine lv_aload_n hx hb dX17_hopping_12 rfl (lv_at hl 0 rfl) ?_
  obtain ⟨v6, ev6, hs⟩ := hs
  refine x_getH (v := .int v6) X hK hI 0 (by decide) q802 (x_same X q796) (xgi_spec ev6) dX17_hopping_13 ?_
  refine lv_isub hx hb dX17_hopping_16 ?_
  exact x_reti X hK hI hs (Nat.le_of_ble_eq_true rfl) (Nat.le_of_ble_eq_true rfl) dX17_hopping_17
def x_X19_hopping (a0 : Nat) (a1 : Int32) (a2 : Nat) (C : XH) (K : Int32 → XH → Prop) : Prop := (xcl C a2 = some 1 ∧ x_X1_runs a2 70 C (fun C1 => obd (xcl C1 a0) (fun ch4 => xisH ch4 = true ∧ x_X17_hopping a0 a1 a2 C1 (fun r4 C3 => K (r4 * 2) C3))))
theorem iX19_hopping : xInf yX19_hopping cX19_hopping 3 (some .int) 2 := ⟨q1398, by decide +kernel⟩
set_option maxHeartbeats 4000000 in
theorem xet_X19_hopping (l : Launch) (a0 : Nat) (a1 : Int32) (a2 : Nat) (C : XH) (K : Int32 → XH → Prop) (hs : x_X19_hopping a0 a1 a2 C K) : xMeti l yX19_hopping (ws_ yX19_hopping cX19_hopping 3 (some .int)) 3 65 0 0 C [.ref a0, .int a1, .ref a2] K := by
  intro D dT adK adV sz
  refine xEnter (own := RX19) (Qc := xQi D dT K) (by decide) rfl (by rfl) ?_
  intro p e s m args below meth c A ls X hnm hK hA hG hI hl
  have hx := X.1
  have hb := X.2.1
  have hts := X.2.2.2.2.1
  have hown := X.2.2.2.2.2.1
  have hl : lv_has ls 3 [(0, .ref a0), (1, .int a1), (2, .ref a2)] := hl
  unfold x_X19_hopping at hs
  refine lv_aload_n hx hb dX19_hopping_0 rfl (lv_at hl 2 rfl) ?_
  refine lv_bipush (v := 70) hx hb dX19_hopping_1 (by decide) ?_
  obtain ⟨h1, hs⟩ := hs
  obtain ⟨fh1, h1⟩ := xcl_spec h1
  refine x_gov hA hI (x_runV (As := [.int 70]) (rest := []) X hK hA hG hI h1 (q := (RX1, TX1, 2)) rfl rfl (xet_X1_runs l a2 70 _ _ hs) iX1_runs q1399 q1382 q1383 q95 ⟨(Nat.le_of_ble_eq_true rfl), (Nat.le_of_ble_eq_true rfl)⟩ rfl hl.1 rfl (Nat.le_of_ble_eq_true rfl) dX19_hopping_3 ⟨(Nat.le_of_ble_eq_true rfl), (Nat.le_of_ble_eq_true rfl)⟩) (fun C1 H locs hs9 hI => ?_)
  replace hs := hs9
  refine lv_aload_n hx hb dX19_hopping_6 rfl (lv_at hl 0 rfl) ?_
  refine lv_iload_n hx hb dX19_hopping_7 rfl (lv_at hl 1 rfl) ?_
  refine lv_aload_n hx hb dX19_hopping_8 rfl (lv_at hl 2 rfl) ?_
  obtain ⟨ch4, h4, gh4, hs⟩ := hs
  obtain ⟨fh4, h4⟩ := xcl_spec h4
  obtain ⟨ah4, gh4⟩ := x_aclH gh4
  refine x_goi hA hI (x_runSU (As := [.int a1, .ref a2]) (rest := []) X hK hA hG hI h4 gh4 (xet_X17_hopping l a0 a1 a2 _ _ hs) iX17_hopping (by decide) q1400 q2044 q738 q1392 q121 ⟨(Nat.le_of_ble_eq_true rfl), (Nat.le_of_ble_eq_true rfl)⟩ rfl hl.1 rfl (Nat.le_of_ble_eq_true rfl) dX19_hopping_9 ⟨(Nat.le_of_ble_eq_true rfl), (Nat.le_of_ble_eq_true rfl)⟩) (fun r4 C3 H locs hs9 hI => ?_)
  replace hs := hs9
  refine lv_iconst (v := 2) hx hb dX19_hopping_12 (by decide) ?_
  refine lv_imul hx hb dX19_hopping_13 ?_
  exact x_reti X hK hI hs (Nat.le_of_ble_eq_true rfl) (Nat.le_of_ble_eq_true rfl) dX19_hopping_14
def vd_X13_hopping (b : Nat) (a1 : Int32) (a2 : Nat) (C : XH) (K : Int32 → XH → Prop) : Prop := obd (xcl C b) (fun ci => if ci = 13 then x_X13_hopping b a1 a2 C K else if ci = 14 then x_X14_hopping b a1 a2 C K else if ci = 15 then x_X13_hopping b a1 a2 C K else if ci = 16 then x_X14_hopping b a1 a2 C K else if ci = 17 then x_X17_hopping b a1 a2 C K else if ci = 18 then x_X13_hopping b a1 a2 C K else if ci = 19 then x_X19_hopping b a1 a2 C K else False)
theorem vdc_X13_hopping {p : Program} {l : Launch} {e : Env} {R : Room} {s : State} {m : MethodId} {args : Array Value} {below : List Frame} {meth : Method} {c : Code} {H : Heap} {locs : List Loc} {cells slots : Nat} {own : String} {cc : ByteArray} {nL : Nat} {ret : Option FieldType} {pc : Nat} {ls : Array Slot} {rest : List Value} {D : va_G} {dT : Nat → ClassId} {adK adV : Nat → Nat} {A : Nat → Prop} {C : XH} {index : Nat} (X : xX p s m args meth c own cc nL ret) (hK : va_K D aCl (aT dT) s) (hA : ∀ q : Nat, s.heap.size ≤ q → A q) (hG : xG adK adV A s s.heap) (hI : xI D dT A s.heap C H locs) (b : Nat) (a1 : Int32) (a2 : Nat) (K : Int32 → XH → Prop) (hs : vd_X13_hopping b a1 a2 C K) (w1 : Cond.methodLink own index ⟨RX13, "hopping", "(ILInASackToTheRope$Trace;)I"⟩ ∈ lw_all) (hR : 3 + 1 ≤ R.frames ∧ 8 + (0 + 11) + 68 ≤ R.locals) (hsz : ls.size = nL) (hrm : (rest.map fun v => v.category).sum ≤ 8) (hdg : decode cc pc = .ok (.invokevirtual index, 3)) (hf : cells + 0 ≤ R.cells ∧ slots + 0 ≤ R.slots) : xCtx p l e R s m args below meth c H locs cells slots 0 0 D dT C pc ls ([.ref a2, .int a1] ++ .ref b :: rest) rest (fun D dT A => xQi D dT K A) (.ref b :: [.int a1, .ref a2]) := by
  obtain ⟨ci, hci, hs⟩ := hs
  obtain ⟨fs, hb⟩ := xcl_spec hci
  by_cases h13 : ci = 13
  · subst h13
    replace hs := ifp rfl hs
    exact x_runO (As := [.int a1, .ref a2]) X hK hA hG hI hb (q := (RX13, TX13, 2)) rfl (xet_X13_hopping l b a1 a2 _ _ hs) iX13_hopping RX13 w1 q1377 q1375 q1376 q1375 q117 q1386 (by decide +kernel) ⟨Nat.le_trans (Nat.le_of_ble_eq_true rfl) hR.1, Nat.le_trans (Nat.le_of_ble_eq_true rfl) hR.2⟩ rfl hsz rfl hrm hdg hf
  · replace hs := ifn h13 hs
    by_cases h14 : ci = 14
    · subst h14
      replace hs := ifp rfl hs
      exact x_runO (As := [.int a1, .ref a2]) X hK hA hG hI hb (q := (RX14, TX14, 2)) rfl (xet_X14_hopping l b a1 a2 _ _ hs) iX14_hopping RX13 w1 q1377 q1375 q1388 q1379 q118 q1386 (by decide +kernel) ⟨Nat.le_trans (Nat.le_of_ble_eq_true rfl) hR.1, Nat.le_trans (Nat.le_of_ble_eq_true rfl) hR.2⟩ rfl hsz rfl hrm hdg hf
    · replace hs := ifn h14 hs
      by_cases h15 : ci = 15
      · subst h15
        replace hs := ifp rfl hs
        exact x_runO (As := [.int a1, .ref a2]) X hK hA hG hI hb (q := (RX15, TX15, 2)) rfl (xet_X13_hopping l b a1 a2 _ _ hs) iX13_hopping RX13 w1 q1377 q1375 q1389 q1375 q117 q1386 (by decide +kernel) ⟨Nat.le_trans (Nat.le_of_ble_eq_true rfl) hR.1, Nat.le_trans (Nat.le_of_ble_eq_true rfl) hR.2⟩ rfl hsz rfl hrm hdg hf
      · replace hs := ifn h15 hs
        by_cases h16 : ci = 16
        · subst h16
          replace hs := ifp rfl hs
          exact x_runO (As := [.int a1, .ref a2]) X hK hA hG hI hb (q := (RX16, TX16, 2)) rfl (xet_X14_hopping l b a1 a2 _ _ hs) iX14_hopping RX13 w1 q1377 q1375 q1378 q1379 q118 q1386 (by decide +kernel) ⟨Nat.le_trans (Nat.le_of_ble_eq_true rfl) hR.1, Nat.le_trans (Nat.le_of_ble_eq_true rfl) hR.2⟩ rfl hsz rfl hrm hdg hf
        · replace hs := ifn h16 hs
          by_cases h17 : ci = 17
          · subst h17
            replace hs := ifp rfl hs
            exact x_runO (As := [.int a1, .ref a2]) X hK hA hG hI hb (q := (RX17, TX17, 2)) rfl (xet_X17_hopping l b a1 a2 _ _ hs) iX17_hopping RX13 w1 q1377 q1375 q1391 q1392 q121 q1386 (by decide +kernel) ⟨Nat.le_trans (Nat.le_of_ble_eq_true rfl) hR.1, Nat.le_trans (Nat.le_of_ble_eq_true rfl) hR.2⟩ rfl hsz rfl hrm hdg hf
          · replace hs := ifn h17 hs
            by_cases h18 : ci = 18
            · subst h18
              replace hs := ifp rfl hs
              exact x_runO (As := [.int a1, .ref a2]) X hK hA hG hI hb (q := (RX18, TX18, 2)) rfl (xet_X13_hopping l b a1 a2 _ _ hs) iX13_hopping RX13 w1 q1377 q1375 q1390 q1375 q117 q1386 (by decide +kernel) ⟨Nat.le_trans (Nat.le_of_ble_eq_true rfl) hR.1, Nat.le_trans (Nat.le_of_ble_eq_true rfl) hR.2⟩ rfl hsz rfl hrm hdg hf
            · replace hs := ifn h18 hs
              by_cases h19 : ci = 19
              · subst h19
                replace hs := ifp rfl hs
                exact x_runO (As := [.int a1, .ref a2]) X hK hA hG hI hb (q := (RX19, TX19, 2)) rfl (xet_X19_hopping l b a1 a2 _ _ hs) iX19_hopping RX13 w1 q1377 q1375 q1396 q1397 q123 q1386 (by decide +kernel) ⟨Nat.le_trans (Nat.le_of_ble_eq_true rfl) hR.1, Nat.le_trans (Nat.le_of_ble_eq_true rfl) hR.2⟩ rfl hsz rfl hrm hdg hf
              · replace hs := ifn h19 hs
                exact hs.elim
def x_X13_falling (a0 : Nat) (a1 : Int32) (a2 : Nat) (C : XH) (K : Int32 → XH → Prop) : Prop := (xcl C a2 = some 1 ∧ x_X1_runs a2 11 C (fun C1 => vd_X13_hopping a0 a1 a2 C1 (fun r4 C3 => K (r4 * 2) C3)))
theorem iX13_falling : xInf yX13_falling cX13_falling 3 (some .int) 2 := ⟨q1412, by decide +kernel⟩
set_option maxHeartbeats 4000000 in
theorem xet_X13_falling (l : Launch) (a0 : Nat) (a1 : Int32) (a2 : Nat) (C : XH) (K : Int32 → XH → Prop) (hs : x_X13_falling a0 a1 a2 C K) : xMeti l yX13_falling (ws_ yX13_falling cX13_falling 3 (some .int)) 4 87 0 0 C [.ref a0, .int a1, .ref a2] K := by
  intro D dT adK adV sz
  refine xEnter (own := RX13) (Qc := xQi D dT K) (by decide) rfl (by rfl) ?_
  intro p e s m args below meth c A ls X hnm hK hA hG hI hl
  have hx := X.1
  have hb := X.2.1
  have hts := X.2.2.2.2.1
  have hown := X.2.2.2.2.2.1
  have hl : lv_has ls 3 [(0, .ref a0), (1, .int a1), (2, .ref a2)] := hl
  unfold x_X13_falling at hs
  refine lv_aload_n hx hb dX13_falling_0 rfl (lv_at hl 2 rfl) ?_
  refine lv_bipush (v := 11) hx hb dX13_falling_1 (by decide) ?_
  obtain ⟨h1, hs⟩ := hs
  obtain ⟨fh1, h1⟩ := xcl_spec h1
  refine x_gov hA hI (x_runV (As := [.int 11]) (rest := []) X hK hA hG hI h1 (q := (RX1, TX1, 2)) rfl rfl (xet_X1_runs l a2 11 _ _ hs) iX1_runs q1387 q1382 q1383 q95 ⟨(Nat.le_of_ble_eq_true rfl), (Nat.le_of_ble_eq_true rfl)⟩ rfl hl.1 rfl (Nat.le_of_ble_eq_true rfl) dX13_falling_3 ⟨(Nat.le_of_ble_eq_true rfl), (Nat.le_of_ble_eq_true rfl)⟩) (fun C1 H locs hs9 hI => ?_)
  replace hs := hs9
  refine lv_aload_n hx hb dX13_falling_6 rfl (lv_at hl 0 rfl) ?_
  refine lv_iload_n hx hb dX13_falling_7 rfl (lv_at hl 1 rfl) ?_
  refine lv_aload_n hx hb dX13_falling_8 rfl (lv_at hl 2 rfl) ?_
  refine x_goi hA hI (vdc_X13_hopping (rest := []) X hK hA hG hI a0 a1 a2 _ hs q1413 ⟨(Nat.le_of_ble_eq_true rfl), (Nat.le_of_ble_eq_true rfl)⟩ hl.1 (Nat.le_of_ble_eq_true rfl) dX13_falling_9 ⟨(Nat.le_of_ble_eq_true rfl), (Nat.le_of_ble_eq_true rfl)⟩) (fun r4 C3 H locs hs9 hI => ?_)
  replace hs := hs9
  refine lv_iconst (v := 2) hx hb dX13_falling_12 (by decide) ?_
  refine lv_imul hx hb dX13_falling_13 ?_
  exact x_reti X hK hI hs (Nat.le_of_ble_eq_true rfl) (Nat.le_of_ble_eq_true rfl) dX13_falling_14
def x_X16_falling (a0 : Nat) (a1 : Int32) (a2 : Nat) (C : XH) (K : Int32 → XH → Prop) : Prop := (xcl C a2 = some 1 ∧ x_X1_runs a2 40 C (fun C1 => obd (xcl C1 a0) (fun ch4 => xisH ch4 = true ∧ x_X13_falling a0 (a1 + 1) a2 C1 (fun r4 C3 => K r4 C3))))
theorem iX16_falling : xInf yX16_falling cX16_falling 3 (some .int) 2 := ⟨q1407, by decide +kernel⟩
set_option maxHeartbeats 4000000 in
theorem xet_X16_falling (l : Launch) (a0 : Nat) (a1 : Int32) (a2 : Nat) (C : XH) (K : Int32 → XH → Prop) (hs : x_X16_falling a0 a1 a2 C K) : xMeti l yX16_falling (ws_ yX16_falling cX16_falling 3 (some .int)) 5 109 0 0 C [.ref a0, .int a1, .ref a2] K := by
  intro D dT adK adV sz
  refine xEnter (own := RX16) (Qc := xQi D dT K) (by decide) rfl (by rfl) ?_
  intro p e s m args below meth c A ls X hnm hK hA hG hI hl
  have hx := X.1
  have hb := X.2.1
  have hts := X.2.2.2.2.1
  have hown := X.2.2.2.2.2.1
  have hl : lv_has ls 3 [(0, .ref a0), (1, .int a1), (2, .ref a2)] := hl
  unfold x_X16_falling at hs
  refine lv_aload_n hx hb dX16_falling_0 rfl (lv_at hl 2 rfl) ?_
  refine lv_bipush (v := 40) hx hb dX16_falling_1 (by decide) ?_
  obtain ⟨h1, hs⟩ := hs
  obtain ⟨fh1, h1⟩ := xcl_spec h1
  refine x_gov hA hI (x_runV (As := [.int 40]) (rest := []) X hK hA hG hI h1 (q := (RX1, TX1, 2)) rfl rfl (xet_X1_runs l a2 40 _ _ hs) iX1_runs q1408 q1382 q1383 q95 ⟨(Nat.le_of_ble_eq_true rfl), (Nat.le_of_ble_eq_true rfl)⟩ rfl hl.1 rfl (Nat.le_of_ble_eq_true rfl) dX16_falling_3 ⟨(Nat.le_of_ble_eq_true rfl), (Nat.le_of_ble_eq_true rfl)⟩) (fun C1 H locs hs9 hI => ?_)
  replace hs := hs9
  refine lv_aload_n hx hb dX16_falling_6 rfl (lv_at hl 0 rfl) ?_
  refine lv_iload_n hx hb dX16_falling_7 rfl (lv_at hl 1 rfl) ?_
  refine lv_iconst (v := 1) hx hb dX16_falling_8 (by decide) ?_
  refine lv_iadd hx hb dX16_falling_9 ?_
  refine lv_aload_n hx hb dX16_falling_10 rfl (lv_at hl 2 rfl) ?_
  obtain ⟨ch4, h4, gh4, hs⟩ := hs
  obtain ⟨fh4, h4⟩ := xcl_spec h4
  obtain ⟨ah4, gh4⟩ := x_aclH gh4
  refine x_goi hA hI (x_runSP (As := [.int (a1 + 1), .ref a2]) (rest := []) (owner := RX13) X hK hA hG hI h4 gh4 (xet_X13_falling l a0 (a1 + 1) a2 _ _ hs) iX13_falling (by decide) rfl q1409 q1410 q682 q685 q1402 q117 ⟨(Nat.le_of_ble_eq_true rfl), (Nat.le_of_ble_eq_true rfl)⟩ rfl hl.1 rfl (Nat.le_of_ble_eq_true rfl) dX16_falling_11 ⟨(Nat.le_of_ble_eq_true rfl), (Nat.le_of_ble_eq_true rfl)⟩) (fun r4 C3 H locs hs9 hI => ?_)
  replace hs := hs9
  exact x_reti X hK hI hs (Nat.le_of_ble_eq_true rfl) (Nat.le_of_ble_eq_true rfl) dX16_falling_14
def x_X15_falling (a0 : Nat) (a1 : Int32) (a2 : Nat) (C : XH) (K : Int32 → XH → Prop) : Prop := (xcl C a2 = some 1 ∧ x_X1_runs a2 30 C (fun C1 => obd (xcl C1 a0) (fun ch4 => xisH ch4 = true ∧ x_X13_falling a0 a1 a2 C1 (fun r4 C3 => K (r4 * 3) C3))))
theorem iX15_falling : xInf yX15_falling cX15_falling 3 (some .int) 2 := ⟨q1417, by decide +kernel⟩
set_option maxHeartbeats 4000000 in
theorem xet_X15_falling (l : Launch) (a0 : Nat) (a1 : Int32) (a2 : Nat) (C : XH) (K : Int32 → XH → Prop) (hs : x_X15_falling a0 a1 a2 C K) : xMeti l yX15_falling (ws_ yX15_falling cX15_falling 3 (some .int)) 5 109 0 0 C [.ref a0, .int a1, .ref a2] K := by
  intro D dT adK adV sz
  refine xEnter (own := RX15) (Qc := xQi D dT K) (by decide) rfl (by rfl) ?_
  intro p e s m args below meth c A ls X hnm hK hA hG hI hl
  have hx := X.1
  have hb := X.2.1
  have hts := X.2.2.2.2.1
  have hown := X.2.2.2.2.2.1
  have hl : lv_has ls 3 [(0, .ref a0), (1, .int a1), (2, .ref a2)] := hl
  unfold x_X15_falling at hs
  refine lv_aload_n hx hb dX15_falling_0 rfl (lv_at hl 2 rfl) ?_
  refine lv_bipush (v := 30) hx hb dX15_falling_1 (by decide) ?_
  obtain ⟨h1, hs⟩ := hs
  obtain ⟨fh1, h1⟩ := xcl_spec h1
  refine x_gov hA hI (x_runV (As := [.int 30]) (rest := []) X hK hA hG hI h1 (q := (RX1, TX1, 2)) rfl rfl (xet_X1_runs l a2 30 _ _ hs) iX1_runs q1418 q1382 q1383 q95 ⟨(Nat.le_of_ble_eq_true rfl), (Nat.le_of_ble_eq_true rfl)⟩ rfl hl.1 rfl (Nat.le_of_ble_eq_true rfl) dX15_falling_3 ⟨(Nat.le_of_ble_eq_true rfl), (Nat.le_of_ble_eq_true rfl)⟩) (fun C1 H locs hs9 hI => ?_)
  replace hs := hs9
  refine lv_aload_n hx hb dX15_falling_6 rfl (lv_at hl 0 rfl) ?_
  refine lv_iload_n hx hb dX15_falling_7 rfl (lv_at hl 1 rfl) ?_
  refine lv_aload_n hx hb dX15_falling_8 rfl (lv_at hl 2 rfl) ?_
  obtain ⟨ch4, h4, gh4, hs⟩ := hs
  obtain ⟨fh4, h4⟩ := xcl_spec h4
  obtain ⟨ah4, gh4⟩ := x_aclH gh4
  refine x_goi hA hI (x_runSU (As := [.int a1, .ref a2]) (rest := []) X hK hA hG hI h4 gh4 (xet_X13_falling l a0 a1 a2 _ _ hs) iX13_falling (by decide) q1419 q1404 q723 q1402 q117 ⟨(Nat.le_of_ble_eq_true rfl), (Nat.le_of_ble_eq_true rfl)⟩ rfl hl.1 rfl (Nat.le_of_ble_eq_true rfl) dX15_falling_9 ⟨(Nat.le_of_ble_eq_true rfl), (Nat.le_of_ble_eq_true rfl)⟩) (fun r4 C3 H locs hs9 hI => ?_)
  replace hs := hs9
  refine lv_iconst (v := 3) hx hb dX15_falling_12 (by decide) ?_
  refine lv_imul hx hb dX15_falling_13 ?_
  exact x_reti X hK hI hs (Nat.le_of_ble_eq_true rfl) (Nat.le_of_ble_eq_true rfl) dX15_falling_14
def x_X19_falling (a0 : Nat) (a1 : Int32) (a2 : Nat) (C : XH) (K : Int32 → XH → Prop) : Prop := (xcl C a2 = some 1 ∧ x_X1_runs a2 71 C (fun C1 => obd (xgi C1 xisH a0 1) (fun v3 => obd (xcl C1 a0) (fun ch5 => xisH ch5 = true ∧ x_X13_falling a0 (a1 - v3) a2 C1 (fun r5 C4 => K r5 C4)))))
theorem iX19_falling : xInf yX19_falling cX19_falling 3 (some .int) 2 := ⟨q1424, by decide +kernel⟩
set_option maxHeartbeats 4000000 in
theorem xet_X19_falling (l : Launch) (a0 : Nat) (a1 : Int32) (a2 : Nat) (C : XH) (K : Int32 → XH → Prop) (hs : x_X19_falling a0 a1 a2 C K) : xMeti l yX19_falling (ws_ yX19_falling cX19_falling 3 (some .int)) 5 109 0 0 C [.ref a0, .int a1, .ref a2] K := by
  intro D dT adK adV sz
  refine xEnter (own := RX19) (Qc := xQi D dT K) (by decide) rfl (by rfl) ?_
  intro p e s m args below meth c A ls X hnm hK hA hG hI hl
  have hx := X.1
  have hb := X.2.1
  have hts := X.2.2.2.2.1
  have hown := X.2.2.2.2.2.1
  have hl : lv_has ls 3 [(0, .ref a0), (1, .int a1), (2, .ref a2)] := hl
  unfold x_X19_falling at hs
  refine lv_aload_n hx hb dX19_falling_0 rfl (lv_at hl 2 rfl) ?_
  refine lv_bipush (v := 71) hx hb dX19_falling_1 (by decide) ?_
  obtain ⟨h1, hs⟩ := hs
  obtain ⟨fh1, h1⟩ := xcl_spec h1
  refine x_gov hA hI (x_runV (As := [.int 71]) (rest := []) X hK hA hG hI h1 (q := (RX1, TX1, 2)) rfl rfl (xet_X1_runs l a2 71 _ _ hs) iX1_runs q1399 q1382 q1383 q95 ⟨(Nat.le_of_ble_eq_true rfl), (Nat.le_of_ble_eq_true rfl)⟩ rfl hl.1 rfl (Nat.le_of_ble_eq_true rfl) dX19_falling_3 ⟨(Nat.le_of_ble_eq_true rfl), (Nat.le_of_ble_eq_true rfl)⟩) (fun C1 H locs hs9 hI => ?_)
  replace hs := hs9
  refine lv_aload_n hx hb dX19_falling_6 rfl (lv_at hl 0 rfl) ?_
  refine lv_iload_n hx hb dX19_falling_7 rfl (lv_at hl 1 rfl) ?_
  refine lv_aload_n hx hb dX19_falling_8 rfl (lv_at hl 0 rfl) ?_
  obtain ⟨v3, ev3, hs⟩ := hs
  refine x_getH (v := .int v3) X hK hI 1 (by decide) q809 (x_same X q810) (xgi_spec ev3) dX19_falling_9 ?_
  refine lv_isub hx hb dX19_falling_12 ?_
  refine lv_aload_n hx hb dX19_falling_13 rfl (lv_at hl 2 rfl) ?_
  obtain ⟨ch5, h5, gh5, hs⟩ := hs
  obtain ⟨fh5, h5⟩ := xcl_spec h5
  obtain ⟨ah5, gh5⟩ := x_aclH gh5
  refine x_goi hA hI (x_runSP (As := [.int (a1 - v3), .ref a2]) (rest := []) (owner := RX13) X hK hA hG hI h5 gh5 (xet_X13_falling l a0 (a1 - v3) a2 _ _ hs) iX13_falling (by decide) rfl q1425 q1426 q738 q765 q1402 q117 ⟨(Nat.le_of_ble_eq_true rfl), (Nat.le_of_ble_eq_true rfl)⟩ rfl hl.1 rfl (Nat.le_of_ble_eq_true rfl) dX19_falling_14 ⟨(Nat.le_of_ble_eq_true rfl), (Nat.le_of_ble_eq_true rfl)⟩) (fun r5 C4 H locs hs9 hI => ?_)
  replace hs := hs9
  exact x_reti X hK hI hs (Nat.le_of_ble_eq_true rfl) (Nat.le_of_ble_eq_true rfl) dX19_falling_17
def vd_X13_falling (b : Nat) (a1 : Int32) (a2 : Nat) (C : XH) (K : Int32 → XH → Prop) : Prop := obd (xcl C b) (fun ci => if ci = 13 then x_X13_falling b a1 a2 C K else if ci = 14 then x_X13_falling b a1 a2 C K else if ci = 15 then x_X15_falling b a1 a2 C K else if ci = 16 then x_X16_falling b a1 a2 C K else if ci = 17 then x_X13_falling b a1 a2 C K else if ci = 18 then x_X15_falling b a1 a2 C K else if ci = 19 then x_X19_falling b a1 a2 C K else False)
theorem vdc_X13_falling {p : Program} {l : Launch} {e : Env} {R : Room} {s : State} {m : MethodId} {args : Array Value} {below : List Frame} {meth : Method} {c : Code} {H : Heap} {locs : List Loc} {cells slots : Nat} {own : String} {cc : ByteArray} {nL : Nat} {ret : Option FieldType} {pc : Nat} {ls : Array Slot} {rest : List Value} {D : va_G} {dT : Nat → ClassId} {adK adV : Nat → Nat} {A : Nat → Prop} {C : XH} {index : Nat} (X : xX p s m args meth c own cc nL ret) (hK : va_K D aCl (aT dT) s) (hA : ∀ q : Nat, s.heap.size ≤ q → A q) (hG : xG adK adV A s s.heap) (hI : xI D dT A s.heap C H locs) (b : Nat) (a1 : Int32) (a2 : Nat) (K : Int32 → XH → Prop) (hs : vd_X13_falling b a1 a2 C K) (w1 : Cond.methodLink own index ⟨RX13, "falling", "(ILInASackToTheRope$Trace;)I"⟩ ∈ lw_all) (hR : 5 + 1 ≤ R.frames ∧ 8 + (0 + 11) + 112 ≤ R.locals) (hsz : ls.size = nL) (hrm : (rest.map fun v => v.category).sum ≤ 8) (hdg : decode cc pc = .ok (.invokevirtual index, 3)) (hf : cells + 0 ≤ R.cells ∧ slots + 0 ≤ R.slots) : xCtx p l e R s m args below meth c H locs cells slots 0 0 D dT C pc ls ([.ref a2, .int a1] ++ .ref b :: rest) rest (fun D dT A => xQi D dT K A) (.ref b :: [.int a1, .ref a2]) := by
  obtain ⟨ci, hci, hs⟩ := hs
  obtain ⟨fs, hb⟩ := xcl_spec hci
  by_cases h13 : ci = 13
  · subst h13
    replace hs := ifp rfl hs
    exact x_runO (As := [.int a1, .ref a2]) X hK hA hG hI hb (q := (RX13, TX13, 2)) rfl (xet_X13_falling l b a1 a2 _ _ hs) iX13_falling RX13 w1 q1404 q1402 q1403 q1402 q117 q1412 (by decide +kernel) ⟨Nat.le_trans (Nat.le_of_ble_eq_true rfl) hR.1, Nat.le_trans (Nat.le_of_ble_eq_true rfl) hR.2⟩ rfl hsz rfl hrm hdg hf
  · replace hs := ifn h13 hs
    by_cases h14 : ci = 14
    · subst h14
      replace hs := ifp rfl hs
      exact x_runO (As := [.int a1, .ref a2]) X hK hA hG hI hb (q := (RX14, TX14, 2)) rfl (xet_X13_falling l b a1 a2 _ _ hs) iX13_falling RX13 w1 q1404 q1402 q1414 q1402 q117 q1412 (by decide +kernel) ⟨Nat.le_trans (Nat.le_of_ble_eq_true rfl) hR.1, Nat.le_trans (Nat.le_of_ble_eq_true rfl) hR.2⟩ rfl hsz rfl hrm hdg hf
    · replace hs := ifn h14 hs
      by_cases h15 : ci = 15
      · subst h15
        replace hs := ifp rfl hs
        exact x_runO (As := [.int a1, .ref a2]) X hK hA hG hI hb (q := (RX15, TX15, 2)) rfl (xet_X15_falling l b a1 a2 _ _ hs) iX15_falling RX13 w1 q1404 q1402 q1415 q1416 q119 q1412 (by decide +kernel) ⟨Nat.le_trans (Nat.le_of_ble_eq_true rfl) hR.1, Nat.le_trans (Nat.le_of_ble_eq_true rfl) hR.2⟩ rfl hsz rfl hrm hdg hf
      · replace hs := ifn h15 hs
        by_cases h16 : ci = 16
        · subst h16
          replace hs := ifp rfl hs
          exact x_runO (As := [.int a1, .ref a2]) X hK hA hG hI hb (q := (RX16, TX16, 2)) rfl (xet_X16_falling l b a1 a2 _ _ hs) iX16_falling RX13 w1 q1404 q1402 q1405 q1406 q120 q1412 (by decide +kernel) ⟨Nat.le_trans (Nat.le_of_ble_eq_true rfl) hR.1, Nat.le_trans (Nat.le_of_ble_eq_true rfl) hR.2⟩ rfl hsz rfl hrm hdg hf
        · replace hs := ifn h16 hs
          by_cases h17 : ci = 17
          · subst h17
            replace hs := ifp rfl hs
            exact x_runO (As := [.int a1, .ref a2]) X hK hA hG hI hb (q := (RX17, TX17, 2)) rfl (xet_X13_falling l b a1 a2 _ _ hs) iX13_falling RX13 w1 q1404 q1402 q1421 q1402 q117 q1412 (by decide +kernel) ⟨Nat.le_trans (Nat.le_of_ble_eq_true rfl) hR.1, Nat.le_trans (Nat.le_of_ble_eq_true rfl) hR.2⟩ rfl hsz rfl hrm hdg hf
          · replace hs := ifn h17 hs
            by_cases h18 : ci = 18
            · subst h18
              replace hs := ifp rfl hs
              exact x_runO (As := [.int a1, .ref a2]) X hK hA hG hI hb (q := (RX18, TX18, 2)) rfl (xet_X15_falling l b a1 a2 _ _ hs) iX15_falling RX13 w1 q1404 q1402 q1420 q1416 q119 q1412 (by decide +kernel) ⟨Nat.le_trans (Nat.le_of_ble_eq_true rfl) hR.1, Nat.le_trans (Nat.le_of_ble_eq_true rfl) hR.2⟩ rfl hsz rfl hrm hdg hf
            · replace hs := ifn h18 hs
              by_cases h19 : ci = 19
              · subst h19
                replace hs := ifp rfl hs
                exact x_runO (As := [.int a1, .ref a2]) X hK hA hG hI hb (q := (RX19, TX19, 2)) rfl (xet_X19_falling l b a1 a2 _ _ hs) iX19_falling RX13 w1 q1404 q1402 q1422 q1423 q123 q1412 (by decide +kernel) ⟨Nat.le_trans (Nat.le_of_ble_eq_true rfl) hR.1, Nat.le_trans (Nat.le_of_ble_eq_true rfl) hR.2⟩ rfl hsz rfl hrm hdg hf
              · replace hs := ifn h19 hs
                exact hs.elim
def x_X13_rising (a0 : Nat) (a1 : Int32) (a2 : Nat) (C : XH) (K : Int32 → XH → Prop) : Prop := (xcl C a2 = some 1 ∧ x_X1_runs a2 12 C (fun C1 => vd_X13_falling a0 a1 a2 C1 (fun r4 C3 => obd (xgi C3 xisH a0 1) (fun v5 => vd_X13_hopping a0 (a1 - v5) a2 C3 (fun r7 C6 => K (r4 ^^^ r7) C6)))))
theorem iX13_rising : xInf yX13_rising cX13_rising 4 (some .int) 2 := ⟨q1441, by decide +kernel⟩
set_option maxHeartbeats 4000000 in
theorem xet_X13_rising (l : Launch) (a0 : Nat) (a1 : Int32) (a2 : Nat) (C : XH) (K : Int32 → XH → Prop) (hs : x_X13_rising a0 a1 a2 C K) : xMeti l yX13_rising (ws_ yX13_rising cX13_rising 4 (some .int)) 6 131 0 0 C [.ref a0, .int a1, .ref a2] K := by
  intro D dT adK adV sz
  refine xEnter (own := RX13) (Qc := xQi D dT K) (by decide) rfl (by rfl) ?_
  intro p e s m args below meth c A ls X hnm hK hA hG hI hl
  have hx := X.1
  have hb := X.2.1
  have hts := X.2.2.2.2.1
  have hown := X.2.2.2.2.2.1
  have hl : lv_has ls 4 [(0, .ref a0), (1, .int a1), (2, .ref a2)] := hl
  unfold x_X13_rising at hs
  refine lv_aload_n hx hb dX13_rising_0 rfl (lv_at hl 2 rfl) ?_
  refine lv_bipush (v := 12) hx hb dX13_rising_1 (by decide) ?_
  obtain ⟨h1, hs⟩ := hs
  obtain ⟨fh1, h1⟩ := xcl_spec h1
  refine x_gov hA hI (x_runV (As := [.int 12]) (rest := []) X hK hA hG hI h1 (q := (RX1, TX1, 2)) rfl rfl (xet_X1_runs l a2 12 _ _ hs) iX1_runs q1387 q1382 q1383 q95 ⟨(Nat.le_of_ble_eq_true rfl), (Nat.le_of_ble_eq_true rfl)⟩ rfl hl.1 rfl (Nat.le_of_ble_eq_true rfl) dX13_rising_3 ⟨(Nat.le_of_ble_eq_true rfl), (Nat.le_of_ble_eq_true rfl)⟩) (fun C1 H locs hs9 hI => ?_)
  replace hs := hs9
  refine lv_aload_n hx hb dX13_rising_6 rfl (lv_at hl 0 rfl) ?_
  refine lv_iload_n hx hb dX13_rising_7 rfl (lv_at hl 1 rfl) ?_
  refine lv_aload_n hx hb dX13_rising_8 rfl (lv_at hl 2 rfl) ?_
  refine x_goi hA hI (vdc_X13_falling (rest := []) X hK hA hG hI a0 a1 a2 _ hs q1442 ⟨(Nat.le_of_ble_eq_true rfl), (Nat.le_of_ble_eq_true rfl)⟩ hl.1 (Nat.le_of_ble_eq_true rfl) dX13_rising_9 ⟨(Nat.le_of_ble_eq_true rfl), (Nat.le_of_ble_eq_true rfl)⟩) (fun r4 C3 H locs hs9 hI => ?_)
  replace hs := hs9
  refine lv_istore_n (lv' := [(3, .int r4), (0, .ref a0), (1, .int a1), (2, .ref a2)]) hx hb dX13_rising_12 rfl hl (by decide) rfl (fun ls hl => ?_)
  refine lv_iload_n hx hb dX13_rising_13 rfl (lv_at hl 0 rfl) ?_
  refine lv_aload_n hx hb dX13_rising_14 rfl (lv_at hl 1 rfl) ?_
  refine lv_iload_n hx hb dX13_rising_15 rfl (lv_at hl 2 rfl) ?_
  refine lv_aload_n hx hb dX13_rising_16 rfl (lv_at hl 1 rfl) ?_
  obtain ⟨v5, ev5, hs⟩ := hs
  refine x_getH (v := .int v5) X hK hI 1 (by decide) q804 (fun x hx => hx) (xgi_spec ev5) dX13_rising_17 ?_
  refine lv_isub hx hb dX13_rising_20 ?_
  refine lv_aload_n hx hb dX13_rising_21 rfl (lv_at hl 3 rfl) ?_
  refine x_goi hA hI (vdc_X13_hopping (rest := [.int r4]) X hK hA hG hI a0 (a1 - v5) a2 _ hs q1413 ⟨(Nat.le_of_ble_eq_true rfl), (Nat.le_of_ble_eq_true rfl)⟩ hl.1 (Nat.le_of_ble_eq_true rfl) dX13_rising_22 ⟨(Nat.le_of_ble_eq_true rfl), (Nat.le_of_ble_eq_true rfl)⟩) (fun r7 C6 H locs hs9 hI => ?_)
  replace hs := hs9
  refine lv_ixor hx hb dX13_rising_25 ?_
  exact x_reti X hK hI hs (Nat.le_of_ble_eq_true rfl) (Nat.le_of_ble_eq_true rfl) dX13_rising_26
def x_X18_rising (a0 : Nat) (a1 : Int32) (a2 : Nat) (C : XH) (K : Int32 → XH → Prop) : Prop := (xcl C a2 = some 1 ∧ x_X1_runs a2 60 C (fun C1 => obd (xcl C1 a0) (fun ch4 => xisH ch4 = true ∧ x_X13_rising a0 a1 a2 C1 (fun r4 C3 => K (r4 ^^^ 5) C3))))
theorem iX18_rising : xInf yX18_rising cX18_rising 3 (some .int) 2 := ⟨q1436, by decide +kernel⟩
set_option maxHeartbeats 4000000 in
theorem xet_X18_rising (l : Launch) (a0 : Nat) (a1 : Int32) (a2 : Nat) (C : XH) (K : Int32 → XH → Prop) (hs : x_X18_rising a0 a1 a2 C K) : xMeti l yX18_rising (ws_ yX18_rising cX18_rising 3 (some .int)) 7 154 0 0 C [.ref a0, .int a1, .ref a2] K := by
  intro D dT adK adV sz
  refine xEnter (own := RX18) (Qc := xQi D dT K) (by decide) rfl (by rfl) ?_
  intro p e s m args below meth c A ls X hnm hK hA hG hI hl
  have hx := X.1
  have hb := X.2.1
  have hts := X.2.2.2.2.1
  have hown := X.2.2.2.2.2.1
  have hl : lv_has ls 3 [(0, .ref a0), (1, .int a1), (2, .ref a2)] := hl
  unfold x_X18_rising at hs
  refine lv_aload_n hx hb dX18_rising_0 rfl (lv_at hl 2 rfl) ?_
  refine lv_bipush (v := 60) hx hb dX18_rising_1 (by decide) ?_
  obtain ⟨h1, hs⟩ := hs
  obtain ⟨fh1, h1⟩ := xcl_spec h1
  refine x_gov hA hI (x_runV (As := [.int 60]) (rest := []) X hK hA hG hI h1 (q := (RX1, TX1, 2)) rfl rfl (xet_X1_runs l a2 60 _ _ hs) iX1_runs q1437 q1382 q1383 q95 ⟨(Nat.le_of_ble_eq_true rfl), (Nat.le_of_ble_eq_true rfl)⟩ rfl hl.1 rfl (Nat.le_of_ble_eq_true rfl) dX18_rising_3 ⟨(Nat.le_of_ble_eq_true rfl), (Nat.le_of_ble_eq_true rfl)⟩) (fun C1 H locs hs9 hI => ?_)
  replace hs := hs9
  refine lv_aload_n hx hb dX18_rising_6 rfl (lv_at hl 0 rfl) ?_
  refine lv_iload_n hx hb dX18_rising_7 rfl (lv_at hl 1 rfl) ?_
  refine lv_aload_n hx hb dX18_rising_8 rfl (lv_at hl 2 rfl) ?_
  obtain ⟨ch4, h4, gh4, hs⟩ := hs
  obtain ⟨fh4, h4⟩ := xcl_spec h4
  obtain ⟨ah4, gh4⟩ := x_aclH gh4
  refine x_goi hA hI (x_runSP (As := [.int a1, .ref a2]) (rest := []) (owner := RX13) X hK hA hG hI h4 gh4 (xet_X13_rising l a0 a1 a2 _ _ hs) iX13_rising (by decide) rfl q1438 q1439 q848 q723 q1428 q117 ⟨(Nat.le_of_ble_eq_true rfl), (Nat.le_of_ble_eq_true rfl)⟩ rfl hl.1 rfl (Nat.le_of_ble_eq_true rfl) dX18_rising_9 ⟨(Nat.le_of_ble_eq_true rfl), (Nat.le_of_ble_eq_true rfl)⟩) (fun r4 C3 H locs hs9 hI => ?_)
  replace hs := hs9
  refine lv_iconst (v := 5) hx hb dX18_rising_12 (by decide) ?_
  refine lv_ixor hx hb dX18_rising_13 ?_
  exact x_reti X hK hI hs (Nat.le_of_ble_eq_true rfl) (Nat.le_of_ble_eq_true rfl) dX18_rising_14
def x_X17_rising (a0 : Nat) (a1 : Int32) (a2 : Nat) (C : XH) (K : Int32 → XH → Prop) : Prop := (xcl C a2 = some 1 ∧ x_X1_runs a2 50 C (fun C1 => obd (xcl C1 a0) (fun ch4 => xisH ch4 = true ∧ x_X13_rising a0 a1 a2 C1 (fun r4 C3 => K (-r4) C3))))
theorem iX17_rising : xInf yX17_rising cX17_rising 3 (some .int) 2 := ⟨q1445, by decide +kernel⟩
set_option maxHeartbeats 4000000 in
theorem xet_X17_rising (l : Launch) (a0 : Nat) (a1 : Int32) (a2 : Nat) (C : XH) (K : Int32 → XH → Prop) (hs : x_X17_rising a0 a1 a2 C K) : xMeti l yX17_rising (ws_ yX17_rising cX17_rising 3 (some .int)) 7 154 0 0 C [.ref a0, .int a1, .ref a2] K := by
  intro D dT adK adV sz
  refine xEnter (own := RX17) (Qc := xQi D dT K) (by decide) rfl (by rfl) ?_
  intro p e s m args below meth c A ls X hnm hK hA hG hI hl
  have hx := X.1
  have hb := X.2.1
  have hts := X.2.2.2.2.1
  have hown := X.2.2.2.2.2.1
  have hl : lv_has ls 3 [(0, .ref a0), (1, .int a1), (2, .ref a2)] := hl
  unfold x_X17_rising at hs
  refine lv_aload_n hx hb dX17_rising_0 rfl (lv_at hl 2 rfl) ?_
  refine lv_bipush (v := 50) hx hb dX17_rising_1 (by decide) ?_
  obtain ⟨h1, hs⟩ := hs
  obtain ⟨fh1, h1⟩ := xcl_spec h1
  refine x_gov hA hI (x_runV (As := [.int 50]) (rest := []) X hK hA hG hI h1 (q := (RX1, TX1, 2)) rfl rfl (xet_X1_runs l a2 50 _ _ hs) iX1_runs q1394 q1382 q1383 q95 ⟨(Nat.le_of_ble_eq_true rfl), (Nat.le_of_ble_eq_true rfl)⟩ rfl hl.1 rfl (Nat.le_of_ble_eq_true rfl) dX17_rising_3 ⟨(Nat.le_of_ble_eq_true rfl), (Nat.le_of_ble_eq_true rfl)⟩) (fun C1 H locs hs9 hI => ?_)
  replace hs := hs9
  refine lv_aload_n hx hb dX17_rising_6 rfl (lv_at hl 0 rfl) ?_
  refine lv_iload_n hx hb dX17_rising_7 rfl (lv_at hl 1 rfl) ?_
  refine lv_aload_n hx hb dX17_rising_8 rfl (lv_at hl 2 rfl) ?_
  obtain ⟨ch4, h4, gh4, hs⟩ := hs
  obtain ⟨fh4, h4⟩ := xcl_spec h4
  obtain ⟨ah4, gh4⟩ := x_aclH gh4
  refine x_goi hA hI (x_runSU (As := [.int a1, .ref a2]) (rest := []) X hK hA hG hI h4 gh4 (xet_X13_rising l a0 a1 a2 _ _ hs) iX13_rising (by decide) q1446 q1430 q765 q1428 q117 ⟨(Nat.le_of_ble_eq_true rfl), (Nat.le_of_ble_eq_true rfl)⟩ rfl hl.1 rfl (Nat.le_of_ble_eq_true rfl) dX17_rising_9 ⟨(Nat.le_of_ble_eq_true rfl), (Nat.le_of_ble_eq_true rfl)⟩) (fun r4 C3 H locs hs9 hI => ?_)
  replace hs := hs9
  refine lv_ineg hx hb dX17_rising_12 ?_
  exact x_reti X hK hI hs (Nat.le_of_ble_eq_true rfl) (Nat.le_of_ble_eq_true rfl) dX17_rising_13
def vd_X13_rising (b : Nat) (a1 : Int32) (a2 : Nat) (C : XH) (K : Int32 → XH → Prop) : Prop := obd (xcl C b) (fun ci => if ci = 13 then x_X13_rising b a1 a2 C K else if ci = 14 then x_X13_rising b a1 a2 C K else if ci = 15 then x_X13_rising b a1 a2 C K else if ci = 16 then x_X13_rising b a1 a2 C K else if ci = 17 then x_X17_rising b a1 a2 C K else if ci = 18 then x_X18_rising b a1 a2 C K else if ci = 19 then x_X17_rising b a1 a2 C K else False)
theorem vdc_X13_rising {p : Program} {l : Launch} {e : Env} {R : Room} {s : State} {m : MethodId} {args : Array Value} {below : List Frame} {meth : Method} {c : Code} {H : Heap} {locs : List Loc} {cells slots : Nat} {own : String} {cc : ByteArray} {nL : Nat} {ret : Option FieldType} {pc : Nat} {ls : Array Slot} {rest : List Value} {D : va_G} {dT : Nat → ClassId} {adK adV : Nat → Nat} {A : Nat → Prop} {C : XH} {index : Nat} (X : xX p s m args meth c own cc nL ret) (hK : va_K D aCl (aT dT) s) (hA : ∀ q : Nat, s.heap.size ≤ q → A q) (hG : xG adK adV A s s.heap) (hI : xI D dT A s.heap C H locs) (b : Nat) (a1 : Int32) (a2 : Nat) (K : Int32 → XH → Prop) (hs : vd_X13_rising b a1 a2 C K) (w1 : Cond.methodLink own index ⟨RX13, "rising", "(ILInASackToTheRope$Trace;)I"⟩ ∈ lw_all) (hR : 7 + 1 ≤ R.frames ∧ 8 + (0 + 11) + 157 ≤ R.locals) (hsz : ls.size = nL) (hrm : (rest.map fun v => v.category).sum ≤ 8) (hdg : decode cc pc = .ok (.invokevirtual index, 3)) (hf : cells + 0 ≤ R.cells ∧ slots + 0 ≤ R.slots) : xCtx p l e R s m args below meth c H locs cells slots 0 0 D dT C pc ls ([.ref a2, .int a1] ++ .ref b :: rest) rest (fun D dT A => xQi D dT K A) (.ref b :: [.int a1, .ref a2]) := by
  obtain ⟨ci, hci, hs⟩ := hs
  obtain ⟨fs, hb⟩ := xcl_spec hci
  by_cases h13 : ci = 13
  · subst h13
    replace hs := ifp rfl hs
    exact x_runO (As := [.int a1, .ref a2]) X hK hA hG hI hb (q := (RX13, TX13, 2)) rfl (xet_X13_rising l b a1 a2 _ _ hs) iX13_rising RX13 w1 q1430 q1428 q1429 q1428 q117 q1441 (by decide +kernel) ⟨Nat.le_trans (Nat.le_of_ble_eq_true rfl) hR.1, Nat.le_trans (Nat.le_of_ble_eq_true rfl) hR.2⟩ rfl hsz rfl hrm hdg hf
  · replace hs := ifn h13 hs
    by_cases h14 : ci = 14
    · subst h14
      replace hs := ifp rfl hs
      exact x_runO (As := [.int a1, .ref a2]) X hK hA hG hI hb (q := (RX14, TX14, 2)) rfl (xet_X13_rising l b a1 a2 _ _ hs) iX13_rising RX13 w1 q1430 q1428 q1432 q1428 q117 q1441 (by decide +kernel) ⟨Nat.le_trans (Nat.le_of_ble_eq_true rfl) hR.1, Nat.le_trans (Nat.le_of_ble_eq_true rfl) hR.2⟩ rfl hsz rfl hrm hdg hf
    · replace hs := ifn h14 hs
      by_cases h15 : ci = 15
      · subst h15
        replace hs := ifp rfl hs
        exact x_runO (As := [.int a1, .ref a2]) X hK hA hG hI hb (q := (RX15, TX15, 2)) rfl (xet_X13_rising l b a1 a2 _ _ hs) iX13_rising RX13 w1 q1430 q1428 q1433 q1428 q117 q1441 (by decide +kernel) ⟨Nat.le_trans (Nat.le_of_ble_eq_true rfl) hR.1, Nat.le_trans (Nat.le_of_ble_eq_true rfl) hR.2⟩ rfl hsz rfl hrm hdg hf
      · replace hs := ifn h15 hs
        by_cases h16 : ci = 16
        · subst h16
          replace hs := ifp rfl hs
          exact x_runO (As := [.int a1, .ref a2]) X hK hA hG hI hb (q := (RX16, TX16, 2)) rfl (xet_X13_rising l b a1 a2 _ _ hs) iX13_rising RX13 w1 q1430 q1428 q1431 q1428 q117 q1441 (by decide +kernel) ⟨Nat.le_trans (Nat.le_of_ble_eq_true rfl) hR.1, Nat.le_trans (Nat.le_of_ble_eq_true rfl) hR.2⟩ rfl hsz rfl hrm hdg hf
        · replace hs := ifn h16 hs
          by_cases h17 : ci = 17
          · subst h17
            replace hs := ifp rfl hs
            exact x_runO (As := [.int a1, .ref a2]) X hK hA hG hI hb (q := (RX17, TX17, 2)) rfl (xet_X17_rising l b a1 a2 _ _ hs) iX17_rising RX13 w1 q1430 q1428 q1443 q1444 q121 q1441 (by decide +kernel) ⟨Nat.le_trans (Nat.le_of_ble_eq_true rfl) hR.1, Nat.le_trans (Nat.le_of_ble_eq_true rfl) hR.2⟩ rfl hsz rfl hrm hdg hf
          · replace hs := ifn h17 hs
            by_cases h18 : ci = 18
            · subst h18
              replace hs := ifp rfl hs
              exact x_runO (As := [.int a1, .ref a2]) X hK hA hG hI hb (q := (RX18, TX18, 2)) rfl (xet_X18_rising l b a1 a2 _ _ hs) iX18_rising RX13 w1 q1430 q1428 q1434 q1435 q122 q1441 (by decide +kernel) ⟨Nat.le_trans (Nat.le_of_ble_eq_true rfl) hR.1, Nat.le_trans (Nat.le_of_ble_eq_true rfl) hR.2⟩ rfl hsz rfl hrm hdg hf
            · replace hs := ifn h18 hs
              by_cases h19 : ci = 19
              · subst h19
                replace hs := ifp rfl hs
                exact x_runO (As := [.int a1, .ref a2]) X hK hA hG hI hb (q := (RX19, TX19, 2)) rfl (xet_X17_rising l b a1 a2 _ _ hs) iX17_rising RX13 w1 q1430 q1428 q1447 q1444 q121 q1441 (by decide +kernel) ⟨Nat.le_trans (Nat.le_of_ble_eq_true rfl) hR.1, Nat.le_trans (Nat.le_of_ble_eq_true rfl) hR.2⟩ rfl hsz rfl hrm hdg hf
              · replace hs := ifn h19 hs
                exact hs.elim
def x_X0_act (a0 : Nat) (a1 : Int32) (a2 : Int32) (a3 : Int32) (C : XH) (K : Int32 → XH → Prop) : Prop := obd (xgr C (xis 0) a0 2) (fun ad1 => obd (xpv C (xis 1) ad1 1 (.int 0)) (fun C2 => obd (xgr C2 (xis 0) a0 7) (fun ad3 => (xcl C2 ad3 = some 4 ∧ x_X4_isChild ad3 a1 C2 (fun r5 C4 => (if r5 = 0 then K 0 C4 else obd (xgr C4 (xis 0) a0 7) (fun ad7 => obd (xgr C4 (xis 4) ad7 6) (fun ad8 => obd (xar C4 7 ad8 a1) (fun ad9 => (if a2 = 0 then obd (xgr C4 (xis 0) a0 2) (fun ad11 => vd_X13_hopping ad9 a3 ad11 C4 (fun r13 C12 => K r13 C12)) else if a2 = 1 then obd (xgr C4 (xis 0) a0 2) (fun ad14 => vd_X13_falling ad9 a3 ad14 C4 (fun r16 C15 => K r16 C15)) else if a2 = 2 then obd (xgr C4 (xis 0) a0 2) (fun ad17 => vd_X13_rising ad9 a3 ad17 C4 (fun r19 C18 => K r19 C18)) else K 0 C4))))))))))
theorem iX0_act : xInf yX0_act cX0_act 5 (some .int) 3 := ⟨q1373, by decide +kernel⟩
set_option maxHeartbeats 4000000 in
theorem xet_X0_act (l : Launch) (a0 : Nat) (a1 : Int32) (a2 : Int32) (a3 : Int32) (C : XH) (K : Int32 → XH → Prop) (hs : x_X0_act a0 a1 a2 a3 C K) : xMeti l yX0_act (ws_ yX0_act cX0_act 5 (some .int)) 8 176 0 0 C [.ref a0, .int a1, .int a2, .int a3] K := by
  intro D dT adK adV sz
  refine xEnter (own := RX0) (Qc := xQi D dT K) (by decide) rfl (by rfl) ?_
  intro p e s m args below meth c A ls X hnm hK hA hG hI hl
  have hx := X.1
  have hb := X.2.1
  have hts := X.2.2.2.2.1
  have hown := X.2.2.2.2.2.1
  have hl : lv_has ls 5 [(0, .ref a0), (1, .int a1), (2, .int a2), (3, .int a3)] := hl
  unfold x_X0_act at hs
  refine lv_aload_n hx hb dX0_act_0 rfl (lv_at hl 0 rfl) ?_
  obtain ⟨ad1, ead1, hs⟩ := hs
  refine x_get (v := .ref ad1) X hK hI 0 2 rfl in_X0 rfl q330 rfl (xgr_spec ead1) dX0_act_1 ?_
  refine lv_iconst (v := 0) hx hb dX0_act_4 (by decide) ?_
  obtain ⟨C2, eC2, hs⟩ := hs
  refine x_put X hK hI 1 1 rfl in_X1 tyX1 tyX1_ok nmX1 rfl q149 rfl rfl rfl rfl eC2 dX0_act_5 (fun H locs hI => ?_)
  refine lv_aload_n hx hb dX0_act_8 rfl (lv_at hl 0 rfl) ?_
  obtain ⟨ad3, ead3, hs⟩ := hs
  refine x_get (v := .ref ad3) X hK hI 0 7 rfl in_X0 rfl q335 rfl (xgr_spec ead3) dX0_act_9 ?_
  refine lv_iload_n hx hb dX0_act_12 rfl (lv_at hl 1 rfl) ?_
  obtain ⟨h5, hs⟩ := hs
  obtain ⟨fh5, h5⟩ := xcl_spec h5
  refine x_goz hA hI (x_runV (As := [.int a1]) (rest := []) X hK hA hG hI h5 (q := (RX4, TX4, 13)) rfl rfl (xet_X4_isChild l ad3 a1 _ _ hs) iX4_isChild q653 q654 q655 q98 ⟨(Nat.le_of_ble_eq_true rfl), (Nat.le_of_ble_eq_true rfl)⟩ rfl hl.1 rfl (Nat.le_of_ble_eq_true rfl) dX0_act_13 ⟨(Nat.le_of_ble_eq_true rfl), (Nat.le_of_ble_eq_true rfl)⟩) (fun r5 C4 H locs br5 hs9 hI => ?_)
  replace hs := hs9
  refine lv_if_ne (tgt := 21) hx hb dX0_act_16 (by decide) (fun c19 => ?_) (fun c19 => ?_)
  · replace hs := ifn c19 hs
    refine lv_aload_n hx hb dX0_act_21 rfl (lv_at hl 0 rfl) ?_
    obtain ⟨ad7, ead7, hs⟩ := hs
    refine x_get (v := .ref ad7) X hK hI 0 7 rfl in_X0 rfl q335 rfl (xgr_spec ead7) dX0_act_22 ?_
    obtain ⟨ad8, ead8, hs⟩ := hs
    refine x_get (v := .ref ad8) X hK hI 4 6 rfl in_X4 rfl q272 rfl (xgr_spec ead8) dX0_act_25 ?_
    refine lv_iload_n hx hb dX0_act_28 rfl (lv_at hl 1 rfl) ?_
    obtain ⟨ad9, ead9, hs⟩ := hs
    refine x_aald X hK hI 7 rfl rfl ead9 dX0_act_29 ?_
    refine lv_astore (lv' := [(4, .ref ad9), (0, .ref a0), (1, .int a1), (2, .int a2), (3, .int a3)]) hx hb dX0_act_30 hl (by decide) rfl (fun ls hl => ?_)
    refine lv_iload_n hx hb dX0_act_32 rfl (lv_at hl 3 rfl) ?_
    by_cases c9_0 : a2 = 0
    · replace hs := ifp c9_0 hs
      refine lv_tableIn (tgt := 60) hx hb dX0_act_33 (by rw [c9_0]; decide) (by rw [c9_0]; decide) (by rw [c9_0]; rfl) (by decide) ?_
      refine lv_aload hx hb dX0_act_60 (lv_at hl 0 rfl) ?_
      refine lv_iload_n hx hb dX0_act_62 rfl (lv_at hl 4 rfl) ?_
      refine lv_aload_n hx hb dX0_act_63 rfl (lv_at hl 1 rfl) ?_
      obtain ⟨ad11, ead11, hs⟩ := hs
      refine x_get (v := .ref ad11) X hK hI 0 2 rfl in_X0 rfl q330 rfl (xgr_spec ead11) dX0_act_64 ?_
      refine x_goi hA hI (vdc_X13_hopping (rest := []) X hK hA hG hI ad9 a3 ad11 _ hs q1374 ⟨(Nat.le_of_ble_eq_true rfl), (Nat.le_of_ble_eq_true rfl)⟩ hl.1 (Nat.le_of_ble_eq_true rfl) dX0_act_67 ⟨(Nat.le_of_ble_eq_true rfl), (Nat.le_of_ble_eq_true rfl)⟩) (fun r13 C12 H locs hs9 hI => ?_)
      replace hs := hs9
      exact x_reti X hK hI hs (Nat.le_of_ble_eq_true rfl) (Nat.le_of_ble_eq_true rfl) dX0_act_70
    · replace hs := ifn c9_0 hs
      by_cases c9_1 : a2 = 1
      · replace hs := ifp c9_1 hs
        refine lv_tableIn (tgt := 71) hx hb dX0_act_33 (by rw [c9_1]; decide) (by rw [c9_1]; decide) (by rw [c9_1]; rfl) (by decide) ?_
        refine lv_aload hx hb dX0_act_71 (lv_at hl 0 rfl) ?_
        refine lv_iload_n hx hb dX0_act_73 rfl (lv_at hl 4 rfl) ?_
        refine lv_aload_n hx hb dX0_act_74 rfl (lv_at hl 1 rfl) ?_
        obtain ⟨ad14, ead14, hs⟩ := hs
        refine x_get (v := .ref ad14) X hK hI 0 2 rfl in_X0 rfl q330 rfl (xgr_spec ead14) dX0_act_75 ?_
        refine x_goi hA hI (vdc_X13_falling (rest := []) X hK hA hG hI ad9 a3 ad14 _ hs q1401 ⟨(Nat.le_of_ble_eq_true rfl), (Nat.le_of_ble_eq_true rfl)⟩ hl.1 (Nat.le_of_ble_eq_true rfl) dX0_act_78 ⟨(Nat.le_of_ble_eq_true rfl), (Nat.le_of_ble_eq_true rfl)⟩) (fun r16 C15 H locs hs9 hI => ?_)
        replace hs := hs9
        exact x_reti X hK hI hs (Nat.le_of_ble_eq_true rfl) (Nat.le_of_ble_eq_true rfl) dX0_act_81
      · replace hs := ifn c9_1 hs
        by_cases c9_2 : a2 = 2
        · replace hs := ifp c9_2 hs
          refine lv_tableIn (tgt := 82) hx hb dX0_act_33 (by rw [c9_2]; decide) (by rw [c9_2]; decide) (by rw [c9_2]; rfl) (by decide) ?_
          refine lv_aload hx hb dX0_act_82 (lv_at hl 0 rfl) ?_
          refine lv_iload_n hx hb dX0_act_84 rfl (lv_at hl 4 rfl) ?_
          refine lv_aload_n hx hb dX0_act_85 rfl (lv_at hl 1 rfl) ?_
          obtain ⟨ad17, ead17, hs⟩ := hs
          refine x_get (v := .ref ad17) X hK hI 0 2 rfl in_X0 rfl q330 rfl (xgr_spec ead17) dX0_act_86 ?_
          refine x_goi hA hI (vdc_X13_rising (rest := []) X hK hA hG hI ad9 a3 ad17 _ hs q1427 ⟨(Nat.le_of_ble_eq_true rfl), (Nat.le_of_ble_eq_true rfl)⟩ hl.1 (Nat.le_of_ble_eq_true rfl) dX0_act_89 ⟨(Nat.le_of_ble_eq_true rfl), (Nat.le_of_ble_eq_true rfl)⟩) (fun r19 C18 H locs hs9 hI => ?_)
          replace hs := hs9
          exact x_reti X hK hI hs (Nat.le_of_ble_eq_true rfl) (Nat.le_of_ble_eq_true rfl) dX0_act_92
        · replace hs := ifn c9_2 hs
          refine lv_tableOut (tgt := 93) hx hb dX0_act_33 (sw_out (fun k h1 h2 => by
            have h3 : k = 0 ∨ k = 1 ∨ k = 2 := by omega
            rcases h3 with rfl | rfl | rfl
            · exact lv_neT c9_0 rfl
            · exact lv_neT c9_1 rfl
            · exact lv_neT c9_2 rfl
            )) (by decide) ?_
          refine lv_iconst (v := 0) hx hb dX0_act_93 (by decide) ?_
          exact x_reti X hK hI hs (Nat.le_of_ble_eq_true rfl) (Nat.le_of_ble_eq_true rfl) dX0_act_94
  · replace hs := ifp c19 hs
    refine lv_iconst (v := 0) hx hb dX0_act_19 (by decide) ?_
    exact x_reti X hK hI hs (Nat.le_of_ble_eq_true rfl) (Nat.le_of_ble_eq_true rfl) dX0_act_20
def x_X0_trace (a0 : Nat) (a1 : Int32) (C : XH) (K : Int32 → XH → Prop) : Prop := obd (xgr C (xis 0) a0 2) (fun ad1 => obd (xgi C (xis 1) ad1 1) (fun v2 => x_X0_in ((a1 : Int32).toInt64) 0 ((((imin v2 20) - 1) : Int32).toInt64) C (fun r4 C3 => (if r4 = 0 then K (-1) C3 else obd (xgr C3 (xis 0) a0 2) (fun ad5 => obd (xgr C3 (xis 1) ad5 0) (fun ad6 => obd (xai C3 0 ad6 a1) (fun v7 => K v7 C3)))))))
theorem iX0_trace : xInf yX0_trace cX0_trace 2 (some .int) 1 := ⟨q1451, by decide +kernel⟩
set_option maxHeartbeats 4000000 in
theorem xet_X0_trace (l : Launch) (a0 : Nat) (a1 : Int32) (C : XH) (K : Int32 → XH → Prop) (hs : x_X0_trace a0 a1 C K) : xMeti l yX0_trace (ws_ yX0_trace cX0_trace 2 (some .int)) 1 25 0 0 C [.ref a0, .int a1] K := by
  intro D dT adK adV sz
  refine xEnter (own := RX0) (Qc := xQi D dT K) (by decide) rfl (by rfl) ?_
  intro p e s m args below meth c A ls X hnm hK hA hG hI hl
  have hx := X.1
  have hb := X.2.1
  have hts := X.2.2.2.2.1
  have hown := X.2.2.2.2.2.1
  have hl : lv_has ls 2 [(0, .ref a0), (1, .int a1)] := hl
  unfold x_X0_trace at hs
  refine lv_iload_n hx hb dX0_trace_0 rfl (lv_at hl 1 rfl) ?_
  refine lv_i2l (v := ((a1 : Int32).toInt64)) hx hb dX0_trace_1 rfl ?_
  refine lv_lconst (v := 0) hx hb dX0_trace_2 (by decide) ?_
  refine lv_aload_n hx hb dX0_trace_3 rfl (lv_at hl 0 rfl) ?_
  obtain ⟨ad1, ead1, hs⟩ := hs
  refine x_get (v := .ref ad1) X hK hI 0 2 rfl in_X0 rfl q330 rfl (xgr_spec ead1) dX0_trace_4 ?_
  obtain ⟨v2, ev2, hs⟩ := hs
  refine x_get (v := .int v2) X hK hI 1 1 rfl in_X1 rfl q149 rfl (xgi_spec ev2) dX0_trace_7 ?_
  refine lv_bipush (v := 20) hx hb dX0_trace_10 (by decide) ?_
  refine va_mmin (rest := [.long 0, .long ((a1 : Int32).toInt64)]) hx hb (X.2.2.2.1.trans hl.1.symm) hown (hts _ q1360) (hts _ q1175) (hts _ q116) (hts _ q1176) (Nat.le_of_ble_eq_true rfl) (Nat.le_of_ble_eq_true rfl) (Nat.le_of_ble_eq_true rfl) (Nat.le_of_ble_eq_true rfl) dX0_trace_12 ?_
  refine lv_iconst (v := 1) hx hb dX0_trace_15 (by decide) ?_
  refine lv_isub hx hb dX0_trace_16 ?_
  refine lv_i2l (v := ((((imin v2 20) - 1) : Int32).toInt64)) hx hb dX0_trace_17 rfl ?_
  refine x_goz hA hI (x_runS (As := [.long ((a1 : Int32).toInt64), .long 0, .long ((((imin v2 20) - 1) : Int32).toInt64)]) (rest := []) X hK hA hG hI (xet_X0_in l ((a1 : Int32).toInt64) 0 ((((imin v2 20) - 1) : Int32).toInt64) _ _ hs) iX0_in q473 q474 q94 ⟨(Nat.le_of_ble_eq_true rfl), (Nat.le_of_ble_eq_true rfl)⟩ rfl hl.1 rfl (Nat.le_of_ble_eq_true rfl) dX0_trace_18 ⟨(Nat.le_of_ble_eq_true rfl), (Nat.le_of_ble_eq_true rfl)⟩) (fun r4 C3 H locs br4 hs9 hI => ?_)
  replace hs := hs9
  refine lv_if_eq (tgt := 36) hx hb dX0_trace_21 (by decide) (fun c7 => ?_) (fun c7 => ?_)
  · replace hs := ifp c7 hs
    refine lv_iconst (v := (-1)) hx hb dX0_trace_36 (by decide) ?_
    exact x_reti X hK hI hs (Nat.le_of_ble_eq_true rfl) (Nat.le_of_ble_eq_true rfl) dX0_trace_37
  · replace hs := ifn c7 hs
    refine lv_aload_n hx hb dX0_trace_24 rfl (lv_at hl 0 rfl) ?_
    obtain ⟨ad5, ead5, hs⟩ := hs
    refine x_get (v := .ref ad5) X hK hI 0 2 rfl in_X0 rfl q330 rfl (xgr_spec ead5) dX0_trace_25 ?_
    obtain ⟨ad6, ead6, hs⟩ := hs
    refine x_get (v := .ref ad6) X hK hI 1 0 rfl in_X1 rfl q147 rfl (xgr_spec ead6) dX0_trace_28 ?_
    refine lv_iload_n hx hb dX0_trace_31 rfl (lv_at hl 1 rfl) ?_
    obtain ⟨v7, ev7, hs⟩ := hs
    refine x_iald X hK hI ev7 dX0_trace_32 ?_
    refine lv_goto (tgt := 37) hx hb dX0_trace_33 (by decide) ?_
    exact x_reti X hK hI hs (Nat.le_of_ble_eq_true rfl) (Nat.le_of_ble_eq_true rfl) dX0_trace_37
def x_X0_image (a0 : Nat) (C : XH) (K : Int32 → XH → Prop) : Prop := xnew C (.inr (4, [.int 0, .int 0, .int 0, .int 0, .int 0, .null, .null, .null, .null, .null, .null, .null, .null])) (fun ad1 C2 => x_X4_init ad1 C2 (fun C3 => obd (xgr C3 (xis 0) a0 7) (fun ad4 => (xcl C3 ad1 = some 4 ∧ x_X4_take ad1 ad4 C3 (fun ad6 C5 => obd (xpv C5 (xis 0) a0 8 (.ref ad6)) (fun C8 => obd (xgr C8 (xis 0) a0 7) (fun ad9 => obd (xgi C8 (xis 4) ad9 0) (fun v10 => K v10 C8))))))))
theorem iX0_image : xInf yX0_image cX0_image 1 (some .int) 0 := ⟨q1455, by decide +kernel⟩
set_option maxHeartbeats 4000000 in
theorem xet_X0_image (l : Launch) (a0 : Nat) (C : XH) (K : Int32 → XH → Prop) (hs : x_X0_image a0 C K) : xMeti l yX0_image (ws_ yX0_image cX0_image 1 (some .int)) 2 221 9 73 C [.ref a0] K := by
  intro D dT adK adV sz
  refine xEnter (own := RX0) (Qc := xQi D dT K) (by decide) rfl (by rfl) ?_
  intro p e s m args below meth c A ls X hnm hK hA hG hI hl
  have hx := X.1
  have hb := X.2.1
  have hts := X.2.2.2.2.1
  have hown := X.2.2.2.2.2.1
  have hl : lv_has ls 1 [(0, .ref a0)] := hl
  unfold x_X0_image at hs
  refine lv_aload_n hx hb dX0_image_0 rfl (lv_at hl 0 rfl) ?_
  refine x_new X hK hI hA 4 (fs := [.int 0, .int 0, .int 0, .int 0, .int 0, .null, .null, .null, .null, .null, .null, .null, .null]) rfl in_X4 tyX4 tyX4_ok q243 q244 q98 rfl (Nat.le_of_ble_eq_true rfl) (Nat.le_of_ble_eq_true rfl) hs dX0_image_1 (fun ad1 C2 H hs9 hI => ?_)
  replace hs := hs9
  refine lv_dup hx hb dX0_image_4 rfl ?_
  refine x_gov hA hI (x_runI (As := []) (rest := [.ref ad1, .ref a0]) X hK hA hG hI (xet_X4_init l ad1 _ _ hs) iX4_init rfl q245 q246 q98 ⟨(Nat.le_of_ble_eq_true rfl), (Nat.le_of_ble_eq_true rfl)⟩ rfl hl.1 rfl (Nat.le_of_ble_eq_true rfl) dX0_image_5 ⟨(Nat.le_of_ble_eq_true rfl), (Nat.le_of_ble_eq_true rfl)⟩) (fun C3 H locs hs9 hI => ?_)
  replace hs := hs9
  refine lv_aload_n hx hb dX0_image_8 rfl (lv_at hl 0 rfl) ?_
  obtain ⟨ad4, ead4, hs⟩ := hs
  refine x_get (v := .ref ad4) X hK hI 0 7 rfl in_X0 rfl q335 rfl (xgr_spec ead4) dX0_image_9 ?_
  obtain ⟨h6, hs⟩ := hs
  obtain ⟨fh6, h6⟩ := xcl_spec h6
  refine x_gor hA hI (x_runV (As := [.ref ad4]) (rest := [.ref a0]) X hK hA hG hI h6 (q := (RX4, TX4, 13)) rfl rfl (xet_X4_take l ad1 ad4 _ _ hs) iX4_take q949 q950 q951 q98 ⟨(Nat.le_of_ble_eq_true rfl), (Nat.le_of_ble_eq_true rfl)⟩ rfl hl.1 rfl (Nat.le_of_ble_eq_true rfl) dX0_image_12 ⟨(Nat.le_of_ble_eq_true rfl), (Nat.le_of_ble_eq_true rfl)⟩) (fun ad6 C5 H locs hs9 hI => ?_)
  replace hs := hs9
  obtain ⟨C8, eC8, hs⟩ := hs
  refine x_put X hK hI 0 8 rfl in_X0 tyX0 tyX0_ok nmX0 rfl q336 rfl rfl rfl rfl eC8 dX0_image_15 (fun H locs hI => ?_)
  refine lv_aload_n hx hb dX0_image_18 rfl (lv_at hl 0 rfl) ?_
  obtain ⟨ad9, ead9, hs⟩ := hs
  refine x_get (v := .ref ad9) X hK hI 0 7 rfl in_X0 rfl q335 rfl (xgr_spec ead9) dX0_image_19 ?_
  obtain ⟨v10, ev10, hs⟩ := hs
  refine x_get (v := .int v10) X hK hI 4 0 rfl in_X4 rfl q252 rfl (xgi_spec ev10) dX0_image_22 ?_
  exact x_reti X hK hI hs (Nat.le_of_ble_eq_true rfl) (Nat.le_of_ble_eq_true rfl) dX0_image_25
def x_X5_holdsHopper (a0 : Nat) (C : XH) (K : Int32 → XH → Prop) : Prop := obd (xgo C (xis 5) a0 0) (fun o1 => xinst C o1 (fun v2 => K v2 C))
theorem iX5_holdsHopper : xInf yX5_holdsHopper cX5_holdsHopper 1 (some .boolean) 0 := ⟨q591, by decide +kernel⟩
set_option maxHeartbeats 4000000 in
theorem xet_X5_holdsHopper (l : Launch) (a0 : Nat) (C : XH) (K : Int32 → XH → Prop) (hs : x_X5_holdsHopper a0 C K) : xMetz l yX5_holdsHopper (ws_ yX5_holdsHopper cX5_holdsHopper 1 (some .boolean)) 0 0 0 0 C [.ref a0] K := by
  intro D dT adK adV sz
  refine xEnter (own := RX5) (Qc := xQz D dT K) (by decide) rfl (by rfl) ?_
  intro p e s m args below meth c A ls X hnm hK hA hG hI hl
  have hx := X.1
  have hb := X.2.1
  have hts := X.2.2.2.2.1
  have hown := X.2.2.2.2.2.1
  have hl : lv_has ls 1 [(0, .ref a0)] := hl
  unfold x_X5_holdsHopper at hs
  refine lv_aload_n hx hb dX5_holdsHopper_0 rfl (lv_at hl 0 rfl) ?_
  obtain ⟨o1, eo1, hs⟩ := hs
  refine x_get (v := va_rf o1) X hK hI 5 0 rfl in_X5 rfl q323 rfl (xgo_spec eo1) dX5_holdsHopper_1 ?_
  refine x_inst X hK hG hI q592 hs dX5_holdsHopper_4 (fun v2 bv2 hs9 => ?_)
  replace hs := hs9
  exact x_retz X hK hI bv2 hs (Nat.le_of_ble_eq_true rfl) (Nat.le_of_ble_eq_true rfl) dX5_holdsHopper_7
