set_option maxRecDepth 100000
def x_J0_init_3_7 (a0 : Nat) (C : XH) (K : XH → Prop) : Prop := obd (xpv C (xis 7) a0 0 (.ref a0)) (fun C1 => (∀ o2 : Option Nat, obd (xpv C1 (xis 7) a0 1 (va_rf o2)) (fun C3 => (∀ o4 : Option Nat, obd (xpv C3 (xis 7) a0 2 (va_rf o4)) (fun C5 => jn (fun (C6 : XH) => obd (xpv C6 (xis 7) a0 3 (.null)) (fun C7 => obd (xpv C7 (xis 7) a0 0 (.null)) (fun C8 => obd (xpv C8 (xis 7) a0 2 (.null)) (fun C9 => K C9)))) (fun k41_6 => obd (xpv C5 (xis 7) a0 1 (.null)) (fun C10 => k41_6 C10)))))))
theorem iJ0_init_3 : xInf yJ0_init_3 cJ0_init_3 5 none 4 := ⟨q462, by decide +kernel⟩
set_option maxHeartbeats 4000000 in
theorem xet_J0_init_3_7 (l : Launch) (a0 : Nat) (C : XH) (K : XH → Prop) (hs : x_J0_init_3_7 a0 C K) : xMetv l yJ0_init_3 (ws_ yJ0_init_3 cJ0_init_3 5 none) 1 24 0 0 C [.ref a0, .null, .null, .int 0, .int 0] K := by
  intro D dT adK adV sz
  refine xEnter (own := RJ0) (Qc := xQv D dT K) (by decide) rfl (by rfl) ?_
  intro p e s m args below meth c A ls X hnm hK hA hG hI hl
  have hx := X.1
  have hb := X.2.1
  have hts := X.2.2.2.2.1
  have hown := X.2.2.2.2.2.1
  have hl : lv_has ls 5 [(0, .ref a0), (1, .null), (2, .null), (3, .int 0), (4, .int 0)] := hl
  unfold x_J0_init_3_7 at hs
  refine lv_aload_n hx hb dJ0_init_3_0 rfl (lv_at hl 0 rfl) ?_
  refine W.objInit hx hb hown (hts _ q384) (hts _ q136) (hts _ q137) rfl (by rw [X.2.2.2.1]; exact hl.1) rfl dJ0_init_3_1 (Nat.le_of_ble_eq_true rfl) (Nat.le_of_ble_eq_true rfl) ?_
  show W p l e _ s m args below meth c _ _ _ _ _ (F0 m 4 ls [])
  refine lv_aload_n hx hb dJ0_init_3_4 rfl (lv_at hl 0 rfl) ?_
  refine lv_aload_n hx hb dJ0_init_3_5 rfl (lv_at hl 0 rfl) ?_
  obtain ⟨C1, eC1, hs⟩ := hs
  refine x_put X hK hI 7 0 rfl in_X7 tyX7 tyX7_ok nmX7 rfl q405 rfl rfl rfl rfl eC1 dJ0_init_3_6 (fun H locs hI => ?_)
  refine lv_aload_n hx hb dJ0_init_3_9 rfl (lv_at hl 0 rfl) ?_
  refine x_gets X hI hG.2.1.1 q385 dJ0_init_3_10 (fun o2 => ?_)
  replace hs := hs o2
  obtain ⟨C3, eC3, hs⟩ := hs
  refine x_put X hK hI 7 1 rfl in_X7 tyX7 tyX7_ok nmX7 rfl q406 rfl rfl (by cases o2 <;> rfl) (by cases o2 <;> rfl) eC3 dJ0_init_3_13 (fun H locs hI => ?_)
  refine lv_aload_n hx hb dJ0_init_3_16 rfl (lv_at hl 0 rfl) ?_
  refine x_gets X hI hG.2.2.1.1 q387 dJ0_init_3_17 (fun o4 => ?_)
  replace hs := hs o4
  obtain ⟨C5, eC5, hs⟩ := hs
  refine x_put X hK hI 7 2 rfl in_X7 tyX7 tyX7_ok nmX7 rfl q407 rfl rfl (by cases o4 <;> rfl) (by cases o4 <;> rfl) eC5 dJ0_init_3_20 (fun H locs hI => ?_)
  refine lv_iload hx hb dJ0_init_3_23 (lv_at hl 4 rfl) ?_
  obtain ⟨k41_6, hk41_6, hs⟩ := jn_ex hs
  have Ek41_6 : ∀ (C6 : XH) (H : Heap) (locs : List Loc) (ls : Array Slot), k41_6 C6 → xI D dT A s.heap C6 H locs → lv_has ls 5 [(0, .ref a0), (1, .null), (2, .null), (3, .int 0)] → W p l e (xRm 1 24 0 0) s m args below meth c H locs 0 0 (MQ below (xQv D dT K A) args s 0 0 A) (F0 m 41 ls []) := by
    intro C6 H locs ls hs hI hl
    rw [hk41_6] at hs
    refine lv_aload_n hx hb dJ0_init_3_41 rfl (lv_at hl 0 rfl) ?_
    refine x_aloado_n (o := none) hx hb dJ0_init_3_42 rfl (lv_at hl 1 rfl) ?_
    obtain ⟨C7, eC7, hs⟩ := hs
    refine x_put X hK hI 7 3 rfl in_X7 tyX7 tyX7_ok nmX7 rfl q404 rfl rfl rfl rfl eC7 dJ0_init_3_43 (fun H locs hI => ?_)
    refine lv_aload_n hx hb dJ0_init_3_46 rfl (lv_at hl 0 rfl) ?_
    refine x_aloado_n (o := none) hx hb dJ0_init_3_47 rfl (lv_at hl 2 rfl) ?_
    obtain ⟨C8, eC8, hs⟩ := hs
    refine x_put X hK hI 7 0 rfl in_X7 tyX7 tyX7_ok nmX7 rfl q405 rfl rfl rfl rfl eC8 dJ0_init_3_48 (fun H locs hI => ?_)
    refine lv_iload_n hx hb dJ0_init_3_51 rfl (lv_at hl 3 rfl) ?_
    refine lv_if_ne (tgt := 60) hx hb dJ0_init_3_52 (by decide) (fun c => absurd (by decide) c) (fun _ => ?_)
    refine lv_aload_n hx hb dJ0_init_3_55 rfl (lv_at hl 0 rfl) ?_
    refine lv_null hx hb dJ0_init_3_56 ?_
    obtain ⟨C9, eC9, hs⟩ := hs
    refine x_put X hK hI 7 2 rfl in_X7 tyX7 tyX7_ok nmX7 rfl q407 rfl rfl rfl rfl eC9 dJ0_init_3_57 (fun H locs hI => ?_)
    exact x_retv X hK hI hs (Nat.le_of_ble_eq_true rfl) (Nat.le_of_ble_eq_true rfl) dJ0_init_3_60
  refine lv_if_eq (tgt := 36) hx hb dJ0_init_3_25 (by decide) (fun _ => ?_) (fun c => absurd (by decide) c)
  refine lv_aload_n hx hb dJ0_init_3_36 rfl (lv_at hl 0 rfl) ?_
  refine lv_null hx hb dJ0_init_3_37 ?_
  obtain ⟨C10, eC10, hs⟩ := hs
  refine x_put X hK hI 7 1 rfl in_X7 tyX7 tyX7_ok nmX7 rfl q406 rfl rfl rfl rfl eC10 dJ0_init_3_38 (fun H locs hI => ?_)
  exact Ek41_6 _ _ _ _ hs hI (lv_sub hl [0, 1, 2, 3] rfl)
def x_J1_init_2_7 (a0 : Nat) (C : XH) (K : XH → Prop) : Prop := x_J0_init_3_7 a0 C (fun C1 => K C1)
theorem iJ1_init_2 : xInf yJ1_init_2 cJ1_init_2 5 none 4 := ⟨q459, by decide +kernel⟩
set_option maxHeartbeats 4000000 in
theorem xet_J1_init_2_7 (l : Launch) (a0 : Nat) (C : XH) (K : XH → Prop) (hs : x_J1_init_2_7 a0 C K) : xMetv l yJ1_init_2 (ws_ yJ1_init_2 cJ1_init_2 5 none) 2 48 0 0 C [.ref a0, .null, .null, .int 0, .int 0] K := by
  intro D dT adK adV sz
  refine xEnter (own := RJ1) (Qc := xQv D dT K) (by decide) rfl (by rfl) ?_
  intro p e s m args below meth c A ls X hnm hK hA hG hI hl
  have hx := X.1
  have hb := X.2.1
  have hts := X.2.2.2.2.1
  have hown := X.2.2.2.2.2.1
  have hl : lv_has ls 5 [(0, .ref a0), (1, .null), (2, .null), (3, .int 0), (4, .int 0)] := hl
  unfold x_J1_init_2_7 at hs
  refine lv_aload_n hx hb dJ1_init_2_0 rfl (lv_at hl 0 rfl) ?_
  refine x_aloado_n (o := none) hx hb dJ1_init_2_1 rfl (lv_at hl 1 rfl) ?_
  refine x_aloado_n (o := none) hx hb dJ1_init_2_2 rfl (lv_at hl 2 rfl) ?_
  refine lv_iload_n hx hb dJ1_init_2_3 rfl (lv_at hl 3 rfl) ?_
  refine lv_iload hx hb dJ1_init_2_4 (lv_at hl 4 rfl) ?_
  refine x_gov hA hI (x_runI (As := [.null, .null, .int 0, .int 0]) (rest := []) X hK hA hG hI (xet_J0_init_3_7 l a0 _ _ hs) iJ0_init_3 rfl q460 q461 q101 ⟨(Nat.le_of_ble_eq_true rfl), (Nat.le_of_ble_eq_true rfl)⟩ rfl hl.1 rfl (Nat.le_of_ble_eq_true rfl) dJ1_init_2_6 ⟨(Nat.le_of_ble_eq_true rfl), (Nat.le_of_ble_eq_true rfl)⟩) (fun C1 H locs hs9 hI => ?_)
  replace hs := hs9
  exact x_retv X hK hI hs (Nat.le_of_ble_eq_true rfl) (Nat.le_of_ble_eq_true rfl) dJ1_init_2_9
def x_J0_init_3_21 (a0 : Nat) (C : XH) (K : XH → Prop) : Prop := obd (xpv C (xis 21) a0 0 (.ref a0)) (fun C1 => (∀ o2 : Option Nat, obd (xpv C1 (xis 21) a0 1 (va_rf o2)) (fun C3 => (∀ o4 : Option Nat, obd (xpv C3 (xis 21) a0 2 (va_rf o4)) (fun C5 => jn (fun (C6 : XH) => obd (xpv C6 (xis 21) a0 3 (.null)) (fun C7 => obd (xpv C7 (xis 21) a0 0 (.null)) (fun C8 => obd (xpv C8 (xis 21) a0 2 (.null)) (fun C9 => K C9)))) (fun k41_6 => obd (xpv C5 (xis 21) a0 1 (.null)) (fun C10 => k41_6 C10)))))))
set_option maxHeartbeats 4000000 in
theorem xet_J0_init_3_21 (l : Launch) (a0 : Nat) (C : XH) (K : XH → Prop) (hs : x_J0_init_3_21 a0 C K) : xMetv l yJ0_init_3 (ws_ yJ0_init_3 cJ0_init_3 5 none) 1 24 0 0 C [.ref a0, .null, .null, .int 0, .int 0] K := by
  intro D dT adK adV sz
  refine xEnter (own := RJ0) (Qc := xQv D dT K) (by decide) rfl (by rfl) ?_
  intro p e s m args below meth c A ls X hnm hK hA hG hI hl
  have hx := X.1
  have hb := X.2.1
  have hts := X.2.2.2.2.1
  have hown := X.2.2.2.2.2.1
  have hl : lv_has ls 5 [(0, .ref a0), (1, .null), (2, .null), (3, .int 0), (4, .int 0)] := hl
  unfold x_J0_init_3_21 at hs
  refine lv_aload_n hx hb dJ0_init_3_0 rfl (lv_at hl 0 rfl) ?_
  refine W.objInit hx hb hown (hts _ q384) (hts _ q136) (hts _ q137) rfl (by rw [X.2.2.2.1]; exact hl.1) rfl dJ0_init_3_1 (Nat.le_of_ble_eq_true rfl) (Nat.le_of_ble_eq_true rfl) ?_
  show W p l e _ s m args below meth c _ _ _ _ _ (F0 m 4 ls [])
  refine lv_aload_n hx hb dJ0_init_3_4 rfl (lv_at hl 0 rfl) ?_
  refine lv_aload_n hx hb dJ0_init_3_5 rfl (lv_at hl 0 rfl) ?_
  obtain ⟨C1, eC1, hs⟩ := hs
  refine x_put X hK hI 21 0 rfl in_X21 tyX21 tyX21_ok nmX21 rfl q405 rfl rfl rfl rfl eC1 dJ0_init_3_6 (fun H locs hI => ?_)
  refine lv_aload_n hx hb dJ0_init_3_9 rfl (lv_at hl 0 rfl) ?_
  refine x_gets X hI hG.2.1.1 q385 dJ0_init_3_10 (fun o2 => ?_)
  replace hs := hs o2
  obtain ⟨C3, eC3, hs⟩ := hs
  refine x_put X hK hI 21 1 rfl in_X21 tyX21 tyX21_ok nmX21 rfl q406 rfl rfl (by cases o2 <;> rfl) (by cases o2 <;> rfl) eC3 dJ0_init_3_13 (fun H locs hI => ?_)
  refine lv_aload_n hx hb dJ0_init_3_16 rfl (lv_at hl 0 rfl) ?_
  refine x_gets X hI hG.2.2.1.1 q387 dJ0_init_3_17 (fun o4 => ?_)
  replace hs := hs o4
  obtain ⟨C5, eC5, hs⟩ := hs
  refine x_put X hK hI 21 2 rfl in_X21 tyX21 tyX21_ok nmX21 rfl q407 rfl rfl (by cases o4 <;> rfl) (by cases o4 <;> rfl) eC5 dJ0_init_3_20 (fun H locs hI => ?_)
  refine lv_iload hx hb dJ0_init_3_23 (lv_at hl 4 rfl) ?_
  obtain ⟨k41_6, hk41_6, hs⟩ := jn_ex hs
  have Ek41_6 : ∀ (C6 : XH) (H : Heap) (locs : List Loc) (ls : Array Slot), k41_6 C6 → xI D dT A s.heap C6 H locs → lv_has ls 5 [(0, .ref a0), (1, .null), (2, .null), (3, .int 0)] → W p l e (xRm 1 24 0 0) s m args below meth c H locs 0 0 (MQ below (xQv D dT K A) args s 0 0 A) (F0 m 41 ls []) := by
    intro C6 H locs ls hs hI hl
    rw [hk41_6] at hs
    refine lv_aload_n hx hb dJ0_init_3_41 rfl (lv_at hl 0 rfl) ?_
    refine x_aloado_n (o := none) hx hb dJ0_init_3_42 rfl (lv_at hl 1 rfl) ?_
    obtain ⟨C7, eC7, hs⟩ := hs
    refine x_put X hK hI 21 3 rfl in_X21 tyX21 tyX21_ok nmX21 rfl q404 rfl rfl rfl rfl eC7 dJ0_init_3_43 (fun H locs hI => ?_)
    refine lv_aload_n hx hb dJ0_init_3_46 rfl (lv_at hl 0 rfl) ?_
    refine x_aloado_n (o := none) hx hb dJ0_init_3_47 rfl (lv_at hl 2 rfl) ?_
    obtain ⟨C8, eC8, hs⟩ := hs
    refine x_put X hK hI 21 0 rfl in_X21 tyX21 tyX21_ok nmX21 rfl q405 rfl rfl rfl rfl eC8 dJ0_init_3_48 (fun H locs hI => ?_)
    refine lv_iload_n hx hb dJ0_init_3_51 rfl (lv_at hl 3 rfl) ?_
    refine lv_if_ne (tgt := 60) hx hb dJ0_init_3_52 (by decide) (fun c => absurd (by decide) c) (fun _ => ?_)
    refine lv_aload_n hx hb dJ0_init_3_55 rfl (lv_at hl 0 rfl) ?_
    refine lv_null hx hb dJ0_init_3_56 ?_
    obtain ⟨C9, eC9, hs⟩ := hs
    refine x_put X hK hI 21 2 rfl in_X21 tyX21 tyX21_ok nmX21 rfl q407 rfl rfl rfl rfl eC9 dJ0_init_3_57 (fun H locs hI => ?_)
    exact x_retv X hK hI hs (Nat.le_of_ble_eq_true rfl) (Nat.le_of_ble_eq_true rfl) dJ0_init_3_60
  refine lv_if_eq (tgt := 36) hx hb dJ0_init_3_25 (by decide) (fun _ => ?_) (fun c => absurd (by decide) c)
  refine lv_aload_n hx hb dJ0_init_3_36 rfl (lv_at hl 0 rfl) ?_
  refine lv_null hx hb dJ0_init_3_37 ?_
  obtain ⟨C10, eC10, hs⟩ := hs
  refine x_put X hK hI 21 1 rfl in_X21 tyX21 tyX21_ok nmX21 rfl q406 rfl rfl rfl rfl eC10 dJ0_init_3_38 (fun H locs hI => ?_)
  exact Ek41_6 _ _ _ _ hs hI (lv_sub hl [0, 1, 2, 3] rfl)
def x_J1_init_2_21 (a0 : Nat) (C : XH) (K : XH → Prop) : Prop := x_J0_init_3_21 a0 C (fun C1 => K C1)
set_option maxHeartbeats 4000000 in
theorem xet_J1_init_2_21 (l : Launch) (a0 : Nat) (C : XH) (K : XH → Prop) (hs : x_J1_init_2_21 a0 C K) : xMetv l yJ1_init_2 (ws_ yJ1_init_2 cJ1_init_2 5 none) 2 48 0 0 C [.ref a0, .null, .null, .int 0, .int 0] K := by
  intro D dT adK adV sz
  refine xEnter (own := RJ1) (Qc := xQv D dT K) (by decide) rfl (by rfl) ?_
  intro p e s m args below meth c A ls X hnm hK hA hG hI hl
  have hx := X.1
  have hb := X.2.1
  have hts := X.2.2.2.2.1
  have hown := X.2.2.2.2.2.1
  have hl : lv_has ls 5 [(0, .ref a0), (1, .null), (2, .null), (3, .int 0), (4, .int 0)] := hl
  unfold x_J1_init_2_21 at hs
  refine lv_aload_n hx hb dJ1_init_2_0 rfl (lv_at hl 0 rfl) ?_
  refine x_aloado_n (o := none) hx hb dJ1_init_2_1 rfl (lv_at hl 1 rfl) ?_
  refine x_aloado_n (o := none) hx hb dJ1_init_2_2 rfl (lv_at hl 2 rfl) ?_
  refine lv_iload_n hx hb dJ1_init_2_3 rfl (lv_at hl 3 rfl) ?_
  refine lv_iload hx hb dJ1_init_2_4 (lv_at hl 4 rfl) ?_
  refine x_gov hA hI (x_runI (As := [.null, .null, .int 0, .int 0]) (rest := []) X hK hA hG hI (xet_J0_init_3_21 l a0 _ _ hs) iJ0_init_3 rfl q460 q461 q101 ⟨(Nat.le_of_ble_eq_true rfl), (Nat.le_of_ble_eq_true rfl)⟩ rfl hl.1 rfl (Nat.le_of_ble_eq_true rfl) dJ1_init_2_6 ⟨(Nat.le_of_ble_eq_true rfl), (Nat.le_of_ble_eq_true rfl)⟩) (fun C1 H locs hs9 hI => ?_)
  replace hs := hs9
  exact x_retv X hK hI hs (Nat.le_of_ble_eq_true rfl) (Nat.le_of_ble_eq_true rfl) dJ1_init_2_9
def x_X4_init (a0 : Nat) (C : XH) (K : XH → Prop) : Prop := obd (xpv C (xis 4) a0 4 (.int 1)) (fun C1 => xnew C1 (.inl (0, (4, .inl (fun _ => 0)))) (fun ad2 C3 => obd (xsi C3 ad2 0 40) (fun C4 => obd (xsi C4 ad2 1 5) (fun C5 => obd (xsi C5 ad2 2 3) (fun C6 => obd (xsi C6 ad2 3 20) (fun C7 => obd (xpv C7 (xis 4) a0 5 (.ref ad2)) (fun C8 => xnew C8 (.inl (7, 8, .inr (.inr (.inr (.inr (fun _ => none)))))) (fun ad9 C10 => obd (xpv C10 (xis 4) a0 6 (.ref ad9)) (fun C11 => xnew C11 (.inl (0, (8, .inl (fun _ => 0)))) (fun ad12 C13 => obd (xpv C13 (xis 4) a0 7 (.ref ad12)) (fun C14 => xnew C14 (.inl (0, (8, .inl (fun _ => 0)))) (fun ad15 C16 => obd (xpv C16 (xis 4) a0 8 (.ref ad15)) (fun C17 => xnew C17 (.inl (0, (8, .inl (fun _ => 0)))) (fun ad18 C19 => obd (xpv C19 (xis 4) a0 9 (.ref ad18)) (fun C20 => xnew C20 (.inl (0, (8, .inl (fun _ => 0)))) (fun ad21 C22 => obd (xpv C22 (xis 4) a0 10 (.ref ad21)) (fun C23 => xnew C23 (.inl (0, (8, .inl (fun _ => 0)))) (fun ad24 C25 => obd (xpv C25 (xis 4) a0 11 (.ref ad24)) (fun C26 => xnew C26 (.inl (0, (8, .inl (fun _ => 0)))) (fun ad27 C28 => obd (xpv C28 (xis 4) a0 12 (.ref ad27)) (fun C29 => K C29)))))))))))))))))))))
theorem iX4_init : xInf yX4_init cX4_init 1 none 0 := ⟨q247, by decide +kernel⟩
set_option maxHeartbeats 4000000 in
theorem xet_X4_init (l : Launch) (a0 : Nat) (C : XH) (K : XH → Prop) (hs : x_X4_init a0 C K) : xMetv l yX4_init (ws_ yX4_init cX4_init 1 none) 1 24 8 60 C [.ref a0] K := by
  intro D dT adK adV sz
  refine xEnter (own := RX4) (Qc := xQv D dT K) (by decide) rfl (by rfl) ?_
  intro p e s m args below meth c A ls X hnm hK hA hG hI hl
  have hx := X.1
  have hb := X.2.1
  have hts := X.2.2.2.2.1
  have hown := X.2.2.2.2.2.1
  have hl : lv_has ls 1 [(0, .ref a0)] := hl
  unfold x_X4_init at hs
  refine lv_aload_n hx hb dX4_init_0 rfl (lv_at hl 0 rfl) ?_
  refine W.objInit hx hb hown (hts _ q248) (hts _ q136) (hts _ q137) rfl (by rw [X.2.2.2.1]; exact hl.1) rfl dX4_init_1 (Nat.le_of_ble_eq_true rfl) (Nat.le_of_ble_eq_true rfl) ?_
  show W p l e _ s m args below meth c _ _ _ _ _ (F0 m 4 ls [])
  refine lv_aload_n hx hb dX4_init_4 rfl (lv_at hl 0 rfl) ?_
  refine lv_iconst (v := 1) hx hb dX4_init_5 (by decide) ?_
  obtain ⟨C1, eC1, hs⟩ := hs
  refine x_put X hK hI 4 4 rfl in_X4 tyX4 tyX4_ok nmX4 rfl q263 rfl rfl rfl rfl eC1 dX4_init_6 (fun H locs hI => ?_)
  refine lv_aload_n hx hb dX4_init_9 rfl (lv_at hl 0 rfl) ?_
  refine lv_iconst (v := 4) hx hb dX4_init_10 (by decide) ?_
  refine x_newa (n := 4) (B := 4) (x := (4, .inl (fun _ => 0))) X hK hI hA 0 rfl rfl (fun _ h => by cases h) q155 (fun _ => rfl) (by decide) (by decide) rfl (Nat.le_of_ble_eq_true rfl) (Nat.le_of_ble_eq_true rfl) hs dX4_init_11 (fun ad2 C3 H hs9 hI => ?_)
  replace hs := hs9
  refine lv_dup hx hb dX4_init_13 rfl ?_
  refine lv_iconst (v := 0) hx hb dX4_init_14 (by decide) ?_
  refine lv_bipush (v := 40) hx hb dX4_init_15 (by decide) ?_
  obtain ⟨C4, eC4, hs⟩ := hs
  refine x_iast X hK hI eC4 dX4_init_17 (fun H locs hI => ?_)
  refine lv_dup hx hb dX4_init_18 rfl ?_
  refine lv_iconst (v := 1) hx hb dX4_init_19 (by decide) ?_
  refine lv_iconst (v := 5) hx hb dX4_init_20 (by decide) ?_
  obtain ⟨C5, eC5, hs⟩ := hs
  refine x_iast X hK hI eC5 dX4_init_21 (fun H locs hI => ?_)
  refine lv_dup hx hb dX4_init_22 rfl ?_
  refine lv_iconst (v := 2) hx hb dX4_init_23 (by decide) ?_
  refine lv_iconst (v := 3) hx hb dX4_init_24 (by decide) ?_
  obtain ⟨C6, eC6, hs⟩ := hs
  refine x_iast X hK hI eC6 dX4_init_25 (fun H locs hI => ?_)
  refine lv_dup hx hb dX4_init_26 rfl ?_
  refine lv_iconst (v := 3) hx hb dX4_init_27 (by decide) ?_
  refine lv_bipush (v := 20) hx hb dX4_init_28 (by decide) ?_
  obtain ⟨C7, eC7, hs⟩ := hs
  refine x_iast X hK hI eC7 dX4_init_30 (fun H locs hI => ?_)
  obtain ⟨C8, eC8, hs⟩ := hs
  refine x_putF X hK hI 4 5 rfl in_X4 tyX4 tyX4_ok nmX4 rfl q265 rfl rfl hnm rfl rfl eC8 dX4_init_31 (fun H locs hI => ?_)
  refine lv_aload_n hx hb dX4_init_34 rfl (lv_at hl 0 rfl) ?_
  refine lv_bipush (v := 8) hx hb dX4_init_35 (by decide) ?_
  refine x_newq 7 (n := 8) (N := 8) X hK hI hA rfl (x_AOh hG) q249 (by decide) (by decide) rfl (Nat.le_of_ble_eq_true rfl) (Nat.le_of_ble_eq_true rfl) hs dX4_init_37 (fun ad9 C10 H hs9 hI => ?_)
  replace hs := hs9
  obtain ⟨C11, eC11, hs⟩ := hs
  refine x_putF X hK hI 4 6 rfl in_X4 tyX4 tyX4_ok nmX4 rfl q269 rfl rfl hnm rfl rfl eC11 dX4_init_40 (fun H locs hI => ?_)
  refine lv_aload_n hx hb dX4_init_43 rfl (lv_at hl 0 rfl) ?_
  refine lv_bipush (v := 8) hx hb dX4_init_44 (by decide) ?_
  refine x_newa (n := 8) (B := 8) (x := (8, .inl (fun _ => 0))) X hK hI hA 0 rfl rfl (fun _ h => by cases h) q155 (fun _ => rfl) (by decide) (by decide) rfl (Nat.le_of_ble_eq_true rfl) (Nat.le_of_ble_eq_true rfl) hs dX4_init_46 (fun ad12 C13 H hs9 hI => ?_)
  replace hs := hs9
  obtain ⟨C14, eC14, hs⟩ := hs
  refine x_putF X hK hI 4 7 rfl in_X4 tyX4 tyX4_ok nmX4 rfl q273 rfl rfl hnm rfl rfl eC14 dX4_init_48 (fun H locs hI => ?_)
  refine lv_aload_n hx hb dX4_init_51 rfl (lv_at hl 0 rfl) ?_
  refine lv_bipush (v := 8) hx hb dX4_init_52 (by decide) ?_
  refine x_newa (n := 8) (B := 8) (x := (8, .inl (fun _ => 0))) X hK hI hA 0 rfl rfl (fun _ h => by cases h) q155 (fun _ => rfl) (by decide) (by decide) rfl (Nat.le_of_ble_eq_true rfl) (Nat.le_of_ble_eq_true rfl) hs dX4_init_54 (fun ad15 C16 H hs9 hI => ?_)
  replace hs := hs9
  obtain ⟨C17, eC17, hs⟩ := hs
  refine x_putF X hK hI 4 8 rfl in_X4 tyX4 tyX4_ok nmX4 rfl q277 rfl rfl hnm rfl rfl eC17 dX4_init_56 (fun H locs hI => ?_)
  refine lv_aload_n hx hb dX4_init_59 rfl (lv_at hl 0 rfl) ?_
  refine lv_bipush (v := 8) hx hb dX4_init_60 (by decide) ?_
  refine x_newa (n := 8) (B := 8) (x := (8, .inl (fun _ => 0))) X hK hI hA 0 rfl rfl (fun _ h => by cases h) q155 (fun _ => rfl) (by decide) (by decide) rfl (Nat.le_of_ble_eq_true rfl) (Nat.le_of_ble_eq_true rfl) hs dX4_init_62 (fun ad18 C19 H hs9 hI => ?_)
  replace hs := hs9
  obtain ⟨C20, eC20, hs⟩ := hs
  refine x_putF X hK hI 4 9 rfl in_X4 tyX4 tyX4_ok nmX4 rfl q281 rfl rfl hnm rfl rfl eC20 dX4_init_64 (fun H locs hI => ?_)
  refine lv_aload_n hx hb dX4_init_67 rfl (lv_at hl 0 rfl) ?_
  refine lv_bipush (v := 8) hx hb dX4_init_68 (by decide) ?_
  refine x_newa (n := 8) (B := 8) (x := (8, .inl (fun _ => 0))) X hK hI hA 0 rfl rfl (fun _ h => by cases h) q155 (fun _ => rfl) (by decide) (by decide) rfl (Nat.le_of_ble_eq_true rfl) (Nat.le_of_ble_eq_true rfl) hs dX4_init_70 (fun ad21 C22 H hs9 hI => ?_)
  replace hs := hs9
  obtain ⟨C23, eC23, hs⟩ := hs
  refine x_putF X hK hI 4 10 rfl in_X4 tyX4 tyX4_ok nmX4 rfl q285 rfl rfl hnm rfl rfl eC23 dX4_init_72 (fun H locs hI => ?_)
  refine lv_aload_n hx hb dX4_init_75 rfl (lv_at hl 0 rfl) ?_
  refine lv_bipush (v := 8) hx hb dX4_init_76 (by decide) ?_
  refine x_newa (n := 8) (B := 8) (x := (8, .inl (fun _ => 0))) X hK hI hA 0 rfl rfl (fun _ h => by cases h) q155 (fun _ => rfl) (by decide) (by decide) rfl (Nat.le_of_ble_eq_true rfl) (Nat.le_of_ble_eq_true rfl) hs dX4_init_78 (fun ad24 C25 H hs9 hI => ?_)
  replace hs := hs9
  obtain ⟨C26, eC26, hs⟩ := hs
  refine x_putF X hK hI 4 11 rfl in_X4 tyX4 tyX4_ok nmX4 rfl q287 rfl rfl hnm rfl rfl eC26 dX4_init_80 (fun H locs hI => ?_)
  refine lv_aload_n hx hb dX4_init_83 rfl (lv_at hl 0 rfl) ?_
  refine lv_bipush (v := 8) hx hb dX4_init_84 (by decide) ?_
  refine x_newa (n := 8) (B := 8) (x := (8, .inl (fun _ => 0))) X hK hI hA 0 rfl rfl (fun _ h => by cases h) q155 (fun _ => rfl) (by decide) (by decide) rfl (Nat.le_of_ble_eq_true rfl) (Nat.le_of_ble_eq_true rfl) hs dX4_init_86 (fun ad27 C28 H hs9 hI => ?_)
  replace hs := hs9
  obtain ⟨C29, eC29, hs⟩ := hs
  refine x_putF X hK hI 4 12 rfl in_X4 tyX4 tyX4_ok nmX4 rfl q289 rfl rfl hnm rfl rfl eC29 dX4_init_88 (fun H locs hI => ?_)
  exact x_retv X hK hI hs (Nat.le_of_ble_eq_true rfl) (Nat.le_of_ble_eq_true rfl) dX4_init_91
def x_X2_init (a0 : Nat) (C : XH) (K : XH → Prop) : Prop := K C
theorem iX2_init : xInf yX2_init cX2_init 1 none 0 := ⟨q160, by decide +kernel⟩
set_option maxHeartbeats 4000000 in
theorem xet_X2_init (l : Launch) (a0 : Nat) (C : XH) (K : XH → Prop) (hs : x_X2_init a0 C K) : xMetv l yX2_init (ws_ yX2_init cX2_init 1 none) 1 24 0 0 C [.ref a0] K := by
  intro D dT adK adV sz
  refine xEnter (own := RX2) (Qc := xQv D dT K) (by decide) rfl (by rfl) ?_
  intro p e s m args below meth c A ls X hnm hK hA hG hI hl
  have hx := X.1
  have hb := X.2.1
  have hts := X.2.2.2.2.1
  have hown := X.2.2.2.2.2.1
  have hl : lv_has ls 1 [(0, .ref a0)] := hl
  unfold x_X2_init at hs
  refine lv_aload_n hx hb dX2_init_0 rfl (lv_at hl 0 rfl) ?_
  refine W.objInit hx hb hown (hts _ q161) (hts _ q136) (hts _ q137) rfl (by rw [X.2.2.2.1]; exact hl.1) rfl dX2_init_1 (Nat.le_of_ble_eq_true rfl) (Nat.le_of_ble_eq_true rfl) ?_
  show W p l e _ s m args below meth c _ _ _ _ _ (F0 m 4 ls [])
  exact x_retv X hK hI hs (Nat.le_of_ble_eq_true rfl) (Nat.le_of_ble_eq_true rfl) dX2_init_4
def x_X3_init (a0 : Nat) (C : XH) (K : XH → Prop) : Prop := xnew2 C (fun ad1 C2 => obd (xpv C2 (xis 3) a0 0 (.ref ad1)) (fun C3 => xnew C3 (.inl (0, (5, .inl (fun _ => 0)))) (fun ad4 C5 => obd (xpv C5 (xis 3) a0 1 (.ref ad4)) (fun C6 => xnew C6 (.inl (0, (5, .inl (fun _ => 0)))) (fun ad7 C8 => obd (xpv C8 (xis 3) a0 2 (.ref ad7)) (fun C9 => xnew C9 (.inr (2, [.null, .int 0, .int 0, .int 0, .int 0, .int 0, .int 0, .int 0, .int 0, .int 0, .int 0, .int 0])) (fun ad10 C11 => x_X2_init ad10 C11 (fun C12 => obd (xpv C12 (xis 3) a0 3 (.ref ad10)) (fun C13 => K C13)))))))))
theorem iX3_init : xInf yX3_init cX3_init 1 none 0 := ⟨q210, by decide +kernel⟩
set_option maxHeartbeats 4000000 in
theorem xet_X3_init (l : Launch) (a0 : Nat) (C : XH) (K : XH → Prop) (hs : x_X3_init a0 C K) : xMetv l yX3_init (ws_ yX3_init cX3_init 1 none) 2 44 9 67 C [.ref a0] K := by
  intro D dT adK adV sz
  refine xEnter (own := RX3) (Qc := xQv D dT K) (by decide) rfl (by rfl) ?_
  intro p e s m args below meth c A ls X hnm hK hA hG hI hl
  have hx := X.1
  have hb := X.2.1
  have hts := X.2.2.2.2.1
  have hown := X.2.2.2.2.2.1
  have hl : lv_has ls 1 [(0, .ref a0)] := hl
  unfold x_X3_init at hs
  refine lv_aload_n hx hb dX3_init_0 rfl (lv_at hl 0 rfl) ?_
  refine W.objInit hx hb hown (hts _ q211) (hts _ q136) (hts _ q137) rfl (by rw [X.2.2.2.1]; exact hl.1) rfl dX3_init_1 (Nat.le_of_ble_eq_true rfl) (Nat.le_of_ble_eq_true rfl) ?_
  show W p l e _ s m args below meth c _ _ _ _ _ (F0 m 4 ls [])
  refine lv_aload_n hx hb dX3_init_4 rfl (lv_at hl 0 rfl) ?_
  refine lv_iconst (v := 5) hx hb dX3_init_5 (by decide) ?_
  refine lv_bipush (v := 8) hx hb dX3_init_6 (by decide) ?_
  refine x_new2 X hK hG hI hA q212 (Nat.le_of_ble_eq_true rfl) (Nat.le_of_ble_eq_true rfl) hs dX3_init_8 (fun ad1 C2 H hs9 hI => ?_)
  replace hs := hs9
  obtain ⟨C3, eC3, hs⟩ := hs
  refine x_putF X hK hI 3 0 rfl in_X3 tyX3 tyX3_ok nmX3 rfl q216 rfl rfl hnm rfl rfl eC3 dX3_init_12 (fun H locs hI => ?_)
  refine lv_aload_n hx hb dX3_init_15 rfl (lv_at hl 0 rfl) ?_
  refine lv_iconst (v := 5) hx hb dX3_init_16 (by decide) ?_
  refine x_newa (n := 5) (B := 5) (x := (5, .inl (fun _ => 0))) X hK hI hA 0 rfl rfl (fun _ h => by cases h) q155 (fun _ => rfl) (by decide) (by decide) rfl (Nat.le_of_ble_eq_true rfl) (Nat.le_of_ble_eq_true rfl) hs dX3_init_17 (fun ad4 C5 H hs9 hI => ?_)
  replace hs := hs9
  obtain ⟨C6, eC6, hs⟩ := hs
  refine x_putF X hK hI 3 1 rfl in_X3 tyX3 tyX3_ok nmX3 rfl q217 rfl rfl hnm rfl rfl eC6 dX3_init_19 (fun H locs hI => ?_)
  refine lv_aload_n hx hb dX3_init_22 rfl (lv_at hl 0 rfl) ?_
  refine lv_iconst (v := 5) hx hb dX3_init_23 (by decide) ?_
  refine x_newa (n := 5) (B := 5) (x := (5, .inl (fun _ => 0))) X hK hI hA 0 rfl rfl (fun _ h => by cases h) q155 (fun _ => rfl) (by decide) (by decide) rfl (Nat.le_of_ble_eq_true rfl) (Nat.le_of_ble_eq_true rfl) hs dX3_init_24 (fun ad7 C8 H hs9 hI => ?_)
  replace hs := hs9
  obtain ⟨C9, eC9, hs⟩ := hs
  refine x_putF X hK hI 3 2 rfl in_X3 tyX3 tyX3_ok nmX3 rfl q218 rfl rfl hnm rfl rfl eC9 dX3_init_26 (fun H locs hI => ?_)
  refine lv_aload_n hx hb dX3_init_29 rfl (lv_at hl 0 rfl) ?_
  refine x_new X hK hI hA 2 (fs := [.null, .int 0, .int 0, .int 0, .int 0, .int 0, .int 0, .int 0, .int 0, .int 0, .int 0, .int 0]) rfl in_X2 tyX2 tyX2_ok q214 q157 q96 rfl (Nat.le_of_ble_eq_true rfl) (Nat.le_of_ble_eq_true rfl) hs dX3_init_30 (fun ad10 C11 H hs9 hI => ?_)
  replace hs := hs9
  refine lv_dup hx hb dX3_init_33 rfl ?_
  refine x_gov hA hI (x_runI (As := []) (rest := [.ref ad10, .ref a0]) X hK hA hG hI (xet_X2_init l ad10 _ _ hs) iX2_init rfl q215 q159 q96 ⟨(Nat.le_of_ble_eq_true rfl), (Nat.le_of_ble_eq_true rfl)⟩ rfl hl.1 rfl (Nat.le_of_ble_eq_true rfl) dX3_init_34 ⟨(Nat.le_of_ble_eq_true rfl), (Nat.le_of_ble_eq_true rfl)⟩) (fun C12 H locs hs9 hI => ?_)
  replace hs := hs9
  obtain ⟨C13, eC13, hs⟩ := hs
  refine x_putF X hK hI 3 3 rfl in_X3 tyX3 tyX3_ok nmX3 rfl q220 rfl rfl hnm rfl rfl eC13 dX3_init_37 (fun H locs hI => ?_)
  exact x_retv X hK hI hs (Nat.le_of_ble_eq_true rfl) (Nat.le_of_ble_eq_true rfl) dX3_init_40
def x_X5_init (a0 : Nat) (C : XH) (K : XH → Prop) : Prop := K C
theorem iX5_init : xInf yX5_init cX5_init 1 none 0 := ⟨q321, by decide +kernel⟩
set_option maxHeartbeats 4000000 in
theorem xet_X5_init (l : Launch) (a0 : Nat) (C : XH) (K : XH → Prop) (hs : x_X5_init a0 C K) : xMetv l yX5_init (ws_ yX5_init cX5_init 1 none) 1 24 0 0 C [.ref a0] K := by
  intro D dT adK adV sz
  refine xEnter (own := RX5) (Qc := xQv D dT K) (by decide) rfl (by rfl) ?_
  intro p e s m args below meth c A ls X hnm hK hA hG hI hl
  have hx := X.1
  have hb := X.2.1
  have hts := X.2.2.2.2.1
  have hown := X.2.2.2.2.2.1
  have hl : lv_has ls 1 [(0, .ref a0)] := hl
  unfold x_X5_init at hs
  refine lv_aload_n hx hb dX5_init_0 rfl (lv_at hl 0 rfl) ?_
  refine W.objInit hx hb hown (hts _ q322) (hts _ q136) (hts _ q137) rfl (by rw [X.2.2.2.1]; exact hl.1) rfl dX5_init_1 (Nat.le_of_ble_eq_true rfl) (Nat.le_of_ble_eq_true rfl) ?_
  show W p l e _ s m args below meth c _ _ _ _ _ (F0 m 4 ls [])
  exact x_retv X hK hI hs (Nat.le_of_ble_eq_true rfl) (Nat.le_of_ble_eq_true rfl) dX5_init_4
def x_X1_init (a0 : Nat) (C : XH) (K : XH → Prop) : Prop := xnew C (.inl (0, (20, .inl (fun _ => 0)))) (fun ad1 C2 => obd (xpv C2 (xis 1) a0 0 (.ref ad1)) (fun C3 => K C3))
theorem iX1_init : xInf yX1_init cX1_init 1 none 0 := ⟨q144, by decide +kernel⟩
set_option maxHeartbeats 4000000 in
theorem xet_X1_init (l : Launch) (a0 : Nat) (C : XH) (K : XH → Prop) (hs : x_X1_init a0 C K) : xMetv l yX1_init (ws_ yX1_init cX1_init 1 none) 1 24 1 20 C [.ref a0] K := by
  intro D dT adK adV sz
  refine xEnter (own := RX1) (Qc := xQv D dT K) (by decide) rfl (by rfl) ?_
  intro p e s m args below meth c A ls X hnm hK hA hG hI hl
  have hx := X.1
  have hb := X.2.1
  have hts := X.2.2.2.2.1
  have hown := X.2.2.2.2.2.1
  have hl : lv_has ls 1 [(0, .ref a0)] := hl
  unfold x_X1_init at hs
  refine lv_aload_n hx hb dX1_init_0 rfl (lv_at hl 0 rfl) ?_
  refine W.objInit hx hb hown (hts _ q145) (hts _ q136) (hts _ q137) rfl (by rw [X.2.2.2.1]; exact hl.1) rfl dX1_init_1 (Nat.le_of_ble_eq_true rfl) (Nat.le_of_ble_eq_true rfl) ?_
  show W p l e _ s m args below meth c _ _ _ _ _ (F0 m 4 ls [])
  refine lv_aload_n hx hb dX1_init_4 rfl (lv_at hl 0 rfl) ?_
  refine lv_bipush (v := 20) hx hb dX1_init_5 (by decide) ?_
  refine x_newa (n := 20) (B := 20) (x := (20, .inl (fun _ => 0))) X hK hI hA 0 rfl rfl (fun _ h => by cases h) q155 (fun _ => rfl) (by decide) (by decide) rfl (Nat.le_of_ble_eq_true rfl) (Nat.le_of_ble_eq_true rfl) hs dX1_init_7 (fun ad1 C2 H hs9 hI => ?_)
  replace hs := hs9
  obtain ⟨C3, eC3, hs⟩ := hs
  refine x_putF X hK hI 1 0 rfl in_X1 tyX1 tyX1_ok nmX1 rfl q146 rfl rfl hnm rfl rfl eC3 dX1_init_9 (fun H locs hI => ?_)
  exact x_retv X hK hI hs (Nat.le_of_ble_eq_true rfl) (Nat.le_of_ble_eq_true rfl) dX1_init_12
def x_X0_init_l119 (a0 : Nat) (k144_33 : XH → Prop) : Nat → Int32 → XH → Prop
  | 0, _, _ => False
  | n119_36 + 1, x35, C36 => (if 8 ≤ x35 then k144_33 C36 else obd (xgr C36 (xis 0) a0 4) (fun ad38 => xnew C36 (.inr (2, [.null, .int 0, .int 0, .int 0, .int 0, .int 0, .int 0, .int 0, .int 0, .int 0, .int 0, .int 0])) (fun ad39 C40 => x_X2_init ad39 C40 (fun C41 => (xcl C41 ad39 = some 2 ∧ obd (xsr C41 5 ad38 x35 ad39) (fun C42 => x_X0_init_l119 a0 k144_33 n119_36 (x35 + 1) C42))))))
theorem x_X0_init_l119_s (a0 : Nat) (k144_33 : XH → Prop) (n119_36 : Nat) (x35 : Int32) (C36 : XH) : x_X0_init_l119 a0 k144_33 (n119_36 + 1) x35 C36 = ((if 8 ≤ x35 then k144_33 C36 else obd (xgr C36 (xis 0) a0 4) (fun ad38 => xnew C36 (.inr (2, [.null, .int 0, .int 0, .int 0, .int 0, .int 0, .int 0, .int 0, .int 0, .int 0, .int 0, .int 0])) (fun ad39 C40 => x_X2_init ad39 C40 (fun C41 => (xcl C41 ad39 = some 2 ∧ obd (xsr C41 5 ad38 x35 ad39) (fun C42 => x_X0_init_l119 a0 k144_33 n119_36 (x35 + 1) C42))))))) := rfl
def x_X0_init_l92 (a0 : Nat) (k117_31 : XH → Prop) : Nat → Int32 → XH → Prop
  | 0, _, _ => False
  | n92_46 + 1, x45, C46 => (if 8 ≤ x45 then k117_31 C46 else obd (xgr C46 (xis 0) a0 0) (fun ad48 => xnew C46 (.inr (5, [.null])) (fun ad49 C50 => x_X5_init ad49 C50 (fun C51 => (xcl C51 ad49 = some 5 ∧ obd (xsr C51 4 ad48 x45 ad49) (fun C52 => x_X0_init_l92 a0 k117_31 n92_46 (x45 + 1) C52))))))
theorem x_X0_init_l92_s (a0 : Nat) (k117_31 : XH → Prop) (n92_46 : Nat) (x45 : Int32) (C46 : XH) : x_X0_init_l92 a0 k117_31 (n92_46 + 1) x45 C46 = ((if 8 ≤ x45 then k117_31 C46 else obd (xgr C46 (xis 0) a0 0) (fun ad48 => xnew C46 (.inr (5, [.null])) (fun ad49 C50 => x_X5_init ad49 C50 (fun C51 => (xcl C51 ad49 = some 5 ∧ obd (xsr C51 4 ad48 x45 ad49) (fun C52 => x_X0_init_l92 a0 k117_31 n92_46 (x45 + 1) C52))))))) := rfl
def x_X0_init (a0 : Nat) (C : XH) (K : XH → Prop) : Prop := xnew C (.inl (4, 8, .inr (.inr (.inr (.inr (fun _ => none)))))) (fun ad1 C2 => obd (xpv C2 (xis 0) a0 0 (.ref ad1)) (fun C3 => xnew C3 (.inl (0, (8, .inl (fun _ => 0)))) (fun ad4 C5 => obd (xpv C5 (xis 0) a0 1 (.ref ad4)) (fun C6 => xnew C6 (.inr (1, [.null, .int 0])) (fun ad7 C8 => x_X1_init ad7 C8 (fun C9 => obd (xpv C9 (xis 0) a0 2 (.ref ad7)) (fun C10 => xnew C10 (.inr (2, [.null, .int 0, .int 0, .int 0, .int 0, .int 0, .int 0, .int 0, .int 0, .int 0, .int 0, .int 0])) (fun ad11 C12 => x_X2_init ad11 C12 (fun C13 => obd (xpv C13 (xis 0) a0 3 (.ref ad11)) (fun C14 => xnew C14 (.inl (5, 8, .inr (.inr (.inr (.inr (fun _ => none)))))) (fun ad15 C16 => obd (xpv C16 (xis 0) a0 4 (.ref ad15)) (fun C17 => xnew C17 (.inr (3, [.null, .null, .null, .null, .null, .int 0, .int 0, .int 0])) (fun ad18 C19 => x_X3_init ad18 C19 (fun C20 => obd (xpv C20 (xis 0) a0 5 (.ref ad18)) (fun C21 => xnew C21 (.inr (4, [.int 0, .int 0, .int 0, .int 0, .int 0, .null, .null, .null, .null, .null, .null, .null, .null])) (fun ad22 C23 => x_X4_init ad22 C23 (fun C24 => obd (xpv C24 (xis 0) a0 6 (.ref ad22)) (fun C25 => xnew C25 (.inr (4, [.int 0, .int 0, .int 0, .int 0, .int 0, .null, .null, .null, .null, .null, .null, .null, .null])) (fun ad26 C27 => x_X4_init ad26 C27 (fun C28 => obd (xpv C28 (xis 0) a0 7 (.ref ad26)) (fun C29 => obd (xpv C29 (xis 0) a0 9 (.int (-1))) (fun C30 => jn (fun (C31 : XH) => jn (fun (C33 : XH) => K C33) (fun k144_33 => x_X0_init_l119 a0 k144_33 NF9 0 C31)) (fun k117_31 => x_X0_init_l92 a0 k117_31 NF9 0 C30)))))))))))))))))))))))
theorem iX0_init : xInf yX0_init cX0_init 2 none 0 := ⟨q134, by decide +kernel⟩
set_option maxHeartbeats 4000000 in
theorem xet_X0_init (l : Launch) (a0 : Nat) (C : XH) (K : XH → Prop) (hs : x_X0_init a0 C K) : xMetv l yX0_init (ws_ yX0_init cX0_init 2 none) 3 64 54 409 C [.ref a0] K := by
  intro D dT adK adV sz
  refine xEnter (own := RX0) (Qc := xQv D dT K) (by decide) rfl (by rfl) ?_
  intro p e s m args below meth c A ls X hnm hK hA hG hI hl
  have hx := X.1
  have hb := X.2.1
  have hts := X.2.2.2.2.1
  have hown := X.2.2.2.2.2.1
  have hl : lv_has ls 2 [(0, .ref a0)] := hl
  unfold x_X0_init at hs
  refine lv_aload_n hx hb dX0_init_0 rfl (lv_at hl 0 rfl) ?_
  refine W.objInit hx hb hown (hts _ q135) (hts _ q136) (hts _ q137) rfl (by rw [X.2.2.2.1]; exact hl.1) rfl dX0_init_1 (Nat.le_of_ble_eq_true rfl) (Nat.le_of_ble_eq_true rfl) ?_
  show W p l e _ s m args below meth c _ _ _ _ _ (F0 m 4 ls [])
  refine lv_aload_n hx hb dX0_init_4 rfl (lv_at hl 0 rfl) ?_
  refine lv_bipush (v := 8) hx hb dX0_init_5 (by decide) ?_
  refine x_newq 4 (n := 8) (N := 8) X hK hI hA rfl (x_AOs hG) q138 (by decide) (by decide) rfl (Nat.le_of_ble_eq_true rfl) (Nat.le_of_ble_eq_true rfl) hs dX0_init_7 (fun ad1 C2 H hs9 hI => ?_)
  replace hs := hs9
  obtain ⟨C3, eC3, hs⟩ := hs
  refine x_putF X hK hI 0 0 rfl in_X0 tyX0 tyX0_ok nmX0 rfl q328 rfl rfl hnm rfl rfl eC3 dX0_init_10 (fun H locs hI => ?_)
  refine lv_aload_n hx hb dX0_init_13 rfl (lv_at hl 0 rfl) ?_
  refine lv_bipush (v := 8) hx hb dX0_init_14 (by decide) ?_
  refine x_newa (n := 8) (B := 8) (x := (8, .inl (fun _ => 0))) X hK hI hA 0 rfl rfl (fun _ h => by cases h) q155 (fun _ => rfl) (by decide) (by decide) rfl (Nat.le_of_ble_eq_true rfl) (Nat.le_of_ble_eq_true rfl) hs dX0_init_16 (fun ad4 C5 H hs9 hI => ?_)
  replace hs := hs9
  obtain ⟨C6, eC6, hs⟩ := hs
  refine x_putF X hK hI 0 1 rfl in_X0 tyX0 tyX0_ok nmX0 rfl q329 rfl rfl hnm rfl rfl eC6 dX0_init_18 (fun H locs hI => ?_)
  refine lv_aload_n hx hb dX0_init_21 rfl (lv_at hl 0 rfl) ?_
  refine x_new X hK hI hA 1 (fs := [.null, .int 0]) rfl in_X1 tyX1 tyX1_ok q140 q141 q95 rfl (Nat.le_of_ble_eq_true rfl) (Nat.le_of_ble_eq_true rfl) hs dX0_init_22 (fun ad7 C8 H hs9 hI => ?_)
  replace hs := hs9
  refine lv_dup hx hb dX0_init_25 rfl ?_
  refine x_gov hA hI (x_runI (As := []) (rest := [.ref ad7, .ref a0]) X hK hA hG hI (xet_X1_init l ad7 _ _ hs) iX1_init rfl q142 q143 q95 ⟨(Nat.le_of_ble_eq_true rfl), (Nat.le_of_ble_eq_true rfl)⟩ rfl hl.1 rfl (Nat.le_of_ble_eq_true rfl) dX0_init_26 ⟨(Nat.le_of_ble_eq_true rfl), (Nat.le_of_ble_eq_true rfl)⟩) (fun C9 H locs hs9 hI => ?_)
  replace hs := hs9
  obtain ⟨C10, eC10, hs⟩ := hs
  refine x_putF X hK hI 0 2 rfl in_X0 tyX0 tyX0_ok nmX0 rfl q330 rfl rfl hnm rfl rfl eC10 dX0_init_29 (fun H locs hI => ?_)
  refine lv_aload_n hx hb dX0_init_32 rfl (lv_at hl 0 rfl) ?_
  refine x_new X hK hI hA 2 (fs := [.null, .int 0, .int 0, .int 0, .int 0, .int 0, .int 0, .int 0, .int 0, .int 0, .int 0, .int 0]) rfl in_X2 tyX2 tyX2_ok q156 q157 q96 rfl (Nat.le_of_ble_eq_true rfl) (Nat.le_of_ble_eq_true rfl) hs dX0_init_33 (fun ad11 C12 H hs9 hI => ?_)
  replace hs := hs9
  refine lv_dup hx hb dX0_init_36 rfl ?_
  refine x_gov hA hI (x_runI (As := []) (rest := [.ref ad11, .ref a0]) X hK hA hG hI (xet_X2_init l ad11 _ _ hs) iX2_init rfl q158 q159 q96 ⟨(Nat.le_of_ble_eq_true rfl), (Nat.le_of_ble_eq_true rfl)⟩ rfl hl.1 rfl (Nat.le_of_ble_eq_true rfl) dX0_init_37 ⟨(Nat.le_of_ble_eq_true rfl), (Nat.le_of_ble_eq_true rfl)⟩) (fun C13 H locs hs9 hI => ?_)
  replace hs := hs9
  obtain ⟨C14, eC14, hs⟩ := hs
  refine x_putF X hK hI 0 3 rfl in_X0 tyX0 tyX0_ok nmX0 rfl q331 rfl rfl hnm rfl rfl eC14 dX0_init_40 (fun H locs hI => ?_)
  refine lv_aload_n hx hb dX0_init_43 rfl (lv_at hl 0 rfl) ?_
  refine lv_bipush (v := 8) hx hb dX0_init_44 (by decide) ?_
  refine x_newq 5 (n := 8) (N := 8) X hK hI hA rfl (x_AOr hG) q156 (by decide) (by decide) rfl (Nat.le_of_ble_eq_true rfl) (Nat.le_of_ble_eq_true rfl) hs dX0_init_46 (fun ad15 C16 H hs9 hI => ?_)
  replace hs := hs9
  obtain ⟨C17, eC17, hs⟩ := hs
  refine x_putF X hK hI 0 4 rfl in_X0 tyX0 tyX0_ok nmX0 rfl q332 rfl rfl hnm rfl rfl eC17 dX0_init_49 (fun H locs hI => ?_)
  refine lv_aload_n hx hb dX0_init_52 rfl (lv_at hl 0 rfl) ?_
  refine x_new X hK hI hA 3 (fs := [.null, .null, .null, .null, .null, .int 0, .int 0, .int 0]) rfl in_X3 tyX3 tyX3_ok q206 q207 q97 rfl (Nat.le_of_ble_eq_true rfl) (Nat.le_of_ble_eq_true rfl) hs dX0_init_53 (fun ad18 C19 H hs9 hI => ?_)
  replace hs := hs9
  refine lv_dup hx hb dX0_init_56 rfl ?_
  refine x_gov hA hI (x_runI (As := []) (rest := [.ref ad18, .ref a0]) X hK hA hG hI (xet_X3_init l ad18 _ _ hs) iX3_init rfl q208 q209 q97 ⟨(Nat.le_of_ble_eq_true rfl), (Nat.le_of_ble_eq_true rfl)⟩ rfl hl.1 rfl (Nat.le_of_ble_eq_true rfl) dX0_init_57 ⟨(Nat.le_of_ble_eq_true rfl), (Nat.le_of_ble_eq_true rfl)⟩) (fun C20 H locs hs9 hI => ?_)
  replace hs := hs9
  obtain ⟨C21, eC21, hs⟩ := hs
  refine x_putF X hK hI 0 5 rfl in_X0 tyX0 tyX0_ok nmX0 rfl q333 rfl rfl hnm rfl rfl eC21 dX0_init_60 (fun H locs hI => ?_)
  refine lv_aload_n hx hb dX0_init_63 rfl (lv_at hl 0 rfl) ?_
  refine x_new X hK hI hA 4 (fs := [.int 0, .int 0, .int 0, .int 0, .int 0, .null, .null, .null, .null, .null, .null, .null, .null]) rfl in_X4 tyX4 tyX4_ok q243 q244 q98 rfl (Nat.le_of_ble_eq_true rfl) (Nat.le_of_ble_eq_true rfl) hs dX0_init_64 (fun ad22 C23 H hs9 hI => ?_)
  replace hs := hs9
  refine lv_dup hx hb dX0_init_67 rfl ?_
  refine x_gov hA hI (x_runI (As := []) (rest := [.ref ad22, .ref a0]) X hK hA hG hI (xet_X4_init l ad22 _ _ hs) iX4_init rfl q245 q246 q98 ⟨(Nat.le_of_ble_eq_true rfl), (Nat.le_of_ble_eq_true rfl)⟩ rfl hl.1 rfl (Nat.le_of_ble_eq_true rfl) dX0_init_68 ⟨(Nat.le_of_ble_eq_true rfl), (Nat.le_of_ble_eq_true rfl)⟩) (fun C24 H locs hs9 hI => ?_)
  replace hs := hs9
  obtain ⟨C25, eC25, hs⟩ := hs
  refine x_putF X hK hI 0 6 rfl in_X0 tyX0 tyX0_ok nmX0 rfl q334 rfl rfl hnm rfl rfl eC25 dX0_init_71 (fun H locs hI => ?_)
  refine lv_aload_n hx hb dX0_init_74 rfl (lv_at hl 0 rfl) ?_
  refine x_new X hK hI hA 4 (fs := [.int 0, .int 0, .int 0, .int 0, .int 0, .null, .null, .null, .null, .null, .null, .null, .null]) rfl in_X4 tyX4 tyX4_ok q243 q244 q98 rfl (Nat.le_of_ble_eq_true rfl) (Nat.le_of_ble_eq_true rfl) hs dX0_init_75 (fun ad26 C27 H hs9 hI => ?_)
  replace hs := hs9
  refine lv_dup hx hb dX0_init_78 rfl ?_
  refine x_gov hA hI (x_runI (As := []) (rest := [.ref ad26, .ref a0]) X hK hA hG hI (xet_X4_init l ad26 _ _ hs) iX4_init rfl q245 q246 q98 ⟨(Nat.le_of_ble_eq_true rfl), (Nat.le_of_ble_eq_true rfl)⟩ rfl hl.1 rfl (Nat.le_of_ble_eq_true rfl) dX0_init_79 ⟨(Nat.le_of_ble_eq_true rfl), (Nat.le_of_ble_eq_true rfl)⟩) (fun C28 H locs hs9 hI => ?_)
  replace hs := hs9
  obtain ⟨C29, eC29, hs⟩ := hs
  refine x_put X hK hI 0 7 rfl in_X0 tyX0 tyX0_ok nmX0 rfl q335 rfl rfl rfl rfl eC29 dX0_init_82 (fun H locs hI => ?_)
  refine lv_aload_n hx hb dX0_init_85 rfl (lv_at hl 0 rfl) ?_
  refine lv_iconst (v := (-1)) hx hb dX0_init_86 (by decide) ?_
  obtain ⟨C30, eC30, hs⟩ := hs
  refine x_put X hK hI 0 9 rfl in_X0 tyX0 tyX0_ok nmX0 rfl q337 rfl rfl rfl rfl eC30 dX0_init_87 (fun H locs hI => ?_)
  refine lv_iconst (v := 0) hx hb dX0_init_90 (by decide) ?_
  refine lv_istore_n (lv' := [(1, .int 0), (0, .ref a0)]) hx hb dX0_init_91 rfl hl (by decide) rfl (fun ls hl => ?_)
  obtain ⟨k117_31, hk117_31, hs⟩ := jn_ex hs
  have Ek117_31 : ∀ (C31 : XH) (H : Heap) (locs : List Loc) (ls : Array Slot), k117_31 C31 → xI D dT A s.heap C31 H locs → lv_has ls 2 [(0, .ref a0)] → W p l e (xRm 3 64 54 409) s m args below meth c H locs 44 289 (MQ below (xQv D dT K A) args s 54 409 A) (F0 m 117 ls []) := by
    intro C31 H locs ls hs hI hl
    rw [hk117_31] at hs
    refine lv_iconst (v := 0) hx hb dX0_init_117 (by decide) ?_
    refine lv_istore_n (lv' := [(1, .int 0), (0, .ref a0)]) hx hb dX0_init_118 rfl hl (by decide) rfl (fun ls hl => ?_)
    obtain ⟨k144_33, hk144_33, hs⟩ := jn_ex hs
    have Ek144_33 : ∀ (C33 : XH) (H : Heap) (locs : List Loc) (ls : Array Slot), k144_33 C33 → xI D dT A s.heap C33 H locs → lv_has ls 2 [] → W p l e (xRm 3 64 54 409) s m args below meth c H locs 54 409 (MQ below (xQv D dT K A) args s 54 409 A) (F0 m 144 ls []) := by
      intro C33 H locs ls hs hI hl
      rw [hk144_33] at hs
      exact x_retv X hK hI hs (Nat.le_of_ble_eq_true rfl) (Nat.le_of_ble_eq_true rfl) dX0_init_144
    have Lx_X0_init_l119 : ∀ (n119_36 : Nat) (ce119 sl119 : Nat), ce119 + (n119_36 + 1) * 1 ≤ 54 → sl119 + (n119_36 + 1) * 12 ≤ 409 → ∀ (x35 : Int32) (C36 : XH) (H : Heap) (locs : List Loc) (ls : Array Slot), x_X0_init_l119 a0 k144_33 n119_36 x35 C36 → xI D dT A s.heap C36 H locs → lv_has ls 2 [(0, .ref a0), (1, .int x35)] → W p l e (xRm 3 64 54 409) s m args below meth c H locs ce119 sl119 (MQ below (xQv D dT K A) args s 54 409 A) (F0 m 119 ls []) := by
      intro n119_36
      induction n119_36 with
      | zero =>
        intro ce119 sl119 hce119 hsl119 x35 C36 H locs ls hs
        exact False.elim hs
      | succ n119_36 ihx_X0_init_l119 =>
        intro ce119 sl119 hce119 hsl119 x35 C36 H locs ls hs hI hl
        rw [x_X0_init_l119_s] at hs
        refine lv_iload_n hx hb dX0_init_119 rfl (lv_at hl 1 rfl) ?_
        refine lv_bipush (v := 8) hx hb dX0_init_120 (by decide) ?_
        refine lv_icmp_ge (tgt := 144) hx hb dX0_init_122 (by decide) (fun c43 => ?_) (fun c43 => ?_)
        · replace hs := ifp c43 hs
          exact W.widen (show ce119 ≤ 54 by omega) (show sl119 ≤ 409 by omega) (Ek144_33 _ _ _ _ hs hI (lv_sub hl [] rfl))
        · replace hs := ifn c43 hs
          refine lv_aload_n hx hb dX0_init_125 rfl (lv_at hl 0 rfl) ?_
          obtain ⟨ad38, ead38, hs⟩ := hs
          refine x_get (v := .ref ad38) X hK hI 0 4 rfl in_X0 rfl q332 rfl (xgr_spec ead38) dX0_init_126 ?_
          refine lv_iload_n hx hb dX0_init_129 rfl (lv_at hl 1 rfl) ?_
          refine x_new X hK hI hA 2 (fs := [.null, .int 0, .int 0, .int 0, .int 0, .int 0, .int 0, .int 0, .int 0, .int 0, .int 0, .int 0]) rfl in_X2 tyX2 tyX2_ok q156 q157 q96 rfl (show (ce119 + 1) ≤ 54 by omega) (show (sl119 + 12) ≤ 409 by omega) hs dX0_init_130 (fun ad39 C40 H hs9 hI => ?_)
          replace hs := hs9
          refine lv_dup hx hb dX0_init_133 rfl ?_
          refine x_gov hA hI (x_runI (As := []) (rest := [.ref ad39, .int x35, .ref ad38]) X hK hA hG hI (xet_X2_init l ad39 _ _ hs) iX2_init rfl q158 q159 q96 ⟨(Nat.le_of_ble_eq_true rfl), (Nat.le_of_ble_eq_true rfl)⟩ rfl hl.1 rfl (Nat.le_of_ble_eq_true rfl) dX0_init_134 ⟨(show (ce119 + 1) ≤ 54 by omega), (show (sl119 + 12) ≤ 409 by omega)⟩) (fun C41 H locs hs9 hI => ?_)
          replace hs := hs9
          obtain ⟨z42, hs⟩ := hs
          obtain ⟨C42, eC42, hs⟩ := hs
          refine x_aast X hK hI 5 rfl (x_anyS hK hI z42 rfl) eC42 dX0_init_137 (fun H locs hI => ?_)
          refine lv_iinc (v := (x35 + 1)) (lv' := [(1, .int (x35 + 1)), (0, .ref a0)]) hx hb dX0_init_138 hl (k := 1) rfl (congrArg (fun z => x35 + z) (show Int32.ofInt (1) = 1 by decide)) (by decide) rfl (fun ls hl => ?_)
          refine lv_goto (tgt := 119) hx hb dX0_init_141 (by decide) ?_
          exact ihx_X0_init_l119 (ce119 + 1) (sl119 + 12) (by omega) (by omega) _ _ _ _ _ hs hI (lv_sub hl [1, 0] rfl)
    have hNF := NF9_eq
    exact Lx_X0_init_l119 NF9 44 289 (by omega) (by omega) _ _ _ _ _ hs hI (lv_sub hl [1, 0] rfl)
  have Lx_X0_init_l92 : ∀ (n92_46 : Nat) (ce92 sl92 : Nat), ce92 + (n92_46 + 1) * 1 ≤ 44 → sl92 + (n92_46 + 1) * 1 ≤ 289 → ∀ (x45 : Int32) (C46 : XH) (H : Heap) (locs : List Loc) (ls : Array Slot), x_X0_init_l92 a0 k117_31 n92_46 x45 C46 → xI D dT A s.heap C46 H locs → lv_has ls 2 [(0, .ref a0), (1, .int x45)] → W p l e (xRm 3 64 54 409) s m args below meth c H locs ce92 sl92 (MQ below (xQv D dT K A) args s 54 409 A) (F0 m 92 ls []) := by
    intro n92_46
    induction n92_46 with
    | zero =>
      intro ce92 sl92 hce92 hsl92 x45 C46 H locs ls hs
      exact False.elim hs
    | succ n92_46 ihx_X0_init_l92 =>
      intro ce92 sl92 hce92 hsl92 x45 C46 H locs ls hs hI hl
      rw [x_X0_init_l92_s] at hs
      refine lv_iload_n hx hb dX0_init_92 rfl (lv_at hl 1 rfl) ?_
      refine lv_bipush (v := 8) hx hb dX0_init_93 (by decide) ?_
      refine lv_icmp_ge (tgt := 117) hx hb dX0_init_95 (by decide) (fun c53 => ?_) (fun c53 => ?_)
      · replace hs := ifp c53 hs
        exact W.widen (show ce92 ≤ 44 by omega) (show sl92 ≤ 289 by omega) (Ek117_31 _ _ _ _ hs hI (lv_sub hl [0] rfl))
      · replace hs := ifn c53 hs
        refine lv_aload_n hx hb dX0_init_98 rfl (lv_at hl 0 rfl) ?_
        obtain ⟨ad48, ead48, hs⟩ := hs
        refine x_get (v := .ref ad48) X hK hI 0 0 rfl in_X0 rfl q328 rfl (xgr_spec ead48) dX0_init_99 ?_
        refine lv_iload_n hx hb dX0_init_102 rfl (lv_at hl 1 rfl) ?_
        refine x_new X hK hI hA 5 (fs := [.null]) rfl in_X5 tyX5 tyX5_ok q138 q318 q99 rfl (show (ce92 + 1) ≤ 54 by omega) (show (sl92 + 1) ≤ 409 by omega) hs dX0_init_103 (fun ad49 C50 H hs9 hI => ?_)
        replace hs := hs9
        refine lv_dup hx hb dX0_init_106 rfl ?_
        refine x_gov hA hI (x_runI (As := []) (rest := [.ref ad49, .int x45, .ref ad48]) X hK hA hG hI (xet_X5_init l ad49 _ _ hs) iX5_init rfl q319 q320 q99 ⟨(Nat.le_of_ble_eq_true rfl), (Nat.le_of_ble_eq_true rfl)⟩ rfl hl.1 rfl (Nat.le_of_ble_eq_true rfl) dX0_init_107 ⟨(show (ce92 + 1) ≤ 54 by omega), (show (sl92 + 1) ≤ 409 by omega)⟩) (fun C51 H locs hs9 hI => ?_)
        replace hs := hs9
        obtain ⟨z52, hs⟩ := hs
        obtain ⟨C52, eC52, hs⟩ := hs
        refine x_aast X hK hI 4 rfl (x_anyS hK hI z52 rfl) eC52 dX0_init_110 (fun H locs hI => ?_)
        refine lv_iinc (v := (x45 + 1)) (lv' := [(1, .int (x45 + 1)), (0, .ref a0)]) hx hb dX0_init_111 hl (k := 1) rfl (congrArg (fun z => x45 + z) (show Int32.ofInt (1) = 1 by decide)) (by decide) rfl (fun ls hl => ?_)
        refine lv_goto (tgt := 92) hx hb dX0_init_114 (by decide) ?_
        exact ihx_X0_init_l92 (ce92 + 1) (sl92 + 1) (by omega) (by omega) _ _ _ _ _ hs hI (lv_sub hl [1, 0] rfl)
  have hNF := NF9_eq
  exact Lx_X0_init_l92 NF9 34 279 (by omega) (by omega) _ _ _ _ _ hs hI (lv_sub hl [1, 0] rfl)
def x_X0_in (a0 : Int64) (a2 : Int64) (a4 : Int64) (C : XH) (K : Int32 → XH → Prop) : Prop := (if (lg_cmp a0 a2) < 0 then K 0 C else (if 0 < (lg_cmp a0 a4) then K 0 C else K 1 C))
theorem iX0_in : xInf yX0_in cX0_in 6 (some .boolean) 3 := ⟨q475, by decide +kernel⟩
set_option maxHeartbeats 4000000 in
theorem xet_X0_in (l : Launch) (a0 : Int64) (a2 : Int64) (a4 : Int64) (C : XH) (K : Int32 → XH → Prop) (hs : x_X0_in a0 a2 a4 C K) : xMetz l yX0_in (ws_ yX0_in cX0_in 6 (some .boolean)) 0 0 0 0 C [.long a0, .long a2, .long a4] K := by
  intro D dT adK adV sz
  refine xEnter (own := RX0) (Qc := xQz D dT K) (by decide) rfl (by rfl) ?_
  intro p e s m args below meth c A ls X hnm hK hA hG hI hl
  have hx := X.1
  have hb := X.2.1
  have hts := X.2.2.2.2.1
  have hown := X.2.2.2.2.2.1
  have hl : lv_has ls 6 [(0, .long a0), (2, .long a2), (4, .long a4)] := hl
  unfold x_X0_in at hs
  refine lv_lload_n hx hb dX0_in_0 rfl (lv_at hl 0 rfl) ?_
  refine lv_lload_n hx hb dX0_in_1 rfl (lv_at hl 1 rfl) ?_
  refine W.lcmp hx hb dX0_in_2 ?_
  refine lv_if_lt (tgt := 17) hx hb dX0_in_3 (by decide) (fun c1 => ?_) (fun c1 => ?_)
  · replace hs := ifp c1 hs
    refine lv_iconst (v := 0) hx hb dX0_in_17 (by decide) ?_
    exact x_retz X hK hI isB0 hs (Nat.le_of_ble_eq_true rfl) (Nat.le_of_ble_eq_true rfl) dX0_in_18
  · replace hs := ifn c1 hs
    refine lv_lload_n hx hb dX0_in_6 rfl (lv_at hl 0 rfl) ?_
    refine lv_lload hx hb dX0_in_7 (lv_at hl 2 rfl) ?_
    refine W.lcmp hx hb dX0_in_9 ?_
    refine lv_if_gt (tgt := 17) hx hb dX0_in_10 (by decide) (fun c0 => ?_) (fun c0 => ?_)
    · replace hs := ifp c0 hs
      refine lv_iconst (v := 0) hx hb dX0_in_17 (by decide) ?_
      exact x_retz X hK hI isB0 hs (Nat.le_of_ble_eq_true rfl) (Nat.le_of_ble_eq_true rfl) dX0_in_18
    · replace hs := ifn c0 hs
      refine lv_iconst (v := 1) hx hb dX0_in_13 (by decide) ?_
      refine lv_goto (tgt := 18) hx hb dX0_in_14 (by decide) ?_
      exact x_retz X hK hI isB1 hs (Nat.le_of_ble_eq_true rfl) (Nat.le_of_ble_eq_true rfl) dX0_in_18
def x_X7_init (a0 : Nat) (a1 : Int32) (C : XH) (K : XH → Prop) : Prop := x_J1_init_2_7 a0 C (fun C1 => obd (xpv C1 (xis 7) a0 6 (.int a1)) (fun C2 => K C2))
theorem iX7_init : xInf yX7_init cX7_init 2 none 1 := ⟨q456, by decide +kernel⟩
set_option maxHeartbeats 4000000 in
theorem xet_X7_init (l : Launch) (a0 : Nat) (a1 : Int32) (C : XH) (K : XH → Prop) (hs : x_X7_init a0 a1 C K) : xMetv l yX7_init (ws_ yX7_init cX7_init 2 none) 3 72 0 0 C [.ref a0, .int a1] K := by
  intro D dT adK adV sz
  refine xEnter (own := RX7) (Qc := xQv D dT K) (by decide) rfl (by rfl) ?_
  intro p e s m args below meth c A ls X hnm hK hA hG hI hl
  have hx := X.1
  have hb := X.2.1
  have hts := X.2.2.2.2.1
  have hown := X.2.2.2.2.2.1
  have hl : lv_has ls 2 [(0, .ref a0), (1, .int a1)] := hl
  unfold x_X7_init at hs
  refine lv_aload_n hx hb dX7_init_0 rfl (lv_at hl 0 rfl) ?_
  refine lv_null hx hb dX7_init_1 ?_
  refine lv_null hx hb dX7_init_2 ?_
  refine lv_iconst (v := 0) hx hb dX7_init_3 (by decide) ?_
  refine lv_iconst (v := 0) hx hb dX7_init_4 (by decide) ?_
  refine x_gov hA hI (x_runI (As := [.null, .null, .int 0, .int 0]) (rest := []) X hK hA hG hI (xet_J1_init_2_7 l a0 _ _ hs) iJ1_init_2 rfl q457 q458 q102 ⟨(Nat.le_of_ble_eq_true rfl), (Nat.le_of_ble_eq_true rfl)⟩ rfl hl.1 rfl (Nat.le_of_ble_eq_true rfl) dX7_init_5 ⟨(Nat.le_of_ble_eq_true rfl), (Nat.le_of_ble_eq_true rfl)⟩) (fun C1 H locs hs9 hI => ?_)
  replace hs := hs9
  refine lv_aload_n hx hb dX7_init_8 rfl (lv_at hl 0 rfl) ?_
  refine lv_iload_n hx hb dX7_init_9 rfl (lv_at hl 1 rfl) ?_
  obtain ⟨C2, eC2, hs⟩ := hs
  refine x_putF X hK hI 7 6 rfl in_X7 tyX7 tyX7_ok nmX7 rfl q463 rfl rfl hnm rfl rfl eC2 dX7_init_10 (fun H locs hI => ?_)
  exact x_retv X hK hI hs (Nat.le_of_ble_eq_true rfl) (Nat.le_of_ble_eq_true rfl) dX7_init_13
def x_X0_need (a0 : Int32) (a1 : Int32) (C : XH) (K : XH → Prop) (E : Nat → XH → Prop) : Prop := (if a0 = 0 then xnew C (.inr (7, [.null, .null, .null, .null, .null, .int 0, .int 0])) (fun ad1 C2 => x_X7_init ad1 a1 C2 (fun C3 => (xcl C3 ad1 = some 7 ∧ E ad1 C3))) else K C)
theorem iX0_need : xInf yX0_need cX0_need 2 none 2 := ⟨q471, by decide +kernel⟩
set_option maxHeartbeats 4000000 in
theorem xet_X0_need (l : Launch) (hl0 : l.stackTraces = false) (a0 : Int32) (a1 : Int32) (C : XH) (K : XH → Prop) (E : Nat → XH → Prop) (hs : x_X0_need a0 a1 C K E) : xMetX l yX0_need (ws_ yX0_need cX0_need 2 none) 4 93 1 7 C [.int a0, .int a1] (fun D dT A => xQv D dT K A) (xEK RX7 E) := by
  intro D dT adK adV sz
  refine xEnterT (own := RX0) (Qc := xQv D dT K) (XC := xXC D dT (xEK RX7 E)) (by decide) rfl (by rfl) ?_
  intro p e s m args below meth c A ls X hnm hK hA hG hT hI hl
  have hx := X.1
  have hb := X.2.1
  have hts := X.2.2.2.2.1
  have hown := X.2.2.2.2.2.1
  have hl : lv_has ls 2 [(0, .int a0), (1, .int a1)] := hl
  unfold x_X0_need at hs
  refine lv_iload_n hx hb dX0_need_0 rfl (lv_at hl 0 rfl) ?_
  refine lv_if_ne (tgt := 13) hx hb dX0_need_1 (by decide) (fun c4 => ?_) (fun c4 => ?_)
  · replace hs := ifn c4 hs
    exact vx_ret (x_retv X hK hI hs (Nat.le_of_ble_eq_true rfl) (Nat.le_of_ble_eq_true rfl) dX0_need_13)
  · replace hs := ifp c4 hs
    refine x_new X hK hI hA 7 (fs := [.null, .null, .null, .null, .null, .int 0, .int 0]) rfl in_X7 tyX7 tyX7_ok q363 q446 q107 rfl (Nat.le_of_ble_eq_true rfl) (Nat.le_of_ble_eq_true rfl) hs dX0_need_4 (fun ad1 C2 H hs9 hI => ?_)
    replace hs := hs9
    refine lv_dup hx hb dX0_need_7 rfl ?_
    refine lv_iload_n hx hb dX0_need_8 rfl (lv_at hl 1 rfl) ?_
    refine x_gov hA hI (x_runI (As := [.int a1]) (rest := [.ref ad1]) X hK hA hG hI (xet_X7_init l ad1 a1 _ _ hs) iX7_init rfl q454 q455 q107 ⟨(Nat.le_of_ble_eq_true rfl), (Nat.le_of_ble_eq_true rfl)⟩ rfl hl.1 rfl (Nat.le_of_ble_eq_true rfl) dX0_need_9 ⟨(Nat.le_of_ble_eq_true rfl), (Nat.le_of_ble_eq_true rfl)⟩) (fun C3 H locs hs9 hI => ?_)
    replace hs := hs9
    obtain ⟨hf3, hs⟩ := hs
    obtain ⟨f3, hf3⟩ := xcl_spec hf3
    obtain ⟨ce, hce, hvm, hcl⟩ := x_thrown hK hI hf3 rfl
    refine vx_athrow hx hb dX0_need_12 ?_
    exact x_pass X hK hT rfl hI hce hvm hcl ⟨rfl, hs⟩ (Nat.le_of_ble_eq_true rfl) (Nat.le_of_ble_eq_true rfl)
def x_X8_init (a0 : Nat) (C : XH) (K : XH → Prop) : Prop := K C
theorem iX8_init : xInf yX8_init cX8_init 1 none 0 := ⟨q500, by decide +kernel⟩
set_option maxHeartbeats 4000000 in
theorem xet_X8_init (l : Launch) (a0 : Nat) (C : XH) (K : XH → Prop) (hs : x_X8_init a0 C K) : xMetv l yX8_init (ws_ yX8_init cX8_init 1 none) 1 24 0 0 C [.ref a0] K := by
  intro D dT adK adV sz
  refine xEnter (own := RX8) (Qc := xQv D dT K) (by decide) rfl (by rfl) ?_
  intro p e s m args below meth c A ls X hnm hK hA hG hI hl
  have hx := X.1
  have hb := X.2.1
  have hts := X.2.2.2.2.1
  have hown := X.2.2.2.2.2.1
  have hl : lv_has ls 1 [(0, .ref a0)] := hl
  unfold x_X8_init at hs
  refine lv_aload_n hx hb dX8_init_0 rfl (lv_at hl 0 rfl) ?_
  refine W.objInit hx hb hown (hts _ q501) (hts _ q136) (hts _ q137) rfl (by rw [X.2.2.2.1]; exact hl.1) rfl dX8_init_1 (Nat.le_of_ble_eq_true rfl) (Nat.le_of_ble_eq_true rfl) ?_
  show W p l e _ s m args below meth c _ _ _ _ _ (F0 m 4 ls [])
  exact x_retv X hK hI hs (Nat.le_of_ble_eq_true rfl) (Nat.le_of_ble_eq_true rfl) dX8_init_4
def x_X9_init (a0 : Nat) (a1 : Int32) (C : XH) (K : XH → Prop) : Prop := x_X8_init a0 C (fun C1 => ((¬ a1 < 0 ∧ a1.toNatClampNeg ≤ 160) ∧ xnew C1 (.inl (2, (a1.toNatClampNeg, .inl (fun _ => 0)))) (fun ad2 C3 => obd (xpv C3 (xis 9) a0 0 (.ref ad2)) (fun C5 => K C5))))
theorem iX9_init : xInf yX9_init cX9_init 2 none 1 := ⟨q497, by decide +kernel⟩
set_option maxHeartbeats 4000000 in
theorem xet_X9_init (l : Launch) (a0 : Nat) (a1 : Int32) (C : XH) (K : XH → Prop) (hs : x_X9_init a0 a1 C K) : xMetv l yX9_init (ws_ yX9_init cX9_init 2 none) 2 44 1 160 C [.ref a0, .int a1] K := by
  intro D dT adK adV sz
  refine xEnter (own := RX9) (Qc := xQv D dT K) (by decide) rfl (by rfl) ?_
  intro p e s m args below meth c A ls X hnm hK hA hG hI hl
  have hx := X.1
  have hb := X.2.1
  have hts := X.2.2.2.2.1
  have hown := X.2.2.2.2.2.1
  have hl : lv_has ls 2 [(0, .ref a0), (1, .int a1)] := hl
  unfold x_X9_init at hs
  refine lv_aload_n hx hb dX9_init_0 rfl (lv_at hl 0 rfl) ?_
  refine x_gov hA hI (x_runI (As := []) (rest := []) X hK hA hG hI (xet_X8_init l a0 _ _ hs) iX8_init rfl q498 q499 q109 ⟨(Nat.le_of_ble_eq_true rfl), (Nat.le_of_ble_eq_true rfl)⟩ rfl hl.1 rfl (Nat.le_of_ble_eq_true rfl) dX9_init_1 ⟨(Nat.le_of_ble_eq_true rfl), (Nat.le_of_ble_eq_true rfl)⟩) (fun C1 H locs hs9 hI => ?_)
  replace hs := hs9
  refine lv_aload_n hx hb dX9_init_4 rfl (lv_at hl 0 rfl) ?_
  refine lv_iload_n hx hb dX9_init_5 rfl (lv_at hl 1 rfl) ?_
  obtain ⟨z3, hs⟩ := hs
  refine x_newa (n := a1) (B := 160) (x := (a1.toNatClampNeg, .inl (fun _ => 0))) X hK hI hA 2 rfl rfl (fun _ h => by cases h) q441 (fun _ => rfl) z3.1 z3.2 rfl (Nat.le_of_ble_eq_true rfl) (Nat.le_of_ble_eq_true rfl) hs dX9_init_6 (fun ad2 C3 H hs9 hI => ?_)
  replace hs := hs9
  obtain ⟨C5, eC5, hs⟩ := hs
  refine x_putF X hK hI 9 0 rfl in_X9 tyX9 tyX9_ok nmX9 rfl q502 rfl rfl hnm rfl rfl eC5 dX9_init_8 (fun H locs hI => ?_)
  exact x_retv X hK hI hs (Nat.le_of_ble_eq_true rfl) (Nat.le_of_ble_eq_true rfl) dX9_init_11
def x_X11_init (a0 : Nat) (a1 : Int32) (C : XH) (K : XH → Prop) : Prop := x_X8_init a0 C (fun C1 => ((¬ a1 < 0 ∧ a1.toNatClampNeg ≤ 160) ∧ xnew C1 (.inl (0, (a1.toNatClampNeg, .inl (fun _ => 0)))) (fun ad2 C3 => obd (xpv C3 (xis 11) a0 0 (.ref ad2)) (fun C5 => K C5))))
theorem iX11_init : xInf yX11_init cX11_init 2 none 1 := ⟨q521, by decide +kernel⟩
set_option maxHeartbeats 4000000 in
theorem xet_X11_init (l : Launch) (a0 : Nat) (a1 : Int32) (C : XH) (K : XH → Prop) (hs : x_X11_init a0 a1 C K) : xMetv l yX11_init (ws_ yX11_init cX11_init 2 none) 2 44 1 160 C [.ref a0, .int a1] K := by
  intro D dT adK adV sz
  refine xEnter (own := RX11) (Qc := xQv D dT K) (by decide) rfl (by rfl) ?_
  intro p e s m args below meth c A ls X hnm hK hA hG hI hl
  have hx := X.1
  have hb := X.2.1
  have hts := X.2.2.2.2.1
  have hown := X.2.2.2.2.2.1
  have hl : lv_has ls 2 [(0, .ref a0), (1, .int a1)] := hl
  unfold x_X11_init at hs
  refine lv_aload_n hx hb dX11_init_0 rfl (lv_at hl 0 rfl) ?_
  refine x_gov hA hI (x_runI (As := []) (rest := []) X hK hA hG hI (xet_X8_init l a0 _ _ hs) iX8_init rfl q522 q499 q109 ⟨(Nat.le_of_ble_eq_true rfl), (Nat.le_of_ble_eq_true rfl)⟩ rfl hl.1 rfl (Nat.le_of_ble_eq_true rfl) dX11_init_1 ⟨(Nat.le_of_ble_eq_true rfl), (Nat.le_of_ble_eq_true rfl)⟩) (fun C1 H locs hs9 hI => ?_)
  replace hs := hs9
  refine lv_aload_n hx hb dX11_init_4 rfl (lv_at hl 0 rfl) ?_
  refine lv_iload_n hx hb dX11_init_5 rfl (lv_at hl 1 rfl) ?_
  obtain ⟨z3, hs⟩ := hs
  refine x_newa (n := a1) (B := 160) (x := (a1.toNatClampNeg, .inl (fun _ => 0))) X hK hI hA 0 rfl rfl (fun _ h => by cases h) q155 (fun _ => rfl) z3.1 z3.2 rfl (Nat.le_of_ble_eq_true rfl) (Nat.le_of_ble_eq_true rfl) hs dX11_init_6 (fun ad2 C3 H hs9 hI => ?_)
  replace hs := hs9
  obtain ⟨C5, eC5, hs⟩ := hs
  refine x_putF X hK hI 11 0 rfl in_X11 tyX11 tyX11_ok nmX11 rfl q523 rfl rfl hnm rfl rfl eC5 dX11_init_8 (fun H locs hI => ?_)
  exact x_retv X hK hI hs (Nat.le_of_ble_eq_true rfl) (Nat.le_of_ble_eq_true rfl) dX11_init_11
def x_X12_init (a0 : Nat) (a1 : Int32) (C : XH) (K : XH → Prop) : Prop := x_X8_init a0 C (fun C1 => ((¬ a1 < 0 ∧ a1.toNatClampNeg ≤ 160) ∧ xnew C1 (.inl (1, (a1.toNatClampNeg, .inr (.inl (fun _ => 0))))) (fun ad2 C3 => obd (xpv C3 (xis 12) a0 0 (.ref ad2)) (fun C5 => K C5))))
theorem iX12_init : xInf yX12_init cX12_init 2 none 1 := ⟨q531, by decide +kernel⟩
set_option maxHeartbeats 4000000 in
theorem xet_X12_init (l : Launch) (a0 : Nat) (a1 : Int32) (C : XH) (K : XH → Prop) (hs : x_X12_init a0 a1 C K) : xMetv l yX12_init (ws_ yX12_init cX12_init 2 none) 2 44 1 160 C [.ref a0, .int a1] K := by
  intro D dT adK adV sz
  refine xEnter (own := RX12) (Qc := xQv D dT K) (by decide) rfl (by rfl) ?_
  intro p e s m args below meth c A ls X hnm hK hA hG hI hl
  have hx := X.1
  have hb := X.2.1
  have hts := X.2.2.2.2.1
  have hown := X.2.2.2.2.2.1
  have hl : lv_has ls 2 [(0, .ref a0), (1, .int a1)] := hl
  unfold x_X12_init at hs
  refine lv_aload_n hx hb dX12_init_0 rfl (lv_at hl 0 rfl) ?_
  refine x_gov hA hI (x_runI (As := []) (rest := []) X hK hA hG hI (xet_X8_init l a0 _ _ hs) iX8_init rfl q532 q499 q109 ⟨(Nat.le_of_ble_eq_true rfl), (Nat.le_of_ble_eq_true rfl)⟩ rfl hl.1 rfl (Nat.le_of_ble_eq_true rfl) dX12_init_1 ⟨(Nat.le_of_ble_eq_true rfl), (Nat.le_of_ble_eq_true rfl)⟩) (fun C1 H locs hs9 hI => ?_)
  replace hs := hs9
  refine lv_aload_n hx hb dX12_init_4 rfl (lv_at hl 0 rfl) ?_
  refine lv_iload_n hx hb dX12_init_5 rfl (lv_at hl 1 rfl) ?_
  obtain ⟨z3, hs⟩ := hs
  refine x_newa (n := a1) (B := 160) (x := (a1.toNatClampNeg, .inr (.inl (fun _ => 0)))) X hK hI hA 1 rfl rfl (fun _ h => by cases h) q537 (fun _ => rfl) z3.1 z3.2 rfl (Nat.le_of_ble_eq_true rfl) (Nat.le_of_ble_eq_true rfl) hs dX12_init_6 (fun ad2 C3 H hs9 hI => ?_)
  replace hs := hs9
  obtain ⟨C5, eC5, hs⟩ := hs
  refine x_putF X hK hI 12 0 rfl in_X12 tyX12 tyX12_ok nmX12 rfl q533 rfl rfl hnm rfl rfl eC5 dX12_init_8 (fun H locs hI => ?_)
  exact x_retv X hK hI hs (Nat.le_of_ble_eq_true rfl) (Nat.le_of_ble_eq_true rfl) dX12_init_11
def x_X10_init (a0 : Nat) (a1 : Int32) (C : XH) (K : XH → Prop) : Prop := x_X8_init a0 C (fun C1 => ((¬ a1 < 0 ∧ a1.toNatClampNeg ≤ 160) ∧ xnew C1 (.inl (3, (a1.toNatClampNeg, .inl (fun _ => 0)))) (fun ad2 C3 => obd (xpv C3 (xis 10) a0 0 (.ref ad2)) (fun C5 => K C5))))
theorem iX10_init : xInf yX10_init cX10_init 2 none 1 := ⟨q510, by decide +kernel⟩
set_option maxHeartbeats 4000000 in
theorem xet_X10_init (l : Launch) (a0 : Nat) (a1 : Int32) (C : XH) (K : XH → Prop) (hs : x_X10_init a0 a1 C K) : xMetv l yX10_init (ws_ yX10_init cX10_init 2 none) 2 44 1 160 C [.ref a0, .int a1] K := by
  intro D dT adK adV sz
  refine xEnter (own := RX10) (Qc := xQv D dT K) (by decide) rfl (by rfl) ?_
  intro p e s m args below meth c A ls X hnm hK hA hG hI hl
  have hx := X.1
  have hb := X.2.1
  have hts := X.2.2.2.2.1
  have hown := X.2.2.2.2.2.1
  have hl : lv_has ls 2 [(0, .ref a0), (1, .int a1)] := hl
  unfold x_X10_init at hs
  refine lv_aload_n hx hb dX10_init_0 rfl (lv_at hl 0 rfl) ?_
  refine x_gov hA hI (x_runI (As := []) (rest := []) X hK hA hG hI (xet_X8_init l a0 _ _ hs) iX8_init rfl q511 q499 q109 ⟨(Nat.le_of_ble_eq_true rfl), (Nat.le_of_ble_eq_true rfl)⟩ rfl hl.1 rfl (Nat.le_of_ble_eq_true rfl) dX10_init_1 ⟨(Nat.le_of_ble_eq_true rfl), (Nat.le_of_ble_eq_true rfl)⟩) (fun C1 H locs hs9 hI => ?_)
  replace hs := hs9
  refine lv_aload_n hx hb dX10_init_4 rfl (lv_at hl 0 rfl) ?_
  refine lv_iload_n hx hb dX10_init_5 rfl (lv_at hl 1 rfl) ?_
  obtain ⟨z3, hs⟩ := hs
  refine x_newa (n := a1) (B := 160) (x := (a1.toNatClampNeg, .inl (fun _ => 0))) X hK hI hA 3 rfl rfl (fun _ h => by cases h) q516 (fun _ => rfl) z3.1 z3.2 rfl (Nat.le_of_ble_eq_true rfl) (Nat.le_of_ble_eq_true rfl) hs dX10_init_6 (fun ad2 C3 H hs9 hI => ?_)
  replace hs := hs9
  obtain ⟨C5, eC5, hs⟩ := hs
  refine x_putF X hK hI 10 0 rfl in_X10 tyX10 tyX10_ok nmX10 rfl q512 rfl rfl hnm rfl rfl eC5 dX10_init_8 (fun H locs hI => ?_)
  exact x_retv X hK hI hs (Nat.le_of_ble_eq_true rfl) (Nat.le_of_ble_eq_true rfl) dX10_init_11
