set_option maxRecDepth 100000
def x_X6_init (a0 : Nat) (C : XH) (K : XH → Prop) : Prop := obd (xpv C (xis 6) a0 2 (.int 40)) (fun C1 => obd (xpv C1 (xis 6) a0 3 (.int 5)) (fun C2 => obd (xpv C2 (xis 6) a0 4 (.int 3)) (fun C3 => obd (xpv C3 (xis 6) a0 5 (.int 20)) (fun C4 => obd (xpv C4 (xis 6) a0 8 (.int 1)) (fun C5 => obd (xpv C5 (xis 6) a0 9 (.int (-1))) (fun C6 => xnew C6 (.inl (0, (8, .inl (fun _ => 0)))) (fun ad7 C8 => obd (xpv C8 (xis 6) a0 10 (.ref ad7)) (fun C9 => xnew C9 (.inl (0, (8, .inl (fun _ => 0)))) (fun ad10 C11 => obd (xpv C11 (xis 6) a0 11 (.ref ad10)) (fun C12 => xnew C12 (.inl (0, (8, .inl (fun _ => 0)))) (fun ad13 C14 => obd (xpv C14 (xis 6) a0 12 (.ref ad13)) (fun C15 => xnew C15 (.inl (0, (8, .inl (fun _ => 0)))) (fun ad16 C17 => obd (xpv C17 (xis 6) a0 13 (.ref ad16)) (fun C18 => xnew C18 (.inl (0, (8, .inl (fun _ => 0)))) (fun ad19 C20 => obd (xpv C20 (xis 6) a0 14 (.ref ad19)) (fun C21 => xnew C21 (.inl (0, (8, .inl (fun _ => 0)))) (fun ad22 C23 => obd (xpv C23 (xis 6) a0 15 (.ref ad22)) (fun C24 => xnew C24 (.inl (0, (8, .inl (fun _ => 0)))) (fun ad25 C26 => obd (xpv C26 (xis 6) a0 16 (.ref ad25)) (fun C27 => xnew C27 (.inl (0, (8, .inl (fun _ => 0)))) (fun ad28 C29 => obd (xpv C29 (xis 6) a0 17 (.ref ad28)) (fun C30 => xnew C30 (.inl (0, (8, .inl (fun _ => 0)))) (fun ad31 C32 => obd (xpv C32 (xis 6) a0 18 (.ref ad31)) (fun C33 => xnew C33 (.inl (0, (8, .inl (fun _ => 0)))) (fun ad34 C35 => obd (xpv C35 (xis 6) a0 19 (.ref ad34)) (fun C36 => xnew C36 (.inl (0, (8, .inl (fun _ => 0)))) (fun ad37 C38 => obd (xpv C38 (xis 6) a0 20 (.ref ad37)) (fun C39 => xnew C39 (.inl (0, (8, .inl (fun _ => 0)))) (fun ad40 C41 => obd (xpv C41 (xis 6) a0 21 (.ref ad40)) (fun C42 => xnew C42 (.inl (0, (8, .inl (fun _ => 0)))) (fun ad43 C44 => obd (xpv C44 (xis 6) a0 22 (.ref ad43)) (fun C45 => xnew C45 (.inl (1, (1280, .inr (.inl (fun _ => 0))))) (fun ad46 C47 => obd (xpv C47 (xis 6) a0 23 (.ref ad46)) (fun C48 => xnew C48 (.inl (1, (160, .inr (.inl (fun _ => 0))))) (fun ad49 C50 => obd (xpv C50 (xis 6) a0 24 (.ref ad49)) (fun C51 => xnew C51 (.inl (0, (48, .inl (fun _ => 0)))) (fun ad52 C53 => obd (xsi C53 ad52 0 99) (fun C54 => obd (xsi C54 ad52 1 104) (fun C55 => obd (xsi C55 ad52 2 105) (fun C56 => obd (xsi C56 ad52 3 108) (fun C57 => obd (xsi C57 ad52 4 100) (fun C58 => obd (xsi C58 ad52 5 32) (fun C59 => obd (xsi C59 ad52 6 0) (fun C60 => obd (xsi C60 ad52 7 115) (fun C61 => obd (xsi C61 ad52 8 97) (fun C62 => obd (xsi C62 ad52 9 99) (fun C63 => obd (xsi C63 ad52 10 107) (fun C64 => obd (xsi C64 ad52 11 32) (fun C65 => obd (xsi C65 ad52 12 0) (fun C66 => obd (xsi C66 ad52 13 119) (fun C67 => obd (xsi C67 ad52 14 101) (fun C68 => obd (xsi C68 ad52 15 97) (fun C69 => obd (xsi C69 ad52 16 114) (fun C70 => obd (xsi C70 ad52 17 115) (fun C71 => obd (xsi C71 ad52 18 32) (fun C72 => obd (xsi C72 ad52 19 0) (fun C73 => obd (xsi C73 ad52 20 97) (fun C74 => obd (xsi C74 ad52 21 104) (fun C75 => obd (xsi C75 ad52 22 101) (fun C76 => obd (xsi C76 ad52 23 97) (fun C77 => obd (xsi C77 ad52 24 100) (fun C78 => obd (xsi C78 ad52 25 32) (fun C79 => obd (xsi C79 ad52 26 0) (fun C80 => obd (xsi C80 ad52 27 119) (fun C81 => obd (xsi C81 ad52 28 97) (fun C82 => obd (xsi C82 ad52 29 121) (fun C83 => obd (xsi C83 ad52 30 32) (fun C84 => obd (xsi C84 ad52 31 0) (fun C85 => obd (xsi C85 ad52 32 117) (fun C86 => obd (xsi C86 ad52 33 112) (fun C87 => obd (xsi C87 ad52 34 32) (fun C88 => obd (xsi C88 ad52 35 0) (fun C89 => obd (xsi C89 ad52 36 114) (fun C90 => obd (xsi C90 ad52 37 111) (fun C91 => obd (xsi C91 ad52 38 112) (fun C92 => obd (xsi C92 ad52 39 101) (fun C93 => obd (xsi C93 ad52 40 32) (fun C94 => obd (xsi C94 ad52 41 0) (fun C95 => obd (xsi C95 ad52 42 119) (fun C96 => obd (xsi C96 ad52 43 105) (fun C97 => obd (xsi C97 ad52 44 110) (fun C98 => obd (xsi C98 ad52 45 100) (fun C99 => obd (xsi C99 ad52 46 32) (fun C100 => obd (xsi C100 ad52 47 0) (fun C101 => obd (xpv C101 (xis 6) a0 25 (.ref ad52)) (fun C102 => xnew C102 (.inl (0, (8, .inl (fun _ => 0)))) (fun ad103 C104 => obd (xsi C104 ad103 0 3) (fun C105 => obd (xsi C105 ad103 1 2) (fun C106 => obd (xsi C106 ad103 2 2) (fun C107 => obd (xsi C107 ad103 3 2) (fun C108 => obd (xsi C108 ad103 4 1) (fun C109 => obd (xsi C109 ad103 5 1) (fun C110 => obd (xsi C110 ad103 6 1) (fun C111 => obd (xsi C111 ad103 7 1) (fun C112 => obd (xpv C112 (xis 6) a0 26 (.ref ad103)) (fun C113 => xnew C113 (.inl (0, (3, .inl (fun _ => 0)))) (fun ad114 C115 => obd (xpv C115 (xis 6) a0 27 (.ref ad114)) (fun C116 => xnew C116 (.inl (0, (80, .inl (fun _ => 0)))) (fun ad117 C118 => obd (xpv C118 (xis 6) a0 33 (.ref ad117)) (fun C119 => xnew C119 (.inl (0, (80, .inl (fun _ => 0)))) (fun ad120 C121 => obd (xpv C121 (xis 6) a0 34 (.ref ad120)) (fun C122 => xnew C122 (.inl (0, (40, .inl (fun _ => 0)))) (fun ad123 C124 => obd (xpv C124 (xis 6) a0 47 (.ref ad123)) (fun C125 => xnew C125 (.inl (0, (5, .inl (fun _ => 0)))) (fun ad126 C127 => obd (xpv C127 (xis 6) a0 48 (.ref ad126)) (fun C128 => xnew C128 (.inl (0, (5, .inl (fun _ => 0)))) (fun ad129 C130 => obd (xpv C130 (xis 6) a0 49 (.ref ad129)) (fun C131 => xnew C131 (.inl (0, (8, .inl (fun _ => 0)))) (fun ad132 C133 => obd (xpv C133 (xis 6) a0 51 (.ref ad132)) (fun C134 => xnew C134 (.inl (0, (8, .inl (fun _ => 0)))) (fun ad135 C136 => obd (xpv C136 (xis 6) a0 52 (.ref ad135)) (fun C137 => xnew C137 (.inl (0, (8, .inl (fun _ => 0)))) (fun ad138 C139 => obd (xpv C139 (xis 6) a0 53 (.ref ad138)) (fun C140 => xnew C140 (.inl (0, (8, .inl (fun _ => 0)))) (fun ad141 C142 => obd (xpv C142 (xis 6) a0 54 (.ref ad141)) (fun C143 => xnew C143 (.inl (0, (8, .inl (fun _ => 0)))) (fun ad144 C145 => obd (xpv C145 (xis 6) a0 55 (.ref ad144)) (fun C146 => xnew C146 (.inl (0, (20, .inl (fun _ => 0)))) (fun ad147 C148 => obd (xpv C148 (xis 6) a0 56 (.ref ad147)) (fun C149 => K C149))))))))))))))))))))))))))))))))))))))))))))))))))))))))))))))))))))))))))))))))))))))))))))))))))))))))))))))))))))))))
theorem iX6_init : xInf yX6_init cX6_init 1 none 0 := ⟨q1474, by decide +kernel⟩
set_option maxHeartbeats 4000000 in
theorem xet_X6_init (l : Launch) (a0 : Nat) (C : XH) (K : XH → Prop) (hs : x_X6_init a0 C K) : xMetv l yX6_init (ws_ yX6_init cX6_init 1 none) 1 24 29 1873 C [.ref a0] K := by
  intro D dT adK adV sz
  refine xEnter (own := RX6) (Qc := xQv D dT K) (by decide) rfl (by rfl) ?_
  intro p e s m args below meth c A ls X hnm hK hA hG hI hl
  have hx := X.1
  have hb := X.2.1
  have hts := X.2.2.2.2.1
  have hown := X.2.2.2.2.2.1
  have hl : lv_has ls 1 [(0, .ref a0)] := hl
  unfold x_X6_init at hs
  refine lv_aload_n hx hb dX6_init_0 rfl (lv_at hl 0 rfl) ?_
  refine W.objInit hx hb hown (hts _ q1475) (hts _ q136) (hts _ q137) rfl (by rw [X.2.2.2.1]; exact hl.1) rfl dX6_init_1 (Nat.le_of_ble_eq_true rfl) (Nat.le_of_ble_eq_true rfl) ?_
  show W p l e _ s m args below meth c _ _ _ _ _ (F0 m 4 ls [])
  refine lv_aload_n hx hb dX6_init_4 rfl (lv_at hl 0 rfl) ?_
  refine lv_bipush (v := 40) hx hb dX6_init_5 (by decide) ?_
  obtain ⟨C1, eC1, hs⟩ := hs
  refine x_put X hK hI 6 2 rfl in_X6 tyX6 tyX6_ok nmX6 rfl q1478 rfl rfl rfl rfl eC1 dX6_init_7 (fun H locs hI => ?_)
  refine lv_aload_n hx hb dX6_init_10 rfl (lv_at hl 0 rfl) ?_
  refine lv_iconst (v := 5) hx hb dX6_init_11 (by decide) ?_
  obtain ⟨C2, eC2, hs⟩ := hs
  refine x_put X hK hI 6 3 rfl in_X6 tyX6 tyX6_ok nmX6 rfl q1479 rfl rfl rfl rfl eC2 dX6_init_12 (fun H locs hI => ?_)
  refine lv_aload_n hx hb dX6_init_15 rfl (lv_at hl 0 rfl) ?_
  refine lv_iconst (v := 3) hx hb dX6_init_16 (by decide) ?_
  obtain ⟨C3, eC3, hs⟩ := hs
  refine x_put X hK hI 6 4 rfl in_X6 tyX6 tyX6_ok nmX6 rfl q1480 rfl rfl rfl rfl eC3 dX6_init_17 (fun H locs hI => ?_)
  refine lv_aload_n hx hb dX6_init_20 rfl (lv_at hl 0 rfl) ?_
  refine lv_bipush (v := 20) hx hb dX6_init_21 (by decide) ?_
  obtain ⟨C4, eC4, hs⟩ := hs
  refine x_put X hK hI 6 5 rfl in_X6 tyX6 tyX6_ok nmX6 rfl q1481 rfl rfl rfl rfl eC4 dX6_init_23 (fun H locs hI => ?_)
  refine lv_aload_n hx hb dX6_init_26 rfl (lv_at hl 0 rfl) ?_
  refine lv_iconst (v := 1) hx hb dX6_init_27 (by decide) ?_
  obtain ⟨C5, eC5, hs⟩ := hs
  refine x_put X hK hI 6 8 rfl in_X6 tyX6 tyX6_ok nmX6 rfl q1484 rfl rfl rfl rfl eC5 dX6_init_28 (fun H locs hI => ?_)
  refine lv_aload_n hx hb dX6_init_31 rfl (lv_at hl 0 rfl) ?_
  refine lv_iconst (v := (-1)) hx hb dX6_init_32 (by decide) ?_
  obtain ⟨C6, eC6, hs⟩ := hs
  refine x_put X hK hI 6 9 rfl in_X6 tyX6 tyX6_ok nmX6 rfl q1485 rfl rfl rfl rfl eC6 dX6_init_33 (fun H locs hI => ?_)
  refine lv_aload_n hx hb dX6_init_36 rfl (lv_at hl 0 rfl) ?_
  refine lv_bipush (v := 8) hx hb dX6_init_37 (by decide) ?_
  refine x_newa (n := 8) (B := 8) (x := (8, .inl (fun _ => 0))) X hK hI hA 0 rfl rfl (fun _ h => by cases h) q155 (fun _ => rfl) (by decide) (by decide) rfl (Nat.le_of_ble_eq_true rfl) (Nat.le_of_ble_eq_true rfl) hs dX6_init_39 (fun ad7 C8 H hs9 hI => ?_)
  replace hs := hs9
  obtain ⟨C9, eC9, hs⟩ := hs
  refine x_putF X hK hI 6 10 rfl in_X6 tyX6 tyX6_ok nmX6 rfl q1486 rfl rfl hnm rfl rfl eC9 dX6_init_41 (fun H locs hI => ?_)
  refine lv_aload_n hx hb dX6_init_44 rfl (lv_at hl 0 rfl) ?_
  refine lv_bipush (v := 8) hx hb dX6_init_45 (by decide) ?_
  refine x_newa (n := 8) (B := 8) (x := (8, .inl (fun _ => 0))) X hK hI hA 0 rfl rfl (fun _ h => by cases h) q155 (fun _ => rfl) (by decide) (by decide) rfl (Nat.le_of_ble_eq_true rfl) (Nat.le_of_ble_eq_true rfl) hs dX6_init_47 (fun ad10 C11 H hs9 hI => ?_)
  replace hs := hs9
  obtain ⟨C12, eC12, hs⟩ := hs
  refine x_putF X hK hI 6 11 rfl in_X6 tyX6 tyX6_ok nmX6 rfl q1487 rfl rfl hnm rfl rfl eC12 dX6_init_49 (fun H locs hI => ?_)
  refine lv_aload_n hx hb dX6_init_52 rfl (lv_at hl 0 rfl) ?_
  refine lv_bipush (v := 8) hx hb dX6_init_53 (by decide) ?_
  refine x_newa (n := 8) (B := 8) (x := (8, .inl (fun _ => 0))) X hK hI hA 0 rfl rfl (fun _ h => by cases h) q155 (fun _ => rfl) (by decide) (by decide) rfl (Nat.le_of_ble_eq_true rfl) (Nat.le_of_ble_eq_true rfl) hs dX6_init_55 (fun ad13 C14 H hs9 hI => ?_)
  replace hs := hs9
  obtain ⟨C15, eC15, hs⟩ := hs
  refine x_putF X hK hI 6 12 rfl in_X6 tyX6 tyX6_ok nmX6 rfl q1488 rfl rfl hnm rfl rfl eC15 dX6_init_57 (fun H locs hI => ?_)
  refine lv_aload_n hx hb dX6_init_60 rfl (lv_at hl 0 rfl) ?_
  refine lv_bipush (v := 8) hx hb dX6_init_61 (by decide) ?_
  refine x_newa (n := 8) (B := 8) (x := (8, .inl (fun _ => 0))) X hK hI hA 0 rfl rfl (fun _ h => by cases h) q155 (fun _ => rfl) (by decide) (by decide) rfl (Nat.le_of_ble_eq_true rfl) (Nat.le_of_ble_eq_true rfl) hs dX6_init_63 (fun ad16 C17 H hs9 hI => ?_)
  replace hs := hs9
  obtain ⟨C18, eC18, hs⟩ := hs
  refine x_putF X hK hI 6 13 rfl in_X6 tyX6 tyX6_ok nmX6 rfl q1489 rfl rfl hnm rfl rfl eC18 dX6_init_65 (fun H locs hI => ?_)
  refine lv_aload_n hx hb dX6_init_68 rfl (lv_at hl 0 rfl) ?_
  refine lv_bipush (v := 8) hx hb dX6_init_69 (by decide) ?_
  refine x_newa (n := 8) (B := 8) (x := (8, .inl (fun _ => 0))) X hK hI hA 0 rfl rfl (fun _ h => by cases h) q155 (fun _ => rfl) (by decide) (by decide) rfl (Nat.le_of_ble_eq_true rfl) (Nat.le_of_ble_eq_true rfl) hs dX6_init_71 (fun ad19 C20 H hs9 hI => ?_)
  replace hs := hs9
  obtain ⟨C21, eC21, hs⟩ := hs
  refine x_putF X hK hI 6 14 rfl in_X6 tyX6 tyX6_ok nmX6 rfl q1490 rfl rfl hnm rfl rfl eC21 dX6_init_73 (fun H locs hI => ?_)
  refine lv_aload_n hx hb dX6_init_76 rfl (lv_at hl 0 rfl) ?_
  refine lv_bipush (v := 8) hx hb dX6_init_77 (by decide) ?_
  refine x_newa (n := 8) (B := 8) (x := (8, .inl (fun _ => 0))) X hK hI hA 0 rfl rfl (fun _ h => by cases h) q155 (fun _ => rfl) (by decide) (by decide) rfl (Nat.le_of_ble_eq_true rfl) (Nat.le_of_ble_eq_true rfl) hs dX6_init_79 (fun ad22 C23 H hs9 hI => ?_)
  replace hs := hs9
  obtain ⟨C24, eC24, hs⟩ := hs
  refine x_putF X hK hI 6 15 rfl in_X6 tyX6 tyX6_ok nmX6 rfl q1491 rfl rfl hnm rfl rfl eC24 dX6_init_81 (fun H locs hI => ?_)
  refine lv_aload_n hx hb dX6_init_84 rfl (lv_at hl 0 rfl) ?_
  refine lv_bipush (v := 8) hx hb dX6_init_85 (by decide) ?_
  refine x_newa (n := 8) (B := 8) (x := (8, .inl (fun _ => 0))) X hK hI hA 0 rfl rfl (fun _ h => by cases h) q155 (fun _ => rfl) (by decide) (by decide) rfl (Nat.le_of_ble_eq_true rfl) (Nat.le_of_ble_eq_true rfl) hs dX6_init_87 (fun ad25 C26 H hs9 hI => ?_)
  replace hs := hs9
  obtain ⟨C27, eC27, hs⟩ := hs
  refine x_putF X hK hI 6 16 rfl in_X6 tyX6 tyX6_ok nmX6 rfl q1492 rfl rfl hnm rfl rfl eC27 dX6_init_89 (fun H locs hI => ?_)
  refine lv_aload_n hx hb dX6_init_92 rfl (lv_at hl 0 rfl) ?_
  refine lv_bipush (v := 8) hx hb dX6_init_93 (by decide) ?_
  refine x_newa (n := 8) (B := 8) (x := (8, .inl (fun _ => 0))) X hK hI hA 0 rfl rfl (fun _ h => by cases h) q155 (fun _ => rfl) (by decide) (by decide) rfl (Nat.le_of_ble_eq_true rfl) (Nat.le_of_ble_eq_true rfl) hs dX6_init_95 (fun ad28 C29 H hs9 hI => ?_)
  replace hs := hs9
  obtain ⟨C30, eC30, hs⟩ := hs
  refine x_putF X hK hI 6 17 rfl in_X6 tyX6 tyX6_ok nmX6 rfl q1493 rfl rfl hnm rfl rfl eC30 dX6_init_97 (fun H locs hI => ?_)
  refine lv_aload_n hx hb dX6_init_100 rfl (lv_at hl 0 rfl) ?_
  refine lv_bipush (v := 8) hx hb dX6_init_101 (by decide) ?_
  refine x_newa (n := 8) (B := 8) (x := (8, .inl (fun _ => 0))) X hK hI hA 0 rfl rfl (fun _ h => by cases h) q155 (fun _ => rfl) (by decide) (by decide) rfl (Nat.le_of_ble_eq_true rfl) (Nat.le_of_ble_eq_true rfl) hs dX6_init_103 (fun ad31 C32 H hs9 hI => ?_)
  replace hs := hs9
  obtain ⟨C33, eC33, hs⟩ := hs
  refine x_putF X hK hI 6 18 rfl in_X6 tyX6 tyX6_ok nmX6 rfl q1494 rfl rfl hnm rfl rfl eC33 dX6_init_105 (fun H locs hI => ?_)
  refine lv_aload_n hx hb dX6_init_108 rfl (lv_at hl 0 rfl) ?_
  refine lv_bipush (v := 8) hx hb dX6_init_109 (by decide) ?_
  refine x_newa (n := 8) (B := 8) (x := (8, .inl (fun _ => 0))) X hK hI hA 0 rfl rfl (fun _ h => by cases h) q155 (fun _ => rfl) (by decide) (by decide) rfl (Nat.le_of_ble_eq_true rfl) (Nat.le_of_ble_eq_true rfl) hs dX6_init_111 (fun ad34 C35 H hs9 hI => ?_)
  replace hs := hs9
  obtain ⟨C36, eC36, hs⟩ := hs
  refine x_putF X hK hI 6 19 rfl in_X6 tyX6 tyX6_ok nmX6 rfl q1495 rfl rfl hnm rfl rfl eC36 dX6_init_113 (fun H locs hI => ?_)
  refine lv_aload_n hx hb dX6_init_116 rfl (lv_at hl 0 rfl) ?_
  refine lv_bipush (v := 8) hx hb dX6_init_117 (by decide) ?_
  refine x_newa (n := 8) (B := 8) (x := (8, .inl (fun _ => 0))) X hK hI hA 0 rfl rfl (fun _ h => by cases h) q155 (fun _ => rfl) (by decide) (by decide) rfl (Nat.le_of_ble_eq_true rfl) (Nat.le_of_ble_eq_true rfl) hs dX6_init_119 (fun ad37 C38 H hs9 hI => ?_)
  replace hs := hs9
  obtain ⟨C39, eC39, hs⟩ := hs
  refine x_putF X hK hI 6 20 rfl in_X6 tyX6 tyX6_ok nmX6 rfl q1496 rfl rfl hnm rfl rfl eC39 dX6_init_121 (fun H locs hI => ?_)
  refine lv_aload_n hx hb dX6_init_124 rfl (lv_at hl 0 rfl) ?_
  refine lv_bipush (v := 8) hx hb dX6_init_125 (by decide) ?_
  refine x_newa (n := 8) (B := 8) (x := (8, .inl (fun _ => 0))) X hK hI hA 0 rfl rfl (fun _ h => by cases h) q155 (fun _ => rfl) (by decide) (by decide) rfl (Nat.le_of_ble_eq_true rfl) (Nat.le_of_ble_eq_true rfl) hs dX6_init_127 (fun ad40 C41 H hs9 hI => ?_)
  replace hs := hs9
  obtain ⟨C42, eC42, hs⟩ := hs
  refine x_putF X hK hI 6 21 rfl in_X6 tyX6 tyX6_ok nmX6 rfl q1497 rfl rfl hnm rfl rfl eC42 dX6_init_129 (fun H locs hI => ?_)
  refine lv_aload_n hx hb dX6_init_132 rfl (lv_at hl 0 rfl) ?_
  refine lv_bipush (v := 8) hx hb dX6_init_133 (by decide) ?_
  refine x_newa (n := 8) (B := 8) (x := (8, .inl (fun _ => 0))) X hK hI hA 0 rfl rfl (fun _ h => by cases h) q155 (fun _ => rfl) (by decide) (by decide) rfl (Nat.le_of_ble_eq_true rfl) (Nat.le_of_ble_eq_true rfl) hs dX6_init_135 (fun ad43 C44 H hs9 hI => ?_)
  replace hs := hs9
  obtain ⟨C45, eC45, hs⟩ := hs
  refine x_putF X hK hI 6 22 rfl in_X6 tyX6 tyX6_ok nmX6 rfl q1498 rfl rfl hnm rfl rfl eC45 dX6_init_137 (fun H locs hI => ?_)
  refine lv_aload_n hx hb dX6_init_140 rfl (lv_at hl 0 rfl) ?_
  refine lv_sipush (v := 1280) hx hb dX6_init_141 (by decide) ?_
  refine x_newa (n := 1280) (B := 1280) (x := (1280, .inr (.inl (fun _ => 0)))) X hK hI hA 1 rfl rfl (fun _ h => by cases h) q537 (fun _ => rfl) (by decide) (by decide) rfl (Nat.le_of_ble_eq_true rfl) (Nat.le_of_ble_eq_true rfl) hs dX6_init_144 (fun ad46 C47 H hs9 hI => ?_)
  replace hs := hs9
  obtain ⟨C48, eC48, hs⟩ := hs
  refine x_putF X hK hI 6 23 rfl in_X6 tyX6 tyX6_ok nmX6 rfl q1499 rfl rfl hnm rfl rfl eC48 dX6_init_146 (fun H locs hI => ?_)
  refine lv_aload_n hx hb dX6_init_149 rfl (lv_at hl 0 rfl) ?_
  refine lv_sipush (v := 160) hx hb dX6_init_150 (by decide) ?_
  refine x_newa (n := 160) (B := 160) (x := (160, .inr (.inl (fun _ => 0)))) X hK hI hA 1 rfl rfl (fun _ h => by cases h) q537 (fun _ => rfl) (by decide) (by decide) rfl (Nat.le_of_ble_eq_true rfl) (Nat.le_of_ble_eq_true rfl) hs dX6_init_153 (fun ad49 C50 H hs9 hI => ?_)
  replace hs := hs9
  obtain ⟨C51, eC51, hs⟩ := hs
  refine x_putF X hK hI 6 24 rfl in_X6 tyX6 tyX6_ok nmX6 rfl q1500 rfl rfl hnm rfl rfl eC51 dX6_init_155 (fun H locs hI => ?_)
  refine lv_aload_n hx hb dX6_init_158 rfl (lv_at hl 0 rfl) ?_
  refine lv_bipush (v := 48) hx hb dX6_init_159 (by decide) ?_
  refine x_newa (n := 48) (B := 48) (x := (48, .inl (fun _ => 0))) X hK hI hA 0 rfl rfl (fun _ h => by cases h) q155 (fun _ => rfl) (by decide) (by decide) rfl (Nat.le_of_ble_eq_true rfl) (Nat.le_of_ble_eq_true rfl) hs dX6_init_161 (fun ad52 C53 H hs9 hI => ?_)
  replace hs := hs9
  refine lv_dup hx hb dX6_init_163 rfl ?_
  refine lv_iconst (v := 0) hx hb dX6_init_164 (by decide) ?_
  refine lv_bipush (v := 99) hx hb dX6_init_165 (by decide) ?_
  obtain ⟨C54, eC54, hs⟩ := hs
  refine x_iast X hK hI eC54 dX6_init_167 (fun H locs hI => ?_)
  refine lv_dup hx hb dX6_init_168 rfl ?_
  refine lv_iconst (v := 1) hx hb dX6_init_169 (by decide) ?_
  refine lv_bipush (v := 104) hx hb dX6_init_170 (by decide) ?_
  obtain ⟨C55, eC55, hs⟩ := hs
  refine x_iast X hK hI eC55 dX6_init_172 (fun H locs hI => ?_)
  refine lv_dup hx hb dX6_init_173 rfl ?_
  refine lv_iconst (v := 2) hx hb dX6_init_174 (by decide) ?_
  refine lv_bipush (v := 105) hx hb dX6_init_175 (by decide) ?_
  obtain ⟨C56, eC56, hs⟩ := hs
  refine x_iast X hK hI eC56 dX6_init_177 (fun H locs hI => ?_)
  refine lv_dup hx hb dX6_init_178 rfl ?_
  refine lv_iconst (v := 3) hx hb dX6_init_179 (by decide) ?_
  refine lv_bipush (v := 108) hx hb dX6_init_180 (by decide) ?_
  obtain ⟨C57, eC57, hs⟩ := hs
  refine x_iast X hK hI eC57 dX6_init_182 (fun H locs hI => ?_)
  refine lv_dup hx hb dX6_init_183 rfl ?_
  refine lv_iconst (v := 4) hx hb dX6_init_184 (by decide) ?_
  refine lv_bipush (v := 100) hx hb dX6_init_185 (by decide) ?_
  obtain ⟨C58, eC58, hs⟩ := hs
  refine x_iast X hK hI eC58 dX6_init_187 (fun H locs hI => ?_)
  refine lv_dup hx hb dX6_init_188 rfl ?_
  refine lv_iconst (v := 5) hx hb dX6_init_189 (by decide) ?_
  refine lv_bipush (v := 32) hx hb dX6_init_190 (by decide) ?_
  obtain ⟨C59, eC59, hs⟩ := hs
  refine x_iast X hK hI eC59 dX6_init_192 (fun H locs hI => ?_)
  refine lv_dup hx hb dX6_init_193 rfl ?_
  refine lv_bipush (v := 6) hx hb dX6_init_194 (by decide) ?_
  refine lv_iconst (v := 0) hx hb dX6_init_196 (by decide) ?_
  obtain ⟨C60, eC60, hs⟩ := hs
  refine x_iast X hK hI eC60 dX6_init_197 (fun H locs hI => ?_)
  refine lv_dup hx hb dX6_init_198 rfl ?_
  refine lv_bipush (v := 7) hx hb dX6_init_199 (by decide) ?_
  refine lv_bipush (v := 115) hx hb dX6_init_201 (by decide) ?_
  obtain ⟨C61, eC61, hs⟩ := hs
  refine x_iast X hK hI eC61 dX6_init_203 (fun H locs hI => ?_)
  refine lv_dup hx hb dX6_init_204 rfl ?_
  refine lv_bipush (v := 8) hx hb dX6_init_205 (by decide) ?_
  refine lv_bipush (v := 97) hx hb dX6_init_207 (by decide) ?_
  obtain ⟨C62, eC62, hs⟩ := hs
  refine x_iast X hK hI eC62 dX6_init_209 (fun H locs hI => ?_)
  refine lv_dup hx hb dX6_init_210 rfl ?_
  refine lv_bipush (v := 9) hx hb dX6_init_211 (by decide) ?_
  refine lv_bipush (v := 99) hx hb dX6_init_213 (by decide) ?_
  obtain ⟨C63, eC63, hs⟩ := hs
  refine x_iast X hK hI eC63 dX6_init_215 (fun H locs hI => ?_)
  refine lv_dup hx hb dX6_init_216 rfl ?_
  refine lv_bipush (v := 10) hx hb dX6_init_217 (by decide) ?_
  refine lv_bipush (v := 107) hx hb dX6_init_219 (by decide) ?_
  obtain ⟨C64, eC64, hs⟩ := hs
  refine x_iast X hK hI eC64 dX6_init_221 (fun H locs hI => ?_)
  refine lv_dup hx hb dX6_init_222 rfl ?_
  refine lv_bipush (v := 11) hx hb dX6_init_223 (by decide) ?_
  refine lv_bipush (v := 32) hx hb dX6_init_225 (by decide) ?_
  obtain ⟨C65, eC65, hs⟩ := hs
  refine x_iast X hK hI eC65 dX6_init_227 (fun H locs hI => ?_)
  refine lv_dup hx hb dX6_init_228 rfl ?_
  refine lv_bipush (v := 12) hx hb dX6_init_229 (by decide) ?_
  refine lv_iconst (v := 0) hx hb dX6_init_231 (by decide) ?_
  obtain ⟨C66, eC66, hs⟩ := hs
  refine x_iast X hK hI eC66 dX6_init_232 (fun H locs hI => ?_)
  refine lv_dup hx hb dX6_init_233 rfl ?_
  refine lv_bipush (v := 13) hx hb dX6_init_234 (by decide) ?_
  refine lv_bipush (v := 119) hx hb dX6_init_236 (by decide) ?_
  obtain ⟨C67, eC67, hs⟩ := hs
  refine x_iast X hK hI eC67 dX6_init_238 (fun H locs hI => ?_)
  refine lv_dup hx hb dX6_init_239 rfl ?_
  refine lv_bipush (v := 14) hx hb dX6_init_240 (by decide) ?_
  refine lv_bipush (v := 101) hx hb dX6_init_242 (by decide) ?_
  obtain ⟨C68, eC68, hs⟩ := hs
  refine x_iast X hK hI eC68 dX6_init_244 (fun H locs hI => ?_)
  refine lv_dup hx hb dX6_init_245 rfl ?_
  refine lv_bipush (v := 15) hx hb dX6_init_246 (by decide) ?_
  refine lv_bipush (v := 97) hx hb dX6_init_248 (by decide) ?_
  obtain ⟨C69, eC69, hs⟩ := hs
  refine x_iast X hK hI eC69 dX6_init_250 (fun H locs hI => ?_)
  refine lv_dup hx hb dX6_init_251 rfl ?_
  refine lv_bipush (v := 16) hx hb dX6_init_252 (by decide) ?_
  refine lv_bipush (v := 114) hx hb dX6_init_254 (by decide) ?_
  obtain ⟨C70, eC70, hs⟩ := hs
  refine x_iast X hK hI eC70 dX6_init_256 (fun H locs hI => ?_)
  refine lv_dup hx hb dX6_init_257 rfl ?_
  refine lv_bipush (v := 17) hx hb dX6_init_258 (by decide) ?_
  refine lv_bipush (v := 115) hx hb dX6_init_260 (by decide) ?_
  obtain ⟨C71, eC71, hs⟩ := hs
  refine x_iast X hK hI eC71 dX6_init_262 (fun H locs hI => ?_)
  refine lv_dup hx hb dX6_init_263 rfl ?_
  refine lv_bipush (v := 18) hx hb dX6_init_264 (by decide) ?_
  refine lv_bipush (v := 32) hx hb dX6_init_266 (by decide) ?_
  obtain ⟨C72, eC72, hs⟩ := hs
  refine x_iast X hK hI eC72 dX6_init_268 (fun H locs hI => ?_)
  refine lv_dup hx hb dX6_init_269 rfl ?_
  refine lv_bipush (v := 19) hx hb dX6_init_270 (by decide) ?_
  refine lv_iconst (v := 0) hx hb dX6_init_272 (by decide) ?_
  obtain ⟨C73, eC73, hs⟩ := hs
  refine x_iast X hK hI eC73 dX6_init_273 (fun H locs hI => ?_)
  refine lv_dup hx hb dX6_init_274 rfl ?_
  refine lv_bipush (v := 20) hx hb dX6_init_275 (by decide) ?_
  refine lv_bipush (v := 97) hx hb dX6_init_277 (by decide) ?_
  obtain ⟨C74, eC74, hs⟩ := hs
  refine x_iast X hK hI eC74 dX6_init_279 (fun H locs hI => ?_)
  refine lv_dup hx hb dX6_init_280 rfl ?_
  refine lv_bipush (v := 21) hx hb dX6_init_281 (by decide) ?_
  refine lv_bipush (v := 104) hx hb dX6_init_283 (by decide) ?_
  obtain ⟨C75, eC75, hs⟩ := hs
  refine x_iast X hK hI eC75 dX6_init_285 (fun H locs hI => ?_)
  refine lv_dup hx hb dX6_init_286 rfl ?_
  refine lv_bipush (v := 22) hx hb dX6_init_287 (by decide) ?_
  refine lv_bipush (v := 101) hx hb dX6_init_289 (by decide) ?_
  obtain ⟨C76, eC76, hs⟩ := hs
  refine x_iast X hK hI eC76 dX6_init_291 (fun H locs hI => ?_)
  refine lv_dup hx hb dX6_init_292 rfl ?_
  refine lv_bipush (v := 23) hx hb dX6_init_293 (by decide) ?_
  refine lv_bipush (v := 97) hx hb dX6_init_295 (by decide) ?_
  obtain ⟨C77, eC77, hs⟩ := hs
  refine x_iast X hK hI eC77 dX6_init_297 (fun H locs hI => ?_)
  refine lv_dup hx hb dX6_init_298 rfl ?_
  refine lv_bipush (v := 24) hx hb dX6_init_299 (by decide) ?_
  refine lv_bipush (v := 100) hx hb dX6_init_301 (by decide) ?_
  obtain ⟨C78, eC78, hs⟩ := hs
  refine x_iast X hK hI eC78 dX6_init_303 (fun H locs hI => ?_)
  refine lv_dup hx hb dX6_init_304 rfl ?_
  refine lv_bipush (v := 25) hx hb dX6_init_305 (by decide) ?_
  refine lv_bipush (v := 32) hx hb dX6_init_307 (by decide) ?_
  obtain ⟨C79, eC79, hs⟩ := hs
  refine x_iast X hK hI eC79 dX6_init_309 (fun H locs hI => ?_)
  refine lv_dup hx hb dX6_init_310 rfl ?_
  refine lv_bipush (v := 26) hx hb dX6_init_311 (by decide) ?_
  refine lv_iconst (v := 0) hx hb dX6_init_313 (by decide) ?_
  obtain ⟨C80, eC80, hs⟩ := hs
  refine x_iast X hK hI eC80 dX6_init_314 (fun H locs hI => ?_)
  refine lv_dup hx hb dX6_init_315 rfl ?_
  refine lv_bipush (v := 27) hx hb dX6_init_316 (by decide) ?_
  refine lv_bipush (v := 119) hx hb dX6_init_318 (by decide) ?_
  obtain ⟨C81, eC81, hs⟩ := hs
  refine x_iast X hK hI eC81 dX6_init_320 (fun H locs hI => ?_)
  refine lv_dup hx hb dX6_init_321 rfl ?_
  refine lv_bipush (v := 28) hx hb dX6_init_322 (by decide) ?_
  refine lv_bipush (v := 97) hx hb dX6_init_324 (by decide) ?_
  obtain ⟨C82, eC82, hs⟩ := hs
  refine x_iast X hK hI eC82 dX6_init_326 (fun H locs hI => ?_)
  refine lv_dup hx hb dX6_init_327 rfl ?_
  refine lv_bipush (v := 29) hx hb dX6_init_328 (by decide) ?_
  refine lv_bipush (v := 121) hx hb dX6_init_330 (by decide) ?_
  obtain ⟨C83, eC83, hs⟩ := hs
  refine x_iast X hK hI eC83 dX6_init_332 (fun H locs hI => ?_)
  refine lv_dup hx hb dX6_init_333 rfl ?_
  refine lv_bipush (v := 30) hx hb dX6_init_334 (by decide) ?_
  refine lv_bipush (v := 32) hx hb dX6_init_336 (by decide) ?_
  obtain ⟨C84, eC84, hs⟩ := hs
  refine x_iast X hK hI eC84 dX6_init_338 (fun H locs hI => ?_)
  refine lv_dup hx hb dX6_init_339 rfl ?_
  refine lv_bipush (v := 31) hx hb dX6_init_340 (by decide) ?_
  refine lv_iconst (v := 0) hx hb dX6_init_342 (by decide) ?_
  obtain ⟨C85, eC85, hs⟩ := hs
  refine x_iast X hK hI eC85 dX6_init_343 (fun H locs hI => ?_)
  refine lv_dup hx hb dX6_init_344 rfl ?_
  refine lv_bipush (v := 32) hx hb dX6_init_345 (by decide) ?_
  refine lv_bipush (v := 117) hx hb dX6_init_347 (by decide) ?_
  obtain ⟨C86, eC86, hs⟩ := hs
  refine x_iast X hK hI eC86 dX6_init_349 (fun H locs hI => ?_)
  refine lv_dup hx hb dX6_init_350 rfl ?_
  refine lv_bipush (v := 33) hx hb dX6_init_351 (by decide) ?_
  refine lv_bipush (v := 112) hx hb dX6_init_353 (by decide) ?_
  obtain ⟨C87, eC87, hs⟩ := hs
  refine x_iast X hK hI eC87 dX6_init_355 (fun H locs hI => ?_)
  refine lv_dup hx hb dX6_init_356 rfl ?_
  refine lv_bipush (v := 34) hx hb dX6_init_357 (by decide) ?_
  refine lv_bipush (v := 32) hx hb dX6_init_359 (by decide) ?_
  obtain ⟨C88, eC88, hs⟩ := hs
  refine x_iast X hK hI eC88 dX6_init_361 (fun H locs hI => ?_)
  refine lv_dup hx hb dX6_init_362 rfl ?_
  refine lv_bipush (v := 35) hx hb dX6_init_363 (by decide) ?_
  refine lv_iconst (v := 0) hx hb dX6_init_365 (by decide) ?_
  obtain ⟨C89, eC89, hs⟩ := hs
  refine x_iast X hK hI eC89 dX6_init_366 (fun H locs hI => ?_)
  refine lv_dup hx hb dX6_init_367 rfl ?_
  refine lv_bipush (v := 36) hx hb dX6_init_368 (by decide) ?_
  refine lv_bipush (v := 114) hx hb dX6_init_370 (by decide) ?_
  obtain ⟨C90, eC90, hs⟩ := hs
  refine x_iast X hK hI eC90 dX6_init_372 (fun H locs hI => ?_)
  refine lv_dup hx hb dX6_init_373 rfl ?_
  refine lv_bipush (v := 37) hx hb dX6_init_374 (by decide) ?_
  refine lv_bipush (v := 111) hx hb dX6_init_376 (by decide) ?_
  obtain ⟨C91, eC91, hs⟩ := hs
  refine x_iast X hK hI eC91 dX6_init_378 (fun H locs hI => ?_)
  refine lv_dup hx hb dX6_init_379 rfl ?_
  refine lv_bipush (v := 38) hx hb dX6_init_380 (by decide) ?_
  refine lv_bipush (v := 112) hx hb dX6_init_382 (by decide) ?_
  obtain ⟨C92, eC92, hs⟩ := hs
  refine x_iast X hK hI eC92 dX6_init_384 (fun H locs hI => ?_)
  refine lv_dup hx hb dX6_init_385 rfl ?_
  refine lv_bipush (v := 39) hx hb dX6_init_386 (by decide) ?_
  refine lv_bipush (v := 101) hx hb dX6_init_388 (by decide) ?_
  obtain ⟨C93, eC93, hs⟩ := hs
  refine x_iast X hK hI eC93 dX6_init_390 (fun H locs hI => ?_)
  refine lv_dup hx hb dX6_init_391 rfl ?_
  refine lv_bipush (v := 40) hx hb dX6_init_392 (by decide) ?_
  refine lv_bipush (v := 32) hx hb dX6_init_394 (by decide) ?_
  obtain ⟨C94, eC94, hs⟩ := hs
  refine x_iast X hK hI eC94 dX6_init_396 (fun H locs hI => ?_)
  refine lv_dup hx hb dX6_init_397 rfl ?_
  refine lv_bipush (v := 41) hx hb dX6_init_398 (by decide) ?_
  refine lv_iconst (v := 0) hx hb dX6_init_400 (by decide) ?_
  obtain ⟨C95, eC95, hs⟩ := hs
  refine x_iast X hK hI eC95 dX6_init_401 (fun H locs hI => ?_)
  refine lv_dup hx hb dX6_init_402 rfl ?_
  refine lv_bipush (v := 42) hx hb dX6_init_403 (by decide) ?_
  refine lv_bipush (v := 119) hx hb dX6_init_405 (by decide) ?_
  obtain ⟨C96, eC96, hs⟩ := hs
  refine x_iast X hK hI eC96 dX6_init_407 (fun H locs hI => ?_)
  refine lv_dup hx hb dX6_init_408 rfl ?_
  refine lv_bipush (v := 43) hx hb dX6_init_409 (by decide) ?_
  refine lv_bipush (v := 105) hx hb dX6_init_411 (by decide) ?_
  obtain ⟨C97, eC97, hs⟩ := hs
  refine x_iast X hK hI eC97 dX6_init_413 (fun H locs hI => ?_)
  refine lv_dup hx hb dX6_init_414 rfl ?_
  refine lv_bipush (v := 44) hx hb dX6_init_415 (by decide) ?_
  refine lv_bipush (v := 110) hx hb dX6_init_417 (by decide) ?_
  obtain ⟨C98, eC98, hs⟩ := hs
  refine x_iast X hK hI eC98 dX6_init_419 (fun H locs hI => ?_)
  refine lv_dup hx hb dX6_init_420 rfl ?_
  refine lv_bipush (v := 45) hx hb dX6_init_421 (by decide) ?_
  refine lv_bipush (v := 100) hx hb dX6_init_423 (by decide) ?_
  obtain ⟨C99, eC99, hs⟩ := hs
  refine x_iast X hK hI eC99 dX6_init_425 (fun H locs hI => ?_)
  refine lv_dup hx hb dX6_init_426 rfl ?_
  refine lv_bipush (v := 46) hx hb dX6_init_427 (by decide) ?_
  refine lv_bipush (v := 32) hx hb dX6_init_429 (by decide) ?_
  obtain ⟨C100, eC100, hs⟩ := hs
  refine x_iast X hK hI eC100 dX6_init_431 (fun H locs hI => ?_)
  refine lv_dup hx hb dX6_init_432 rfl ?_
  refine lv_bipush (v := 47) hx hb dX6_init_433 (by decide) ?_
  refine lv_iconst (v := 0) hx hb dX6_init_435 (by decide) ?_
  obtain ⟨C101, eC101, hs⟩ := hs
  refine x_iast X hK hI eC101 dX6_init_436 (fun H locs hI => ?_)
  obtain ⟨C102, eC102, hs⟩ := hs
  refine x_putF X hK hI 6 25 rfl in_X6 tyX6 tyX6_ok nmX6 rfl q1501 rfl rfl hnm rfl rfl eC102 dX6_init_437 (fun H locs hI => ?_)
  refine lv_aload_n hx hb dX6_init_440 rfl (lv_at hl 0 rfl) ?_
  refine lv_bipush (v := 8) hx hb dX6_init_441 (by decide) ?_
  refine x_newa (n := 8) (B := 8) (x := (8, .inl (fun _ => 0))) X hK hI hA 0 rfl rfl (fun _ h => by cases h) q155 (fun _ => rfl) (by decide) (by decide) rfl (Nat.le_of_ble_eq_true rfl) (Nat.le_of_ble_eq_true rfl) hs dX6_init_443 (fun ad103 C104 H hs9 hI => ?_)
  replace hs := hs9
  refine lv_dup hx hb dX6_init_445 rfl ?_
  refine lv_iconst (v := 0) hx hb dX6_init_446 (by decide) ?_
  refine lv_iconst (v := 3) hx hb dX6_init_447 (by decide) ?_
  obtain ⟨C105, eC105, hs⟩ := hs
  refine x_iast X hK hI eC105 dX6_init_448 (fun H locs hI => ?_)
  refine lv_dup hx hb dX6_init_449 rfl ?_
  refine lv_iconst (v := 1) hx hb dX6_init_450 (by decide) ?_
  refine lv_iconst (v := 2) hx hb dX6_init_451 (by decide) ?_
  obtain ⟨C106, eC106, hs⟩ := hs
  refine x_iast X hK hI eC106 dX6_init_452 (fun H locs hI => ?_)
  refine lv_dup hx hb dX6_init_453 rfl ?_
  refine lv_iconst (v := 2) hx hb dX6_init_454 (by decide) ?_
  refine lv_iconst (v := 2) hx hb dX6_init_455 (by decide) ?_
  obtain ⟨C107, eC107, hs⟩ := hs
  refine x_iast X hK hI eC107 dX6_init_456 (fun H locs hI => ?_)
  refine lv_dup hx hb dX6_init_457 rfl ?_
  refine lv_iconst (v := 3) hx hb dX6_init_458 (by decide) ?_
  refine lv_iconst (v := 2) hx hb dX6_init_459 (by decide) ?_
  obtain ⟨C108, eC108, hs⟩ := hs
  refine x_iast X hK hI eC108 dX6_init_460 (fun H locs hI => ?_)
  refine lv_dup hx hb dX6_init_461 rfl ?_
  refine lv_iconst (v := 4) hx hb dX6_init_462 (by decide) ?_
  refine lv_iconst (v := 1) hx hb dX6_init_463 (by decide) ?_
  obtain ⟨C109, eC109, hs⟩ := hs
  refine x_iast X hK hI eC109 dX6_init_464 (fun H locs hI => ?_)
  refine lv_dup hx hb dX6_init_465 rfl ?_
  refine lv_iconst (v := 5) hx hb dX6_init_466 (by decide) ?_
  refine lv_iconst (v := 1) hx hb dX6_init_467 (by decide) ?_
  obtain ⟨C110, eC110, hs⟩ := hs
  refine x_iast X hK hI eC110 dX6_init_468 (fun H locs hI => ?_)
  refine lv_dup hx hb dX6_init_469 rfl ?_
  refine lv_bipush (v := 6) hx hb dX6_init_470 (by decide) ?_
  refine lv_iconst (v := 1) hx hb dX6_init_472 (by decide) ?_
  obtain ⟨C111, eC111, hs⟩ := hs
  refine x_iast X hK hI eC111 dX6_init_473 (fun H locs hI => ?_)
  refine lv_dup hx hb dX6_init_474 rfl ?_
  refine lv_bipush (v := 7) hx hb dX6_init_475 (by decide) ?_
  refine lv_iconst (v := 1) hx hb dX6_init_477 (by decide) ?_
  obtain ⟨C112, eC112, hs⟩ := hs
  refine x_iast X hK hI eC112 dX6_init_478 (fun H locs hI => ?_)
  obtain ⟨C113, eC113, hs⟩ := hs
  refine x_putF X hK hI 6 26 rfl in_X6 tyX6 tyX6_ok nmX6 rfl q1502 rfl rfl hnm rfl rfl eC113 dX6_init_479 (fun H locs hI => ?_)
  refine lv_aload_n hx hb dX6_init_482 rfl (lv_at hl 0 rfl) ?_
  refine lv_iconst (v := 3) hx hb dX6_init_483 (by decide) ?_
  refine x_newa (n := 3) (B := 3) (x := (3, .inl (fun _ => 0))) X hK hI hA 0 rfl rfl (fun _ h => by cases h) q155 (fun _ => rfl) (by decide) (by decide) rfl (Nat.le_of_ble_eq_true rfl) (Nat.le_of_ble_eq_true rfl) hs dX6_init_484 (fun ad114 C115 H hs9 hI => ?_)
  replace hs := hs9
  obtain ⟨C116, eC116, hs⟩ := hs
  refine x_putF X hK hI 6 27 rfl in_X6 tyX6 tyX6_ok nmX6 rfl q1503 rfl rfl hnm rfl rfl eC116 dX6_init_486 (fun H locs hI => ?_)
  refine lv_aload_n hx hb dX6_init_489 rfl (lv_at hl 0 rfl) ?_
  refine lv_bipush (v := 80) hx hb dX6_init_490 (by decide) ?_
  refine x_newa (n := 80) (B := 80) (x := (80, .inl (fun _ => 0))) X hK hI hA 0 rfl rfl (fun _ h => by cases h) q155 (fun _ => rfl) (by decide) (by decide) rfl (Nat.le_of_ble_eq_true rfl) (Nat.le_of_ble_eq_true rfl) hs dX6_init_492 (fun ad117 C118 H hs9 hI => ?_)
  replace hs := hs9
  obtain ⟨C119, eC119, hs⟩ := hs
  refine x_putF X hK hI 6 33 rfl in_X6 tyX6 tyX6_ok nmX6 rfl q1509 rfl rfl hnm rfl rfl eC119 dX6_init_494 (fun H locs hI => ?_)
  refine lv_aload_n hx hb dX6_init_497 rfl (lv_at hl 0 rfl) ?_
  refine lv_bipush (v := 80) hx hb dX6_init_498 (by decide) ?_
  refine x_newa (n := 80) (B := 80) (x := (80, .inl (fun _ => 0))) X hK hI hA 0 rfl rfl (fun _ h => by cases h) q155 (fun _ => rfl) (by decide) (by decide) rfl (Nat.le_of_ble_eq_true rfl) (Nat.le_of_ble_eq_true rfl) hs dX6_init_500 (fun ad120 C121 H hs9 hI => ?_)
  replace hs := hs9
  obtain ⟨C122, eC122, hs⟩ := hs
  refine x_putF X hK hI 6 34 rfl in_X6 tyX6 tyX6_ok nmX6 rfl q1510 rfl rfl hnm rfl rfl eC122 dX6_init_502 (fun H locs hI => ?_)
  refine lv_aload_n hx hb dX6_init_505 rfl (lv_at hl 0 rfl) ?_
  refine lv_bipush (v := 40) hx hb dX6_init_506 (by decide) ?_
  refine x_newa (n := 40) (B := 40) (x := (40, .inl (fun _ => 0))) X hK hI hA 0 rfl rfl (fun _ h => by cases h) q155 (fun _ => rfl) (by decide) (by decide) rfl (Nat.le_of_ble_eq_true rfl) (Nat.le_of_ble_eq_true rfl) hs dX6_init_508 (fun ad123 C124 H hs9 hI => ?_)
  replace hs := hs9
  obtain ⟨C125, eC125, hs⟩ := hs
  refine x_putF X hK hI 6 47 rfl in_X6 tyX6 tyX6_ok nmX6 rfl q1523 rfl rfl hnm rfl rfl eC125 dX6_init_510 (fun H locs hI => ?_)
  refine lv_aload_n hx hb dX6_init_513 rfl (lv_at hl 0 rfl) ?_
  refine lv_iconst (v := 5) hx hb dX6_init_514 (by decide) ?_
  refine x_newa (n := 5) (B := 5) (x := (5, .inl (fun _ => 0))) X hK hI hA 0 rfl rfl (fun _ h => by cases h) q155 (fun _ => rfl) (by decide) (by decide) rfl (Nat.le_of_ble_eq_true rfl) (Nat.le_of_ble_eq_true rfl) hs dX6_init_515 (fun ad126 C127 H hs9 hI => ?_)
  replace hs := hs9
  obtain ⟨C128, eC128, hs⟩ := hs
  refine x_putF X hK hI 6 48 rfl in_X6 tyX6 tyX6_ok nmX6 rfl q1524 rfl rfl hnm rfl rfl eC128 dX6_init_517 (fun H locs hI => ?_)
  refine lv_aload_n hx hb dX6_init_520 rfl (lv_at hl 0 rfl) ?_
  refine lv_iconst (v := 5) hx hb dX6_init_521 (by decide) ?_
  refine x_newa (n := 5) (B := 5) (x := (5, .inl (fun _ => 0))) X hK hI hA 0 rfl rfl (fun _ h => by cases h) q155 (fun _ => rfl) (by decide) (by decide) rfl (Nat.le_of_ble_eq_true rfl) (Nat.le_of_ble_eq_true rfl) hs dX6_init_522 (fun ad129 C130 H hs9 hI => ?_)
  replace hs := hs9
  obtain ⟨C131, eC131, hs⟩ := hs
  refine x_putF X hK hI 6 49 rfl in_X6 tyX6 tyX6_ok nmX6 rfl q1525 rfl rfl hnm rfl rfl eC131 dX6_init_524 (fun H locs hI => ?_)
  refine lv_aload_n hx hb dX6_init_527 rfl (lv_at hl 0 rfl) ?_
  refine lv_bipush (v := 8) hx hb dX6_init_528 (by decide) ?_
  refine x_newa (n := 8) (B := 8) (x := (8, .inl (fun _ => 0))) X hK hI hA 0 rfl rfl (fun _ h => by cases h) q155 (fun _ => rfl) (by decide) (by decide) rfl (Nat.le_of_ble_eq_true rfl) (Nat.le_of_ble_eq_true rfl) hs dX6_init_530 (fun ad132 C133 H hs9 hI => ?_)
  replace hs := hs9
  obtain ⟨C134, eC134, hs⟩ := hs
  refine x_putF X hK hI 6 51 rfl in_X6 tyX6 tyX6_ok nmX6 rfl q1527 rfl rfl hnm rfl rfl eC134 dX6_init_532 (fun H locs hI => ?_)
  refine lv_aload_n hx hb dX6_init_535 rfl (lv_at hl 0 rfl) ?_
  refine lv_bipush (v := 8) hx hb dX6_init_536 (by decide) ?_
  refine x_newa (n := 8) (B := 8) (x := (8, .inl (fun _ => 0))) X hK hI hA 0 rfl rfl (fun _ h => by cases h) q155 (fun _ => rfl) (by decide) (by decide) rfl (Nat.le_of_ble_eq_true rfl) (Nat.le_of_ble_eq_true rfl) hs dX6_init_538 (fun ad135 C136 H hs9 hI => ?_)
  replace hs := hs9
  obtain ⟨C137, eC137, hs⟩ := hs
  refine x_putF X hK hI 6 52 rfl in_X6 tyX6 tyX6_ok nmX6 rfl q1528 rfl rfl hnm rfl rfl eC137 dX6_init_540 (fun H locs hI => ?_)
  refine lv_aload_n hx hb dX6_init_543 rfl (lv_at hl 0 rfl) ?_
  refine lv_bipush (v := 8) hx hb dX6_init_544 (by decide) ?_
  refine x_newa (n := 8) (B := 8) (x := (8, .inl (fun _ => 0))) X hK hI hA 0 rfl rfl (fun _ h => by cases h) q155 (fun _ => rfl) (by decide) (by decide) rfl (Nat.le_of_ble_eq_true rfl) (Nat.le_of_ble_eq_true rfl) hs dX6_init_546 (fun ad138 C139 H hs9 hI => ?_)
  replace hs := hs9
  obtain ⟨C140, eC140, hs⟩ := hs
  refine x_putF X hK hI 6 53 rfl in_X6 tyX6 tyX6_ok nmX6 rfl q1529 rfl rfl hnm rfl rfl eC140 dX6_init_548 (fun H locs hI => ?_)
  refine lv_aload_n hx hb dX6_init_551 rfl (lv_at hl 0 rfl) ?_
  refine lv_bipush (v := 8) hx hb dX6_init_552 (by decide) ?_
  refine x_newa (n := 8) (B := 8) (x := (8, .inl (fun _ => 0))) X hK hI hA 0 rfl rfl (fun _ h => by cases h) q155 (fun _ => rfl) (by decide) (by decide) rfl (Nat.le_of_ble_eq_true rfl) (Nat.le_of_ble_eq_true rfl) hs dX6_init_554 (fun ad141 C142 H hs9 hI => ?_)
  replace hs := hs9
  obtain ⟨C143, eC143, hs⟩ := hs
  refine x_putF X hK hI 6 54 rfl in_X6 tyX6 tyX6_ok nmX6 rfl q1530 rfl rfl hnm rfl rfl eC143 dX6_init_556 (fun H locs hI => ?_)
  refine lv_aload_n hx hb dX6_init_559 rfl (lv_at hl 0 rfl) ?_
  refine lv_bipush (v := 8) hx hb dX6_init_560 (by decide) ?_
  refine x_newa (n := 8) (B := 8) (x := (8, .inl (fun _ => 0))) X hK hI hA 0 rfl rfl (fun _ h => by cases h) q155 (fun _ => rfl) (by decide) (by decide) rfl (Nat.le_of_ble_eq_true rfl) (Nat.le_of_ble_eq_true rfl) hs dX6_init_562 (fun ad144 C145 H hs9 hI => ?_)
  replace hs := hs9
  obtain ⟨C146, eC146, hs⟩ := hs
  refine x_putF X hK hI 6 55 rfl in_X6 tyX6 tyX6_ok nmX6 rfl q1531 rfl rfl hnm rfl rfl eC146 dX6_init_564 (fun H locs hI => ?_)
  refine lv_aload_n hx hb dX6_init_567 rfl (lv_at hl 0 rfl) ?_
  refine lv_bipush (v := 20) hx hb dX6_init_568 (by decide) ?_
  refine x_newa (n := 20) (B := 20) (x := (20, .inl (fun _ => 0))) X hK hI hA 0 rfl rfl (fun _ h => by cases h) q155 (fun _ => rfl) (by decide) (by decide) rfl (Nat.le_of_ble_eq_true rfl) (Nat.le_of_ble_eq_true rfl) hs dX6_init_570 (fun ad147 C148 H hs9 hI => ?_)
  replace hs := hs9
  obtain ⟨C149, eC149, hs⟩ := hs
  refine x_putF X hK hI 6 56 rfl in_X6 tyX6 tyX6_ok nmX6 rfl q1532 rfl rfl hnm rfl rfl eC149 dX6_init_572 (fun H locs hI => ?_)
  exact x_retv X hK hI hs (Nat.le_of_ble_eq_true rfl) (Nat.le_of_ble_eq_true rfl) dX6_init_575
