set_option maxRecDepth 100000
def x_J5_checkIndex (a0 : Int32) (a1 : Int32) (C : XH) (K : XH → Prop) : Prop := (∀ o1 : Option Nat, x_J10_checkIndex a0 a1 o1 C (fun r3 C2 => K C2))
theorem iJ5_checkIndex : xInf yJ5_checkIndex cJ5_checkIndex 2 none 2 := ⟨q1045, by decide +kernel⟩
set_option maxHeartbeats 4000000 in
theorem xet_J5_checkIndex (l : Launch) (a0 : Int32) (a1 : Int32) (C : XH) (K : XH → Prop) (hs : x_J5_checkIndex a0 a1 C K) : xMetv l yJ5_checkIndex (ws_ yJ5_checkIndex cJ5_checkIndex 2 none) 1 22 0 0 C [.int a0, .int a1] K := by
  intro D dT adK adV sz
  refine xEnter (own := RJ5) (Qc := xQv D dT K) (by decide) rfl (by rfl) ?_
  intro p e s m args below meth c A ls X hnm hK hA hG hI hl
  have hx := X.1
  have hb := X.2.1
  have hts := X.2.2.2.2.1
  have hown := X.2.2.2.2.2.1
  have hl : lv_has ls 2 [(0, .int a0), (1, .int a1)] := hl
  unfold x_J5_checkIndex at hs
  refine lv_iload_n hx hb dJ5_checkIndex_0 rfl (lv_at hl 0 rfl) ?_
  refine lv_iload_n hx hb dJ5_checkIndex_1 rfl (lv_at hl 1 rfl) ?_
  refine x_gets X hI hG.2.2.2.2.2.2 q1046 dJ5_checkIndex_2 (fun o1 => ?_)
  replace hs := hs o1
  refine x_goi hA hI (x_runS (As := [.int a0, .int a1, va_rf o1]) (rest := []) X hK hA hG hI (xet_J10_checkIndex l a0 a1 o1 _ _ hs) iJ10_checkIndex q1048 q1049 q126 ⟨(Nat.le_of_ble_eq_true rfl), (Nat.le_of_ble_eq_true rfl)⟩ rfl hl.1 rfl (Nat.le_of_ble_eq_true rfl) dJ5_checkIndex_5 ⟨(Nat.le_of_ble_eq_true rfl), (Nat.le_of_ble_eq_true rfl)⟩) (fun r3 C2 H locs hs9 hI => ?_)
  replace hs := hs9
  refine lv_pop hx hb dJ5_checkIndex_8 rfl ?_
  exact x_retv X hK hI hs (Nat.le_of_ble_eq_true rfl) (Nat.le_of_ble_eq_true rfl) dJ5_checkIndex_9
def x_J9_charAt (a0 : Nat) (a1 : Int32) (C : XH) (K : Int32 → XH → Prop) : Prop := x_J5_checkIndex a1 (xsl a0) C (fun C1 => (vp_in a1 (xLen.getD a0 0) ∧ K ((xsb a0 a1) &&& 255) C1))
theorem iJ9_charAt : xInf yJ9_charAt cJ9_charAt 2 (some .char) 2 := ⟨q1042, by decide +kernel⟩
set_option maxHeartbeats 4000000 in
theorem xet_J9_charAt (l : Launch) (a0 : Nat) (a1 : Int32) (ha0 : a0 < 8) (C : XH) (K : Int32 → XH → Prop) (hs : x_J9_charAt a0 a1 C K) : xMetS l yJ9_charAt (ws_ yJ9_charAt cJ9_charAt 2 (some .char)) 2 43 0 0 C (fun adK adV => [.ref (adV a0), .int a1]) (fun D dT A => xQi D dT K A) := by
  intro D dT adK adV sz
  refine xEnter (own := RJ9) (Qc := xQi D dT K) (by decide) rfl (by rfl) ?_
  intro p e s m args below meth c A ls X hnm hK hA hG hI hl
  have hx := X.1
  have hb := X.2.1
  have hts := X.2.2.2.2.1
  have hown := X.2.2.2.2.2.1
  have hl : lv_has ls 2 [(0, .ref (adV a0)), (1, .int a1)] := hl
  unfold x_J9_charAt at hs
  refine lv_iload_n hx hb dJ9_charAt_0 rfl (lv_at hl 1 rfl) ?_
  refine lv_aload_n hx hb dJ9_charAt_1 rfl (lv_at hl 0 rfl) ?_
  refine va_tlen (v := xsl a0) hx hb (hG.2.2.2.1.1 a0 ha0).2.2.2 hI.2.2 rfl dJ9_charAt_2 ?_
  refine x_gov hA hI (x_runS (As := [.int a1, .int (xsl a0)]) (rest := []) X hK hA hG hI (xet_J5_checkIndex l a1 (xsl a0) _ _ hs) iJ5_checkIndex q1043 q1044 q106 ⟨(Nat.le_of_ble_eq_true rfl), (Nat.le_of_ble_eq_true rfl)⟩ rfl hl.1 rfl (Nat.le_of_ble_eq_true rfl) dJ9_charAt_3 ⟨(Nat.le_of_ble_eq_true rfl), (Nat.le_of_ble_eq_true rfl)⟩) (fun C1 H locs hs9 hI => ?_)
  replace hs := hs9
  refine lv_aload_n hx hb dJ9_charAt_6 rfl (lv_at hl 0 rfl) ?_
  refine lv_iload_n hx hb dJ9_charAt_7 rfl (lv_at hl 1 rfl) ?_
  obtain ⟨z1, hs⟩ := hs
  refine va_tb (v := .int (xsb a0 a1)) hx hb (hG.2.2.2.1.1 a0 ha0).2.2.2 hI.2.2 z1 rfl dJ9_charAt_8 ?_
  refine lv_sipush (v := 255) hx hb dJ9_charAt_9 (by decide) ?_
  refine lv_iand hx hb dJ9_charAt_12 ?_
  refine lv_i2c (v := ((xsb a0 a1) &&& 255)) hx hb dJ9_charAt_13 (sc_c2 _) ?_
  exact x_retn X hK hI (sc_nar _) hs (Nat.le_of_ble_eq_true rfl) (Nat.le_of_ble_eq_true rfl) dJ9_charAt_14
def x_J5_charAt (a0 : Nat) (a1 : Int32) (C : XH) (K : Int32 → XH → Prop) : Prop := x_J5_isLatin1 a0 C (fun r2 C1 => (if r2 = 0 then False else x_J9_charAt a0 a1 C1 (fun r5 C4 => (narrow .char (.int r5) = .int r5 ∧ K r5 C4))))
theorem iJ5_charAt : xInf yJ5_charAt cJ5_charAt 2 (some .char) 1 := ⟨q1035, by decide +kernel⟩
set_option maxHeartbeats 4000000 in
theorem xet_J5_charAt (l : Launch) (a0 : Nat) (a1 : Int32) (ha0 : a0 < 8) (C : XH) (K : Int32 → XH → Prop) (hs : x_J5_charAt a0 a1 C K) : xMetS l yJ5_charAt (ws_ yJ5_charAt cJ5_charAt 2 (some .char)) 3 64 0 0 C (fun adK adV => [.ref (adK a0), .int a1]) (fun D dT A => xQi D dT K A) := by
  intro D dT adK adV sz
  refine xEnter (own := RJ5) (Qc := xQi D dT K) (by decide) rfl (by rfl) ?_
  intro p e s m args below meth c A ls X hnm hK hA hG hI hl
  have hx := X.1
  have hb := X.2.1
  have hts := X.2.2.2.2.1
  have hown := X.2.2.2.2.2.1
  have hl : lv_has ls 2 [(0, .ref (adK a0)), (1, .int a1)] := hl
  unfold x_J5_charAt at hs
  refine lv_aload_n hx hb dJ5_charAt_0 rfl (lv_at hl 0 rfl) ?_
  refine x_goz hA hI (x_runVs (As := []) (rest := []) X hK hA hG hI ha0 rfl (xet_J5_isLatin1 l a0 ha0 _ _ hs D dT adK adV _) iJ5_isLatin1 q1036 q1037 q1038 q106 ⟨(Nat.le_of_ble_eq_true rfl), (Nat.le_of_ble_eq_true rfl)⟩ rfl hl.1 rfl (Nat.le_of_ble_eq_true rfl) dJ5_charAt_1 ⟨(Nat.le_of_ble_eq_true rfl), (Nat.le_of_ble_eq_true rfl)⟩) (fun r2 C1 H locs br2 hs9 hI => ?_)
  replace hs := hs9
  refine lv_if_eq (tgt := 16) hx hb dJ5_charAt_4 (by decide) (fun c5 => ?_) (fun c5 => ?_)
  · replace hs := ifp c5 hs
    refine lv_aload_n hx hb dJ5_charAt_16 rfl (lv_at hl 0 rfl) ?_
    refine vk_getf hx hb (hG.2.2.2.1.1 a0 ha0).2.2.1 hI.2.2 hown (hts _ q2059) (fun x hx => hx) dJ5_charAt_17 ?_
    refine lv_iload_n hx hb dJ5_charAt_20 rfl (lv_at hl 1 rfl) ?_
    exact hs.elim
  · replace hs := ifn c5 hs
    refine lv_aload_n hx hb dJ5_charAt_7 rfl (lv_at hl 0 rfl) ?_
    refine vk_getf hx hb (hG.2.2.2.1.1 a0 ha0).2.2.1 hI.2.2 hown (hts _ q2059) (fun x hx => hx) dJ5_charAt_8 ?_
    refine lv_iload_n hx hb dJ5_charAt_11 rfl (lv_at hl 1 rfl) ?_
    refine x_goi hA hI (x_runSs (As := [.ref (adV a0), .int a1]) (rest := []) X hK hA hG hI (xet_J9_charAt l a0 a1 ha0 _ _ hs D dT adK adV _) iJ9_charAt q1040 q1041 q125 ⟨(Nat.le_of_ble_eq_true rfl), (Nat.le_of_ble_eq_true rfl)⟩ rfl hl.1 rfl (Nat.le_of_ble_eq_true rfl) dJ5_charAt_12 ⟨(Nat.le_of_ble_eq_true rfl), (Nat.le_of_ble_eq_true rfl)⟩) (fun r5 C4 H locs hs9 hI => ?_)
    replace hs := hs9
    obtain ⟨hnar, hs⟩ := hs
    exact x_retn X hK hI hnar hs (Nat.le_of_ble_eq_true rfl) (Nat.le_of_ble_eq_true rfl) dJ5_charAt_15
def x_J5_coder (a0 : Nat) (C : XH) (K : Int32 → XH → Prop) : Prop := K 0 C
theorem iJ5_coder : xInf yJ5_coder cJ5_coder 1 (some .byte) 0 := ⟨q1029, by decide +kernel⟩
set_option maxHeartbeats 4000000 in
theorem xet_J5_coder (l : Launch) (a0 : Nat) (ha0 : a0 < 8) (C : XH) (K : Int32 → XH → Prop) (hs : x_J5_coder a0 C K) : xMetS l yJ5_coder (ws_ yJ5_coder cJ5_coder 1 (some .byte)) 0 0 0 0 C (fun adK adV => [.ref (adK a0)]) (fun D dT A => xQi D dT K A) := by
  intro D dT adK adV sz
  refine xEnter (own := RJ5) (Qc := xQi D dT K) (by decide) rfl (by rfl) ?_
  intro p e s m args below meth c A ls X hnm hK hA hG hI hl
  have hx := X.1
  have hb := X.2.1
  have hts := X.2.2.2.2.1
  have hown := X.2.2.2.2.2.1
  have hl : lv_has ls 1 [(0, .ref (adK a0))] := hl
  unfold x_J5_coder at hs
  refine va_gets (v := .int 1) hx hb hG.2.2.2.2.2.1 hI.2.2 hown (hts _ q1030) (fun x hx => hx) dJ5_coder_0 ?_
  refine lv_if_eq (tgt := 13) hx hb dJ5_coder_3 (by decide) (fun c => absurd c (by decide)) (fun _ => ?_)
  refine lv_aload_n hx hb dJ5_coder_6 rfl (lv_at hl 0 rfl) ?_
  refine vk_getf hx hb (hG.2.2.2.1.1 a0 ha0).2.1 hI.2.2 hown (hts _ q2060) (fun x hx => hx) dJ5_coder_7 ?_
  refine lv_goto (tgt := 14) hx hb dJ5_coder_10 (by decide) ?_
  exact x_retn X hK hI rfl hs (Nat.le_of_ble_eq_true rfl) (Nat.le_of_ble_eq_true rfl) dJ5_coder_14
def x_J5_length (a0 : Nat) (C : XH) (K : Int32 → XH → Prop) : Prop := x_J5_coder a0 C (fun r2 C1 => K ((xsl a0) >>> (r2 &&& 31)) C1)
theorem iJ5_length : xInf yJ5_length cJ5_length 1 (some .int) 0 := ⟨q1025, by decide +kernel⟩
set_option maxHeartbeats 4000000 in
theorem xet_J5_length (l : Launch) (a0 : Nat) (ha0 : a0 < 8) (C : XH) (K : Int32 → XH → Prop) (hs : x_J5_length a0 C K) : xMetS l yJ5_length (ws_ yJ5_length cJ5_length 1 (some .int)) 1 20 0 0 C (fun adK adV => [.ref (adK a0)]) (fun D dT A => xQi D dT K A) := by
  intro D dT adK adV sz
  refine xEnter (own := RJ5) (Qc := xQi D dT K) (by decide) rfl (by rfl) ?_
  intro p e s m args below meth c A ls X hnm hK hA hG hI hl
  have hx := X.1
  have hb := X.2.1
  have hts := X.2.2.2.2.1
  have hown := X.2.2.2.2.2.1
  have hl : lv_has ls 1 [(0, .ref (adK a0))] := hl
  unfold x_J5_length at hs
  refine lv_aload_n hx hb dJ5_length_0 rfl (lv_at hl 0 rfl) ?_
  refine vk_getf hx hb (hG.2.2.2.1.1 a0 ha0).2.2.1 hI.2.2 hown (hts _ q2059) (fun x hx => hx) dJ5_length_1 ?_
  refine va_tlen (v := xsl a0) hx hb (hG.2.2.2.1.1 a0 ha0).2.2.2 hI.2.2 rfl dJ5_length_4 ?_
  refine lv_aload_n hx hb dJ5_length_5 rfl (lv_at hl 0 rfl) ?_
  refine x_goi hA hI (x_runVs (As := []) (rest := [.int (xsl a0)]) X hK hA hG hI ha0 rfl (xet_J5_coder l a0 ha0 _ _ hs D dT adK adV _) iJ5_coder q1026 q1027 q1028 q106 ⟨(Nat.le_of_ble_eq_true rfl), (Nat.le_of_ble_eq_true rfl)⟩ rfl hl.1 rfl (Nat.le_of_ble_eq_true rfl) dJ5_length_6 ⟨(Nat.le_of_ble_eq_true rfl), (Nat.le_of_ble_eq_true rfl)⟩) (fun r2 C1 H locs hs9 hI => ?_)
  replace hs := hs9
  refine lv_ishr hx hb dJ5_length_9 ?_
  exact x_reti X hK hI hs (Nat.le_of_ble_eq_true rfl) (Nat.le_of_ble_eq_true rfl) dJ5_length_10
def x_X20_word_l2 (E : Nat → XH → Prop) (a0 : Nat) (a1 : Nat) (k25_1 : XH → Prop) : Nat → Int32 → XH → Prop
  | 0, _, _ => False
  | n2_4 + 1, x3, C4 => x_J5_length a1 C4 (fun r7 C6 => (if r7 ≤ x3 then k25_1 C6 else x_J5_charAt a1 x3 C6 (fun r10 C9 => (xcl C9 a0 = some 20 ∧ x_X20_must a0 r10 C9 (fun C12 => x_X20_word_l2 E a0 a1 k25_1 n2_4 (x3 + 1) C12) (fun ad14 C15 => E ad14 C15)))))
theorem x_X20_word_l2_s (E : Nat → XH → Prop) (a0 : Nat) (a1 : Nat) (k25_1 : XH → Prop) (n2_4 : Nat) (x3 : Int32) (C4 : XH) : x_X20_word_l2 E a0 a1 k25_1 (n2_4 + 1) x3 C4 = (x_J5_length a1 C4 (fun r7 C6 => (if r7 ≤ x3 then k25_1 C6 else x_J5_charAt a1 x3 C6 (fun r10 C9 => (xcl C9 a0 = some 20 ∧ x_X20_must a0 r10 C9 (fun C12 => x_X20_word_l2 E a0 a1 k25_1 n2_4 (x3 + 1) C12) (fun ad14 C15 => E ad14 C15)))))) := rfl
def x_X20_word (a0 : Nat) (a1 : Nat) (C : XH) (K : XH → Prop) (E : Nat → XH → Prop) : Prop := jn (fun (C1 : XH) => K C1) (fun k25_1 => x_X20_word_l2 E a0 a1 k25_1 NF9 0 C)
theorem iX20_word : xInf yX20_word cX20_word 3 none 1 := ⟨q1021, by decide +kernel⟩
set_option maxHeartbeats 4000000 in
theorem xet_X20_word (l : Launch) (hl0 : l.stackTraces = false) (a0 : Nat) (a1 : Nat) (ha1 : a1 < 8) (C : XH) (K : XH → Prop) (E : Nat → XH → Prop) (hs : x_X20_word a0 a1 C K E) : xMetXS l yX20_word (ws_ yX20_word cX20_word 3 none) 5 114 10 70 C (fun adK adV => [.ref a0, .ref (adK a1)]) (fun D dT A => xQv D dT K A) (xEK RX21 E) := by
  intro D dT adK adV sz
  refine xEnterT (own := RX20) (Qc := xQv D dT K) (XC := xXC D dT (xEK RX21 E)) (by decide) rfl (by rfl) ?_
  intro p e s m args below meth c A ls X hnm hK hA hG hT hI hl
  have hx := X.1
  have hb := X.2.1
  have hts := X.2.2.2.2.1
  have hown := X.2.2.2.2.2.1
  have hl : lv_has ls 3 [(0, .ref a0), (1, .ref (adK a1))] := hl
  unfold x_X20_word at hs
  refine lv_iconst (v := 0) hx hb dX20_word_0 (by decide) ?_
  refine lv_istore_n (lv' := [(2, .int 0), (0, .ref a0), (1, .ref (adK a1))]) hx hb dX20_word_1 rfl hl (by decide) rfl (fun ls hl => ?_)
  obtain ⟨k25_1, hk25_1, hs⟩ := jn_ex hs
  have Ek25_1 : ∀ (C1 : XH) (H : Heap) (locs : List Loc) (ls : Array Slot), k25_1 C1 → xI D dT A s.heap C1 H locs → lv_has ls 3 [] → W p l e (xRm 5 114 10 70) s m args below meth c H locs 10 70 (vx_MQ below (xQv D dT K A) (xXC D dT (xEK RX21 E) A) args s 10 70 A) (F0 m 25 ls []) := by
    intro C1 H locs ls hs hI hl
    rw [hk25_1] at hs
    exact vx_ret (x_retv X hK hI hs (Nat.le_of_ble_eq_true rfl) (Nat.le_of_ble_eq_true rfl) dX20_word_25)
  have Lx_X20_word_l2 : ∀ (n2_4 : Nat) (ce2 sl2 : Nat), ce2 + (n2_4 + 1) * 1 ≤ 10 → sl2 + (n2_4 + 1) * 7 ≤ 70 → ∀ (x3 : Int32) (C4 : XH) (H : Heap) (locs : List Loc) (ls : Array Slot), x_X20_word_l2 E a0 a1 k25_1 n2_4 x3 C4 → xI D dT A s.heap C4 H locs → lv_has ls 3 [(0, .ref a0), (1, .ref (adK a1)), (2, .int x3)] → W p l e (xRm 5 114 10 70) s m args below meth c H locs ce2 sl2 (vx_MQ below (xQv D dT K A) (xXC D dT (xEK RX21 E) A) args s 10 70 A) (F0 m 2 ls []) := by
    intro n2_4
    induction n2_4 with
    | zero =>
      intro ce2 sl2 hce2 hsl2 x3 C4 H locs ls hs
      exact False.elim hs
    | succ n2_4 ihx_X20_word_l2 =>
      intro ce2 sl2 hce2 hsl2 x3 C4 H locs ls hs hI hl
      rw [x_X20_word_l2_s] at hs
      refine lv_iload_n hx hb dX20_word_2 rfl (lv_at hl 2 rfl) ?_
      refine lv_aload_n hx hb dX20_word_3 rfl (lv_at hl 1 rfl) ?_
      refine x_goi hA hI (x_runVs (As := []) (rest := [.int x3]) X hK hA hG hI ha1 rfl (xet_J5_length l a1 ha1 _ _ hs D dT adK adV _) iJ5_length q1022 q1023 q1024 q106 ⟨(Nat.le_of_ble_eq_true rfl), (Nat.le_of_ble_eq_true rfl)⟩ rfl hl.1 rfl (Nat.le_of_ble_eq_true rfl) dX20_word_4 ⟨(show ce2 ≤ 10 by omega), (show sl2 ≤ 70 by omega)⟩) (fun r7 C6 H locs hs9 hI => ?_)
      replace hs := hs9
      refine lv_icmp_ge (tgt := 25) hx hb dX20_word_7 (by decide) (fun c15 => ?_) (fun c15 => ?_)
      · replace hs := ifp c15 hs
        exact W.widen (show ce2 ≤ 10 by omega) (show sl2 ≤ 70 by omega) (Ek25_1 _ _ _ _ hs hI (lv_sub hl [] rfl))
      · replace hs := ifn c15 hs
        refine lv_aload_n hx hb dX20_word_10 rfl (lv_at hl 0 rfl) ?_
        refine lv_aload_n hx hb dX20_word_11 rfl (lv_at hl 1 rfl) ?_
        refine lv_iload_n hx hb dX20_word_12 rfl (lv_at hl 2 rfl) ?_
        refine x_goi hA hI (x_runVs (As := [.int x3]) (rest := [.ref a0]) X hK hA hG hI ha1 rfl (xet_J5_charAt l a1 x3 ha1 _ _ hs D dT adK adV _) iJ5_charAt q1032 q1033 q1034 q106 ⟨(Nat.le_of_ble_eq_true rfl), (Nat.le_of_ble_eq_true rfl)⟩ rfl hl.1 rfl (Nat.le_of_ble_eq_true rfl) dX20_word_13 ⟨(show ce2 ≤ 10 by omega), (show sl2 ≤ 70 by omega)⟩) (fun r10 C9 H locs hs9 hI => ?_)
        replace hs := hs9
        obtain ⟨h12, hs⟩ := hs
        obtain ⟨fh12, h12⟩ := xcl_spec h12
        refine xT_gov hA hI (x_runVT (As := [.int r10]) (rest := []) X hK hA hG hI h12 (q := (RX20, TX20, 4)) rfl rfl (xet_X20_must l hl0 a0 r10 _ _ _ hs) iX20_must q1070 q1072 qs10 q124 ⟨(Nat.le_of_ble_eq_true rfl), (Nat.le_of_ble_eq_true rfl)⟩ rfl hl.1 rfl (Nat.le_of_ble_eq_true rfl) dX20_word_16 ⟨(show (ce2 + 1) ≤ 10 by omega), (show (sl2 + 7) ≤ 70 by omega)⟩) (fun En ce ad14 C15 H locs hs9 hI hce hvm hcl => ?_) (fun C12 H locs hs9 hI => ?_)
        · obtain ⟨rfl, hs0⟩ := hs9
          replace hs := hs0
          exact x_pass X hK hT rfl hI hce hvm hcl ⟨rfl, hs⟩ (show (ce2 + 1) ≤ 10 by omega) (show (sl2 + 7) ≤ 70 by omega)
        · replace hs := hs9
          refine lv_iinc (v := (x3 + 1)) (lv' := [(2, .int (x3 + 1)), (0, .ref a0), (1, .ref (adK a1))]) hx hb dX20_word_19 hl (k := 2) rfl (congrArg (fun z => x3 + z) (show Int32.ofInt (1) = 1 by decide)) (by decide) rfl (fun ls hl => ?_)
          refine lv_goto (tgt := 2) hx hb dX20_word_22 (by decide) ?_
          exact ihx_X20_word_l2 (ce2 + 1) (sl2 + 7) (by omega) (by omega) _ _ _ _ _ hs hI (lv_sub hl [1, 2, 0] rfl)
  have hNF := NF9_eq
  exact Lx_X20_word_l2 NF9 0 0 (by omega) (by omega) _ _ _ _ _ hs hI (lv_sub hl [1, 2, 0] rfl)
def x_X20_child (a0 : Nat) (a1 : Int32) (C : XH) (K : XH → Prop) (E : Nat → XH → Prop) : Prop := (xcl C a0 = some 20 ∧ x_X20_word a0 0 C (fun C1 => obd (xgr C1 (xis 20) a0 1) (fun ad3 => obd (xgi C1 (xis 4) ad3 0) (fun v4 => jn (fun (v5 : Int32) => (xcl C1 a0 = some 20 ∧ x_X20_hasRoom a0 v5 a1 C1 (fun C6 => (xcl C6 a0 = some 20 ∧ x_X20_number a0 0 6 C6 (fun r9 C8 => (xcl C8 a0 = some 20 ∧ x_X20_number a0 0 9 C8 (fun r12 C11 => obd (xgr C11 (xis 20) a0 1) (fun ad14 => (xcl C11 a0 = some 20 ∧ x_X20_number a0 1 9 C11 (fun r16 C15 => (xcl C15 ad14 = some 4 ∧ x_X4_addChild ad14 r9 r12 r16 C15 (fun C18 => K C18))) (fun ad20 C21 => E ad20 C21)))) (fun ad22 C23 => E ad22 C23))) (fun ad24 C25 => E ad24 C25))) (fun ad26 C27 => E ad26 C27))) (fun k24_5 => (if 8 ≤ v4 then k24_5 0 else k24_5 1))))) (fun ad29 C30 => E ad29 C30))
theorem iX20_child : xInf yX20_child cX20_child 4 none 1 := ⟨q1016, by decide +kernel⟩
set_option maxHeartbeats 4000000 in
theorem xet_X20_child (l : Launch) (hl0 : l.stackTraces = false) (a0 : Nat) (a1 : Int32) (C : XH) (K : XH → Prop) (E : Nat → XH → Prop) (hs : x_X20_child a0 a1 C K E) : xMetX l yX20_child (ws_ yX20_child cX20_child 4 none) 6 139 18 121 C [.ref a0, .int a1] (fun D dT A => xQv D dT K A) (xEK RX21 E) := by
  intro D dT adK adV sz
  refine xEnterT (own := RX20) (Qc := xQv D dT K) (XC := xXC D dT (xEK RX21 E)) (by decide) rfl (by rfl) ?_
  intro p e s m args below meth c A ls X hnm hK hA hG hT hI hl
  have hx := X.1
  have hb := X.2.1
  have hts := X.2.2.2.2.1
  have hown := X.2.2.2.2.2.1
  have hl : lv_has ls 4 [(0, .ref a0), (1, .int a1)] := hl
  unfold x_X20_child at hs
  refine lv_aload_n hx hb dX20_child_0 rfl (lv_at hl 0 rfl) ?_
  refine va_ldcS hx hb hown (hG.2.2.2.2.1 0 (78, "child") rfl) dX20_child_1 ?_
  obtain ⟨h1, hs⟩ := hs
  obtain ⟨fh1, h1⟩ := xcl_spec h1
  refine xT_gov hA hI (x_runVTs (As := [.ref (adK 0)]) (rest := []) X hK hA hG hI h1 (q := (RX20, TX20, 4)) rfl rfl (xet_X20_word l hl0 a0 0 (by decide) _ _ _ hs D dT adK adV _) iX20_word q1018 q1020 qs9 q124 ⟨(Nat.le_of_ble_eq_true rfl), (Nat.le_of_ble_eq_true rfl)⟩ rfl hl.1 rfl (Nat.le_of_ble_eq_true rfl) dX20_child_3 ⟨(Nat.le_of_ble_eq_true rfl), (Nat.le_of_ble_eq_true rfl)⟩) (fun En ce ad29 C30 H locs hs9 hI hce hvm hcl => ?_) (fun C1 H locs hs9 hI => ?_)
  · obtain ⟨rfl, hs0⟩ := hs9
    replace hs := hs0
    exact x_pass X hK hT rfl hI hce hvm hcl ⟨rfl, hs⟩ (Nat.le_of_ble_eq_true rfl) (Nat.le_of_ble_eq_true rfl)
  · replace hs := hs9
    refine lv_aload_n hx hb dX20_child_6 rfl (lv_at hl 0 rfl) ?_
    refine lv_aload_n hx hb dX20_child_7 rfl (lv_at hl 0 rfl) ?_
    obtain ⟨ad3, ead3, hs⟩ := hs
    refine x_get (v := .ref ad3) X hK hI 20 1 rfl in_X20 rfl q961 rfl (xgr_spec ead3) dX20_child_8 ?_
    obtain ⟨v4, ev4, hs⟩ := hs
    refine x_get (v := .int v4) X hK hI 4 0 rfl in_X4 rfl q253 rfl (xgi_spec ev4) dX20_child_11 ?_
    refine lv_bipush (v := 8) hx hb dX20_child_14 (by decide) ?_
    obtain ⟨k24_5, hk24_5, hs⟩ := jn_ex hs
    have Ek24_5 : ∀ (v5 : Int32) (H : Heap) (locs : List Loc) (ls : Array Slot), k24_5 v5 → xI D dT A s.heap C1 H locs → lv_has ls 4 [(0, .ref a0), (1, .int a1)] → W p l e (xRm 6 139 18 121) s m args below meth c H locs 10 70 (vx_MQ below (xQv D dT K A) (xXC D dT (xEK RX21 E) A) args s 18 121 A) (F0 m 24 ls [.int v5, .ref a0]) := by
      intro v5 H locs ls hs hI hl
      rw [hk24_5] at hs
      refine lv_iload_n hx hb dX20_child_24 rfl (lv_at hl 1 rfl) ?_
      obtain ⟨h6, hs⟩ := hs
      obtain ⟨fh6, h6⟩ := xcl_spec h6
      refine xT_gov hA hI (x_runVT (As := [.int v5, .int a1]) (rest := []) X hK hA hG hI h6 (q := (RX20, TX20, 4)) rfl rfl (xet_X20_hasRoom l hl0 a0 v5 a1 _ _ _ hs) iX20_hasRoom q1093 q1095 qs11 q124 ⟨(Nat.le_of_ble_eq_true rfl), (Nat.le_of_ble_eq_true rfl)⟩ rfl hl.1 rfl (Nat.le_of_ble_eq_true rfl) dX20_child_25 ⟨(Nat.le_of_ble_eq_true rfl), (Nat.le_of_ble_eq_true rfl)⟩) (fun En ce ad26 C27 H locs hs9 hI hce hvm hcl => ?_) (fun C6 H locs hs9 hI => ?_)
      · obtain ⟨rfl, hs0⟩ := hs9
        replace hs := hs0
        exact x_pass X hK hT rfl hI hce hvm hcl ⟨rfl, hs⟩ (Nat.le_of_ble_eq_true rfl) (Nat.le_of_ble_eq_true rfl)
      · replace hs := hs9
        refine lv_aload_n hx hb dX20_child_28 rfl (lv_at hl 0 rfl) ?_
        refine lv_iconst (v := 0) hx hb dX20_child_29 (by decide) ?_
        refine lv_bipush (v := 6) hx hb dX20_child_30 (by decide) ?_
        obtain ⟨h9, hs⟩ := hs
        obtain ⟨fh9, h9⟩ := xcl_spec h9
        refine xT_goi hA hI (x_runVT (As := [.int 0, .int 6]) (rest := []) X hK hA hG hI h9 (q := (RX20, TX20, 4)) rfl rfl (xet_X20_number l hl0 a0 0 6 _ _ _ hs) iX20_number q1097 q1099 qs12 q124 ⟨(Nat.le_of_ble_eq_true rfl), (Nat.le_of_ble_eq_true rfl)⟩ rfl hl.1 rfl (Nat.le_of_ble_eq_true rfl) dX20_child_32 ⟨(Nat.le_of_ble_eq_true rfl), (Nat.le_of_ble_eq_true rfl)⟩) (fun En ce ad24 C25 H locs hs9 hI hce hvm hcl => ?_) (fun r9 C8 H locs hs9 hI => ?_)
        · obtain ⟨rfl, hs0⟩ := hs9
          replace hs := hs0
          exact x_pass X hK hT rfl hI hce hvm hcl ⟨rfl, hs⟩ (Nat.le_of_ble_eq_true rfl) (Nat.le_of_ble_eq_true rfl)
        · replace hs := hs9
          refine lv_istore_n (lv' := [(2, .int r9), (0, .ref a0), (1, .int a1)]) hx hb dX20_child_35 rfl hl (by decide) rfl (fun ls hl => ?_)
          refine lv_aload_n hx hb dX20_child_36 rfl (lv_at hl 1 rfl) ?_
          refine lv_iconst (v := 0) hx hb dX20_child_37 (by decide) ?_
          refine lv_bipush (v := 9) hx hb dX20_child_38 (by decide) ?_
          obtain ⟨h12, hs⟩ := hs
          obtain ⟨fh12, h12⟩ := xcl_spec h12
          refine xT_goi hA hI (x_runVT (As := [.int 0, .int 9]) (rest := []) X hK hA hG hI h12 (q := (RX20, TX20, 4)) rfl rfl (xet_X20_number l hl0 a0 0 9 _ _ _ hs) iX20_number q1097 q1099 qs12 q124 ⟨(Nat.le_of_ble_eq_true rfl), (Nat.le_of_ble_eq_true rfl)⟩ rfl hl.1 rfl (Nat.le_of_ble_eq_true rfl) dX20_child_40 ⟨(Nat.le_of_ble_eq_true rfl), (Nat.le_of_ble_eq_true rfl)⟩) (fun En ce ad22 C23 H locs hs9 hI hce hvm hcl => ?_) (fun r12 C11 H locs hs9 hI => ?_)
          · obtain ⟨rfl, hs0⟩ := hs9
            replace hs := hs0
            exact x_pass X hK hT rfl hI hce hvm hcl ⟨rfl, hs⟩ (Nat.le_of_ble_eq_true rfl) (Nat.le_of_ble_eq_true rfl)
          · replace hs := hs9
            refine lv_istore_n (lv' := [(3, .int r12), (2, .int r9), (0, .ref a0), (1, .int a1)]) hx hb dX20_child_43 rfl hl (by decide) rfl (fun ls hl => ?_)
            refine lv_aload_n hx hb dX20_child_44 rfl (lv_at hl 2 rfl) ?_
            obtain ⟨ad14, ead14, hs⟩ := hs
            refine x_get (v := .ref ad14) X hK hI 20 1 rfl in_X20 rfl q961 rfl (xgr_spec ead14) dX20_child_45 ?_
            refine lv_iload_n hx hb dX20_child_48 rfl (lv_at hl 1 rfl) ?_
            refine lv_iload_n hx hb dX20_child_49 rfl (lv_at hl 0 rfl) ?_
            refine lv_aload_n hx hb dX20_child_50 rfl (lv_at hl 2 rfl) ?_
            refine lv_iconst (v := 1) hx hb dX20_child_51 (by decide) ?_
            refine lv_bipush (v := 9) hx hb dX20_child_52 (by decide) ?_
            obtain ⟨h16, hs⟩ := hs
            obtain ⟨fh16, h16⟩ := xcl_spec h16
            refine xT_goi hA hI (x_runVT (As := [.int 1, .int 9]) (rest := [.int r12, .int r9, .ref ad14]) X hK hA hG hI h16 (q := (RX20, TX20, 4)) rfl rfl (xet_X20_number l hl0 a0 1 9 _ _ _ hs) iX20_number q1097 q1099 qs12 q124 ⟨(Nat.le_of_ble_eq_true rfl), (Nat.le_of_ble_eq_true rfl)⟩ rfl hl.1 rfl (Nat.le_of_ble_eq_true rfl) dX20_child_54 ⟨(Nat.le_of_ble_eq_true rfl), (Nat.le_of_ble_eq_true rfl)⟩) (fun En ce ad20 C21 H locs hs9 hI hce hvm hcl => ?_) (fun r16 C15 H locs hs9 hI => ?_)
            · obtain ⟨rfl, hs0⟩ := hs9
              replace hs := hs0
              exact x_pass X hK hT rfl hI hce hvm hcl ⟨rfl, hs⟩ (Nat.le_of_ble_eq_true rfl) (Nat.le_of_ble_eq_true rfl)
            · replace hs := hs9
              obtain ⟨h18, hs⟩ := hs
              obtain ⟨fh18, h18⟩ := xcl_spec h18
              refine x_gov hA hI (x_runV (As := [.int r9, .int r12, .int r16]) (rest := []) X hK hA hG hI h18 (q := (RX4, TX4, 13)) rfl rfl (xet_X4_addChild l ad14 r9 r12 r16 _ _ hs) iX4_addChild q1105 q777 q778 q98 ⟨(Nat.le_of_ble_eq_true rfl), (Nat.le_of_ble_eq_true rfl)⟩ rfl hl.1 rfl (Nat.le_of_ble_eq_true rfl) dX20_child_57 ⟨(Nat.le_of_ble_eq_true rfl), (Nat.le_of_ble_eq_true rfl)⟩) (fun C18 H locs hs9 hI => ?_)
              replace hs := hs9
              exact vx_ret (x_retv X hK hI hs (Nat.le_of_ble_eq_true rfl) (Nat.le_of_ble_eq_true rfl) dX20_child_60)
    refine lv_icmp_ge (tgt := 23) hx hb dX20_child_16 (by decide) (fun c27 => ?_) (fun c27 => ?_)
    · replace hs := ifp c27 hs
      refine lv_iconst (v := 0) hx hb dX20_child_23 (by decide) ?_
      exact Ek24_5 _ _ _ _ hs hI hl
    · replace hs := ifn c27 hs
      refine lv_iconst (v := 1) hx hb dX20_child_19 (by decide) ?_
      refine lv_goto (tgt := 24) hx hb dX20_child_20 (by decide) ?_
      exact Ek24_5 _ _ _ _ hs hI hl
def x_X20_one (a0 : Nat) (C : XH) (K : Int32 → XH → Prop) (E : Nat → XH → Prop) : Prop := obd (xgr C (xis 20) a0 1) (fun ad1 => obd (xgi C (xis 4) ad1 0) (fun v2 => (xcl C a0 = some 20 ∧ x_X20_number a0 0 (v2 - 1) C (fun r4 C3 => K r4 C3) (fun ad6 C7 => E ad6 C7))))
theorem iX20_one : xInf yX20_one cX20_one 1 (some .int) 0 := ⟨q1120, by decide +kernel⟩
set_option maxHeartbeats 4000000 in
theorem xet_X20_one (l : Launch) (hl0 : l.stackTraces = false) (a0 : Nat) (C : XH) (K : Int32 → XH → Prop) (E : Nat → XH → Prop) (hs : x_X20_one a0 C K E) : xMetX l yX20_one (ws_ yX20_one cX20_one 1 (some .int)) 6 139 2 14 C [.ref a0] (fun D dT A => xQi D dT K A) (xEK RX21 E) := by
  intro D dT adK adV sz
  refine xEnterT (own := RX20) (Qc := xQi D dT K) (XC := xXC D dT (xEK RX21 E)) (by decide) rfl (by rfl) ?_
  intro p e s m args below meth c A ls X hnm hK hA hG hT hI hl
  have hx := X.1
  have hb := X.2.1
  have hts := X.2.2.2.2.1
  have hown := X.2.2.2.2.2.1
  have hl : lv_has ls 1 [(0, .ref a0)] := hl
  unfold x_X20_one at hs
  refine lv_aload_n hx hb dX20_one_0 rfl (lv_at hl 0 rfl) ?_
  refine lv_iconst (v := 0) hx hb dX20_one_1 (by decide) ?_
  refine lv_aload_n hx hb dX20_one_2 rfl (lv_at hl 0 rfl) ?_
  obtain ⟨ad1, ead1, hs⟩ := hs
  refine x_get (v := .ref ad1) X hK hI 20 1 rfl in_X20 rfl q961 rfl (xgr_spec ead1) dX20_one_3 ?_
  obtain ⟨v2, ev2, hs⟩ := hs
  refine x_get (v := .int v2) X hK hI 4 0 rfl in_X4 rfl q253 rfl (xgi_spec ev2) dX20_one_6 ?_
  refine lv_iconst (v := 1) hx hb dX20_one_9 (by decide) ?_
  refine lv_isub hx hb dX20_one_10 ?_
  obtain ⟨h4, hs⟩ := hs
  obtain ⟨fh4, h4⟩ := xcl_spec h4
  refine xT_goi hA hI (x_runVT (As := [.int 0, .int (v2 - 1)]) (rest := []) X hK hA hG hI h4 (q := (RX20, TX20, 4)) rfl rfl (xet_X20_number l hl0 a0 0 (v2 - 1) _ _ _ hs) iX20_number q1097 q1099 qs12 q124 ⟨(Nat.le_of_ble_eq_true rfl), (Nat.le_of_ble_eq_true rfl)⟩ rfl hl.1 rfl (Nat.le_of_ble_eq_true rfl) dX20_one_11 ⟨(Nat.le_of_ble_eq_true rfl), (Nat.le_of_ble_eq_true rfl)⟩) (fun En ce ad6 C7 H locs hs9 hI hce hvm hcl => ?_) (fun r4 C3 H locs hs9 hI => ?_)
  · obtain ⟨rfl, hs0⟩ := hs9
    replace hs := hs0
    exact x_pass X hK hT rfl hI hce hvm hcl ⟨rfl, hs⟩ (Nat.le_of_ble_eq_true rfl) (Nat.le_of_ble_eq_true rfl)
  · replace hs := hs9
    exact vx_ret (x_reti X hK hI hs (Nat.le_of_ble_eq_true rfl) (Nat.le_of_ble_eq_true rfl) dX20_one_14)
def x_X20_sack (a0 : Nat) (a1 : Int32) (C : XH) (K : XH → Prop) (E : Nat → XH → Prop) : Prop := (xcl C a0 = some 20 ∧ x_X20_word a0 1 C (fun C1 => obd (xgr C1 (xis 20) a0 1) (fun ad3 => obd (xgi C1 (xis 4) ad3 1) (fun v4 => jn (fun (v5 : Int32) => (xcl C1 a0 = some 20 ∧ x_X20_hasRoom a0 v5 a1 C1 (fun C6 => (xcl C6 a0 = some 20 ∧ x_X20_number a0 1 9 C6 (fun r9 C8 => obd (xgr C8 (xis 20) a0 1) (fun ad11 => (xcl C8 a0 = some 20 ∧ x_X20_number a0 0 9 C8 (fun r13 C12 => (xcl C12 ad11 = some 4 ∧ x_X4_addSack ad11 r9 r13 C12 (fun C15 => K C15))) (fun ad17 C18 => E ad17 C18)))) (fun ad19 C20 => E ad19 C20))) (fun ad21 C22 => E ad21 C22))) (fun k24_5 => (if 8 ≤ v4 then k24_5 0 else k24_5 1))))) (fun ad24 C25 => E ad24 C25))
theorem iX20_sack : xInf yX20_sack cX20_sack 3 none 1 := ⟨q1109, by decide +kernel⟩
set_option maxHeartbeats 4000000 in
theorem xet_X20_sack (l : Launch) (hl0 : l.stackTraces = false) (a0 : Nat) (a1 : Int32) (C : XH) (K : XH → Prop) (E : Nat → XH → Prop) (hs : x_X20_sack a0 a1 C K E) : xMetX l yX20_sack (ws_ yX20_sack cX20_sack 3 none) 6 139 15 105 C [.ref a0, .int a1] (fun D dT A => xQv D dT K A) (xEK RX21 E) := by
  intro D dT adK adV sz
  refine xEnterT (own := RX20) (Qc := xQv D dT K) (XC := xXC D dT (xEK RX21 E)) (by decide) rfl (by rfl) ?_
  intro p e s m args below meth c A ls X hnm hK hA hG hT hI hl
  have hx := X.1
  have hb := X.2.1
  have hts := X.2.2.2.2.1
  have hown := X.2.2.2.2.2.1
  have hl : lv_has ls 3 [(0, .ref a0), (1, .int a1)] := hl
  unfold x_X20_sack at hs
  refine lv_aload_n hx hb dX20_sack_0 rfl (lv_at hl 0 rfl) ?_
  refine va_ldcS hx hb hown (hG.2.2.2.2.1 1 (88, "sack") rfl) dX20_sack_1 ?_
  obtain ⟨h1, hs⟩ := hs
  obtain ⟨fh1, h1⟩ := xcl_spec h1
  refine xT_gov hA hI (x_runVTs (As := [.ref (adK 1)]) (rest := []) X hK hA hG hI h1 (q := (RX20, TX20, 4)) rfl rfl (xet_X20_word l hl0 a0 1 (by decide) _ _ _ hs D dT adK adV _) iX20_word q1018 q1020 qs9 q124 ⟨(Nat.le_of_ble_eq_true rfl), (Nat.le_of_ble_eq_true rfl)⟩ rfl hl.1 rfl (Nat.le_of_ble_eq_true rfl) dX20_sack_3 ⟨(Nat.le_of_ble_eq_true rfl), (Nat.le_of_ble_eq_true rfl)⟩) (fun En ce ad24 C25 H locs hs9 hI hce hvm hcl => ?_) (fun C1 H locs hs9 hI => ?_)
  · obtain ⟨rfl, hs0⟩ := hs9
    replace hs := hs0
    exact x_pass X hK hT rfl hI hce hvm hcl ⟨rfl, hs⟩ (Nat.le_of_ble_eq_true rfl) (Nat.le_of_ble_eq_true rfl)
  · replace hs := hs9
    refine lv_aload_n hx hb dX20_sack_6 rfl (lv_at hl 0 rfl) ?_
    refine lv_aload_n hx hb dX20_sack_7 rfl (lv_at hl 0 rfl) ?_
    obtain ⟨ad3, ead3, hs⟩ := hs
    refine x_get (v := .ref ad3) X hK hI 20 1 rfl in_X20 rfl q961 rfl (xgr_spec ead3) dX20_sack_8 ?_
    obtain ⟨v4, ev4, hs⟩ := hs
    refine x_get (v := .int v4) X hK hI 4 1 rfl in_X4 rfl q256 rfl (xgi_spec ev4) dX20_sack_11 ?_
    refine lv_bipush (v := 8) hx hb dX20_sack_14 (by decide) ?_
    obtain ⟨k24_5, hk24_5, hs⟩ := jn_ex hs
    have Ek24_5 : ∀ (v5 : Int32) (H : Heap) (locs : List Loc) (ls : Array Slot), k24_5 v5 → xI D dT A s.heap C1 H locs → lv_has ls 3 [(0, .ref a0), (1, .int a1)] → W p l e (xRm 6 139 15 105) s m args below meth c H locs 10 70 (vx_MQ below (xQv D dT K A) (xXC D dT (xEK RX21 E) A) args s 15 105 A) (F0 m 24 ls [.int v5, .ref a0]) := by
      intro v5 H locs ls hs hI hl
      rw [hk24_5] at hs
      refine lv_iload_n hx hb dX20_sack_24 rfl (lv_at hl 1 rfl) ?_
      obtain ⟨h6, hs⟩ := hs
      obtain ⟨fh6, h6⟩ := xcl_spec h6
      refine xT_gov hA hI (x_runVT (As := [.int v5, .int a1]) (rest := []) X hK hA hG hI h6 (q := (RX20, TX20, 4)) rfl rfl (xet_X20_hasRoom l hl0 a0 v5 a1 _ _ _ hs) iX20_hasRoom q1093 q1095 qs11 q124 ⟨(Nat.le_of_ble_eq_true rfl), (Nat.le_of_ble_eq_true rfl)⟩ rfl hl.1 rfl (Nat.le_of_ble_eq_true rfl) dX20_sack_25 ⟨(Nat.le_of_ble_eq_true rfl), (Nat.le_of_ble_eq_true rfl)⟩) (fun En ce ad21 C22 H locs hs9 hI hce hvm hcl => ?_) (fun C6 H locs hs9 hI => ?_)
      · obtain ⟨rfl, hs0⟩ := hs9
        replace hs := hs0
        exact x_pass X hK hT rfl hI hce hvm hcl ⟨rfl, hs⟩ (Nat.le_of_ble_eq_true rfl) (Nat.le_of_ble_eq_true rfl)
      · replace hs := hs9
        refine lv_aload_n hx hb dX20_sack_28 rfl (lv_at hl 0 rfl) ?_
        refine lv_iconst (v := 1) hx hb dX20_sack_29 (by decide) ?_
        refine lv_bipush (v := 9) hx hb dX20_sack_30 (by decide) ?_
        obtain ⟨h9, hs⟩ := hs
        obtain ⟨fh9, h9⟩ := xcl_spec h9
        refine xT_goi hA hI (x_runVT (As := [.int 1, .int 9]) (rest := []) X hK hA hG hI h9 (q := (RX20, TX20, 4)) rfl rfl (xet_X20_number l hl0 a0 1 9 _ _ _ hs) iX20_number q1097 q1099 qs12 q124 ⟨(Nat.le_of_ble_eq_true rfl), (Nat.le_of_ble_eq_true rfl)⟩ rfl hl.1 rfl (Nat.le_of_ble_eq_true rfl) dX20_sack_32 ⟨(Nat.le_of_ble_eq_true rfl), (Nat.le_of_ble_eq_true rfl)⟩) (fun En ce ad19 C20 H locs hs9 hI hce hvm hcl => ?_) (fun r9 C8 H locs hs9 hI => ?_)
        · obtain ⟨rfl, hs0⟩ := hs9
          replace hs := hs0
          exact x_pass X hK hT rfl hI hce hvm hcl ⟨rfl, hs⟩ (Nat.le_of_ble_eq_true rfl) (Nat.le_of_ble_eq_true rfl)
        · replace hs := hs9
          refine lv_istore_n (lv' := [(2, .int r9), (0, .ref a0), (1, .int a1)]) hx hb dX20_sack_35 rfl hl (by decide) rfl (fun ls hl => ?_)
          refine lv_aload_n hx hb dX20_sack_36 rfl (lv_at hl 1 rfl) ?_
          obtain ⟨ad11, ead11, hs⟩ := hs
          refine x_get (v := .ref ad11) X hK hI 20 1 rfl in_X20 rfl q961 rfl (xgr_spec ead11) dX20_sack_37 ?_
          refine lv_iload_n hx hb dX20_sack_40 rfl (lv_at hl 0 rfl) ?_
          refine lv_aload_n hx hb dX20_sack_41 rfl (lv_at hl 1 rfl) ?_
          refine lv_iconst (v := 0) hx hb dX20_sack_42 (by decide) ?_
          refine lv_bipush (v := 9) hx hb dX20_sack_43 (by decide) ?_
          obtain ⟨h13, hs⟩ := hs
          obtain ⟨fh13, h13⟩ := xcl_spec h13
          refine xT_goi hA hI (x_runVT (As := [.int 0, .int 9]) (rest := [.int r9, .ref ad11]) X hK hA hG hI h13 (q := (RX20, TX20, 4)) rfl rfl (xet_X20_number l hl0 a0 0 9 _ _ _ hs) iX20_number q1097 q1099 qs12 q124 ⟨(Nat.le_of_ble_eq_true rfl), (Nat.le_of_ble_eq_true rfl)⟩ rfl hl.1 rfl (Nat.le_of_ble_eq_true rfl) dX20_sack_45 ⟨(Nat.le_of_ble_eq_true rfl), (Nat.le_of_ble_eq_true rfl)⟩) (fun En ce ad17 C18 H locs hs9 hI hce hvm hcl => ?_) (fun r13 C12 H locs hs9 hI => ?_)
          · obtain ⟨rfl, hs0⟩ := hs9
            replace hs := hs0
            exact x_pass X hK hT rfl hI hce hvm hcl ⟨rfl, hs⟩ (Nat.le_of_ble_eq_true rfl) (Nat.le_of_ble_eq_true rfl)
          · replace hs := hs9
            obtain ⟨h15, hs⟩ := hs
            obtain ⟨fh15, h15⟩ := xcl_spec h15
            refine x_gov hA hI (x_runV (As := [.int r9, .int r13]) (rest := []) X hK hA hG hI h15 (q := (RX4, TX4, 13)) rfl rfl (xet_X4_addSack l ad11 r9 r13 _ _ hs) iX4_addSack q1111 q867 q868 q98 ⟨(Nat.le_of_ble_eq_true rfl), (Nat.le_of_ble_eq_true rfl)⟩ rfl hl.1 rfl (Nat.le_of_ble_eq_true rfl) dX20_sack_48 ⟨(Nat.le_of_ble_eq_true rfl), (Nat.le_of_ble_eq_true rfl)⟩) (fun C15 H locs hs9 hI => ?_)
            replace hs := hs9
            exact vx_ret (x_retv X hK hI hs (Nat.le_of_ble_eq_true rfl) (Nat.le_of_ble_eq_true rfl) dX20_sack_51)
    refine lv_icmp_ge (tgt := 23) hx hb dX20_sack_16 (by decide) (fun c22 => ?_) (fun c22 => ?_)
    · replace hs := ifp c22 hs
      refine lv_iconst (v := 0) hx hb dX20_sack_23 (by decide) ?_
      exact Ek24_5 _ _ _ _ hs hI hl
    · replace hs := ifn c22 hs
      refine lv_iconst (v := 1) hx hb dX20_sack_19 (by decide) ?_
      refine lv_goto (tgt := 24) hx hb dX20_sack_20 (by decide) ?_
      exact Ek24_5 _ _ _ _ hs hI hl
def x_X20_wearsOrWayOrWind (a0 : Nat) (C : XH) (K : XH → Prop) (E : Nat → XH → Prop) : Prop := (xcl C a0 = some 20 ∧ x_X20_must a0 119 C (fun C1 => (xcl C1 a0 = some 20 ∧ x_X20_sees a0 101 C1 (fun r4 C3 => (if r4 = 0 then (xcl C3 a0 = some 20 ∧ x_X20_sees a0 97 C3 (fun r7 C6 => (if r7 = 0 then (xcl C6 a0 = some 20 ∧ x_X20_word a0 4 C6 (fun C9 => obd (xgr C9 (xis 20) a0 1) (fun ad11 => obd (xgr C9 (xis 4) ad11 5) (fun ad12 => (xcl C9 a0 = some 20 ∧ x_X20_number a0 0 60 C9 (fun r14 C13 => obd (xsi C13 ad12 3 r14) (fun C16 => K C16)) (fun ad17 C18 => E ad17 C18))))) (fun ad19 C20 => E ad19 C20)) else (xcl C6 a0 = some 20 ∧ x_X20_word a0 3 C6 (fun C21 => obd (xgr C21 (xis 20) a0 1) (fun ad23 => obd (xgr C21 (xis 4) ad23 5) (fun ad24 => (xcl C21 a0 = some 20 ∧ x_X20_number a0 1 200 C21 (fun r26 C25 => obd (xsi C25 ad24 0 r26) (fun C28 => K C28)) (fun ad29 C30 => E ad29 C30))))) (fun ad31 C32 => E ad31 C32))))) else (xcl C3 a0 = some 20 ∧ x_X20_word a0 2 C3 (fun C34 => (xcl C34 a0 = some 20 ∧ x_X20_one a0 C34 (fun r37 C36 => obd (xgr C36 (xis 20) a0 1) (fun ad39 => obd (xgr C36 (xis 4) ad39 8) (fun ad40 => obd (xgr C36 (xis 20) a0 1) (fun ad41 => obd (xgi C36 (xis 4) ad41 1) (fun v42 => (xcl C36 a0 = some 20 ∧ x_X20_number a0 0 (v42 - 1) C36 (fun r44 C43 => obd (xsi C43 ad40 r37 r44) (fun C46 => K C46)) (fun ad47 C48 => E ad47 C48))))))) (fun ad49 C50 => E ad49 C50))) (fun ad51 C52 => E ad51 C52)))))) (fun ad54 C55 => E ad54 C55))
theorem iX20_wearsOrWayOrWind : xInf yX20_wearsOrWayOrWind cX20_wearsOrWayOrWind 2 none 0 := ⟨q1115, by decide +kernel⟩
set_option maxHeartbeats 4000000 in
theorem xet_X20_wearsOrWayOrWind (l : Launch) (hl0 : l.stackTraces = false) (a0 : Nat) (C : XH) (K : XH → Prop) (E : Nat → XH → Prop) (hs : x_X20_wearsOrWayOrWind a0 C K E) : xMetX l yX20_wearsOrWayOrWind (ws_ yX20_wearsOrWayOrWind cX20_wearsOrWayOrWind 2 none) 7 159 15 105 C [.ref a0] (fun D dT A => xQv D dT K A) (xEK RX21 E) := by
  intro D dT adK adV sz
  refine xEnterT (own := RX20) (Qc := xQv D dT K) (XC := xXC D dT (xEK RX21 E)) (by decide) rfl (by rfl) ?_
  intro p e s m args below meth c A ls X hnm hK hA hG hT hI hl
  have hx := X.1
  have hb := X.2.1
  have hts := X.2.2.2.2.1
  have hown := X.2.2.2.2.2.1
  have hl : lv_has ls 2 [(0, .ref a0)] := hl
  unfold x_X20_wearsOrWayOrWind at hs
  refine lv_aload_n hx hb dX20_wearsOrWayOrWind_0 rfl (lv_at hl 0 rfl) ?_
  refine lv_bipush (v := 119) hx hb dX20_wearsOrWayOrWind_1 (by decide) ?_
  obtain ⟨h1, hs⟩ := hs
  obtain ⟨fh1, h1⟩ := xcl_spec h1
  refine xT_gov hA hI (x_runVT (As := [.int 119]) (rest := []) X hK hA hG hI h1 (q := (RX20, TX20, 4)) rfl rfl (xet_X20_must l hl0 a0 119 _ _ _ hs) iX20_must q1070 q1072 qs10 q124 ⟨(Nat.le_of_ble_eq_true rfl), (Nat.le_of_ble_eq_true rfl)⟩ rfl hl.1 rfl (Nat.le_of_ble_eq_true rfl) dX20_wearsOrWayOrWind_3 ⟨(Nat.le_of_ble_eq_true rfl), (Nat.le_of_ble_eq_true rfl)⟩) (fun En ce ad54 C55 H locs hs9 hI hce hvm hcl => ?_) (fun C1 H locs hs9 hI => ?_)
  · obtain ⟨rfl, hs0⟩ := hs9
    replace hs := hs0
    exact x_pass X hK hT rfl hI hce hvm hcl ⟨rfl, hs⟩ (Nat.le_of_ble_eq_true rfl) (Nat.le_of_ble_eq_true rfl)
  · replace hs := hs9
    refine lv_aload_n hx hb dX20_wearsOrWayOrWind_6 rfl (lv_at hl 0 rfl) ?_
    refine lv_bipush (v := 101) hx hb dX20_wearsOrWayOrWind_7 (by decide) ?_
    obtain ⟨h4, hs⟩ := hs
    obtain ⟨fh4, h4⟩ := xcl_spec h4
    refine x_goz hA hI (x_runV (As := [.int 101]) (rest := []) X hK hA hG hI h4 (q := (RX20, TX20, 4)) rfl rfl (xet_X20_sees l a0 101 _ _ hs) iX20_sees q981 q983 qs6 q124 ⟨(Nat.le_of_ble_eq_true rfl), (Nat.le_of_ble_eq_true rfl)⟩ rfl hl.1 rfl (Nat.le_of_ble_eq_true rfl) dX20_wearsOrWayOrWind_9 ⟨(Nat.le_of_ble_eq_true rfl), (Nat.le_of_ble_eq_true rfl)⟩) (fun r4 C3 H locs br4 hs9 hI => ?_)
    replace hs := hs9
    refine lv_if_eq (tgt := 52) hx hb dX20_wearsOrWayOrWind_12 (by decide) (fun c52 => ?_) (fun c52 => ?_)
    · replace hs := ifp c52 hs
      refine lv_aload_n hx hb dX20_wearsOrWayOrWind_52 rfl (lv_at hl 0 rfl) ?_
      refine lv_bipush (v := 97) hx hb dX20_wearsOrWayOrWind_53 (by decide) ?_
      obtain ⟨h7, hs⟩ := hs
      obtain ⟨fh7, h7⟩ := xcl_spec h7
      refine x_goz hA hI (x_runV (As := [.int 97]) (rest := []) X hK hA hG hI h7 (q := (RX20, TX20, 4)) rfl rfl (xet_X20_sees l a0 97 _ _ hs) iX20_sees q981 q983 qs6 q124 ⟨(Nat.le_of_ble_eq_true rfl), (Nat.le_of_ble_eq_true rfl)⟩ rfl hl.1 rfl (Nat.le_of_ble_eq_true rfl) dX20_wearsOrWayOrWind_55 ⟨(Nat.le_of_ble_eq_true rfl), (Nat.le_of_ble_eq_true rfl)⟩) (fun r7 C6 H locs br7 hs9 hI => ?_)
      replace hs := hs9
      refine lv_if_eq (tgt := 87) hx hb dX20_wearsOrWayOrWind_58 (by decide) (fun c32 => ?_) (fun c32 => ?_)
      · replace hs := ifp c32 hs
        refine lv_aload_n hx hb dX20_wearsOrWayOrWind_87 rfl (lv_at hl 0 rfl) ?_
        refine va_ldcS hx hb hown (hG.2.2.2.2.1 4 (111, "ind") rfl) dX20_wearsOrWayOrWind_88 ?_
        obtain ⟨h9, hs⟩ := hs
        obtain ⟨fh9, h9⟩ := xcl_spec h9
        refine xT_gov hA hI (x_runVTs (As := [.ref (adK 4)]) (rest := []) X hK hA hG hI h9 (q := (RX20, TX20, 4)) rfl rfl (xet_X20_word l hl0 a0 4 (by decide) _ _ _ hs D dT adK adV _) iX20_word q1018 q1020 qs9 q124 ⟨(Nat.le_of_ble_eq_true rfl), (Nat.le_of_ble_eq_true rfl)⟩ rfl hl.1 rfl (Nat.le_of_ble_eq_true rfl) dX20_wearsOrWayOrWind_90 ⟨(Nat.le_of_ble_eq_true rfl), (Nat.le_of_ble_eq_true rfl)⟩) (fun En ce ad19 C20 H locs hs9 hI hce hvm hcl => ?_) (fun C9 H locs hs9 hI => ?_)
        · obtain ⟨rfl, hs0⟩ := hs9
          replace hs := hs0
          exact x_pass X hK hT rfl hI hce hvm hcl ⟨rfl, hs⟩ (Nat.le_of_ble_eq_true rfl) (Nat.le_of_ble_eq_true rfl)
        · replace hs := hs9
          refine lv_aload_n hx hb dX20_wearsOrWayOrWind_93 rfl (lv_at hl 0 rfl) ?_
          obtain ⟨ad11, ead11, hs⟩ := hs
          refine x_get (v := .ref ad11) X hK hI 20 1 rfl in_X20 rfl q961 rfl (xgr_spec ead11) dX20_wearsOrWayOrWind_94 ?_
          obtain ⟨ad12, ead12, hs⟩ := hs
          refine x_get (v := .ref ad12) X hK hI 4 5 rfl in_X4 rfl q267 rfl (xgr_spec ead12) dX20_wearsOrWayOrWind_97 ?_
          refine lv_iconst (v := 3) hx hb dX20_wearsOrWayOrWind_100 (by decide) ?_
          refine lv_aload_n hx hb dX20_wearsOrWayOrWind_101 rfl (lv_at hl 0 rfl) ?_
          refine lv_iconst (v := 0) hx hb dX20_wearsOrWayOrWind_102 (by decide) ?_
          refine lv_bipush (v := 60) hx hb dX20_wearsOrWayOrWind_103 (by decide) ?_
          obtain ⟨h14, hs⟩ := hs
          obtain ⟨fh14, h14⟩ := xcl_spec h14
          refine xT_goi hA hI (x_runVT (As := [.int 0, .int 60]) (rest := [.int 3, .ref ad12]) X hK hA hG hI h14 (q := (RX20, TX20, 4)) rfl rfl (xet_X20_number l hl0 a0 0 60 _ _ _ hs) iX20_number q1097 q1099 qs12 q124 ⟨(Nat.le_of_ble_eq_true rfl), (Nat.le_of_ble_eq_true rfl)⟩ rfl hl.1 rfl (Nat.le_of_ble_eq_true rfl) dX20_wearsOrWayOrWind_105 ⟨(Nat.le_of_ble_eq_true rfl), (Nat.le_of_ble_eq_true rfl)⟩) (fun En ce ad17 C18 H locs hs9 hI hce hvm hcl => ?_) (fun r14 C13 H locs hs9 hI => ?_)
          · obtain ⟨rfl, hs0⟩ := hs9
            replace hs := hs0
            exact x_pass X hK hT rfl hI hce hvm hcl ⟨rfl, hs⟩ (Nat.le_of_ble_eq_true rfl) (Nat.le_of_ble_eq_true rfl)
          · replace hs := hs9
            obtain ⟨C16, eC16, hs⟩ := hs
            refine x_iast X hK hI eC16 dX20_wearsOrWayOrWind_108 (fun H locs hI => ?_)
            exact vx_ret (x_retv X hK hI hs (Nat.le_of_ble_eq_true rfl) (Nat.le_of_ble_eq_true rfl) dX20_wearsOrWayOrWind_109)
      · replace hs := ifn c32 hs
        refine lv_aload_n hx hb dX20_wearsOrWayOrWind_61 rfl (lv_at hl 0 rfl) ?_
        refine va_ldcS hx hb hown (hG.2.2.2.2.1 3 (106, "ay") rfl) dX20_wearsOrWayOrWind_62 ?_
        obtain ⟨h21, hs⟩ := hs
        obtain ⟨fh21, h21⟩ := xcl_spec h21
        refine xT_gov hA hI (x_runVTs (As := [.ref (adK 3)]) (rest := []) X hK hA hG hI h21 (q := (RX20, TX20, 4)) rfl rfl (xet_X20_word l hl0 a0 3 (by decide) _ _ _ hs D dT adK adV _) iX20_word q1018 q1020 qs9 q124 ⟨(Nat.le_of_ble_eq_true rfl), (Nat.le_of_ble_eq_true rfl)⟩ rfl hl.1 rfl (Nat.le_of_ble_eq_true rfl) dX20_wearsOrWayOrWind_64 ⟨(Nat.le_of_ble_eq_true rfl), (Nat.le_of_ble_eq_true rfl)⟩) (fun En ce ad31 C32 H locs hs9 hI hce hvm hcl => ?_) (fun C21 H locs hs9 hI => ?_)
        · obtain ⟨rfl, hs0⟩ := hs9
          replace hs := hs0
          exact x_pass X hK hT rfl hI hce hvm hcl ⟨rfl, hs⟩ (Nat.le_of_ble_eq_true rfl) (Nat.le_of_ble_eq_true rfl)
        · replace hs := hs9
          refine lv_aload_n hx hb dX20_wearsOrWayOrWind_67 rfl (lv_at hl 0 rfl) ?_
          obtain ⟨ad23, ead23, hs⟩ := hs
          refine x_get (v := .ref ad23) X hK hI 20 1 rfl in_X20 rfl q961 rfl (xgr_spec ead23) dX20_wearsOrWayOrWind_68 ?_
          obtain ⟨ad24, ead24, hs⟩ := hs
          refine x_get (v := .ref ad24) X hK hI 4 5 rfl in_X4 rfl q267 rfl (xgr_spec ead24) dX20_wearsOrWayOrWind_71 ?_
          refine lv_iconst (v := 0) hx hb dX20_wearsOrWayOrWind_74 (by decide) ?_
          refine lv_aload_n hx hb dX20_wearsOrWayOrWind_75 rfl (lv_at hl 0 rfl) ?_
          refine lv_iconst (v := 1) hx hb dX20_wearsOrWayOrWind_76 (by decide) ?_
          refine lv_sipush (v := 200) hx hb dX20_wearsOrWayOrWind_77 (by decide) ?_
          obtain ⟨h26, hs⟩ := hs
          obtain ⟨fh26, h26⟩ := xcl_spec h26
          refine xT_goi hA hI (x_runVT (As := [.int 1, .int 200]) (rest := [.int 0, .ref ad24]) X hK hA hG hI h26 (q := (RX20, TX20, 4)) rfl rfl (xet_X20_number l hl0 a0 1 200 _ _ _ hs) iX20_number q1097 q1099 qs12 q124 ⟨(Nat.le_of_ble_eq_true rfl), (Nat.le_of_ble_eq_true rfl)⟩ rfl hl.1 rfl (Nat.le_of_ble_eq_true rfl) dX20_wearsOrWayOrWind_80 ⟨(Nat.le_of_ble_eq_true rfl), (Nat.le_of_ble_eq_true rfl)⟩) (fun En ce ad29 C30 H locs hs9 hI hce hvm hcl => ?_) (fun r26 C25 H locs hs9 hI => ?_)
          · obtain ⟨rfl, hs0⟩ := hs9
            replace hs := hs0
            exact x_pass X hK hT rfl hI hce hvm hcl ⟨rfl, hs⟩ (Nat.le_of_ble_eq_true rfl) (Nat.le_of_ble_eq_true rfl)
          · replace hs := hs9
            obtain ⟨C28, eC28, hs⟩ := hs
            refine x_iast X hK hI eC28 dX20_wearsOrWayOrWind_83 (fun H locs hI => ?_)
            refine lv_goto (tgt := 109) hx hb dX20_wearsOrWayOrWind_84 (by decide) ?_
            exact vx_ret (x_retv X hK hI hs (Nat.le_of_ble_eq_true rfl) (Nat.le_of_ble_eq_true rfl) dX20_wearsOrWayOrWind_109)
    · replace hs := ifn c52 hs
      refine lv_aload_n hx hb dX20_wearsOrWayOrWind_15 rfl (lv_at hl 0 rfl) ?_
      refine va_ldcS hx hb hown (hG.2.2.2.2.1 2 (97, "ears") rfl) dX20_wearsOrWayOrWind_16 ?_
      obtain ⟨h34, hs⟩ := hs
      obtain ⟨fh34, h34⟩ := xcl_spec h34
      refine xT_gov hA hI (x_runVTs (As := [.ref (adK 2)]) (rest := []) X hK hA hG hI h34 (q := (RX20, TX20, 4)) rfl rfl (xet_X20_word l hl0 a0 2 (by decide) _ _ _ hs D dT adK adV _) iX20_word q1018 q1020 qs9 q124 ⟨(Nat.le_of_ble_eq_true rfl), (Nat.le_of_ble_eq_true rfl)⟩ rfl hl.1 rfl (Nat.le_of_ble_eq_true rfl) dX20_wearsOrWayOrWind_18 ⟨(Nat.le_of_ble_eq_true rfl), (Nat.le_of_ble_eq_true rfl)⟩) (fun En ce ad51 C52 H locs hs9 hI hce hvm hcl => ?_) (fun C34 H locs hs9 hI => ?_)
      · obtain ⟨rfl, hs0⟩ := hs9
        replace hs := hs0
        exact x_pass X hK hT rfl hI hce hvm hcl ⟨rfl, hs⟩ (Nat.le_of_ble_eq_true rfl) (Nat.le_of_ble_eq_true rfl)
      · replace hs := hs9
        refine lv_aload_n hx hb dX20_wearsOrWayOrWind_21 rfl (lv_at hl 0 rfl) ?_
        obtain ⟨h37, hs⟩ := hs
        obtain ⟨fh37, h37⟩ := xcl_spec h37
        refine xT_goi hA hI (x_runVT (As := []) (rest := []) X hK hA hG hI h37 (q := (RX20, TX20, 4)) rfl rfl (xet_X20_one l hl0 a0 _ _ _ hs) iX20_one q1117 q1119 qs16 q124 ⟨(Nat.le_of_ble_eq_true rfl), (Nat.le_of_ble_eq_true rfl)⟩ rfl hl.1 rfl (Nat.le_of_ble_eq_true rfl) dX20_wearsOrWayOrWind_22 ⟨(Nat.le_of_ble_eq_true rfl), (Nat.le_of_ble_eq_true rfl)⟩) (fun En ce ad49 C50 H locs hs9 hI hce hvm hcl => ?_) (fun r37 C36 H locs hs9 hI => ?_)
        · obtain ⟨rfl, hs0⟩ := hs9
          replace hs := hs0
          exact x_pass X hK hT rfl hI hce hvm hcl ⟨rfl, hs⟩ (Nat.le_of_ble_eq_true rfl) (Nat.le_of_ble_eq_true rfl)
        · replace hs := hs9
          refine lv_istore_n (lv' := [(1, .int r37), (0, .ref a0)]) hx hb dX20_wearsOrWayOrWind_25 rfl hl (by decide) rfl (fun ls hl => ?_)
          refine lv_aload_n hx hb dX20_wearsOrWayOrWind_26 rfl (lv_at hl 1 rfl) ?_
          obtain ⟨ad39, ead39, hs⟩ := hs
          refine x_get (v := .ref ad39) X hK hI 20 1 rfl in_X20 rfl q961 rfl (xgr_spec ead39) dX20_wearsOrWayOrWind_27 ?_
          obtain ⟨ad40, ead40, hs⟩ := hs
          refine x_get (v := .ref ad40) X hK hI 4 8 rfl in_X4 rfl q279 rfl (xgr_spec ead40) dX20_wearsOrWayOrWind_30 ?_
          refine lv_iload_n hx hb dX20_wearsOrWayOrWind_33 rfl (lv_at hl 0 rfl) ?_
          refine lv_aload_n hx hb dX20_wearsOrWayOrWind_34 rfl (lv_at hl 1 rfl) ?_
          refine lv_iconst (v := 0) hx hb dX20_wearsOrWayOrWind_35 (by decide) ?_
          refine lv_aload_n hx hb dX20_wearsOrWayOrWind_36 rfl (lv_at hl 1 rfl) ?_
          obtain ⟨ad41, ead41, hs⟩ := hs
          refine x_get (v := .ref ad41) X hK hI 20 1 rfl in_X20 rfl q961 rfl (xgr_spec ead41) dX20_wearsOrWayOrWind_37 ?_
          obtain ⟨v42, ev42, hs⟩ := hs
          refine x_get (v := .int v42) X hK hI 4 1 rfl in_X4 rfl q256 rfl (xgi_spec ev42) dX20_wearsOrWayOrWind_40 ?_
          refine lv_iconst (v := 1) hx hb dX20_wearsOrWayOrWind_43 (by decide) ?_
          refine lv_isub hx hb dX20_wearsOrWayOrWind_44 ?_
          obtain ⟨h44, hs⟩ := hs
          obtain ⟨fh44, h44⟩ := xcl_spec h44
          refine xT_goi hA hI (x_runVT (As := [.int 0, .int (v42 - 1)]) (rest := [.int r37, .ref ad40]) X hK hA hG hI h44 (q := (RX20, TX20, 4)) rfl rfl (xet_X20_number l hl0 a0 0 (v42 - 1) _ _ _ hs) iX20_number q1097 q1099 qs12 q124 ⟨(Nat.le_of_ble_eq_true rfl), (Nat.le_of_ble_eq_true rfl)⟩ rfl hl.1 rfl (Nat.le_of_ble_eq_true rfl) dX20_wearsOrWayOrWind_45 ⟨(Nat.le_of_ble_eq_true rfl), (Nat.le_of_ble_eq_true rfl)⟩) (fun En ce ad47 C48 H locs hs9 hI hce hvm hcl => ?_) (fun r44 C43 H locs hs9 hI => ?_)
          · obtain ⟨rfl, hs0⟩ := hs9
            replace hs := hs0
            exact x_pass X hK hT rfl hI hce hvm hcl ⟨rfl, hs⟩ (Nat.le_of_ble_eq_true rfl) (Nat.le_of_ble_eq_true rfl)
          · replace hs := hs9
            obtain ⟨C46, eC46, hs⟩ := hs
            refine x_iast X hK hI eC46 dX20_wearsOrWayOrWind_48 (fun H locs hI => ?_)
            refine lv_goto (tgt := 109) hx hb dX20_wearsOrWayOrWind_49 (by decide) ?_
            exact vx_ret (x_retv X hK hI hs (Nat.le_of_ble_eq_true rfl) (Nat.le_of_ble_eq_true rfl) dX20_wearsOrWayOrWind_109)
def x_X20_item (a0 : Nat) (C : XH) (K : XH → Prop) (E : Nat → XH → Prop) : Prop := obd (xgi C (xis 20) a0 2) (fun v1 => (xcl C a0 = some 20 ∧ x_X20_sees a0 99 C (fun r3 C2 => (if r3 = 0 then (xcl C2 a0 = some 20 ∧ x_X20_sees a0 115 C2 (fun r6 C5 => (if r6 = 0 then (xcl C5 a0 = some 20 ∧ x_X20_sees a0 119 C5 (fun r9 C8 => (if r9 = 0 then (xcl C8 a0 = some 20 ∧ x_X20_sees a0 97 C8 (fun r12 C11 => (if r12 = 0 then (xcl C11 a0 = some 20 ∧ x_X20_sees a0 117 C11 (fun r15 C14 => (if r15 = 0 then (xcl C14 a0 = some 20 ∧ x_X20_word a0 7 C14 (fun C17 => obd (xgr C17 (xis 20) a0 1) (fun ad19 => obd (xgr C17 (xis 4) ad19 5) (fun ad20 => (xcl C17 a0 = some 20 ∧ x_X20_number a0 0 9 C17 (fun r22 C21 => obd (xsi C21 ad20 2 r22) (fun C24 => K C24)) (fun ad25 C26 => E ad25 C26))))) (fun ad27 C28 => E ad27 C28)) else (xcl C14 a0 = some 20 ∧ x_X20_word a0 6 C14 (fun C29 => obd (xgr C29 (xis 20) a0 1) (fun ad31 => obd (xgr C29 (xis 4) ad31 5) (fun ad32 => (xcl C29 a0 = some 20 ∧ x_X20_number a0 1 20 C29 (fun r34 C33 => obd (xsi C33 ad32 1 r34) (fun C36 => K C36)) (fun ad37 C38 => E ad37 C38))))) (fun ad39 C40 => E ad39 C40))))) else (xcl C11 a0 = some 20 ∧ x_X20_word a0 5 C11 (fun C42 => (xcl C42 a0 = some 20 ∧ x_X20_one a0 C42 (fun r45 C44 => obd (xgr C44 (xis 20) a0 1) (fun ad47 => obd (xgr C44 (xis 4) ad47 9) (fun ad48 => (xcl C44 a0 = some 20 ∧ x_X20_number a0 0 99 C44 (fun r50 C49 => obd (xsi C49 ad48 r45 r50) (fun C52 => K C52)) (fun ad53 C54 => E ad53 C54))))) (fun ad55 C56 => E ad55 C56))) (fun ad57 C58 => E ad57 C58))))) else (xcl C8 a0 = some 20 ∧ x_X20_wearsOrWayOrWind a0 C8 (fun C60 => K C60) (fun ad62 C63 => E ad62 C63))))) else (xcl C5 a0 = some 20 ∧ x_X20_sack a0 v1 C5 (fun C65 => K C65) (fun ad67 C68 => E ad67 C68))))) else (xcl C2 a0 = some 20 ∧ x_X20_child a0 v1 C2 (fun C70 => K C70) (fun ad72 C73 => E ad72 C73))))))
theorem iX20_item : xInf yX20_item cX20_item 3 none 0 := ⟨q980, by decide +kernel⟩
set_option maxHeartbeats 4000000 in
theorem xet_X20_item (l : Launch) (hl0 : l.stackTraces = false) (a0 : Nat) (C : XH) (K : XH → Prop) (E : Nat → XH → Prop) (hs : x_X20_item a0 C K E) : xMetX l yX20_item (ws_ yX20_item cX20_item 3 none) 8 180 18 121 C [.ref a0] (fun D dT A => xQv D dT K A) (xEK RX21 E) := by
  intro D dT adK adV sz
  refine xEnterT (own := RX20) (Qc := xQv D dT K) (XC := xXC D dT (xEK RX21 E)) (by decide) rfl (by rfl) ?_
  intro p e s m args below meth c A ls X hnm hK hA hG hT hI hl
  have hx := X.1
  have hb := X.2.1
  have hts := X.2.2.2.2.1
  have hown := X.2.2.2.2.2.1
  have hl : lv_has ls 3 [(0, .ref a0)] := hl
  unfold x_X20_item at hs
  refine lv_aload_n hx hb dX20_item_0 rfl (lv_at hl 0 rfl) ?_
  obtain ⟨v1, ev1, hs⟩ := hs
  refine x_get (v := .int v1) X hK hI 20 2 rfl in_X20 rfl q962 rfl (xgi_spec ev1) dX20_item_1 ?_
  refine lv_istore_n (lv' := [(1, .int v1), (0, .ref a0)]) hx hb dX20_item_4 rfl hl (by decide) rfl (fun ls hl => ?_)
  refine lv_aload_n hx hb dX20_item_5 rfl (lv_at hl 1 rfl) ?_
  refine lv_bipush (v := 99) hx hb dX20_item_6 (by decide) ?_
  obtain ⟨h3, hs⟩ := hs
  obtain ⟨fh3, h3⟩ := xcl_spec h3
  refine x_goz hA hI (x_runV (As := [.int 99]) (rest := []) X hK hA hG hI h3 (q := (RX20, TX20, 4)) rfl rfl (xet_X20_sees l a0 99 _ _ hs) iX20_sees q981 q983 qs6 q124 ⟨(Nat.le_of_ble_eq_true rfl), (Nat.le_of_ble_eq_true rfl)⟩ rfl hl.1 rfl (Nat.le_of_ble_eq_true rfl) dX20_item_8 ⟨(Nat.le_of_ble_eq_true rfl), (Nat.le_of_ble_eq_true rfl)⟩) (fun r3 C2 H locs br3 hs9 hI => ?_)
  replace hs := hs9
  refine lv_if_eq (tgt := 22) hx hb dX20_item_11 (by decide) (fun c73 => ?_) (fun c73 => ?_)
  · replace hs := ifp c73 hs
    refine lv_aload_n hx hb dX20_item_22 rfl (lv_at hl 1 rfl) ?_
    refine lv_bipush (v := 115) hx hb dX20_item_23 (by decide) ?_
    obtain ⟨h6, hs⟩ := hs
    obtain ⟨fh6, h6⟩ := xcl_spec h6
    refine x_goz hA hI (x_runV (As := [.int 115]) (rest := []) X hK hA hG hI h6 (q := (RX20, TX20, 4)) rfl rfl (xet_X20_sees l a0 115 _ _ hs) iX20_sees q981 q983 qs6 q124 ⟨(Nat.le_of_ble_eq_true rfl), (Nat.le_of_ble_eq_true rfl)⟩ rfl hl.1 rfl (Nat.le_of_ble_eq_true rfl) dX20_item_25 ⟨(Nat.le_of_ble_eq_true rfl), (Nat.le_of_ble_eq_true rfl)⟩) (fun r6 C5 H locs br6 hs9 hI => ?_)
    replace hs := hs9
    refine lv_if_eq (tgt := 39) hx hb dX20_item_28 (by decide) (fun c68 => ?_) (fun c68 => ?_)
    · replace hs := ifp c68 hs
      refine lv_aload_n hx hb dX20_item_39 rfl (lv_at hl 1 rfl) ?_
      refine lv_bipush (v := 119) hx hb dX20_item_40 (by decide) ?_
      obtain ⟨h9, hs⟩ := hs
      obtain ⟨fh9, h9⟩ := xcl_spec h9
      refine x_goz hA hI (x_runV (As := [.int 119]) (rest := []) X hK hA hG hI h9 (q := (RX20, TX20, 4)) rfl rfl (xet_X20_sees l a0 119 _ _ hs) iX20_sees q981 q983 qs6 q124 ⟨(Nat.le_of_ble_eq_true rfl), (Nat.le_of_ble_eq_true rfl)⟩ rfl hl.1 rfl (Nat.le_of_ble_eq_true rfl) dX20_item_42 ⟨(Nat.le_of_ble_eq_true rfl), (Nat.le_of_ble_eq_true rfl)⟩) (fun r9 C8 H locs br9 hs9 hI => ?_)
      replace hs := hs9
      refine lv_if_eq (tgt := 55) hx hb dX20_item_45 (by decide) (fun c63 => ?_) (fun c63 => ?_)
      · replace hs := ifp c63 hs
        refine lv_aload_n hx hb dX20_item_55 rfl (lv_at hl 1 rfl) ?_
        refine lv_bipush (v := 97) hx hb dX20_item_56 (by decide) ?_
        obtain ⟨h12, hs⟩ := hs
        obtain ⟨fh12, h12⟩ := xcl_spec h12
        refine x_goz hA hI (x_runV (As := [.int 97]) (rest := []) X hK hA hG hI h12 (q := (RX20, TX20, 4)) rfl rfl (xet_X20_sees l a0 97 _ _ hs) iX20_sees q981 q983 qs6 q124 ⟨(Nat.le_of_ble_eq_true rfl), (Nat.le_of_ble_eq_true rfl)⟩ rfl hl.1 rfl (Nat.le_of_ble_eq_true rfl) dX20_item_58 ⟨(Nat.le_of_ble_eq_true rfl), (Nat.le_of_ble_eq_true rfl)⟩) (fun r12 C11 H locs br12 hs9 hI => ?_)
        replace hs := hs9
        refine lv_if_eq (tgt := 94) hx hb dX20_item_61 (by decide) (fun c58 => ?_) (fun c58 => ?_)
        · replace hs := ifp c58 hs
          refine lv_aload_n hx hb dX20_item_94 rfl (lv_at hl 1 rfl) ?_
          refine lv_bipush (v := 117) hx hb dX20_item_95 (by decide) ?_
          obtain ⟨h15, hs⟩ := hs
          obtain ⟨fh15, h15⟩ := xcl_spec h15
          refine x_goz hA hI (x_runV (As := [.int 117]) (rest := []) X hK hA hG hI h15 (q := (RX20, TX20, 4)) rfl rfl (xet_X20_sees l a0 117 _ _ hs) iX20_sees q981 q983 qs6 q124 ⟨(Nat.le_of_ble_eq_true rfl), (Nat.le_of_ble_eq_true rfl)⟩ rfl hl.1 rfl (Nat.le_of_ble_eq_true rfl) dX20_item_97 ⟨(Nat.le_of_ble_eq_true rfl), (Nat.le_of_ble_eq_true rfl)⟩) (fun r15 C14 H locs br15 hs9 hI => ?_)
          replace hs := hs9
          refine lv_if_eq (tgt := 128) hx hb dX20_item_100 (by decide) (fun c40 => ?_) (fun c40 => ?_)
          · replace hs := ifp c40 hs
            refine lv_aload_n hx hb dX20_item_128 rfl (lv_at hl 1 rfl) ?_
            refine va_ldcS hx hb hown (hG.2.2.2.2.1 7 (126, "rope") rfl) dX20_item_129 ?_
            obtain ⟨h17, hs⟩ := hs
            obtain ⟨fh17, h17⟩ := xcl_spec h17
            refine xT_gov hA hI (x_runVTs (As := [.ref (adK 7)]) (rest := []) X hK hA hG hI h17 (q := (RX20, TX20, 4)) rfl rfl (xet_X20_word l hl0 a0 7 (by decide) _ _ _ hs D dT adK adV _) iX20_word q1018 q1020 qs9 q124 ⟨(Nat.le_of_ble_eq_true rfl), (Nat.le_of_ble_eq_true rfl)⟩ rfl hl.1 rfl (Nat.le_of_ble_eq_true rfl) dX20_item_131 ⟨(Nat.le_of_ble_eq_true rfl), (Nat.le_of_ble_eq_true rfl)⟩) (fun En ce ad27 C28 H locs hs9 hI hce hvm hcl => ?_) (fun C17 H locs hs9 hI => ?_)
            · obtain ⟨rfl, hs0⟩ := hs9
              replace hs := hs0
              exact x_pass X hK hT rfl hI hce hvm hcl ⟨rfl, hs⟩ (Nat.le_of_ble_eq_true rfl) (Nat.le_of_ble_eq_true rfl)
            · replace hs := hs9
              refine lv_aload_n hx hb dX20_item_134 rfl (lv_at hl 1 rfl) ?_
              obtain ⟨ad19, ead19, hs⟩ := hs
              refine x_get (v := .ref ad19) X hK hI 20 1 rfl in_X20 rfl q961 rfl (xgr_spec ead19) dX20_item_135 ?_
              obtain ⟨ad20, ead20, hs⟩ := hs
              refine x_get (v := .ref ad20) X hK hI 4 5 rfl in_X4 rfl q267 rfl (xgr_spec ead20) dX20_item_138 ?_
              refine lv_iconst (v := 2) hx hb dX20_item_141 (by decide) ?_
              refine lv_aload_n hx hb dX20_item_142 rfl (lv_at hl 1 rfl) ?_
              refine lv_iconst (v := 0) hx hb dX20_item_143 (by decide) ?_
              refine lv_bipush (v := 9) hx hb dX20_item_144 (by decide) ?_
              obtain ⟨h22, hs⟩ := hs
              obtain ⟨fh22, h22⟩ := xcl_spec h22
              refine xT_goi hA hI (x_runVT (As := [.int 0, .int 9]) (rest := [.int 2, .ref ad20]) X hK hA hG hI h22 (q := (RX20, TX20, 4)) rfl rfl (xet_X20_number l hl0 a0 0 9 _ _ _ hs) iX20_number q1097 q1099 qs12 q124 ⟨(Nat.le_of_ble_eq_true rfl), (Nat.le_of_ble_eq_true rfl)⟩ rfl hl.1 rfl (Nat.le_of_ble_eq_true rfl) dX20_item_146 ⟨(Nat.le_of_ble_eq_true rfl), (Nat.le_of_ble_eq_true rfl)⟩) (fun En ce ad25 C26 H locs hs9 hI hce hvm hcl => ?_) (fun r22 C21 H locs hs9 hI => ?_)
              · obtain ⟨rfl, hs0⟩ := hs9
                replace hs := hs0
                exact x_pass X hK hT rfl hI hce hvm hcl ⟨rfl, hs⟩ (Nat.le_of_ble_eq_true rfl) (Nat.le_of_ble_eq_true rfl)
              · replace hs := hs9
                obtain ⟨C24, eC24, hs⟩ := hs
                refine x_iast X hK hI eC24 dX20_item_149 (fun H locs hI => ?_)
                exact vx_ret (x_retv X hK hI hs (Nat.le_of_ble_eq_true rfl) (Nat.le_of_ble_eq_true rfl) dX20_item_150)
          · replace hs := ifn c40 hs
            refine lv_aload_n hx hb dX20_item_103 rfl (lv_at hl 1 rfl) ?_
            refine va_ldcS hx hb hown (hG.2.2.2.2.1 6 (124, "up") rfl) dX20_item_104 ?_
            obtain ⟨h29, hs⟩ := hs
            obtain ⟨fh29, h29⟩ := xcl_spec h29
            refine xT_gov hA hI (x_runVTs (As := [.ref (adK 6)]) (rest := []) X hK hA hG hI h29 (q := (RX20, TX20, 4)) rfl rfl (xet_X20_word l hl0 a0 6 (by decide) _ _ _ hs D dT adK adV _) iX20_word q1018 q1020 qs9 q124 ⟨(Nat.le_of_ble_eq_true rfl), (Nat.le_of_ble_eq_true rfl)⟩ rfl hl.1 rfl (Nat.le_of_ble_eq_true rfl) dX20_item_106 ⟨(Nat.le_of_ble_eq_true rfl), (Nat.le_of_ble_eq_true rfl)⟩) (fun En ce ad39 C40 H locs hs9 hI hce hvm hcl => ?_) (fun C29 H locs hs9 hI => ?_)
            · obtain ⟨rfl, hs0⟩ := hs9
              replace hs := hs0
              exact x_pass X hK hT rfl hI hce hvm hcl ⟨rfl, hs⟩ (Nat.le_of_ble_eq_true rfl) (Nat.le_of_ble_eq_true rfl)
            · replace hs := hs9
              refine lv_aload_n hx hb dX20_item_109 rfl (lv_at hl 1 rfl) ?_
              obtain ⟨ad31, ead31, hs⟩ := hs
              refine x_get (v := .ref ad31) X hK hI 20 1 rfl in_X20 rfl q961 rfl (xgr_spec ead31) dX20_item_110 ?_
              obtain ⟨ad32, ead32, hs⟩ := hs
              refine x_get (v := .ref ad32) X hK hI 4 5 rfl in_X4 rfl q267 rfl (xgr_spec ead32) dX20_item_113 ?_
              refine lv_iconst (v := 1) hx hb dX20_item_116 (by decide) ?_
              refine lv_aload_n hx hb dX20_item_117 rfl (lv_at hl 1 rfl) ?_
              refine lv_iconst (v := 1) hx hb dX20_item_118 (by decide) ?_
              refine lv_bipush (v := 20) hx hb dX20_item_119 (by decide) ?_
              obtain ⟨h34, hs⟩ := hs
              obtain ⟨fh34, h34⟩ := xcl_spec h34
              refine xT_goi hA hI (x_runVT (As := [.int 1, .int 20]) (rest := [.int 1, .ref ad32]) X hK hA hG hI h34 (q := (RX20, TX20, 4)) rfl rfl (xet_X20_number l hl0 a0 1 20 _ _ _ hs) iX20_number q1097 q1099 qs12 q124 ⟨(Nat.le_of_ble_eq_true rfl), (Nat.le_of_ble_eq_true rfl)⟩ rfl hl.1 rfl (Nat.le_of_ble_eq_true rfl) dX20_item_121 ⟨(Nat.le_of_ble_eq_true rfl), (Nat.le_of_ble_eq_true rfl)⟩) (fun En ce ad37 C38 H locs hs9 hI hce hvm hcl => ?_) (fun r34 C33 H locs hs9 hI => ?_)
              · obtain ⟨rfl, hs0⟩ := hs9
                replace hs := hs0
                exact x_pass X hK hT rfl hI hce hvm hcl ⟨rfl, hs⟩ (Nat.le_of_ble_eq_true rfl) (Nat.le_of_ble_eq_true rfl)
              · replace hs := hs9
                obtain ⟨C36, eC36, hs⟩ := hs
                refine x_iast X hK hI eC36 dX20_item_124 (fun H locs hI => ?_)
                refine lv_goto (tgt := 150) hx hb dX20_item_125 (by decide) ?_
                exact vx_ret (x_retv X hK hI hs (Nat.le_of_ble_eq_true rfl) (Nat.le_of_ble_eq_true rfl) dX20_item_150)
        · replace hs := ifn c58 hs
          refine lv_aload_n hx hb dX20_item_64 rfl (lv_at hl 1 rfl) ?_
          refine va_ldcS hx hb hown (hG.2.2.2.2.1 5 (120, "ahead") rfl) dX20_item_65 ?_
          obtain ⟨h42, hs⟩ := hs
          obtain ⟨fh42, h42⟩ := xcl_spec h42
          refine xT_gov hA hI (x_runVTs (As := [.ref (adK 5)]) (rest := []) X hK hA hG hI h42 (q := (RX20, TX20, 4)) rfl rfl (xet_X20_word l hl0 a0 5 (by decide) _ _ _ hs D dT adK adV _) iX20_word q1018 q1020 qs9 q124 ⟨(Nat.le_of_ble_eq_true rfl), (Nat.le_of_ble_eq_true rfl)⟩ rfl hl.1 rfl (Nat.le_of_ble_eq_true rfl) dX20_item_67 ⟨(Nat.le_of_ble_eq_true rfl), (Nat.le_of_ble_eq_true rfl)⟩) (fun En ce ad57 C58 H locs hs9 hI hce hvm hcl => ?_) (fun C42 H locs hs9 hI => ?_)
          · obtain ⟨rfl, hs0⟩ := hs9
            replace hs := hs0
            exact x_pass X hK hT rfl hI hce hvm hcl ⟨rfl, hs⟩ (Nat.le_of_ble_eq_true rfl) (Nat.le_of_ble_eq_true rfl)
          · replace hs := hs9
            refine lv_aload_n hx hb dX20_item_70 rfl (lv_at hl 1 rfl) ?_
            obtain ⟨h45, hs⟩ := hs
            obtain ⟨fh45, h45⟩ := xcl_spec h45
            refine xT_goi hA hI (x_runVT (As := []) (rest := []) X hK hA hG hI h45 (q := (RX20, TX20, 4)) rfl rfl (xet_X20_one l hl0 a0 _ _ _ hs) iX20_one q1117 q1119 qs16 q124 ⟨(Nat.le_of_ble_eq_true rfl), (Nat.le_of_ble_eq_true rfl)⟩ rfl hl.1 rfl (Nat.le_of_ble_eq_true rfl) dX20_item_71 ⟨(Nat.le_of_ble_eq_true rfl), (Nat.le_of_ble_eq_true rfl)⟩) (fun En ce ad55 C56 H locs hs9 hI hce hvm hcl => ?_) (fun r45 C44 H locs hs9 hI => ?_)
            · obtain ⟨rfl, hs0⟩ := hs9
              replace hs := hs0
              exact x_pass X hK hT rfl hI hce hvm hcl ⟨rfl, hs⟩ (Nat.le_of_ble_eq_true rfl) (Nat.le_of_ble_eq_true rfl)
            · replace hs := hs9
              refine lv_istore_n (lv' := [(2, .int r45), (1, .int v1), (0, .ref a0)]) hx hb dX20_item_74 rfl hl (by decide) rfl (fun ls hl => ?_)
              refine lv_aload_n hx hb dX20_item_75 rfl (lv_at hl 2 rfl) ?_
              obtain ⟨ad47, ead47, hs⟩ := hs
              refine x_get (v := .ref ad47) X hK hI 20 1 rfl in_X20 rfl q961 rfl (xgr_spec ead47) dX20_item_76 ?_
              obtain ⟨ad48, ead48, hs⟩ := hs
              refine x_get (v := .ref ad48) X hK hI 4 9 rfl in_X4 rfl q283 rfl (xgr_spec ead48) dX20_item_79 ?_
              refine lv_iload_n hx hb dX20_item_82 rfl (lv_at hl 0 rfl) ?_
              refine lv_aload_n hx hb dX20_item_83 rfl (lv_at hl 2 rfl) ?_
              refine lv_iconst (v := 0) hx hb dX20_item_84 (by decide) ?_
              refine lv_bipush (v := 99) hx hb dX20_item_85 (by decide) ?_
              obtain ⟨h50, hs⟩ := hs
              obtain ⟨fh50, h50⟩ := xcl_spec h50
              refine xT_goi hA hI (x_runVT (As := [.int 0, .int 99]) (rest := [.int r45, .ref ad48]) X hK hA hG hI h50 (q := (RX20, TX20, 4)) rfl rfl (xet_X20_number l hl0 a0 0 99 _ _ _ hs) iX20_number q1097 q1099 qs12 q124 ⟨(Nat.le_of_ble_eq_true rfl), (Nat.le_of_ble_eq_true rfl)⟩ rfl hl.1 rfl (Nat.le_of_ble_eq_true rfl) dX20_item_87 ⟨(Nat.le_of_ble_eq_true rfl), (Nat.le_of_ble_eq_true rfl)⟩) (fun En ce ad53 C54 H locs hs9 hI hce hvm hcl => ?_) (fun r50 C49 H locs hs9 hI => ?_)
              · obtain ⟨rfl, hs0⟩ := hs9
                replace hs := hs0
                exact x_pass X hK hT rfl hI hce hvm hcl ⟨rfl, hs⟩ (Nat.le_of_ble_eq_true rfl) (Nat.le_of_ble_eq_true rfl)
              · replace hs := hs9
                obtain ⟨C52, eC52, hs⟩ := hs
                refine x_iast X hK hI eC52 dX20_item_90 (fun H locs hI => ?_)
                refine lv_goto (tgt := 150) hx hb dX20_item_91 (by decide) ?_
                exact vx_ret (x_retv X hK hI hs (Nat.le_of_ble_eq_true rfl) (Nat.le_of_ble_eq_true rfl) dX20_item_150)
      · replace hs := ifn c63 hs
        refine lv_aload_n hx hb dX20_item_48 rfl (lv_at hl 1 rfl) ?_
        obtain ⟨h60, hs⟩ := hs
        obtain ⟨fh60, h60⟩ := xcl_spec h60
        refine xT_gov hA hI (x_runVT (As := []) (rest := []) X hK hA hG hI h60 (q := (RX20, TX20, 4)) rfl rfl (xet_X20_wearsOrWayOrWind l hl0 a0 _ _ _ hs) iX20_wearsOrWayOrWind q1112 q1114 qs15 q124 ⟨(Nat.le_of_ble_eq_true rfl), (Nat.le_of_ble_eq_true rfl)⟩ rfl hl.1 rfl (Nat.le_of_ble_eq_true rfl) dX20_item_49 ⟨(Nat.le_of_ble_eq_true rfl), (Nat.le_of_ble_eq_true rfl)⟩) (fun En ce ad62 C63 H locs hs9 hI hce hvm hcl => ?_) (fun C60 H locs hs9 hI => ?_)
        · obtain ⟨rfl, hs0⟩ := hs9
          replace hs := hs0
          exact x_pass X hK hT rfl hI hce hvm hcl ⟨rfl, hs⟩ (Nat.le_of_ble_eq_true rfl) (Nat.le_of_ble_eq_true rfl)
        · replace hs := hs9
          refine lv_goto (tgt := 150) hx hb dX20_item_52 (by decide) ?_
          exact vx_ret (x_retv X hK hI hs (Nat.le_of_ble_eq_true rfl) (Nat.le_of_ble_eq_true rfl) dX20_item_150)
    · replace hs := ifn c68 hs
      refine lv_aload_n hx hb dX20_item_31 rfl (lv_at hl 1 rfl) ?_
      refine lv_iload_n hx hb dX20_item_32 rfl (lv_at hl 0 rfl) ?_
      obtain ⟨h65, hs⟩ := hs
      obtain ⟨fh65, h65⟩ := xcl_spec h65
      refine xT_gov hA hI (x_runVT (As := [.int v1]) (rest := []) X hK hA hG hI h65 (q := (RX20, TX20, 4)) rfl rfl (xet_X20_sack l hl0 a0 v1 _ _ _ hs) iX20_sack q1106 q1108 qs14 q124 ⟨(Nat.le_of_ble_eq_true rfl), (Nat.le_of_ble_eq_true rfl)⟩ rfl hl.1 rfl (Nat.le_of_ble_eq_true rfl) dX20_item_33 ⟨(Nat.le_of_ble_eq_true rfl), (Nat.le_of_ble_eq_true rfl)⟩) (fun En ce ad67 C68 H locs hs9 hI hce hvm hcl => ?_) (fun C65 H locs hs9 hI => ?_)
      · obtain ⟨rfl, hs0⟩ := hs9
        replace hs := hs0
        exact x_pass X hK hT rfl hI hce hvm hcl ⟨rfl, hs⟩ (Nat.le_of_ble_eq_true rfl) (Nat.le_of_ble_eq_true rfl)
      · replace hs := hs9
        refine lv_goto (tgt := 150) hx hb dX20_item_36 (by decide) ?_
        exact vx_ret (x_retv X hK hI hs (Nat.le_of_ble_eq_true rfl) (Nat.le_of_ble_eq_true rfl) dX20_item_150)
  · replace hs := ifn c73 hs
    refine lv_aload_n hx hb dX20_item_14 rfl (lv_at hl 1 rfl) ?_
    refine lv_iload_n hx hb dX20_item_15 rfl (lv_at hl 0 rfl) ?_
    obtain ⟨h70, hs⟩ := hs
    obtain ⟨fh70, h70⟩ := xcl_spec h70
    refine xT_gov hA hI (x_runVT (As := [.int v1]) (rest := []) X hK hA hG hI h70 (q := (RX20, TX20, 4)) rfl rfl (xet_X20_child l hl0 a0 v1 _ _ _ hs) iX20_child q1013 q1015 qs8 q124 ⟨(Nat.le_of_ble_eq_true rfl), (Nat.le_of_ble_eq_true rfl)⟩ rfl hl.1 rfl (Nat.le_of_ble_eq_true rfl) dX20_item_16 ⟨(Nat.le_of_ble_eq_true rfl), (Nat.le_of_ble_eq_true rfl)⟩) (fun En ce ad72 C73 H locs hs9 hI hce hvm hcl => ?_) (fun C70 H locs hs9 hI => ?_)
    · obtain ⟨rfl, hs0⟩ := hs9
      replace hs := hs0
      exact x_pass X hK hT rfl hI hce hvm hcl ⟨rfl, hs⟩ (Nat.le_of_ble_eq_true rfl) (Nat.le_of_ble_eq_true rfl)
    · replace hs := hs9
      refine lv_goto (tgt := 150) hx hb dX20_item_19 (by decide) ?_
      exact vx_ret (x_retv X hK hI hs (Nat.le_of_ble_eq_true rfl) (Nat.le_of_ble_eq_true rfl) dX20_item_150)
