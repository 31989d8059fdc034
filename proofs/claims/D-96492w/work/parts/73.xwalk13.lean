set_option maxRecDepth 100000
def x_J12_bitCount (a0 : Int32) (C : XH) (K : Int32 → XH → Prop) : Prop := K ((((((((a0 - ((((a0 : Int32).toUInt32 >>> ((1 : Int32).toUInt32 &&& Int32.toUInt32 31)).toInt32) &&& 1431655765)) &&& 858993459) + (((((a0 - ((((a0 : Int32).toUInt32 >>> ((1 : Int32).toUInt32 &&& Int32.toUInt32 31)).toInt32) &&& 1431655765)) : Int32).toUInt32 >>> ((2 : Int32).toUInt32 &&& Int32.toUInt32 31)).toInt32) &&& 858993459)) + ((((((a0 - ((((a0 : Int32).toUInt32 >>> ((1 : Int32).toUInt32 &&& Int32.toUInt32 31)).toInt32) &&& 1431655765)) &&& 858993459) + (((((a0 - ((((a0 : Int32).toUInt32 >>> ((1 : Int32).toUInt32 &&& Int32.toUInt32 31)).toInt32) &&& 1431655765)) : Int32).toUInt32 >>> ((2 : Int32).toUInt32 &&& Int32.toUInt32 31)).toInt32) &&& 858993459)) : Int32).toUInt32 >>> ((4 : Int32).toUInt32 &&& Int32.toUInt32 31)).toInt32)) &&& 252645135) + ((((((((a0 - ((((a0 : Int32).toUInt32 >>> ((1 : Int32).toUInt32 &&& Int32.toUInt32 31)).toInt32) &&& 1431655765)) &&& 858993459) + (((((a0 - ((((a0 : Int32).toUInt32 >>> ((1 : Int32).toUInt32 &&& Int32.toUInt32 31)).toInt32) &&& 1431655765)) : Int32).toUInt32 >>> ((2 : Int32).toUInt32 &&& Int32.toUInt32 31)).toInt32) &&& 858993459)) + ((((((a0 - ((((a0 : Int32).toUInt32 >>> ((1 : Int32).toUInt32 &&& Int32.toUInt32 31)).toInt32) &&& 1431655765)) &&& 858993459) + (((((a0 - ((((a0 : Int32).toUInt32 >>> ((1 : Int32).toUInt32 &&& Int32.toUInt32 31)).toInt32) &&& 1431655765)) : Int32).toUInt32 >>> ((2 : Int32).toUInt32 &&& Int32.toUInt32 31)).toInt32) &&& 858993459)) : Int32).toUInt32 >>> ((4 : Int32).toUInt32 &&& Int32.toUInt32 31)).toInt32)) &&& 252645135) : Int32).toUInt32 >>> ((8 : Int32).toUInt32 &&& Int32.toUInt32 31)).toInt32)) + (((((((((a0 - ((((a0 : Int32).toUInt32 >>> ((1 : Int32).toUInt32 &&& Int32.toUInt32 31)).toInt32) &&& 1431655765)) &&& 858993459) + (((((a0 - ((((a0 : Int32).toUInt32 >>> ((1 : Int32).toUInt32 &&& Int32.toUInt32 31)).toInt32) &&& 1431655765)) : Int32).toUInt32 >>> ((2 : Int32).toUInt32 &&& Int32.toUInt32 31)).toInt32) &&& 858993459)) + ((((((a0 - ((((a0 : Int32).toUInt32 >>> ((1 : Int32).toUInt32 &&& Int32.toUInt32 31)).toInt32) &&& 1431655765)) &&& 858993459) + (((((a0 - ((((a0 : Int32).toUInt32 >>> ((1 : Int32).toUInt32 &&& Int32.toUInt32 31)).toInt32) &&& 1431655765)) : Int32).toUInt32 >>> ((2 : Int32).toUInt32 &&& Int32.toUInt32 31)).toInt32) &&& 858993459)) : Int32).toUInt32 >>> ((4 : Int32).toUInt32 &&& Int32.toUInt32 31)).toInt32)) &&& 252645135) + ((((((((a0 - ((((a0 : Int32).toUInt32 >>> ((1 : Int32).toUInt32 &&& Int32.toUInt32 31)).toInt32) &&& 1431655765)) &&& 858993459) + (((((a0 - ((((a0 : Int32).toUInt32 >>> ((1 : Int32).toUInt32 &&& Int32.toUInt32 31)).toInt32) &&& 1431655765)) : Int32).toUInt32 >>> ((2 : Int32).toUInt32 &&& Int32.toUInt32 31)).toInt32) &&& 858993459)) + ((((((a0 - ((((a0 : Int32).toUInt32 >>> ((1 : Int32).toUInt32 &&& Int32.toUInt32 31)).toInt32) &&& 1431655765)) &&& 858993459) + (((((a0 - ((((a0 : Int32).toUInt32 >>> ((1 : Int32).toUInt32 &&& Int32.toUInt32 31)).toInt32) &&& 1431655765)) : Int32).toUInt32 >>> ((2 : Int32).toUInt32 &&& Int32.toUInt32 31)).toInt32) &&& 858993459)) : Int32).toUInt32 >>> ((4 : Int32).toUInt32 &&& Int32.toUInt32 31)).toInt32)) &&& 252645135) : Int32).toUInt32 >>> ((8 : Int32).toUInt32 &&& Int32.toUInt32 31)).toInt32)) : Int32).toUInt32 >>> ((16 : Int32).toUInt32 &&& Int32.toUInt32 31)).toInt32)) &&& 63) C
theorem iJ12_bitCount : xInf yJ12_bitCount cJ12_bitCount 1 (some .int) 1 := ⟨q1303, by decide +kernel⟩
set_option maxHeartbeats 4000000 in
theorem xet_J12_bitCount (l : Launch) (a0 : Int32) (C : XH) (K : Int32 → XH → Prop) (hs : x_J12_bitCount a0 C K) : xMeti l yJ12_bitCount (ws_ yJ12_bitCount cJ12_bitCount 1 (some .int)) 0 0 0 0 C [.int a0] K := by
  intro D dT adK adV sz
  refine xEnter (own := RJ12) (Qc := xQi D dT K) (by decide) rfl (by rfl) ?_
  intro p e s m args below meth c A ls X hnm hK hA hG hI hl
  have hx := X.1
  have hb := X.2.1
  have hts := X.2.2.2.2.1
  have hown := X.2.2.2.2.2.1
  have hl : lv_has ls 1 [(0, .int a0)] := hl
  unfold x_J12_bitCount at hs
  refine lv_iload_n hx hb dJ12_bitCount_0 rfl (lv_at hl 0 rfl) ?_
  refine lv_iload_n hx hb dJ12_bitCount_1 rfl (lv_at hl 0 rfl) ?_
  refine lv_iconst (v := 1) hx hb dJ12_bitCount_2 (by decide) ?_
  refine lv_iushr (v := (((a0 : Int32).toUInt32 >>> ((1 : Int32).toUInt32 &&& Int32.toUInt32 31)).toInt32)) hx hb dJ12_bitCount_3 rfl ?_
  refine lv_ldcw hx hb hown (hts _ q1304) dJ12_bitCount_4 ?_
  refine lv_iand hx hb dJ12_bitCount_7 ?_
  refine lv_isub hx hb dJ12_bitCount_8 ?_
  refine lv_istore_n (lv' := [(0, .int (a0 - ((((a0 : Int32).toUInt32 >>> ((1 : Int32).toUInt32 &&& Int32.toUInt32 31)).toInt32) &&& 1431655765)))]) hx hb dJ12_bitCount_9 rfl hl (by decide) rfl (fun ls hl => ?_)
  refine lv_iload_n hx hb dJ12_bitCount_10 rfl (lv_at hl 0 rfl) ?_
  refine lv_ldcw hx hb hown (hts _ q1305) dJ12_bitCount_11 ?_
  refine lv_iand hx hb dJ12_bitCount_14 ?_
  refine lv_iload_n hx hb dJ12_bitCount_15 rfl (lv_at hl 0 rfl) ?_
  refine lv_iconst (v := 2) hx hb dJ12_bitCount_16 (by decide) ?_
  refine lv_iushr (v := ((((a0 - ((((a0 : Int32).toUInt32 >>> ((1 : Int32).toUInt32 &&& Int32.toUInt32 31)).toInt32) &&& 1431655765)) : Int32).toUInt32 >>> ((2 : Int32).toUInt32 &&& Int32.toUInt32 31)).toInt32)) hx hb dJ12_bitCount_17 rfl ?_
  refine lv_ldcw hx hb hown (hts _ q1305) dJ12_bitCount_18 ?_
  refine lv_iand hx hb dJ12_bitCount_21 ?_
  refine lv_iadd hx hb dJ12_bitCount_22 ?_
  refine lv_istore_n (lv' := [(0, .int (((a0 - ((((a0 : Int32).toUInt32 >>> ((1 : Int32).toUInt32 &&& Int32.toUInt32 31)).toInt32) &&& 1431655765)) &&& 858993459) + (((((a0 - ((((a0 : Int32).toUInt32 >>> ((1 : Int32).toUInt32 &&& Int32.toUInt32 31)).toInt32) &&& 1431655765)) : Int32).toUInt32 >>> ((2 : Int32).toUInt32 &&& Int32.toUInt32 31)).toInt32) &&& 858993459)))]) hx hb dJ12_bitCount_23 rfl hl (by decide) rfl (fun ls hl => ?_)
  refine lv_iload_n hx hb dJ12_bitCount_24 rfl (lv_at hl 0 rfl) ?_
  refine lv_iload_n hx hb dJ12_bitCount_25 rfl (lv_at hl 0 rfl) ?_
  refine lv_iconst (v := 4) hx hb dJ12_bitCount_26 (by decide) ?_
  refine lv_iushr (v := ((((((a0 - ((((a0 : Int32).toUInt32 >>> ((1 : Int32).toUInt32 &&& Int32.toUInt32 31)).toInt32) &&& 1431655765)) &&& 858993459) + (((((a0 - ((((a0 : Int32).toUInt32 >>> ((1 : Int32).toUInt32 &&& Int32.toUInt32 31)).toInt32) &&& 1431655765)) : Int32).toUInt32 >>> ((2 : Int32).toUInt32 &&& Int32.toUInt32 31)).toInt32) &&& 858993459)) : Int32).toUInt32 >>> ((4 : Int32).toUInt32 &&& Int32.toUInt32 31)).toInt32)) hx hb dJ12_bitCount_27 rfl ?_
  refine lv_iadd hx hb dJ12_bitCount_28 ?_
  refine lv_ldcw hx hb hown (hts _ q1306) dJ12_bitCount_29 ?_
  refine lv_iand hx hb dJ12_bitCount_32 ?_
  refine lv_istore_n (lv' := [(0, .int (((((a0 - ((((a0 : Int32).toUInt32 >>> ((1 : Int32).toUInt32 &&& Int32.toUInt32 31)).toInt32) &&& 1431655765)) &&& 858993459) + (((((a0 - ((((a0 : Int32).toUInt32 >>> ((1 : Int32).toUInt32 &&& Int32.toUInt32 31)).toInt32) &&& 1431655765)) : Int32).toUInt32 >>> ((2 : Int32).toUInt32 &&& Int32.toUInt32 31)).toInt32) &&& 858993459)) + ((((((a0 - ((((a0 : Int32).toUInt32 >>> ((1 : Int32).toUInt32 &&& Int32.toUInt32 31)).toInt32) &&& 1431655765)) &&& 858993459) + (((((a0 - ((((a0 : Int32).toUInt32 >>> ((1 : Int32).toUInt32 &&& Int32.toUInt32 31)).toInt32) &&& 1431655765)) : Int32).toUInt32 >>> ((2 : Int32).toUInt32 &&& Int32.toUInt32 31)).toInt32) &&& 858993459)) : Int32).toUInt32 >>> ((4 : Int32).toUInt32 &&& Int32.toUInt32 31)).toInt32)) &&& 252645135))]) hx hb dJ12_bitCount_33 rfl hl (by decide) rfl (fun ls hl => ?_)
  refine lv_iload_n hx hb dJ12_bitCount_34 rfl (lv_at hl 0 rfl) ?_
  refine lv_iload_n hx hb dJ12_bitCount_35 rfl (lv_at hl 0 rfl) ?_
  refine lv_bipush (v := 8) hx hb dJ12_bitCount_36 (by decide) ?_
  refine lv_iushr (v := ((((((((a0 - ((((a0 : Int32).toUInt32 >>> ((1 : Int32).toUInt32 &&& Int32.toUInt32 31)).toInt32) &&& 1431655765)) &&& 858993459) + (((((a0 - ((((a0 : Int32).toUInt32 >>> ((1 : Int32).toUInt32 &&& Int32.toUInt32 31)).toInt32) &&& 1431655765)) : Int32).toUInt32 >>> ((2 : Int32).toUInt32 &&& Int32.toUInt32 31)).toInt32) &&& 858993459)) + ((((((a0 - ((((a0 : Int32).toUInt32 >>> ((1 : Int32).toUInt32 &&& Int32.toUInt32 31)).toInt32) &&& 1431655765)) &&& 858993459) + (((((a0 - ((((a0 : Int32).toUInt32 >>> ((1 : Int32).toUInt32 &&& Int32.toUInt32 31)).toInt32) &&& 1431655765)) : Int32).toUInt32 >>> ((2 : Int32).toUInt32 &&& Int32.toUInt32 31)).toInt32) &&& 858993459)) : Int32).toUInt32 >>> ((4 : Int32).toUInt32 &&& Int32.toUInt32 31)).toInt32)) &&& 252645135) : Int32).toUInt32 >>> ((8 : Int32).toUInt32 &&& Int32.toUInt32 31)).toInt32)) hx hb dJ12_bitCount_38 rfl ?_
  refine lv_iadd hx hb dJ12_bitCount_39 ?_
  refine lv_istore_n (lv' := [(0, .int ((((((a0 - ((((a0 : Int32).toUInt32 >>> ((1 : Int32).toUInt32 &&& Int32.toUInt32 31)).toInt32) &&& 1431655765)) &&& 858993459) + (((((a0 - ((((a0 : Int32).toUInt32 >>> ((1 : Int32).toUInt32 &&& Int32.toUInt32 31)).toInt32) &&& 1431655765)) : Int32).toUInt32 >>> ((2 : Int32).toUInt32 &&& Int32.toUInt32 31)).toInt32) &&& 858993459)) + ((((((a0 - ((((a0 : Int32).toUInt32 >>> ((1 : Int32).toUInt32 &&& Int32.toUInt32 31)).toInt32) &&& 1431655765)) &&& 858993459) + (((((a0 - ((((a0 : Int32).toUInt32 >>> ((1 : Int32).toUInt32 &&& Int32.toUInt32 31)).toInt32) &&& 1431655765)) : Int32).toUInt32 >>> ((2 : Int32).toUInt32 &&& Int32.toUInt32 31)).toInt32) &&& 858993459)) : Int32).toUInt32 >>> ((4 : Int32).toUInt32 &&& Int32.toUInt32 31)).toInt32)) &&& 252645135) + ((((((((a0 - ((((a0 : Int32).toUInt32 >>> ((1 : Int32).toUInt32 &&& Int32.toUInt32 31)).toInt32) &&& 1431655765)) &&& 858993459) + (((((a0 - ((((a0 : Int32).toUInt32 >>> ((1 : Int32).toUInt32 &&& Int32.toUInt32 31)).toInt32) &&& 1431655765)) : Int32).toUInt32 >>> ((2 : Int32).toUInt32 &&& Int32.toUInt32 31)).toInt32) &&& 858993459)) + ((((((a0 - ((((a0 : Int32).toUInt32 >>> ((1 : Int32).toUInt32 &&& Int32.toUInt32 31)).toInt32) &&& 1431655765)) &&& 858993459) + (((((a0 - ((((a0 : Int32).toUInt32 >>> ((1 : Int32).toUInt32 &&& Int32.toUInt32 31)).toInt32) &&& 1431655765)) : Int32).toUInt32 >>> ((2 : Int32).toUInt32 &&& Int32.toUInt32 31)).toInt32) &&& 858993459)) : Int32).toUInt32 >>> ((4 : Int32).toUInt32 &&& Int32.toUInt32 31)).toInt32)) &&& 252645135) : Int32).toUInt32 >>> ((8 : Int32).toUInt32 &&& Int32.toUInt32 31)).toInt32)))]) hx hb dJ12_bitCount_40 rfl hl (by decide) rfl (fun ls hl => ?_)
  refine lv_iload_n hx hb dJ12_bitCount_41 rfl (lv_at hl 0 rfl) ?_
  refine lv_iload_n hx hb dJ12_bitCount_42 rfl (lv_at hl 0 rfl) ?_
  refine lv_bipush (v := 16) hx hb dJ12_bitCount_43 (by decide) ?_
  refine lv_iushr (v := (((((((((a0 - ((((a0 : Int32).toUInt32 >>> ((1 : Int32).toUInt32 &&& Int32.toUInt32 31)).toInt32) &&& 1431655765)) &&& 858993459) + (((((a0 - ((((a0 : Int32).toUInt32 >>> ((1 : Int32).toUInt32 &&& Int32.toUInt32 31)).toInt32) &&& 1431655765)) : Int32).toUInt32 >>> ((2 : Int32).toUInt32 &&& Int32.toUInt32 31)).toInt32) &&& 858993459)) + ((((((a0 - ((((a0 : Int32).toUInt32 >>> ((1 : Int32).toUInt32 &&& Int32.toUInt32 31)).toInt32) &&& 1431655765)) &&& 858993459) + (((((a0 - ((((a0 : Int32).toUInt32 >>> ((1 : Int32).toUInt32 &&& Int32.toUInt32 31)).toInt32) &&& 1431655765)) : Int32).toUInt32 >>> ((2 : Int32).toUInt32 &&& Int32.toUInt32 31)).toInt32) &&& 858993459)) : Int32).toUInt32 >>> ((4 : Int32).toUInt32 &&& Int32.toUInt32 31)).toInt32)) &&& 252645135) + ((((((((a0 - ((((a0 : Int32).toUInt32 >>> ((1 : Int32).toUInt32 &&& Int32.toUInt32 31)).toInt32) &&& 1431655765)) &&& 858993459) + (((((a0 - ((((a0 : Int32).toUInt32 >>> ((1 : Int32).toUInt32 &&& Int32.toUInt32 31)).toInt32) &&& 1431655765)) : Int32).toUInt32 >>> ((2 : Int32).toUInt32 &&& Int32.toUInt32 31)).toInt32) &&& 858993459)) + ((((((a0 - ((((a0 : Int32).toUInt32 >>> ((1 : Int32).toUInt32 &&& Int32.toUInt32 31)).toInt32) &&& 1431655765)) &&& 858993459) + (((((a0 - ((((a0 : Int32).toUInt32 >>> ((1 : Int32).toUInt32 &&& Int32.toUInt32 31)).toInt32) &&& 1431655765)) : Int32).toUInt32 >>> ((2 : Int32).toUInt32 &&& Int32.toUInt32 31)).toInt32) &&& 858993459)) : Int32).toUInt32 >>> ((4 : Int32).toUInt32 &&& Int32.toUInt32 31)).toInt32)) &&& 252645135) : Int32).toUInt32 >>> ((8 : Int32).toUInt32 &&& Int32.toUInt32 31)).toInt32)) : Int32).toUInt32 >>> ((16 : Int32).toUInt32 &&& Int32.toUInt32 31)).toInt32)) hx hb dJ12_bitCount_45 rfl ?_
  refine lv_iadd hx hb dJ12_bitCount_46 ?_
  refine lv_istore_n (lv' := [(0, .int (((((((a0 - ((((a0 : Int32).toUInt32 >>> ((1 : Int32).toUInt32 &&& Int32.toUInt32 31)).toInt32) &&& 1431655765)) &&& 858993459) + (((((a0 - ((((a0 : Int32).toUInt32 >>> ((1 : Int32).toUInt32 &&& Int32.toUInt32 31)).toInt32) &&& 1431655765)) : Int32).toUInt32 >>> ((2 : Int32).toUInt32 &&& Int32.toUInt32 31)).toInt32) &&& 858993459)) + ((((((a0 - ((((a0 : Int32).toUInt32 >>> ((1 : Int32).toUInt32 &&& Int32.toUInt32 31)).toInt32) &&& 1431655765)) &&& 858993459) + (((((a0 - ((((a0 : Int32).toUInt32 >>> ((1 : Int32).toUInt32 &&& Int32.toUInt32 31)).toInt32) &&& 1431655765)) : Int32).toUInt32 >>> ((2 : Int32).toUInt32 &&& Int32.toUInt32 31)).toInt32) &&& 858993459)) : Int32).toUInt32 >>> ((4 : Int32).toUInt32 &&& Int32.toUInt32 31)).toInt32)) &&& 252645135) + ((((((((a0 - ((((a0 : Int32).toUInt32 >>> ((1 : Int32).toUInt32 &&& Int32.toUInt32 31)).toInt32) &&& 1431655765)) &&& 858993459) + (((((a0 - ((((a0 : Int32).toUInt32 >>> ((1 : Int32).toUInt32 &&& Int32.toUInt32 31)).toInt32) &&& 1431655765)) : Int32).toUInt32 >>> ((2 : Int32).toUInt32 &&& Int32.toUInt32 31)).toInt32) &&& 858993459)) + ((((((a0 - ((((a0 : Int32).toUInt32 >>> ((1 : Int32).toUInt32 &&& Int32.toUInt32 31)).toInt32) &&& 1431655765)) &&& 858993459) + (((((a0 - ((((a0 : Int32).toUInt32 >>> ((1 : Int32).toUInt32 &&& Int32.toUInt32 31)).toInt32) &&& 1431655765)) : Int32).toUInt32 >>> ((2 : Int32).toUInt32 &&& Int32.toUInt32 31)).toInt32) &&& 858993459)) : Int32).toUInt32 >>> ((4 : Int32).toUInt32 &&& Int32.toUInt32 31)).toInt32)) &&& 252645135) : Int32).toUInt32 >>> ((8 : Int32).toUInt32 &&& Int32.toUInt32 31)).toInt32)) + (((((((((a0 - ((((a0 : Int32).toUInt32 >>> ((1 : Int32).toUInt32 &&& Int32.toUInt32 31)).toInt32) &&& 1431655765)) &&& 858993459) + (((((a0 - ((((a0 : Int32).toUInt32 >>> ((1 : Int32).toUInt32 &&& Int32.toUInt32 31)).toInt32) &&& 1431655765)) : Int32).toUInt32 >>> ((2 : Int32).toUInt32 &&& Int32.toUInt32 31)).toInt32) &&& 858993459)) + ((((((a0 - ((((a0 : Int32).toUInt32 >>> ((1 : Int32).toUInt32 &&& Int32.toUInt32 31)).toInt32) &&& 1431655765)) &&& 858993459) + (((((a0 - ((((a0 : Int32).toUInt32 >>> ((1 : Int32).toUInt32 &&& Int32.toUInt32 31)).toInt32) &&& 1431655765)) : Int32).toUInt32 >>> ((2 : Int32).toUInt32 &&& Int32.toUInt32 31)).toInt32) &&& 858993459)) : Int32).toUInt32 >>> ((4 : Int32).toUInt32 &&& Int32.toUInt32 31)).toInt32)) &&& 252645135) + ((((((((a0 - ((((a0 : Int32).toUInt32 >>> ((1 : Int32).toUInt32 &&& Int32.toUInt32 31)).toInt32) &&& 1431655765)) &&& 858993459) + (((((a0 - ((((a0 : Int32).toUInt32 >>> ((1 : Int32).toUInt32 &&& Int32.toUInt32 31)).toInt32) &&& 1431655765)) : Int32).toUInt32 >>> ((2 : Int32).toUInt32 &&& Int32.toUInt32 31)).toInt32) &&& 858993459)) + ((((((a0 - ((((a0 : Int32).toUInt32 >>> ((1 : Int32).toUInt32 &&& Int32.toUInt32 31)).toInt32) &&& 1431655765)) &&& 858993459) + (((((a0 - ((((a0 : Int32).toUInt32 >>> ((1 : Int32).toUInt32 &&& Int32.toUInt32 31)).toInt32) &&& 1431655765)) : Int32).toUInt32 >>> ((2 : Int32).toUInt32 &&& Int32.toUInt32 31)).toInt32) &&& 858993459)) : Int32).toUInt32 >>> ((4 : Int32).toUInt32 &&& Int32.toUInt32 31)).toInt32)) &&& 252645135) : Int32).toUInt32 >>> ((8 : Int32).toUInt32 &&& Int32.toUInt32 31)).toInt32)) : Int32).toUInt32 >>> ((16 : Int32).toUInt32 &&& Int32.toUInt32 31)).toInt32)))]) hx hb dJ12_bitCount_47 rfl hl (by decide) rfl (fun ls hl => ?_)
  refine lv_iload_n hx hb dJ12_bitCount_48 rfl (lv_at hl 0 rfl) ?_
  refine lv_bipush (v := 63) hx hb dJ12_bitCount_49 (by decide) ?_
  refine lv_iand hx hb dJ12_bitCount_51 ?_
  exact x_reti X hK hI hs (Nat.le_of_ble_eq_true rfl) (Nat.le_of_ble_eq_true rfl) dJ12_bitCount_52
def x_J12_numberOfTrailingZeros (a0 : Int32) (C : XH) (K : Int32 → XH → Prop) : Prop := (if 0 < ((a0 ^^^ (-1)) &&& (a0 - 1)) then jn (fun (x1 : Int32) (x2 : Int32) => jn (fun (x3 : Int32) (x4 : Int32) => jn (fun (x5 : Int32) (x6 : Int32) => (if x5 ≤ 4 then K (x6 + (((x5 : Int32).toUInt32 >>> ((1 : Int32).toUInt32 &&& Int32.toUInt32 31)).toInt32)) C else K ((x6 + 2) + ((((((x5 : Int32).toUInt32 >>> ((2 : Int32).toUInt32 &&& Int32.toUInt32 31)).toInt32) : Int32).toUInt32 >>> ((1 : Int32).toUInt32 &&& Int32.toUInt32 31)).toInt32)) C)) (fun k62_6 => (if x3 ≤ 16 then k62_6 x3 x4 else k62_6 (((x3 : Int32).toUInt32 >>> ((4 : Int32).toUInt32 &&& Int32.toUInt32 31)).toInt32) (x4 + 4)))) (fun k49_4 => (if x1 ≤ 256 then k49_4 x1 x2 else k49_4 (((x1 : Int32).toUInt32 >>> ((8 : Int32).toUInt32 &&& Int32.toUInt32 31)).toInt32) (x2 + 8)))) (fun k34_2 => (if ((a0 ^^^ (-1)) &&& (a0 - 1)) ≤ 65536 then k34_2 ((a0 ^^^ (-1)) &&& (a0 - 1)) 1 else k34_2 (((((a0 ^^^ (-1)) &&& (a0 - 1)) : Int32).toUInt32 >>> ((16 : Int32).toUInt32 &&& Int32.toUInt32 31)).toInt32) (1 + 16))) else K (((a0 ^^^ (-1)) &&& (a0 - 1)) &&& 32) C)
theorem iJ12_numberOfTrailingZeros : xInf yJ12_numberOfTrailingZeros cJ12_numberOfTrailingZeros 2 (some .int) 1 := ⟨q1313, by decide +kernel⟩
set_option maxHeartbeats 4000000 in
theorem xet_J12_numberOfTrailingZeros (l : Launch) (a0 : Int32) (C : XH) (K : Int32 → XH → Prop) (hs : x_J12_numberOfTrailingZeros a0 C K) : xMeti l yJ12_numberOfTrailingZeros (ws_ yJ12_numberOfTrailingZeros cJ12_numberOfTrailingZeros 2 (some .int)) 0 0 0 0 C [.int a0] K := by
  intro D dT adK adV sz
  refine xEnter (own := RJ12) (Qc := xQi D dT K) (by decide) rfl (by rfl) ?_
  intro p e s m args below meth c A ls X hnm hK hA hG hI hl
  have hx := X.1
  have hb := X.2.1
  have hts := X.2.2.2.2.1
  have hown := X.2.2.2.2.2.1
  have hl : lv_has ls 2 [(0, .int a0)] := hl
  unfold x_J12_numberOfTrailingZeros at hs
  refine lv_iload_n hx hb dJ12_numberOfTrailingZeros_0 rfl (lv_at hl 0 rfl) ?_
  refine lv_iconst (v := (-1)) hx hb dJ12_numberOfTrailingZeros_1 (by decide) ?_
  refine lv_ixor hx hb dJ12_numberOfTrailingZeros_2 ?_
  refine lv_iload_n hx hb dJ12_numberOfTrailingZeros_3 rfl (lv_at hl 0 rfl) ?_
  refine lv_iconst (v := 1) hx hb dJ12_numberOfTrailingZeros_4 (by decide) ?_
  refine lv_isub hx hb dJ12_numberOfTrailingZeros_5 ?_
  refine lv_iand hx hb dJ12_numberOfTrailingZeros_6 ?_
  refine lv_istore_n (lv' := [(0, .int ((a0 ^^^ (-1)) &&& (a0 - 1)))]) hx hb dJ12_numberOfTrailingZeros_7 rfl hl (by decide) rfl (fun ls hl => ?_)
  refine lv_iload_n hx hb dJ12_numberOfTrailingZeros_8 rfl (lv_at hl 0 rfl) ?_
  refine lv_if_gt (tgt := 17) hx hb dJ12_numberOfTrailingZeros_9 (by decide) (fun c10 => ?_) (fun c10 => ?_)
  · replace hs := ifp c10 hs
    refine lv_iconst (v := 1) hx hb dJ12_numberOfTrailingZeros_17 (by decide) ?_
    refine lv_istore_n (lv' := [(1, .int 1), (0, .int ((a0 ^^^ (-1)) &&& (a0 - 1)))]) hx hb dJ12_numberOfTrailingZeros_18 rfl hl (by decide) rfl (fun ls hl => ?_)
    refine lv_iload_n hx hb dJ12_numberOfTrailingZeros_19 rfl (lv_at hl 1 rfl) ?_
    refine lv_ldcw hx hb hown (hts _ q1314) dJ12_numberOfTrailingZeros_20 ?_
    obtain ⟨k34_2, hk34_2, hs⟩ := jn_ex hs
    have Ek34_2 : ∀ (x1 : Int32) (x2 : Int32) (H : Heap) (locs : List Loc) (ls : Array Slot), k34_2 x1 x2 → xI D dT A s.heap C H locs → lv_has ls 2 [(0, .int x1), (1, .int x2)] → W p l e (xRm 0 0 0 0) s m args below meth c H locs 0 0 (MQ below (xQi D dT K A) args s 0 0 A) (F0 m 34 ls []) := by
      intro x1 x2 H locs ls hs hI hl
      rw [hk34_2] at hs
      refine lv_iload_n hx hb dJ12_numberOfTrailingZeros_34 rfl (lv_at hl 0 rfl) ?_
      refine lv_sipush (v := 256) hx hb dJ12_numberOfTrailingZeros_35 (by decide) ?_
      obtain ⟨k49_4, hk49_4, hs⟩ := jn_ex hs
      have Ek49_4 : ∀ (x3 : Int32) (x4 : Int32) (H : Heap) (locs : List Loc) (ls : Array Slot), k49_4 x3 x4 → xI D dT A s.heap C H locs → lv_has ls 2 [(0, .int x3), (1, .int x4)] → W p l e (xRm 0 0 0 0) s m args below meth c H locs 0 0 (MQ below (xQi D dT K A) args s 0 0 A) (F0 m 49 ls []) := by
        intro x3 x4 H locs ls hs hI hl
        rw [hk49_4] at hs
        refine lv_iload_n hx hb dJ12_numberOfTrailingZeros_49 rfl (lv_at hl 0 rfl) ?_
        refine lv_bipush (v := 16) hx hb dJ12_numberOfTrailingZeros_50 (by decide) ?_
        obtain ⟨k62_6, hk62_6, hs⟩ := jn_ex hs
        have Ek62_6 : ∀ (x5 : Int32) (x6 : Int32) (H : Heap) (locs : List Loc) (ls : Array Slot), k62_6 x5 x6 → xI D dT A s.heap C H locs → lv_has ls 2 [(0, .int x5), (1, .int x6)] → W p l e (xRm 0 0 0 0) s m args below meth c H locs 0 0 (MQ below (xQi D dT K A) args s 0 0 A) (F0 m 62 ls []) := by
          intro x5 x6 H locs ls hs hI hl
          rw [hk62_6] at hs
          refine lv_iload_n hx hb dJ12_numberOfTrailingZeros_62 rfl (lv_at hl 0 rfl) ?_
          refine lv_iconst (v := 4) hx hb dJ12_numberOfTrailingZeros_63 (by decide) ?_
          refine lv_icmp_le (tgt := 74) hx hb dJ12_numberOfTrailingZeros_64 (by decide) (fun c6 => ?_) (fun c6 => ?_)
          · replace hs := ifp c6 hs
            refine lv_iload_n hx hb dJ12_numberOfTrailingZeros_74 rfl (lv_at hl 1 rfl) ?_
            refine lv_iload_n hx hb dJ12_numberOfTrailingZeros_75 rfl (lv_at hl 0 rfl) ?_
            refine lv_iconst (v := 1) hx hb dJ12_numberOfTrailingZeros_76 (by decide) ?_
            refine lv_iushr (v := (((x5 : Int32).toUInt32 >>> ((1 : Int32).toUInt32 &&& Int32.toUInt32 31)).toInt32)) hx hb dJ12_numberOfTrailingZeros_77 rfl ?_
            refine lv_iadd hx hb dJ12_numberOfTrailingZeros_78 ?_
            exact x_reti X hK hI hs (Nat.le_of_ble_eq_true rfl) (Nat.le_of_ble_eq_true rfl) dJ12_numberOfTrailingZeros_79
          · replace hs := ifn c6 hs
            refine lv_iinc (v := (x6 + 2)) (lv' := [(1, .int (x6 + 2)), (0, .int x5)]) hx hb dJ12_numberOfTrailingZeros_67 hl (k := 1) rfl (congrArg (fun z => x6 + z) (show Int32.ofInt (2) = 2 by decide)) (by decide) rfl (fun ls hl => ?_)
            refine lv_iload_n hx hb dJ12_numberOfTrailingZeros_70 rfl (lv_at hl 1 rfl) ?_
            refine lv_iconst (v := 2) hx hb dJ12_numberOfTrailingZeros_71 (by decide) ?_
            refine lv_iushr (v := (((x5 : Int32).toUInt32 >>> ((2 : Int32).toUInt32 &&& Int32.toUInt32 31)).toInt32)) hx hb dJ12_numberOfTrailingZeros_72 rfl ?_
            refine lv_istore_n (lv' := [(0, .int (((x5 : Int32).toUInt32 >>> ((2 : Int32).toUInt32 &&& Int32.toUInt32 31)).toInt32)), (1, .int (x6 + 2))]) hx hb dJ12_numberOfTrailingZeros_73 rfl hl (by decide) rfl (fun ls hl => ?_)
            refine lv_iload_n hx hb dJ12_numberOfTrailingZeros_74 rfl (lv_at hl 1 rfl) ?_
            refine lv_iload_n hx hb dJ12_numberOfTrailingZeros_75 rfl (lv_at hl 0 rfl) ?_
            refine lv_iconst (v := 1) hx hb dJ12_numberOfTrailingZeros_76 (by decide) ?_
            refine lv_iushr (v := ((((((x5 : Int32).toUInt32 >>> ((2 : Int32).toUInt32 &&& Int32.toUInt32 31)).toInt32) : Int32).toUInt32 >>> ((1 : Int32).toUInt32 &&& Int32.toUInt32 31)).toInt32)) hx hb dJ12_numberOfTrailingZeros_77 rfl ?_
            refine lv_iadd hx hb dJ12_numberOfTrailingZeros_78 ?_
            exact x_reti X hK hI hs (Nat.le_of_ble_eq_true rfl) (Nat.le_of_ble_eq_true rfl) dJ12_numberOfTrailingZeros_79
        refine lv_icmp_le (tgt := 62) hx hb dJ12_numberOfTrailingZeros_52 (by decide) (fun c7 => ?_) (fun c7 => ?_)
        · replace hs := ifp c7 hs
          exact Ek62_6 _ _ _ _ _ hs hI hl
        · replace hs := ifn c7 hs
          refine lv_iinc (v := (x4 + 4)) (lv' := [(1, .int (x4 + 4)), (0, .int x3)]) hx hb dJ12_numberOfTrailingZeros_55 hl (k := 1) rfl (congrArg (fun z => x4 + z) (show Int32.ofInt (4) = 4 by decide)) (by decide) rfl (fun ls hl => ?_)
          refine lv_iload_n hx hb dJ12_numberOfTrailingZeros_58 rfl (lv_at hl 1 rfl) ?_
          refine lv_iconst (v := 4) hx hb dJ12_numberOfTrailingZeros_59 (by decide) ?_
          refine lv_iushr (v := (((x3 : Int32).toUInt32 >>> ((4 : Int32).toUInt32 &&& Int32.toUInt32 31)).toInt32)) hx hb dJ12_numberOfTrailingZeros_60 rfl ?_
          refine lv_istore_n (lv' := [(0, .int (((x3 : Int32).toUInt32 >>> ((4 : Int32).toUInt32 &&& Int32.toUInt32 31)).toInt32)), (1, .int (x4 + 4))]) hx hb dJ12_numberOfTrailingZeros_61 rfl hl (by decide) rfl (fun ls hl => ?_)
          exact Ek62_6 _ _ _ _ _ hs hI hl
      refine lv_icmp_le (tgt := 49) hx hb dJ12_numberOfTrailingZeros_38 (by decide) (fun c8 => ?_) (fun c8 => ?_)
      · replace hs := ifp c8 hs
        exact Ek49_4 _ _ _ _ _ hs hI hl
      · replace hs := ifn c8 hs
        refine lv_iinc (v := (x2 + 8)) (lv' := [(1, .int (x2 + 8)), (0, .int x1)]) hx hb dJ12_numberOfTrailingZeros_41 hl (k := 1) rfl (congrArg (fun z => x2 + z) (show Int32.ofInt (8) = 8 by decide)) (by decide) rfl (fun ls hl => ?_)
        refine lv_iload_n hx hb dJ12_numberOfTrailingZeros_44 rfl (lv_at hl 1 rfl) ?_
        refine lv_bipush (v := 8) hx hb dJ12_numberOfTrailingZeros_45 (by decide) ?_
        refine lv_iushr (v := (((x1 : Int32).toUInt32 >>> ((8 : Int32).toUInt32 &&& Int32.toUInt32 31)).toInt32)) hx hb dJ12_numberOfTrailingZeros_47 rfl ?_
        refine lv_istore_n (lv' := [(0, .int (((x1 : Int32).toUInt32 >>> ((8 : Int32).toUInt32 &&& Int32.toUInt32 31)).toInt32)), (1, .int (x2 + 8))]) hx hb dJ12_numberOfTrailingZeros_48 rfl hl (by decide) rfl (fun ls hl => ?_)
        exact Ek49_4 _ _ _ _ _ hs hI hl
    refine lv_icmp_le (tgt := 34) hx hb dJ12_numberOfTrailingZeros_23 (by decide) (fun c9 => ?_) (fun c9 => ?_)
    · replace hs := ifp c9 hs
      exact Ek34_2 _ _ _ _ _ hs hI (lv_sub hl [1, 0] rfl)
    · replace hs := ifn c9 hs
      refine lv_iinc (v := (1 + 16)) (lv' := [(1, .int (1 + 16)), (0, .int ((a0 ^^^ (-1)) &&& (a0 - 1)))]) hx hb dJ12_numberOfTrailingZeros_26 hl (k := 0) rfl (congrArg (fun z => 1 + z) (show Int32.ofInt (16) = 16 by decide)) (by decide) rfl (fun ls hl => ?_)
      refine lv_iload_n hx hb dJ12_numberOfTrailingZeros_29 rfl (lv_at hl 1 rfl) ?_
      refine lv_bipush (v := 16) hx hb dJ12_numberOfTrailingZeros_30 (by decide) ?_
      refine lv_iushr (v := (((((a0 ^^^ (-1)) &&& (a0 - 1)) : Int32).toUInt32 >>> ((16 : Int32).toUInt32 &&& Int32.toUInt32 31)).toInt32)) hx hb dJ12_numberOfTrailingZeros_32 rfl ?_
      refine lv_istore_n (lv' := [(0, .int (((((a0 ^^^ (-1)) &&& (a0 - 1)) : Int32).toUInt32 >>> ((16 : Int32).toUInt32 &&& Int32.toUInt32 31)).toInt32)), (1, .int (1 + 16))]) hx hb dJ12_numberOfTrailingZeros_33 rfl hl (by decide) rfl (fun ls hl => ?_)
      exact Ek34_2 _ _ _ _ _ hs hI hl
  · replace hs := ifn c10 hs
    refine lv_iload_n hx hb dJ12_numberOfTrailingZeros_12 rfl (lv_at hl 0 rfl) ?_
    refine lv_bipush (v := 32) hx hb dJ12_numberOfTrailingZeros_13 (by decide) ?_
    refine lv_iand hx hb dJ12_numberOfTrailingZeros_15 ?_
    exact x_reti X hK hI hs (Nat.le_of_ble_eq_true rfl) (Nat.le_of_ble_eq_true rfl) dJ12_numberOfTrailingZeros_16
def x_X0_heats_l56 (a0 : Nat) (a1 : Int32) (ad7 : Nat) (k78_13 : Int32 → XH → Prop) : Nat → Int32 → XH → Prop
  | 0, _, _ => False
  | n56_20 + 1, x19, C20 => x_J12_bitCount x19 C20 (fun r23 C22 => (if r23 ≤ 1 then k78_13 x19 C22 else (xcl C22 a0 = some 0 ∧ x_X0_heatsOf a0 x19 a1 ad7 C22 (fun r25 C24 => x_X0_heats_l56 a0 a1 ad7 k78_13 n56_20 r25 C24))))
theorem x_X0_heats_l56_s (a0 : Nat) (a1 : Int32) (ad7 : Nat) (k78_13 : Int32 → XH → Prop) (n56_20 : Nat) (x19 : Int32) (C20 : XH) : x_X0_heats_l56 a0 a1 ad7 k78_13 (n56_20 + 1) x19 C20 = (x_J12_bitCount x19 C20 (fun r23 C22 => (if r23 ≤ 1 then k78_13 x19 C22 else (xcl C22 a0 = some 0 ∧ x_X0_heatsOf a0 x19 a1 ad7 C22 (fun r25 C24 => x_X0_heats_l56 a0 a1 ad7 k78_13 n56_20 r25 C24))))) := rfl
def x_X0_heats_l56b (a0 : Nat) (a1 : Int32) (ad43 : Nat) (k78_49 : Int32 → XH → Prop) : Nat → Int32 → XH → Prop
  | 0, _, _ => False
  | n56_56 + 1, x55, C56 => x_J12_bitCount x55 C56 (fun r59 C58 => (if r59 ≤ 1 then k78_49 x55 C58 else (xcl C58 a0 = some 0 ∧ x_X0_heatsOf a0 x55 a1 ad43 C58 (fun r61 C60 => x_X0_heats_l56b a0 a1 ad43 k78_49 n56_56 r61 C60))))
theorem x_X0_heats_l56b_s (a0 : Nat) (a1 : Int32) (ad43 : Nat) (k78_49 : Int32 → XH → Prop) (n56_56 : Nat) (x55 : Int32) (C56 : XH) : x_X0_heats_l56b a0 a1 ad43 k78_49 (n56_56 + 1) x55 C56 = (x_J12_bitCount x55 C56 (fun r59 C58 => (if r59 ≤ 1 then k78_49 x55 C58 else (xcl C58 a0 = some 0 ∧ x_X0_heatsOf a0 x55 a1 ad43 C58 (fun r61 C60 => x_X0_heats_l56b a0 a1 ad43 k78_49 n56_56 r61 C60))))) := rfl
def x_X0_heats (a0 : Nat) (a1 : Int32) (a2 : Int32) (C : XH) (K : Int32 → XH → Prop) : Prop := x_X0_in ((a2 : Int32).toInt64) 0 1 C (fun r2 C1 => jn (x_X0_need 0 (-5) C1 (fun C3 => x_X0_in ((a1 : Int32).toInt64) 2 4 C3 (fun r5 C4 => x_X0_need r5 (-6) C4 (fun C6 => xnew C6 (.inl (0, (1, .inl (fun _ => 0)))) (fun ad7 C8 => (xcl C8 a0 = some 0 ∧ x_X0_all a0 C8 (fun r10 C9 => jn (fun (x12 : Int32) (C13 : XH) => (if a2 = 0 then x_J12_numberOfTrailingZeros x12 C13 (fun r17 C16 => K r17 C16) else obd (xai C13 0 ad7 0) (fun v15 => K v15 C13))) (fun k78_13 => x_X0_heats_l56 a0 a1 ad7 k78_13 NF r10 C9))))) (fun ad28 C29 => (xcl C29 a0 = some 0 ∧ x_X0_refused a0 ad28 C29 (fun r31 C30 => K r31 C30))))) (fun ad33 C34 => (xcl C34 a0 = some 0 ∧ x_X0_refused a0 ad33 C34 (fun r36 C35 => K r36 C35)))) (fun k24_2 => jn (fun (v38 : Int32) => x_X0_need v38 (-5) C1 (fun C39 => x_X0_in ((a1 : Int32).toInt64) 2 4 C39 (fun r41 C40 => x_X0_need r41 (-6) C40 (fun C42 => xnew C42 (.inl (0, (1, .inl (fun _ => 0)))) (fun ad43 C44 => (xcl C44 a0 = some 0 ∧ x_X0_all a0 C44 (fun r46 C45 => jn (fun (x48 : Int32) (C49 : XH) => (if a2 = 0 then x_J12_numberOfTrailingZeros x48 C49 (fun r53 C52 => K r53 C52) else obd (xai C49 0 ad43 0) (fun v51 => K v51 C49))) (fun k78_49 => x_X0_heats_l56b a0 a1 ad43 k78_49 NF r46 C45))))) (fun ad64 C65 => (xcl C65 a0 = some 0 ∧ x_X0_refused a0 ad64 C65 (fun r67 C66 => K r67 C66))))) (fun ad69 C70 => (xcl C70 a0 = some 0 ∧ x_X0_refused a0 ad69 C70 (fun r72 C71 => K r72 C71)))) (fun k25_38 => (if r2 = 0 then k24_2 else obd (xgr C1 (xis 0) a0 7) (fun ad74 => obd (xgi C1 (xis 4) ad74 0) (fun v75 => (if v75 ≤ 0 then k24_2 else k25_38 1)))))))
theorem iX0_heats : xInfW yX0_heats cX0_heats 5 (some .int) [(0, 93, 94, 21)] 2 := ⟨q1300, by decide +kernel⟩
set_option maxHeartbeats 4000000 in
theorem xet_X0_heats (l : Launch) (hl0 : l.stackTraces = false) (a0 : Nat) (a1 : Int32) (a2 : Int32) (C : XH) (K : Int32 → XH → Prop) (hs : x_X0_heats a0 a1 a2 C K) : xMetX l yX0_heats (wsW_ yX0_heats cX0_heats 5 (some .int) [(0, 93, 94, 21)]) 11 255 3 15 C [.ref a0, .int a1, .int a2] (fun D dT A => xQi D dT K A) xE0 := by
  intro D dT adK adV sz
  refine xEnterW (own := RX0) (Qc := xQi D dT K) (XC := xXC D dT xE0) (by decide) rfl (by rfl) ?_
  intro p e s m args below meth c A ls X hnm hK hA hG hT hI hl
  have hx := X.1
  have hb := X.2.1
  have hts := X.2.2.2.2.1
  have hown := X.2.2.2.2.2.1
  have hl : lv_has ls 5 [(0, .ref a0), (1, .int a1), (2, .int a2)] := hl
  unfold x_X0_heats at hs
  refine lv_iload_n hx hb dX0_heats_0 rfl (lv_at hl 2 rfl) ?_
  refine lv_i2l (v := ((a2 : Int32).toInt64)) hx hb dX0_heats_1 rfl ?_
  refine lv_lconst (v := 0) hx hb dX0_heats_2 (by decide) ?_
  refine lv_lconst (v := 1) hx hb dX0_heats_3 (by decide) ?_
  refine x_goz hA hI (x_runS (As := [.long ((a2 : Int32).toInt64), .long 0, .long 1]) (rest := []) X hK hA hG hI (xet_X0_in l ((a2 : Int32).toInt64) 0 1 _ _ hs) iX0_in q473 q474 q94 ⟨(Nat.le_of_ble_eq_true rfl), (Nat.le_of_ble_eq_true rfl)⟩ rfl hl.1 rfl (Nat.le_of_ble_eq_true rfl) dX0_heats_4 ⟨(Nat.le_of_ble_eq_true rfl), (Nat.le_of_ble_eq_true rfl)⟩) (fun r2 C1 H locs br2 hs9 hI => ?_)
  replace hs := hs9
  obtain ⟨k24_2, hk24_2, hs⟩ := jn_ex hs
  have Ek24_2 : ∀ (H : Heap) (locs : List Loc) (ls : Array Slot), k24_2 → xI D dT A s.heap C1 H locs → lv_has ls 5 [(0, .ref a0), (1, .int a1), (2, .int a2)] → W p l e (xRm 11 255 3 15) s m args below meth c H locs 0 0 (vx_MQ below (xQi D dT K A) (xXC D dT xE0 A) args s 3 15 A) (F0 m 24 ls []) := by
    intro H locs ls hs hI hl
    rw [hk24_2] at hs
    refine lv_iconst (v := 0) hx hb dX0_heats_24 (by decide) ?_
    refine lv_bipush (v := (-5)) hx hb dX0_heats_25 (by decide) ?_
    refine xT_gov hA hI (x_runST (As := [.int 0, .int (-5)]) (rest := []) X hK hA hG hI (xet_X0_need l hl0 0 (-5) _ _ _ hs) iX0_need q469 q470 q94 ⟨(Nat.le_of_ble_eq_true rfl), (Nat.le_of_ble_eq_true rfl)⟩ rfl hl.1 rfl (Nat.le_of_ble_eq_true rfl) dX0_heats_27 ⟨(Nat.le_of_ble_eq_true rfl), (Nat.le_of_ble_eq_true rfl)⟩) (fun En ce ad33 C34 H locs hs9 hI hce hvm hcl => ?_) (fun C3 H locs hs9 hI => ?_)
    · obtain ⟨rfl, hs0⟩ := hs9
      replace hs := hs0
      refine x_catch (k := 0) (a1 := 0) (a2 := 93) (a3 := 94) (a4 := 21) X hG hT rfl (x_cov rfl) rfl (by decide) q363 (by decide) hce hvm hcl ?_
      refine lv_astore_n (lv' := [(3, .ref ad33), (0, .ref a0), (1, .int a1), (2, .int a2)]) hx hb dX0_heats_94 rfl hl (by decide) rfl (fun ls hl => ?_)
      refine lv_aload_n hx hb dX0_heats_95 rfl (lv_at hl 1 rfl) ?_
      refine lv_aload_n hx hb dX0_heats_96 rfl (lv_at hl 0 rfl) ?_
      obtain ⟨h36, hs⟩ := hs
      obtain ⟨fh36, h36⟩ := xcl_spec h36
      refine x_goi hA hI (x_runV (As := [.ref ad33]) (rest := []) X hK hA hG hI h36 (q := (RX0, TX0, 10)) rfl rfl (xet_X0_refused l a0 ad33 _ _ hs) iX0_refused q538 q540 qs2 q94 ⟨(Nat.le_of_ble_eq_true rfl), (Nat.le_of_ble_eq_true rfl)⟩ rfl hl.1 rfl (Nat.le_of_ble_eq_true rfl) dX0_heats_97 ⟨(Nat.le_of_ble_eq_true rfl), (Nat.le_of_ble_eq_true rfl)⟩) (fun r36 C35 H locs hs9 hI => ?_)
      replace hs := hs9
      exact vx_ret (x_reti X hK hI hs (Nat.le_of_ble_eq_true rfl) (Nat.le_of_ble_eq_true rfl) dX0_heats_100)
    · replace hs := hs9
      refine lv_iload_n hx hb dX0_heats_30 rfl (lv_at hl 1 rfl) ?_
      refine lv_i2l (v := ((a1 : Int32).toInt64)) hx hb dX0_heats_31 rfl ?_
      refine lv_ldc2 hx hb hown (hts _ q1252) dX0_heats_32 ?_
      refine lv_ldc2 hx hb hown (hts _ q1134) dX0_heats_35 ?_
      refine x_goz hA hI (x_runS (As := [.long ((a1 : Int32).toInt64), .long 2, .long 4]) (rest := []) X hK hA hG hI (xet_X0_in l ((a1 : Int32).toInt64) 2 4 _ _ hs) iX0_in q473 q474 q94 ⟨(Nat.le_of_ble_eq_true rfl), (Nat.le_of_ble_eq_true rfl)⟩ rfl hl.1 rfl (Nat.le_of_ble_eq_true rfl) dX0_heats_38 ⟨(Nat.le_of_ble_eq_true rfl), (Nat.le_of_ble_eq_true rfl)⟩) (fun r5 C4 H locs br5 hs9 hI => ?_)
      replace hs := hs9
      refine lv_bipush (v := (-6)) hx hb dX0_heats_41 (by decide) ?_
      refine xT_gov hA hI (x_runST (As := [.int r5, .int (-6)]) (rest := []) X hK hA hG hI (xet_X0_need l hl0 r5 (-6) _ _ _ hs) iX0_need q469 q470 q94 ⟨(Nat.le_of_ble_eq_true rfl), (Nat.le_of_ble_eq_true rfl)⟩ rfl hl.1 rfl (Nat.le_of_ble_eq_true rfl) dX0_heats_43 ⟨(Nat.le_of_ble_eq_true rfl), (Nat.le_of_ble_eq_true rfl)⟩) (fun En ce ad28 C29 H locs hs9 hI hce hvm hcl => ?_) (fun C6 H locs hs9 hI => ?_)
      · obtain ⟨rfl, hs0⟩ := hs9
        replace hs := hs0
        refine x_catch (k := 0) (a1 := 0) (a2 := 93) (a3 := 94) (a4 := 21) X hG hT rfl (x_cov rfl) rfl (by decide) q363 (by decide) hce hvm hcl ?_
        refine lv_astore_n (lv' := [(3, .ref ad28), (0, .ref a0), (1, .int a1), (2, .int a2)]) hx hb dX0_heats_94 rfl hl (by decide) rfl (fun ls hl => ?_)
        refine lv_aload_n hx hb dX0_heats_95 rfl (lv_at hl 1 rfl) ?_
        refine lv_aload_n hx hb dX0_heats_96 rfl (lv_at hl 0 rfl) ?_
        obtain ⟨h31, hs⟩ := hs
        obtain ⟨fh31, h31⟩ := xcl_spec h31
        refine x_goi hA hI (x_runV (As := [.ref ad28]) (rest := []) X hK hA hG hI h31 (q := (RX0, TX0, 10)) rfl rfl (xet_X0_refused l a0 ad28 _ _ hs) iX0_refused q538 q540 qs2 q94 ⟨(Nat.le_of_ble_eq_true rfl), (Nat.le_of_ble_eq_true rfl)⟩ rfl hl.1 rfl (Nat.le_of_ble_eq_true rfl) dX0_heats_97 ⟨(Nat.le_of_ble_eq_true rfl), (Nat.le_of_ble_eq_true rfl)⟩) (fun r31 C30 H locs hs9 hI => ?_)
        replace hs := hs9
        exact vx_ret (x_reti X hK hI hs (Nat.le_of_ble_eq_true rfl) (Nat.le_of_ble_eq_true rfl) dX0_heats_100)
      · replace hs := hs9
        refine lv_iconst (v := 1) hx hb dX0_heats_46 (by decide) ?_
        refine x_newa (n := 1) (B := 1) (x := (1, .inl (fun _ => 0))) X hK hI hA 0 rfl rfl (fun _ h => by cases h) q155 (fun _ => rfl) (by decide) (by decide) rfl (Nat.le_of_ble_eq_true rfl) (Nat.le_of_ble_eq_true rfl) hs dX0_heats_47 (fun ad7 C8 H hs9 hI => ?_)
        replace hs := hs9
        refine lv_astore_n (lv' := [(3, .ref ad7), (0, .ref a0), (1, .int a1), (2, .int a2)]) hx hb dX0_heats_49 rfl hl (by decide) rfl (fun ls hl => ?_)
        refine lv_aload_n hx hb dX0_heats_50 rfl (lv_at hl 1 rfl) ?_
        obtain ⟨h10, hs⟩ := hs
        obtain ⟨fh10, h10⟩ := xcl_spec h10
        refine x_goi hA hI (x_runV (As := []) (rest := []) X hK hA hG hI h10 (q := (RX0, TX0, 10)) rfl rfl (xet_X0_all l a0 _ _ hs) iX0_all q1214 q1216 qs25 q94 ⟨(Nat.le_of_ble_eq_true rfl), (Nat.le_of_ble_eq_true rfl)⟩ rfl hl.1 rfl (Nat.le_of_ble_eq_true rfl) dX0_heats_51 ⟨(Nat.le_of_ble_eq_true rfl), (Nat.le_of_ble_eq_true rfl)⟩) (fun r10 C9 H locs hs9 hI => ?_)
        replace hs := hs9
        refine lv_istore (lv' := [(4, .int r10), (3, .ref ad7), (0, .ref a0), (1, .int a1), (2, .int a2)]) hx hb dX0_heats_54 hl (by decide) rfl (fun ls hl => ?_)
        obtain ⟨k78_13, hk78_13, hs⟩ := jn_ex hs
        have Ek78_13 : ∀ (x12 : Int32) (C13 : XH) (H : Heap) (locs : List Loc) (ls : Array Slot), k78_13 x12 C13 → xI D dT A s.heap C13 H locs → lv_has ls 5 [(0, .ref a0), (2, .int a2), (3, .ref ad7), (4, .int x12)] → W p l e (xRm 11 255 3 15) s m args below meth c H locs 3 15 (vx_MQ below (xQi D dT K A) (xXC D dT xE0 A) args s 3 15 A) (F0 m 78 ls []) := by
          intro x12 C13 H locs ls hs hI hl
          rw [hk78_13] at hs
          refine lv_iload_n hx hb dX0_heats_78 rfl (lv_at hl 1 rfl) ?_
          refine lv_if_ne (tgt := 90) hx hb dX0_heats_79 (by decide) (fun c17 => ?_) (fun c17 => ?_)
          · replace hs := ifn c17 hs
            refine lv_aload_n hx hb dX0_heats_90 rfl (lv_at hl 2 rfl) ?_
            refine lv_iconst (v := 0) hx hb dX0_heats_91 (by decide) ?_
            obtain ⟨v15, ev15, hs⟩ := hs
            refine x_iald X hK hI ev15 dX0_heats_92 ?_
            exact vx_ret (x_reti X hK hI hs (Nat.le_of_ble_eq_true rfl) (Nat.le_of_ble_eq_true rfl) dX0_heats_93)
          · replace hs := ifp c17 hs
            refine lv_iload hx hb dX0_heats_82 (lv_at hl 3 rfl) ?_
            refine x_goi hA hI (x_runS (As := [.int x12]) (rest := []) X hK hA hG hI (xet_J12_numberOfTrailingZeros l x12 _ _ hs) iJ12_numberOfTrailingZeros q1311 q1312 q129 ⟨(Nat.le_of_ble_eq_true rfl), (Nat.le_of_ble_eq_true rfl)⟩ rfl hl.1 rfl (Nat.le_of_ble_eq_true rfl) dX0_heats_84 ⟨(Nat.le_of_ble_eq_true rfl), (Nat.le_of_ble_eq_true rfl)⟩) (fun r17 C16 H locs hs9 hI => ?_)
            replace hs := hs9
            refine lv_goto (tgt := 93) hx hb dX0_heats_87 (by decide) ?_
            exact vx_ret (x_reti X hK hI hs (Nat.le_of_ble_eq_true rfl) (Nat.le_of_ble_eq_true rfl) dX0_heats_93)
        have Lx_X0_heats_l56 : ∀ (n56_20 : Nat) (x19 : Int32) (C20 : XH) (H : Heap) (locs : List Loc) (ls : Array Slot), x_X0_heats_l56 a0 a1 ad7 k78_13 n56_20 x19 C20 → xI D dT A s.heap C20 H locs → lv_has ls 5 [(0, .ref a0), (1, .int a1), (2, .int a2), (3, .ref ad7), (4, .int x19)] → W p l e (xRm 11 255 3 15) s m args below meth c H locs 3 15 (vx_MQ below (xQi D dT K A) (xXC D dT xE0 A) args s 3 15 A) (F0 m 56 ls []) := by
          intro n56_20
          induction n56_20 with
          | zero =>
            intro x19 C20 H locs ls hs
            exact False.elim hs
          | succ n56_20 ihx_X0_heats_l56 =>
            intro x19 C20 H locs ls hs hI hl
            rw [x_X0_heats_l56_s] at hs
            refine lv_iload hx hb dX0_heats_56 (lv_at hl 4 rfl) ?_
            refine x_goi hA hI (x_runS (As := [.int x19]) (rest := []) X hK hA hG hI (xet_J12_bitCount l x19 _ _ hs) iJ12_bitCount q1301 q1302 q129 ⟨(Nat.le_of_ble_eq_true rfl), (Nat.le_of_ble_eq_true rfl)⟩ rfl hl.1 rfl (Nat.le_of_ble_eq_true rfl) dX0_heats_58 ⟨(Nat.le_of_ble_eq_true rfl), (Nat.le_of_ble_eq_true rfl)⟩) (fun r23 C22 H locs hs9 hI => ?_)
            replace hs := hs9
            refine lv_iconst (v := 1) hx hb dX0_heats_61 (by decide) ?_
            refine lv_icmp_le (tgt := 78) hx hb dX0_heats_62 (by decide) (fun c26 => ?_) (fun c26 => ?_)
            · replace hs := ifp c26 hs
              exact Ek78_13 _ _ _ _ _ hs hI (lv_sub hl [0, 2, 3, 4] rfl)
            · replace hs := ifn c26 hs
              refine lv_aload_n hx hb dX0_heats_65 rfl (lv_at hl 0 rfl) ?_
              refine lv_iload hx hb dX0_heats_66 (lv_at hl 4 rfl) ?_
              refine lv_iload_n hx hb dX0_heats_68 rfl (lv_at hl 1 rfl) ?_
              refine lv_aload_n hx hb dX0_heats_69 rfl (lv_at hl 3 rfl) ?_
              obtain ⟨h25, hs⟩ := hs
              obtain ⟨fh25, h25⟩ := xcl_spec h25
              refine x_goi hA hI (x_runV (As := [.int x19, .int a1, .ref ad7]) (rest := []) X hK hA hG hI h25 (q := (RX0, TX0, 10)) rfl rfl (xet_X0_heatsOf l a0 x19 a1 ad7 _ _ hs) iX0_heatsOf q1307 q1309 qs35 q94 ⟨(Nat.le_of_ble_eq_true rfl), (Nat.le_of_ble_eq_true rfl)⟩ rfl hl.1 rfl (Nat.le_of_ble_eq_true rfl) dX0_heats_70 ⟨(Nat.le_of_ble_eq_true rfl), (Nat.le_of_ble_eq_true rfl)⟩) (fun r25 C24 H locs hs9 hI => ?_)
              replace hs := hs9
              refine lv_istore (lv' := [(4, .int r25), (0, .ref a0), (1, .int a1), (2, .int a2), (3, .ref ad7)]) hx hb dX0_heats_73 hl (by decide) rfl (fun ls hl => ?_)
              refine lv_goto (tgt := 56) hx hb dX0_heats_75 (by decide) ?_
              exact ihx_X0_heats_l56 _ _ _ _ _ hs hI (lv_sub hl [1, 2, 3, 4, 0] rfl)
        exact Lx_X0_heats_l56 NF _ _ _ _ _ hs hI (lv_sub hl [2, 3, 4, 1, 0] rfl)
  obtain ⟨k25_38, hk25_38, hs⟩ := jn_ex hs
  have Ek25_38 : ∀ (v38 : Int32) (H : Heap) (locs : List Loc) (ls : Array Slot), k25_38 v38 → xI D dT A s.heap C1 H locs → lv_has ls 5 [(0, .ref a0), (1, .int a1), (2, .int a2)] → W p l e (xRm 11 255 3 15) s m args below meth c H locs 0 0 (vx_MQ below (xQi D dT K A) (xXC D dT xE0 A) args s 3 15 A) (F0 m 25 ls [.int v38]) := by
    intro v38 H locs ls hs hI hl
    rw [hk25_38] at hs
    refine lv_bipush (v := (-5)) hx hb dX0_heats_25 (by decide) ?_
    refine xT_gov hA hI (x_runST (As := [.int v38, .int (-5)]) (rest := []) X hK hA hG hI (xet_X0_need l hl0 v38 (-5) _ _ _ hs) iX0_need q469 q470 q94 ⟨(Nat.le_of_ble_eq_true rfl), (Nat.le_of_ble_eq_true rfl)⟩ rfl hl.1 rfl (Nat.le_of_ble_eq_true rfl) dX0_heats_27 ⟨(Nat.le_of_ble_eq_true rfl), (Nat.le_of_ble_eq_true rfl)⟩) (fun En ce ad69 C70 H locs hs9 hI hce hvm hcl => ?_) (fun C39 H locs hs9 hI => ?_)
    · obtain ⟨rfl, hs0⟩ := hs9
      replace hs := hs0
      refine x_catch (k := 0) (a1 := 0) (a2 := 93) (a3 := 94) (a4 := 21) X hG hT rfl (x_cov rfl) rfl (by decide) q363 (by decide) hce hvm hcl ?_
      refine lv_astore_n (lv' := [(3, .ref ad69), (0, .ref a0), (1, .int a1), (2, .int a2)]) hx hb dX0_heats_94 rfl hl (by decide) rfl (fun ls hl => ?_)
      refine lv_aload_n hx hb dX0_heats_95 rfl (lv_at hl 1 rfl) ?_
      refine lv_aload_n hx hb dX0_heats_96 rfl (lv_at hl 0 rfl) ?_
      obtain ⟨h72, hs⟩ := hs
      obtain ⟨fh72, h72⟩ := xcl_spec h72
      refine x_goi hA hI (x_runV (As := [.ref ad69]) (rest := []) X hK hA hG hI h72 (q := (RX0, TX0, 10)) rfl rfl (xet_X0_refused l a0 ad69 _ _ hs) iX0_refused q538 q540 qs2 q94 ⟨(Nat.le_of_ble_eq_true rfl), (Nat.le_of_ble_eq_true rfl)⟩ rfl hl.1 rfl (Nat.le_of_ble_eq_true rfl) dX0_heats_97 ⟨(Nat.le_of_ble_eq_true rfl), (Nat.le_of_ble_eq_true rfl)⟩) (fun r72 C71 H locs hs9 hI => ?_)
      replace hs := hs9
      exact vx_ret (x_reti X hK hI hs (Nat.le_of_ble_eq_true rfl) (Nat.le_of_ble_eq_true rfl) dX0_heats_100)
    · replace hs := hs9
      refine lv_iload_n hx hb dX0_heats_30 rfl (lv_at hl 1 rfl) ?_
      refine lv_i2l (v := ((a1 : Int32).toInt64)) hx hb dX0_heats_31 rfl ?_
      refine lv_ldc2 hx hb hown (hts _ q1252) dX0_heats_32 ?_
      refine lv_ldc2 hx hb hown (hts _ q1134) dX0_heats_35 ?_
      refine x_goz hA hI (x_runS (As := [.long ((a1 : Int32).toInt64), .long 2, .long 4]) (rest := []) X hK hA hG hI (xet_X0_in l ((a1 : Int32).toInt64) 2 4 _ _ hs) iX0_in q473 q474 q94 ⟨(Nat.le_of_ble_eq_true rfl), (Nat.le_of_ble_eq_true rfl)⟩ rfl hl.1 rfl (Nat.le_of_ble_eq_true rfl) dX0_heats_38 ⟨(Nat.le_of_ble_eq_true rfl), (Nat.le_of_ble_eq_true rfl)⟩) (fun r41 C40 H locs br41 hs9 hI => ?_)
      replace hs := hs9
      refine lv_bipush (v := (-6)) hx hb dX0_heats_41 (by decide) ?_
      refine xT_gov hA hI (x_runST (As := [.int r41, .int (-6)]) (rest := []) X hK hA hG hI (xet_X0_need l hl0 r41 (-6) _ _ _ hs) iX0_need q469 q470 q94 ⟨(Nat.le_of_ble_eq_true rfl), (Nat.le_of_ble_eq_true rfl)⟩ rfl hl.1 rfl (Nat.le_of_ble_eq_true rfl) dX0_heats_43 ⟨(Nat.le_of_ble_eq_true rfl), (Nat.le_of_ble_eq_true rfl)⟩) (fun En ce ad64 C65 H locs hs9 hI hce hvm hcl => ?_) (fun C42 H locs hs9 hI => ?_)
      · obtain ⟨rfl, hs0⟩ := hs9
        replace hs := hs0
        refine x_catch (k := 0) (a1 := 0) (a2 := 93) (a3 := 94) (a4 := 21) X hG hT rfl (x_cov rfl) rfl (by decide) q363 (by decide) hce hvm hcl ?_
        refine lv_astore_n (lv' := [(3, .ref ad64), (0, .ref a0), (1, .int a1), (2, .int a2)]) hx hb dX0_heats_94 rfl hl (by decide) rfl (fun ls hl => ?_)
        refine lv_aload_n hx hb dX0_heats_95 rfl (lv_at hl 1 rfl) ?_
        refine lv_aload_n hx hb dX0_heats_96 rfl (lv_at hl 0 rfl) ?_
        obtain ⟨h67, hs⟩ := hs
        obtain ⟨fh67, h67⟩ := xcl_spec h67
        refine x_goi hA hI (x_runV (As := [.ref ad64]) (rest := []) X hK hA hG hI h67 (q := (RX0, TX0, 10)) rfl rfl (xet_X0_refused l a0 ad64 _ _ hs) iX0_refused q538 q540 qs2 q94 ⟨(Nat.le_of_ble_eq_true rfl), (Nat.le_of_ble_eq_true rfl)⟩ rfl hl.1 rfl (Nat.le_of_ble_eq_true rfl) dX0_heats_97 ⟨(Nat.le_of_ble_eq_true rfl), (Nat.le_of_ble_eq_true rfl)⟩) (fun r67 C66 H locs hs9 hI => ?_)
        replace hs := hs9
        exact vx_ret (x_reti X hK hI hs (Nat.le_of_ble_eq_true rfl) (Nat.le_of_ble_eq_true rfl) dX0_heats_100)
      · replace hs := hs9
        refine lv_iconst (v := 1) hx hb dX0_heats_46 (by decide) ?_
        refine x_newa (n := 1) (B := 1) (x := (1, .inl (fun _ => 0))) X hK hI hA 0 rfl rfl (fun _ h => by cases h) q155 (fun _ => rfl) (by decide) (by decide) rfl (Nat.le_of_ble_eq_true rfl) (Nat.le_of_ble_eq_true rfl) hs dX0_heats_47 (fun ad43 C44 H hs9 hI => ?_)
        replace hs := hs9
        refine lv_astore_n (lv' := [(3, .ref ad43), (0, .ref a0), (1, .int a1), (2, .int a2)]) hx hb dX0_heats_49 rfl hl (by decide) rfl (fun ls hl => ?_)
        refine lv_aload_n hx hb dX0_heats_50 rfl (lv_at hl 1 rfl) ?_
        obtain ⟨h46, hs⟩ := hs
        obtain ⟨fh46, h46⟩ := xcl_spec h46
        refine x_goi hA hI (x_runV (As := []) (rest := []) X hK hA hG hI h46 (q := (RX0, TX0, 10)) rfl rfl (xet_X0_all l a0 _ _ hs) iX0_all q1214 q1216 qs25 q94 ⟨(Nat.le_of_ble_eq_true rfl), (Nat.le_of_ble_eq_true rfl)⟩ rfl hl.1 rfl (Nat.le_of_ble_eq_true rfl) dX0_heats_51 ⟨(Nat.le_of_ble_eq_true rfl), (Nat.le_of_ble_eq_true rfl)⟩) (fun r46 C45 H locs hs9 hI => ?_)
        replace hs := hs9
        refine lv_istore (lv' := [(4, .int r46), (3, .ref ad43), (0, .ref a0), (1, .int a1), (2, .int a2)]) hx hb dX0_heats_54 hl (by decide) rfl (fun ls hl => ?_)
        obtain ⟨k78_49, hk78_49, hs⟩ := jn_ex hs
        have Ek78_49 : ∀ (x48 : Int32) (C49 : XH) (H : Heap) (locs : List Loc) (ls : Array Slot), k78_49 x48 C49 → xI D dT A s.heap C49 H locs → lv_has ls 5 [(0, .ref a0), (2, .int a2), (3, .ref ad43), (4, .int x48)] → W p l e (xRm 11 255 3 15) s m args below meth c H locs 3 15 (vx_MQ below (xQi D dT K A) (xXC D dT xE0 A) args s 3 15 A) (F0 m 78 ls []) := by
          intro x48 C49 H locs ls hs hI hl
          rw [hk78_49] at hs
          refine lv_iload_n hx hb dX0_heats_78 rfl (lv_at hl 1 rfl) ?_
          refine lv_if_ne (tgt := 90) hx hb dX0_heats_79 (by decide) (fun c53 => ?_) (fun c53 => ?_)
          · replace hs := ifn c53 hs
            refine lv_aload_n hx hb dX0_heats_90 rfl (lv_at hl 2 rfl) ?_
            refine lv_iconst (v := 0) hx hb dX0_heats_91 (by decide) ?_
            obtain ⟨v51, ev51, hs⟩ := hs
            refine x_iald X hK hI ev51 dX0_heats_92 ?_
            exact vx_ret (x_reti X hK hI hs (Nat.le_of_ble_eq_true rfl) (Nat.le_of_ble_eq_true rfl) dX0_heats_93)
          · replace hs := ifp c53 hs
            refine lv_iload hx hb dX0_heats_82 (lv_at hl 3 rfl) ?_
            refine x_goi hA hI (x_runS (As := [.int x48]) (rest := []) X hK hA hG hI (xet_J12_numberOfTrailingZeros l x48 _ _ hs) iJ12_numberOfTrailingZeros q1311 q1312 q129 ⟨(Nat.le_of_ble_eq_true rfl), (Nat.le_of_ble_eq_true rfl)⟩ rfl hl.1 rfl (Nat.le_of_ble_eq_true rfl) dX0_heats_84 ⟨(Nat.le_of_ble_eq_true rfl), (Nat.le_of_ble_eq_true rfl)⟩) (fun r53 C52 H locs hs9 hI => ?_)
            replace hs := hs9
            refine lv_goto (tgt := 93) hx hb dX0_heats_87 (by decide) ?_
            exact vx_ret (x_reti X hK hI hs (Nat.le_of_ble_eq_true rfl) (Nat.le_of_ble_eq_true rfl) dX0_heats_93)
        have Lx_X0_heats_l56b : ∀ (n56_56 : Nat) (x55 : Int32) (C56 : XH) (H : Heap) (locs : List Loc) (ls : Array Slot), x_X0_heats_l56b a0 a1 ad43 k78_49 n56_56 x55 C56 → xI D dT A s.heap C56 H locs → lv_has ls 5 [(0, .ref a0), (1, .int a1), (2, .int a2), (3, .ref ad43), (4, .int x55)] → W p l e (xRm 11 255 3 15) s m args below meth c H locs 3 15 (vx_MQ below (xQi D dT K A) (xXC D dT xE0 A) args s 3 15 A) (F0 m 56 ls []) := by
          intro n56_56
          induction n56_56 with
          | zero =>
            intro x55 C56 H locs ls hs
            exact False.elim hs
          | succ n56_56 ihx_X0_heats_l56b =>
            intro x55 C56 H locs ls hs hI hl
            rw [x_X0_heats_l56b_s] at hs
            refine lv_iload hx hb dX0_heats_56 (lv_at hl 4 rfl) ?_
            refine x_goi hA hI (x_runS (As := [.int x55]) (rest := []) X hK hA hG hI (xet_J12_bitCount l x55 _ _ hs) iJ12_bitCount q1301 q1302 q129 ⟨(Nat.le_of_ble_eq_true rfl), (Nat.le_of_ble_eq_true rfl)⟩ rfl hl.1 rfl (Nat.le_of_ble_eq_true rfl) dX0_heats_58 ⟨(Nat.le_of_ble_eq_true rfl), (Nat.le_of_ble_eq_true rfl)⟩) (fun r59 C58 H locs hs9 hI => ?_)
            replace hs := hs9
            refine lv_iconst (v := 1) hx hb dX0_heats_61 (by decide) ?_
            refine lv_icmp_le (tgt := 78) hx hb dX0_heats_62 (by decide) (fun c62 => ?_) (fun c62 => ?_)
            · replace hs := ifp c62 hs
              exact Ek78_49 _ _ _ _ _ hs hI (lv_sub hl [0, 2, 3, 4] rfl)
            · replace hs := ifn c62 hs
              refine lv_aload_n hx hb dX0_heats_65 rfl (lv_at hl 0 rfl) ?_
              refine lv_iload hx hb dX0_heats_66 (lv_at hl 4 rfl) ?_
              refine lv_iload_n hx hb dX0_heats_68 rfl (lv_at hl 1 rfl) ?_
              refine lv_aload_n hx hb dX0_heats_69 rfl (lv_at hl 3 rfl) ?_
              obtain ⟨h61, hs⟩ := hs
              obtain ⟨fh61, h61⟩ := xcl_spec h61
              refine x_goi hA hI (x_runV (As := [.int x55, .int a1, .ref ad43]) (rest := []) X hK hA hG hI h61 (q := (RX0, TX0, 10)) rfl rfl (xet_X0_heatsOf l a0 x55 a1 ad43 _ _ hs) iX0_heatsOf q1307 q1309 qs35 q94 ⟨(Nat.le_of_ble_eq_true rfl), (Nat.le_of_ble_eq_true rfl)⟩ rfl hl.1 rfl (Nat.le_of_ble_eq_true rfl) dX0_heats_70 ⟨(Nat.le_of_ble_eq_true rfl), (Nat.le_of_ble_eq_true rfl)⟩) (fun r61 C60 H locs hs9 hI => ?_)
              replace hs := hs9
              refine lv_istore (lv' := [(4, .int r61), (0, .ref a0), (1, .int a1), (2, .int a2), (3, .ref ad43)]) hx hb dX0_heats_73 hl (by decide) rfl (fun ls hl => ?_)
              refine lv_goto (tgt := 56) hx hb dX0_heats_75 (by decide) ?_
              exact ihx_X0_heats_l56b _ _ _ _ _ hs hI (lv_sub hl [1, 2, 3, 4, 0] rfl)
        exact Lx_X0_heats_l56b NF _ _ _ _ _ hs hI (lv_sub hl [2, 3, 4, 1, 0] rfl)
  refine lv_if_eq (tgt := 24) hx hb dX0_heats_7 (by decide) (fun c76 => ?_) (fun c76 => ?_)
  · replace hs := ifp c76 hs
    exact Ek24_2 _ _ _ hs hI hl
  · replace hs := ifn c76 hs
    refine lv_aload_n hx hb dX0_heats_10 rfl (lv_at hl 0 rfl) ?_
    obtain ⟨ad74, ead74, hs⟩ := hs
    refine x_get (v := .ref ad74) X hK hI 0 7 rfl in_X0 rfl q335 rfl (xgr_spec ead74) dX0_heats_11 ?_
    obtain ⟨v75, ev75, hs⟩ := hs
    refine x_get (v := .int v75) X hK hI 4 0 rfl in_X4 rfl q252 rfl (xgi_spec ev75) dX0_heats_14 ?_
    refine lv_if_le (tgt := 24) hx hb dX0_heats_17 (by decide) (fun c75 => ?_) (fun c75 => ?_)
    · replace hs := ifp c75 hs
      exact Ek24_2 _ _ _ hs hI hl
    · replace hs := ifn c75 hs
      refine lv_iconst (v := 1) hx hb dX0_heats_20 (by decide) ?_
      refine lv_goto (tgt := 25) hx hb dX0_heats_21 (by decide) ?_
      exact Ek25_38 _ _ _ _ hs hI hl
def x_X0_legs_l33 (K : Int32 → XH → Prop) (a0 : Nat) (a1 : Int32) (a2 : Int32) : Nat → Int32 → XH → Prop
  | 0, _, _ => False
  | n33_11 + 1, x10, C11 => (if 9 < x10 then K (-1) C11 else obd (xgr C11 (xis 0) a0 6) (fun ad13 => obd (xgr C11 (xis 4) ad13 7) (fun ad14 => obd (xsi C11 ad14 a1 x10) (fun C15 => obd (xgr C15 (xis 0) a0 3) (fun ad16 => obd (xgr C15 (xis 0) a0 6) (fun ad17 => (xcl C15 ad16 = some 2 ∧ x_X2_of ad16 ad17 a1 C15 (fun ad19 C18 => (xcl C18 ad19 = some 2 ∧ x_X2_comesIn ad19 C18 (fun r22 C21 => (if a2 < r22 then x_X0_legs_l33 K a0 a1 a2 n33_11 (x10 + 1) C21 else K x10 C21)))))))))))
theorem x_X0_legs_l33_s (K : Int32 → XH → Prop) (a0 : Nat) (a1 : Int32) (a2 : Int32) (n33_11 : Nat) (x10 : Int32) (C11 : XH) : x_X0_legs_l33 K a0 a1 a2 (n33_11 + 1) x10 C11 = ((if 9 < x10 then K (-1) C11 else obd (xgr C11 (xis 0) a0 6) (fun ad13 => obd (xgr C11 (xis 4) ad13 7) (fun ad14 => obd (xsi C11 ad14 a1 x10) (fun C15 => obd (xgr C15 (xis 0) a0 3) (fun ad16 => obd (xgr C15 (xis 0) a0 6) (fun ad17 => (xcl C15 ad16 = some 2 ∧ x_X2_of ad16 ad17 a1 C15 (fun ad19 C18 => (xcl C18 ad19 = some 2 ∧ x_X2_comesIn ad19 C18 (fun r22 C21 => (if a2 < r22 then x_X0_legs_l33 K a0 a1 a2 n33_11 (x10 + 1) C21 else K x10 C21)))))))))))) := rfl
def x_X0_legs (a0 : Nat) (a1 : Int32) (a2 : Int32) (C : XH) (K : Int32 → XH → Prop) : Prop := (xcl C a0 = some 0 ∧ x_X0_mustChild a0 a1 C (fun C1 => jn (fun (v3 : Int32) => x_X0_need v3 (-6) C1 (fun C4 => obd (xgr C4 (xis 0) a0 6) (fun ad5 => obd (xgr C4 (xis 0) a0 7) (fun ad6 => (xcl C4 ad5 = some 4 ∧ x_X4_take ad5 ad6 C4 (fun ad8 C7 => x_X0_legs_l33 K a0 a1 a2 NF 1 C7))))) (fun ad26 C27 => (xcl C27 a0 = some 0 ∧ x_X0_refused a0 ad26 C27 (fun r29 C28 => K (r29 - 10) C28)))) (fun k14_3 => (if a2 < 0 then k14_3 0 else k14_3 1))) (fun ad32 C33 => (xcl C33 a0 = some 0 ∧ x_X0_refused a0 ad32 C33 (fun r35 C34 => K (r35 - 10) C34))))
theorem iX0_legs : xInfW yX0_legs cX0_legs 4 (some .int) [(0, 69, 78, 21), (70, 77, 78, 21)] 2 := ⟨q1318, by decide +kernel⟩
set_option maxHeartbeats 4000000 in
theorem xet_X0_legs (l : Launch) (hl0 : l.stackTraces = false) (a0 : Nat) (a1 : Int32) (a2 : Int32) (C : XH) (K : Int32 → XH → Prop) (hs : x_X0_legs a0 a1 a2 C K) : xMetX l yX0_legs (wsW_ yX0_legs cX0_legs 4 (some .int) [(0, 69, 78, 21), (70, 77, 78, 21)]) 8 221 2 14 C [.ref a0, .int a1, .int a2] (fun D dT A => xQi D dT K A) xE0 := by
  intro D dT adK adV sz
  refine xEnterW (own := RX0) (Qc := xQi D dT K) (XC := xXC D dT xE0) (by decide) rfl (by rfl) ?_
  intro p e s m args below meth c A ls X hnm hK hA hG hT hI hl
  have hx := X.1
  have hb := X.2.1
  have hts := X.2.2.2.2.1
  have hown := X.2.2.2.2.2.1
  have hl : lv_has ls 4 [(0, .ref a0), (1, .int a1), (2, .int a2)] := hl
  unfold x_X0_legs at hs
  refine lv_aload_n hx hb dX0_legs_0 rfl (lv_at hl 0 rfl) ?_
  refine lv_iload_n hx hb dX0_legs_1 rfl (lv_at hl 1 rfl) ?_
  obtain ⟨h1, hs⟩ := hs
  obtain ⟨fh1, h1⟩ := xcl_spec h1
  refine xT_gov hA hI (x_runVT (As := [.int a1]) (rest := []) X hK hA hG hI h1 (q := (RX0, TX0, 10)) rfl rfl (xet_X0_mustChild l hl0 a0 a1 _ _ _ hs) iX0_mustChild q649 q651 qs3 q94 ⟨(Nat.le_of_ble_eq_true rfl), (Nat.le_of_ble_eq_true rfl)⟩ rfl hl.1 rfl (Nat.le_of_ble_eq_true rfl) dX0_legs_2 ⟨(Nat.le_of_ble_eq_true rfl), (Nat.le_of_ble_eq_true rfl)⟩) (fun En ce ad32 C33 H locs hs9 hI hce hvm hcl => ?_) (fun C1 H locs hs9 hI => ?_)
  · obtain ⟨rfl, hs0⟩ := hs9
    replace hs := hs0
    refine x_catch (k := 0) (a1 := 0) (a2 := 69) (a3 := 78) (a4 := 21) X hG hT rfl (x_cov rfl) rfl (by decide) q363 (by decide) hce hvm hcl ?_
    refine lv_astore_n (lv' := [(3, .ref ad32), (0, .ref a0), (1, .int a1), (2, .int a2)]) hx hb dX0_legs_78 rfl hl (by decide) rfl (fun ls hl => ?_)
    refine lv_aload_n hx hb dX0_legs_79 rfl (lv_at hl 1 rfl) ?_
    refine lv_aload_n hx hb dX0_legs_80 rfl (lv_at hl 0 rfl) ?_
    obtain ⟨h35, hs⟩ := hs
    obtain ⟨fh35, h35⟩ := xcl_spec h35
    refine x_goi hA hI (x_runV (As := [.ref ad32]) (rest := []) X hK hA hG hI h35 (q := (RX0, TX0, 10)) rfl rfl (xet_X0_refused l a0 ad32 _ _ hs) iX0_refused q538 q540 qs2 q94 ⟨(Nat.le_of_ble_eq_true rfl), (Nat.le_of_ble_eq_true rfl)⟩ rfl hl.1 rfl (Nat.le_of_ble_eq_true rfl) dX0_legs_81 ⟨(Nat.le_of_ble_eq_true rfl), (Nat.le_of_ble_eq_true rfl)⟩) (fun r35 C34 H locs hs9 hI => ?_)
    replace hs := hs9
    refine lv_bipush (v := 10) hx hb dX0_legs_84 (by decide) ?_
    refine lv_isub hx hb dX0_legs_86 ?_
    exact vx_ret (x_reti X hK hI hs (Nat.le_of_ble_eq_true rfl) (Nat.le_of_ble_eq_true rfl) dX0_legs_87)
  · replace hs := hs9
    refine lv_iload_n hx hb dX0_legs_5 rfl (lv_at hl 2 rfl) ?_
    obtain ⟨k14_3, hk14_3, hs⟩ := jn_ex hs
    have Ek14_3 : ∀ (v3 : Int32) (H : Heap) (locs : List Loc) (ls : Array Slot), k14_3 v3 → xI D dT A s.heap C1 H locs → lv_has ls 4 [(0, .ref a0), (1, .int a1), (2, .int a2)] → W p l e (xRm 8 221 2 14) s m args below meth c H locs 1 7 (vx_MQ below (xQi D dT K A) (xXC D dT xE0 A) args s 2 14 A) (F0 m 14 ls [.int v3]) := by
      intro v3 H locs ls hs hI hl
      rw [hk14_3] at hs
      refine lv_bipush (v := (-6)) hx hb dX0_legs_14 (by decide) ?_
      refine xT_gov hA hI (x_runST (As := [.int v3, .int (-6)]) (rest := []) X hK hA hG hI (xet_X0_need l hl0 v3 (-6) _ _ _ hs) iX0_need q469 q470 q94 ⟨(Nat.le_of_ble_eq_true rfl), (Nat.le_of_ble_eq_true rfl)⟩ rfl hl.1 rfl (Nat.le_of_ble_eq_true rfl) dX0_legs_16 ⟨(Nat.le_of_ble_eq_true rfl), (Nat.le_of_ble_eq_true rfl)⟩) (fun En ce ad26 C27 H locs hs9 hI hce hvm hcl => ?_) (fun C4 H locs hs9 hI => ?_)
      · obtain ⟨rfl, hs0⟩ := hs9
        replace hs := hs0
        refine x_catch (k := 0) (a1 := 0) (a2 := 69) (a3 := 78) (a4 := 21) X hG hT rfl (x_cov rfl) rfl (by decide) q363 (by decide) hce hvm hcl ?_
        refine lv_astore_n (lv' := [(3, .ref ad26), (0, .ref a0), (1, .int a1), (2, .int a2)]) hx hb dX0_legs_78 rfl hl (by decide) rfl (fun ls hl => ?_)
        refine lv_aload_n hx hb dX0_legs_79 rfl (lv_at hl 1 rfl) ?_
        refine lv_aload_n hx hb dX0_legs_80 rfl (lv_at hl 0 rfl) ?_
        obtain ⟨h29, hs⟩ := hs
        obtain ⟨fh29, h29⟩ := xcl_spec h29
        refine x_goi hA hI (x_runV (As := [.ref ad26]) (rest := []) X hK hA hG hI h29 (q := (RX0, TX0, 10)) rfl rfl (xet_X0_refused l a0 ad26 _ _ hs) iX0_refused q538 q540 qs2 q94 ⟨(Nat.le_of_ble_eq_true rfl), (Nat.le_of_ble_eq_true rfl)⟩ rfl hl.1 rfl (Nat.le_of_ble_eq_true rfl) dX0_legs_81 ⟨(Nat.le_of_ble_eq_true rfl), (Nat.le_of_ble_eq_true rfl)⟩) (fun r29 C28 H locs hs9 hI => ?_)
        replace hs := hs9
        refine lv_bipush (v := 10) hx hb dX0_legs_84 (by decide) ?_
        refine lv_isub hx hb dX0_legs_86 ?_
        exact vx_ret (x_reti X hK hI hs (Nat.le_of_ble_eq_true rfl) (Nat.le_of_ble_eq_true rfl) dX0_legs_87)
      · replace hs := hs9
        refine lv_aload_n hx hb dX0_legs_19 rfl (lv_at hl 0 rfl) ?_
        obtain ⟨ad5, ead5, hs⟩ := hs
        refine x_get (v := .ref ad5) X hK hI 0 6 rfl in_X0 rfl q334 rfl (xgr_spec ead5) dX0_legs_20 ?_
        refine lv_aload_n hx hb dX0_legs_23 rfl (lv_at hl 0 rfl) ?_
        obtain ⟨ad6, ead6, hs⟩ := hs
        refine x_get (v := .ref ad6) X hK hI 0 7 rfl in_X0 rfl q335 rfl (xgr_spec ead6) dX0_legs_24 ?_
        obtain ⟨h8, hs⟩ := hs
        obtain ⟨fh8, h8⟩ := xcl_spec h8
        refine x_gor hA hI (x_runV (As := [.ref ad6]) (rest := []) X hK hA hG hI h8 (q := (RX4, TX4, 13)) rfl rfl (xet_X4_take l ad5 ad6 _ _ hs) iX4_take q949 q950 q951 q98 ⟨(Nat.le_of_ble_eq_true rfl), (Nat.le_of_ble_eq_true rfl)⟩ rfl hl.1 rfl (Nat.le_of_ble_eq_true rfl) dX0_legs_27 ⟨(Nat.le_of_ble_eq_true rfl), (Nat.le_of_ble_eq_true rfl)⟩) (fun ad8 C7 H locs hs9 hI => ?_)
        replace hs := hs9
        refine lv_pop hx hb dX0_legs_30 rfl ?_
        refine lv_iconst (v := 1) hx hb dX0_legs_31 (by decide) ?_
        refine lv_istore_n (lv' := [(3, .int 1), (0, .ref a0), (1, .int a1), (2, .int a2)]) hx hb dX0_legs_32 rfl hl (by decide) rfl (fun ls hl => ?_)
        have Lx_X0_legs_l33 : ∀ (n33_11 : Nat) (x10 : Int32) (C11 : XH) (H : Heap) (locs : List Loc) (ls : Array Slot), x_X0_legs_l33 K a0 a1 a2 n33_11 x10 C11 → xI D dT A s.heap C11 H locs → lv_has ls 4 [(0, .ref a0), (1, .int a1), (2, .int a2), (3, .int x10)] → W p l e (xRm 8 221 2 14) s m args below meth c H locs 2 14 (vx_MQ below (xQi D dT K A) (xXC D dT xE0 A) args s 2 14 A) (F0 m 33 ls []) := by
          intro n33_11
          induction n33_11 with
          | zero =>
            intro x10 C11 H locs ls hs
            exact False.elim hs
          | succ n33_11 ihx_X0_legs_l33 =>
            intro x10 C11 H locs ls hs hI hl
            rw [x_X0_legs_l33_s] at hs
            refine lv_iload_n hx hb dX0_legs_33 rfl (lv_at hl 3 rfl) ?_
            refine lv_bipush (v := 9) hx hb dX0_legs_34 (by decide) ?_
            refine lv_icmp_gt (tgt := 76) hx hb dX0_legs_36 (by decide) (fun c24 => ?_) (fun c24 => ?_)
            · replace hs := ifp c24 hs
              refine lv_iconst (v := (-1)) hx hb dX0_legs_76 (by decide) ?_
              exact vx_ret (x_reti X hK hI hs (Nat.le_of_ble_eq_true rfl) (Nat.le_of_ble_eq_true rfl) dX0_legs_77)
            · replace hs := ifn c24 hs
              refine lv_aload_n hx hb dX0_legs_39 rfl (lv_at hl 0 rfl) ?_
              obtain ⟨ad13, ead13, hs⟩ := hs
              refine x_get (v := .ref ad13) X hK hI 0 6 rfl in_X0 rfl q334 rfl (xgr_spec ead13) dX0_legs_40 ?_
              obtain ⟨ad14, ead14, hs⟩ := hs
              refine x_get (v := .ref ad14) X hK hI 4 7 rfl in_X4 rfl q276 rfl (xgr_spec ead14) dX0_legs_43 ?_
              refine lv_iload_n hx hb dX0_legs_46 rfl (lv_at hl 1 rfl) ?_
              refine lv_iload_n hx hb dX0_legs_47 rfl (lv_at hl 3 rfl) ?_
              obtain ⟨C15, eC15, hs⟩ := hs
              refine x_iast X hK hI eC15 dX0_legs_48 (fun H locs hI => ?_)
              refine lv_aload_n hx hb dX0_legs_49 rfl (lv_at hl 0 rfl) ?_
              obtain ⟨ad16, ead16, hs⟩ := hs
              refine x_get (v := .ref ad16) X hK hI 0 3 rfl in_X0 rfl q331 rfl (xgr_spec ead16) dX0_legs_50 ?_
              refine lv_aload_n hx hb dX0_legs_53 rfl (lv_at hl 0 rfl) ?_
              obtain ⟨ad17, ead17, hs⟩ := hs
              refine x_get (v := .ref ad17) X hK hI 0 6 rfl in_X0 rfl q334 rfl (xgr_spec ead17) dX0_legs_54 ?_
              refine lv_iload_n hx hb dX0_legs_57 rfl (lv_at hl 1 rfl) ?_
              obtain ⟨h19, hs⟩ := hs
              obtain ⟨fh19, h19⟩ := xcl_spec h19
              refine x_gor hA hI (x_runV (As := [.ref ad17, .int a1]) (rest := []) X hK hA hG hI h19 (q := (RX2, TX2, 12)) rfl rfl (xet_X2_of l ad16 ad17 a1 _ _ hs) iX2_of q1136 q1137 q1138 q96 ⟨(Nat.le_of_ble_eq_true rfl), (Nat.le_of_ble_eq_true rfl)⟩ rfl hl.1 rfl (Nat.le_of_ble_eq_true rfl) dX0_legs_58 ⟨(Nat.le_of_ble_eq_true rfl), (Nat.le_of_ble_eq_true rfl)⟩) (fun ad19 C18 H locs hs9 hI => ?_)
              replace hs := hs9
              obtain ⟨h22, hs⟩ := hs
              obtain ⟨fh22, h22⟩ := xcl_spec h22
              refine x_goi hA hI (x_runV (As := []) (rest := []) X hK hA hG hI h22 (q := (RX2, TX2, 12)) rfl rfl (xet_X2_comesIn l ad19 _ _ hs) iX2_comesIn q1197 q1198 q1199 q96 ⟨(Nat.le_of_ble_eq_true rfl), (Nat.le_of_ble_eq_true rfl)⟩ rfl hl.1 rfl (Nat.le_of_ble_eq_true rfl) dX0_legs_61 ⟨(Nat.le_of_ble_eq_true rfl), (Nat.le_of_ble_eq_true rfl)⟩) (fun r22 C21 H locs hs9 hI => ?_)
              replace hs := hs9
              refine lv_iload_n hx hb dX0_legs_64 rfl (lv_at hl 2 rfl) ?_
              refine lv_icmp_gt (tgt := 70) hx hb dX0_legs_65 (by decide) (fun c23 => ?_) (fun c23 => ?_)
              · replace hs := ifp c23 hs
                refine lv_iinc (v := (x10 + 1)) (lv' := [(3, .int (x10 + 1)), (0, .ref a0), (1, .int a1), (2, .int a2)]) hx hb dX0_legs_70 hl (k := 3) rfl (congrArg (fun z => x10 + z) (show Int32.ofInt (1) = 1 by decide)) (by decide) rfl (fun ls hl => ?_)
                refine lv_goto (tgt := 33) hx hb dX0_legs_73 (by decide) ?_
                exact ihx_X0_legs_l33 _ _ _ _ _ hs hI (lv_sub hl [1, 2, 3, 0] rfl)
              · replace hs := ifn c23 hs
                refine lv_iload_n hx hb dX0_legs_68 rfl (lv_at hl 3 rfl) ?_
                exact vx_ret (x_reti X hK hI hs (Nat.le_of_ble_eq_true rfl) (Nat.le_of_ble_eq_true rfl) dX0_legs_69)
        exact Lx_X0_legs_l33 NF _ _ _ _ _ hs hI (lv_sub hl [1, 2, 3, 0] rfl)
    refine lv_if_lt (tgt := 13) hx hb dX0_legs_6 (by decide) (fun c30 => ?_) (fun c30 => ?_)
    · replace hs := ifp c30 hs
      refine lv_iconst (v := 0) hx hb dX0_legs_13 (by decide) ?_
      exact Ek14_3 _ _ _ _ hs hI hl
    · replace hs := ifn c30 hs
      refine lv_iconst (v := 1) hx hb dX0_legs_9 (by decide) ?_
      refine lv_goto (tgt := 14) hx hb dX0_legs_10 (by decide) ?_
      exact Ek14_3 _ _ _ _ hs hI hl
def x_X0_wall (a0 : Nat) (a1 : Int32) (C : XH) (K : Int32 → XH → Prop) : Prop := (xcl C a0 = some 0 ∧ x_X0_mustChild a0 a1 C (fun C1 => obd (xgr C1 (xis 0) a0 3) (fun ad3 => obd (xgr C1 (xis 0) a0 7) (fun ad4 => (xcl C1 ad3 = some 2 ∧ x_X2_of ad3 ad4 a1 C1 (fun ad6 C5 => (xcl C5 ad6 = some 2 ∧ x_X2_passesMany ad6 999 C5 (fun ad9 C8 => obd (xgi C8 (xis 2) ad9 10) (fun v11 => K v11 C8)))))))) (fun ad12 C13 => (xcl C13 a0 = some 0 ∧ x_X0_refused a0 ad12 C13 (fun r15 C14 => K (r15 - 10) C14))))
theorem iX0_wall : xInfW yX0_wall cX0_wall 3 (some .int) [(0, 26, 27, 21)] 1 := ⟨q1322, by decide +kernel⟩
set_option maxHeartbeats 4000000 in
theorem xet_X0_wall (l : Launch) (hl0 : l.stackTraces = false) (a0 : Nat) (a1 : Int32) (C : XH) (K : Int32 → XH → Prop) (hs : x_X0_wall a0 a1 C K) : xMetX l yX0_wall (wsW_ yX0_wall cX0_wall 3 (some .int) [(0, 26, 27, 21)]) 8 182 1 7 C [.ref a0, .int a1] (fun D dT A => xQi D dT K A) xE0 := by
  intro D dT adK adV sz
  refine xEnterW (own := RX0) (Qc := xQi D dT K) (XC := xXC D dT xE0) (by decide) rfl (by rfl) ?_
  intro p e s m args below meth c A ls X hnm hK hA hG hT hI hl
  have hx := X.1
  have hb := X.2.1
  have hts := X.2.2.2.2.1
  have hown := X.2.2.2.2.2.1
  have hl : lv_has ls 3 [(0, .ref a0), (1, .int a1)] := hl
  unfold x_X0_wall at hs
  refine lv_aload_n hx hb dX0_wall_0 rfl (lv_at hl 0 rfl) ?_
  refine lv_iload_n hx hb dX0_wall_1 rfl (lv_at hl 1 rfl) ?_
  obtain ⟨h1, hs⟩ := hs
  obtain ⟨fh1, h1⟩ := xcl_spec h1
  refine xT_gov hA hI (x_runVT (As := [.int a1]) (rest := []) X hK hA hG hI h1 (q := (RX0, TX0, 10)) rfl rfl (xet_X0_mustChild l hl0 a0 a1 _ _ _ hs) iX0_mustChild q649 q651 qs3 q94 ⟨(Nat.le_of_ble_eq_true rfl), (Nat.le_of_ble_eq_true rfl)⟩ rfl hl.1 rfl (Nat.le_of_ble_eq_true rfl) dX0_wall_2 ⟨(Nat.le_of_ble_eq_true rfl), (Nat.le_of_ble_eq_true rfl)⟩) (fun En ce ad12 C13 H locs hs9 hI hce hvm hcl => ?_) (fun C1 H locs hs9 hI => ?_)
  · obtain ⟨rfl, hs0⟩ := hs9
    replace hs := hs0
    refine x_catch (k := 0) (a1 := 0) (a2 := 26) (a3 := 27) (a4 := 21) X hG hT rfl (x_cov rfl) rfl (by decide) q363 (by decide) hce hvm hcl ?_
    refine lv_astore_n (lv' := [(2, .ref ad12), (0, .ref a0), (1, .int a1)]) hx hb dX0_wall_27 rfl hl (by decide) rfl (fun ls hl => ?_)
    refine lv_aload_n hx hb dX0_wall_28 rfl (lv_at hl 1 rfl) ?_
    refine lv_aload_n hx hb dX0_wall_29 rfl (lv_at hl 0 rfl) ?_
    obtain ⟨h15, hs⟩ := hs
    obtain ⟨fh15, h15⟩ := xcl_spec h15
    refine x_goi hA hI (x_runV (As := [.ref ad12]) (rest := []) X hK hA hG hI h15 (q := (RX0, TX0, 10)) rfl rfl (xet_X0_refused l a0 ad12 _ _ hs) iX0_refused q538 q540 qs2 q94 ⟨(Nat.le_of_ble_eq_true rfl), (Nat.le_of_ble_eq_true rfl)⟩ rfl hl.1 rfl (Nat.le_of_ble_eq_true rfl) dX0_wall_30 ⟨(Nat.le_of_ble_eq_true rfl), (Nat.le_of_ble_eq_true rfl)⟩) (fun r15 C14 H locs hs9 hI => ?_)
    replace hs := hs9
    refine lv_bipush (v := 10) hx hb dX0_wall_33 (by decide) ?_
    refine lv_isub hx hb dX0_wall_35 ?_
    exact vx_ret (x_reti X hK hI hs (Nat.le_of_ble_eq_true rfl) (Nat.le_of_ble_eq_true rfl) dX0_wall_36)
  · replace hs := hs9
    refine lv_aload_n hx hb dX0_wall_5 rfl (lv_at hl 0 rfl) ?_
    obtain ⟨ad3, ead3, hs⟩ := hs
    refine x_get (v := .ref ad3) X hK hI 0 3 rfl in_X0 rfl q331 rfl (xgr_spec ead3) dX0_wall_6 ?_
    refine lv_aload_n hx hb dX0_wall_9 rfl (lv_at hl 0 rfl) ?_
    obtain ⟨ad4, ead4, hs⟩ := hs
    refine x_get (v := .ref ad4) X hK hI 0 7 rfl in_X0 rfl q335 rfl (xgr_spec ead4) dX0_wall_10 ?_
    refine lv_iload_n hx hb dX0_wall_13 rfl (lv_at hl 1 rfl) ?_
    obtain ⟨h6, hs⟩ := hs
    obtain ⟨fh6, h6⟩ := xcl_spec h6
    refine x_gor hA hI (x_runV (As := [.ref ad4, .int a1]) (rest := []) X hK hA hG hI h6 (q := (RX2, TX2, 12)) rfl rfl (xet_X2_of l ad3 ad4 a1 _ _ hs) iX2_of q1136 q1137 q1138 q96 ⟨(Nat.le_of_ble_eq_true rfl), (Nat.le_of_ble_eq_true rfl)⟩ rfl hl.1 rfl (Nat.le_of_ble_eq_true rfl) dX0_wall_14 ⟨(Nat.le_of_ble_eq_true rfl), (Nat.le_of_ble_eq_true rfl)⟩) (fun ad6 C5 H locs hs9 hI => ?_)
    replace hs := hs9
    refine lv_sipush (v := 999) hx hb dX0_wall_17 (by decide) ?_
    obtain ⟨h9, hs⟩ := hs
    obtain ⟨fh9, h9⟩ := xcl_spec h9
    refine x_gor hA hI (x_runV (As := [.int 999]) (rest := []) X hK hA hG hI h9 (q := (RX2, TX2, 12)) rfl rfl (xet_X2_passesMany l ad6 999 _ _ hs) iX2_passesMany q1154 q1155 q1156 q96 ⟨(Nat.le_of_ble_eq_true rfl), (Nat.le_of_ble_eq_true rfl)⟩ rfl hl.1 rfl (Nat.le_of_ble_eq_true rfl) dX0_wall_20 ⟨(Nat.le_of_ble_eq_true rfl), (Nat.le_of_ble_eq_true rfl)⟩) (fun ad9 C8 H locs hs9 hI => ?_)
    replace hs := hs9
    obtain ⟨v11, ev11, hs⟩ := hs
    refine x_get (v := .int v11) X hK hI 2 10 rfl in_X2 rfl q178 rfl (xgi_spec ev11) dX0_wall_23 ?_
    exact vx_ret (x_reti X hK hI hs (Nat.le_of_ble_eq_true rfl) (Nat.le_of_ble_eq_true rfl) dX0_wall_26)
def x_X0_wrongIn_l8 (K : Int32 → XH → Prop) (a0 : Nat) (a1 : Nat) (a2 : Int32) : Nat → Int32 → Int32 → Int32 → XH → Prop
  | 0, _, _, _, _ => False
  | n8_4 + 1, x1, x2, x3, C4 => (if a2 ≤ x3 then K (-1) C4 else vd_X8_asInt a1 x3 C4 (fun r7 C6 => obd (xgr C6 (xis 0) a0 7) (fun ad8 => (xcl C6 ad8 = some 4 ∧ x_X4_isChild ad8 r7 C6 (fun r10 C9 => (if r10 = 0 then K x3 C9 else (if ((x1 >>> (r7 &&& 31)) &&& 1) = 0 then (xcl C9 a0 = some 0 ∧ x_X0_timeOf a0 r7 C9 (fun r13 C12 => (if r13 < x2 then K x3 C12 else (xcl C12 a0 = some 0 ∧ x_X0_timeOf a0 r7 C12 (fun r16 C15 => x_X0_wrongIn_l8 K a0 a1 a2 n8_4 (x1 ||| (1 <<< (r7 &&& 31))) r16 (x3 + 1) C15))))) else K x3 C9)))))))
theorem x_X0_wrongIn_l8_s (K : Int32 → XH → Prop) (a0 : Nat) (a1 : Nat) (a2 : Int32) (n8_4 : Nat) (x1 : Int32) (x2 : Int32) (x3 : Int32) (C4 : XH) : x_X0_wrongIn_l8 K a0 a1 a2 (n8_4 + 1) x1 x2 x3 C4 = ((if a2 ≤ x3 then K (-1) C4 else vd_X8_asInt a1 x3 C4 (fun r7 C6 => obd (xgr C6 (xis 0) a0 7) (fun ad8 => (xcl C6 ad8 = some 4 ∧ x_X4_isChild ad8 r7 C6 (fun r10 C9 => (if r10 = 0 then K x3 C9 else (if ((x1 >>> (r7 &&& 31)) &&& 1) = 0 then (xcl C9 a0 = some 0 ∧ x_X0_timeOf a0 r7 C9 (fun r13 C12 => (if r13 < x2 then K x3 C12 else (xcl C12 a0 = some 0 ∧ x_X0_timeOf a0 r7 C12 (fun r16 C15 => x_X0_wrongIn_l8 K a0 a1 a2 n8_4 (x1 ||| (1 <<< (r7 &&& 31))) r16 (x3 + 1) C15))))) else K x3 C9)))))))) := rfl
def x_X0_wrongIn (a0 : Nat) (a1 : Nat) (a2 : Int32) (C : XH) (K : Int32 → XH → Prop) : Prop := x_X0_wrongIn_l8 K a0 a1 a2 NF 0 0 0 C
theorem iX0_wrongIn : xInf yX0_wrongIn cX0_wrongIn 7 (some .int) 2 := ⟨q1331, by decide +kernel⟩
set_option maxHeartbeats 4000000 in
theorem xet_X0_wrongIn (l : Launch) (a0 : Nat) (a1 : Nat) (a2 : Int32) (C : XH) (K : Int32 → XH → Prop) (hs : x_X0_wrongIn a0 a1 a2 C K) : xMeti l yX0_wrongIn (ws_ yX0_wrongIn cX0_wrongIn 7 (some .int)) 9 203 0 0 C [.ref a0, .ref a1, .int a2] K := by
  intro D dT adK adV sz
  refine xEnter (own := RX0) (Qc := xQi D dT K) (by decide) rfl (by rfl) ?_
  intro p e s m args below meth c A ls X hnm hK hA hG hI hl
  have hx := X.1
  have hb := X.2.1
  have hts := X.2.2.2.2.1
  have hown := X.2.2.2.2.2.1
  have hl : lv_has ls 7 [(0, .ref a0), (1, .ref a1), (2, .int a2)] := hl
  unfold x_X0_wrongIn at hs
  refine lv_iconst (v := 0) hx hb dX0_wrongIn_0 (by decide) ?_
  refine lv_istore_n (lv' := [(3, .int 0), (0, .ref a0), (1, .ref a1), (2, .int a2)]) hx hb dX0_wrongIn_1 rfl hl (by decide) rfl (fun ls hl => ?_)
  refine lv_iconst (v := 0) hx hb dX0_wrongIn_2 (by decide) ?_
  refine lv_istore (lv' := [(4, .int 0), (3, .int 0), (0, .ref a0), (1, .ref a1), (2, .int a2)]) hx hb dX0_wrongIn_3 hl (by decide) rfl (fun ls hl => ?_)
  refine lv_iconst (v := 0) hx hb dX0_wrongIn_5 (by decide) ?_
  refine lv_istore (lv' := [(5, .int 0), (4, .int 0), (3, .int 0), (0, .ref a0), (1, .ref a1), (2, .int a2)]) hx hb dX0_wrongIn_6 hl (by decide) rfl (fun ls hl => ?_)
  have Lx_X0_wrongIn_l8 : ∀ (n8_4 : Nat) (x1 : Int32) (x2 : Int32) (x3 : Int32) (C4 : XH) (H : Heap) (locs : List Loc) (ls : Array Slot), x_X0_wrongIn_l8 K a0 a1 a2 n8_4 x1 x2 x3 C4 → xI D dT A s.heap C4 H locs → lv_has ls 7 [(0, .ref a0), (1, .ref a1), (2, .int a2), (3, .int x1), (4, .int x2), (5, .int x3)] → W p l e (xRm 9 203 0 0) s m args below meth c H locs 0 0 (MQ below (xQi D dT K A) args s 0 0 A) (F0 m 8 ls []) := by
    intro n8_4
    induction n8_4 with
    | zero =>
      intro x1 x2 x3 C4 H locs ls hs
      exact False.elim hs
    | succ n8_4 ihx_X0_wrongIn_l8 =>
      intro x1 x2 x3 C4 H locs ls hs hI hl
      rw [x_X0_wrongIn_l8_s] at hs
      refine lv_iload hx hb dX0_wrongIn_8 (lv_at hl 5 rfl) ?_
      refine lv_iload_n hx hb dX0_wrongIn_10 rfl (lv_at hl 2 rfl) ?_
      refine lv_icmp_ge (tgt := 81) hx hb dX0_wrongIn_11 (by decide) (fun c20 => ?_) (fun c20 => ?_)
      · replace hs := ifp c20 hs
        refine lv_iconst (v := (-1)) hx hb dX0_wrongIn_81 (by decide) ?_
        exact x_reti X hK hI hs (Nat.le_of_ble_eq_true rfl) (Nat.le_of_ble_eq_true rfl) dX0_wrongIn_82
      · replace hs := ifn c20 hs
        refine lv_aload_n hx hb dX0_wrongIn_14 rfl (lv_at hl 1 rfl) ?_
        refine lv_iload hx hb dX0_wrongIn_15 (lv_at hl 5 rfl) ?_
        refine x_goi hA hI (vdc_X8_asInt (rest := []) X hK hA hG hI a1 x3 _ hs q1332 ⟨(Nat.le_of_ble_eq_true rfl), (Nat.le_of_ble_eq_true rfl)⟩ hl.1 (Nat.le_of_ble_eq_true rfl) dX0_wrongIn_17 ⟨(Nat.le_of_ble_eq_true rfl), (Nat.le_of_ble_eq_true rfl)⟩) (fun r7 C6 H locs hs9 hI => ?_)
        replace hs := hs9
        refine lv_istore (lv' := [(6, .int r7), (0, .ref a0), (1, .ref a1), (2, .int a2), (3, .int x1), (4, .int x2), (5, .int x3)]) hx hb dX0_wrongIn_20 hl (by decide) rfl (fun ls hl => ?_)
        refine lv_aload_n hx hb dX0_wrongIn_22 rfl (lv_at hl 1 rfl) ?_
        obtain ⟨ad8, ead8, hs⟩ := hs
        refine x_get (v := .ref ad8) X hK hI 0 7 rfl in_X0 rfl q335 rfl (xgr_spec ead8) dX0_wrongIn_23 ?_
        refine lv_iload hx hb dX0_wrongIn_26 (lv_at hl 0 rfl) ?_
        obtain ⟨h10, hs⟩ := hs
        obtain ⟨fh10, h10⟩ := xcl_spec h10
        refine x_goz hA hI (x_runV (As := [.int r7]) (rest := []) X hK hA hG hI h10 (q := (RX4, TX4, 13)) rfl rfl (xet_X4_isChild l ad8 r7 _ _ hs) iX4_isChild q653 q654 q655 q98 ⟨(Nat.le_of_ble_eq_true rfl), (Nat.le_of_ble_eq_true rfl)⟩ rfl hl.1 rfl (Nat.le_of_ble_eq_true rfl) dX0_wrongIn_28 ⟨(Nat.le_of_ble_eq_true rfl), (Nat.le_of_ble_eq_true rfl)⟩) (fun r10 C9 H locs br10 hs9 hI => ?_)
        replace hs := hs9
        refine lv_if_eq (tgt := 72) hx hb dX0_wrongIn_31 (by decide) (fun c19 => ?_) (fun c19 => ?_)
        · replace hs := ifp c19 hs
          refine lv_iload hx hb dX0_wrongIn_72 (lv_at hl 6 rfl) ?_
          exact x_reti X hK hI hs (Nat.le_of_ble_eq_true rfl) (Nat.le_of_ble_eq_true rfl) dX0_wrongIn_74
        · replace hs := ifn c19 hs
          refine lv_iload_n hx hb dX0_wrongIn_34 rfl (lv_at hl 4 rfl) ?_
          refine lv_iload hx hb dX0_wrongIn_35 (lv_at hl 0 rfl) ?_
          refine lv_ishr hx hb dX0_wrongIn_37 ?_
          refine lv_iconst (v := 1) hx hb dX0_wrongIn_38 (by decide) ?_
          refine lv_iand hx hb dX0_wrongIn_39 ?_
          refine lv_if_ne (tgt := 72) hx hb dX0_wrongIn_40 (by decide) (fun c18 => ?_) (fun c18 => ?_)
          · replace hs := ifn c18 hs
            refine lv_iload hx hb dX0_wrongIn_72 (lv_at hl 6 rfl) ?_
            exact x_reti X hK hI hs (Nat.le_of_ble_eq_true rfl) (Nat.le_of_ble_eq_true rfl) dX0_wrongIn_74
          · replace hs := ifp c18 hs
            refine lv_aload_n hx hb dX0_wrongIn_43 rfl (lv_at hl 1 rfl) ?_
            refine lv_iload hx hb dX0_wrongIn_44 (lv_at hl 0 rfl) ?_
            obtain ⟨h13, hs⟩ := hs
            obtain ⟨fh13, h13⟩ := xcl_spec h13
            refine x_goi hA hI (x_runV (As := [.int r7]) (rest := []) X hK hA hG hI h13 (q := (RX0, TX0, 10)) rfl rfl (xet_X0_timeOf l a0 r7 _ _ hs) iX0_timeOf q1193 q1195 qs23 q94 ⟨(Nat.le_of_ble_eq_true rfl), (Nat.le_of_ble_eq_true rfl)⟩ rfl hl.1 rfl (Nat.le_of_ble_eq_true rfl) dX0_wrongIn_46 ⟨(Nat.le_of_ble_eq_true rfl), (Nat.le_of_ble_eq_true rfl)⟩) (fun r13 C12 H locs hs9 hI => ?_)
            replace hs := hs9
            refine lv_iload hx hb dX0_wrongIn_49 (lv_at hl 5 rfl) ?_
            refine lv_icmp_lt (tgt := 72) hx hb dX0_wrongIn_51 (by decide) (fun c17 => ?_) (fun c17 => ?_)
            · replace hs := ifp c17 hs
              refine lv_iload hx hb dX0_wrongIn_72 (lv_at hl 6 rfl) ?_
              exact x_reti X hK hI hs (Nat.le_of_ble_eq_true rfl) (Nat.le_of_ble_eq_true rfl) dX0_wrongIn_74
            · replace hs := ifn c17 hs
              refine lv_aload_n hx hb dX0_wrongIn_54 rfl (lv_at hl 1 rfl) ?_
              refine lv_iload hx hb dX0_wrongIn_55 (lv_at hl 0 rfl) ?_
              obtain ⟨h16, hs⟩ := hs
              obtain ⟨fh16, h16⟩ := xcl_spec h16
              refine x_goi hA hI (x_runV (As := [.int r7]) (rest := []) X hK hA hG hI h16 (q := (RX0, TX0, 10)) rfl rfl (xet_X0_timeOf l a0 r7 _ _ hs) iX0_timeOf q1193 q1195 qs23 q94 ⟨(Nat.le_of_ble_eq_true rfl), (Nat.le_of_ble_eq_true rfl)⟩ rfl hl.1 rfl (Nat.le_of_ble_eq_true rfl) dX0_wrongIn_57 ⟨(Nat.le_of_ble_eq_true rfl), (Nat.le_of_ble_eq_true rfl)⟩) (fun r16 C15 H locs hs9 hI => ?_)
              replace hs := hs9
              refine lv_istore (lv' := [(4, .int r16), (6, .int r7), (0, .ref a0), (1, .ref a1), (2, .int a2), (3, .int x1), (5, .int x3)]) hx hb dX0_wrongIn_60 hl (by decide) rfl (fun ls hl => ?_)
              refine lv_iload_n hx hb dX0_wrongIn_62 rfl (lv_at hl 5 rfl) ?_
              refine lv_iconst (v := 1) hx hb dX0_wrongIn_63 (by decide) ?_
              refine lv_iload hx hb dX0_wrongIn_64 (lv_at hl 1 rfl) ?_
              refine lv_ishl hx hb dX0_wrongIn_66 ?_
              refine lv_ior hx hb dX0_wrongIn_67 ?_
              refine lv_istore_n (lv' := [(3, .int (x1 ||| (1 <<< (r7 &&& 31)))), (4, .int r16), (6, .int r7), (0, .ref a0), (1, .ref a1), (2, .int a2), (5, .int x3)]) hx hb dX0_wrongIn_68 rfl hl (by decide) rfl (fun ls hl => ?_)
              refine lv_goto (tgt := 75) hx hb dX0_wrongIn_69 (by decide) ?_
              refine lv_iinc (v := (x3 + 1)) (lv' := [(5, .int (x3 + 1)), (3, .int (x1 ||| (1 <<< (r7 &&& 31)))), (4, .int r16), (6, .int r7), (0, .ref a0), (1, .ref a1), (2, .int a2)]) hx hb dX0_wrongIn_75 hl (k := 6) rfl (congrArg (fun z => x3 + z) (show Int32.ofInt (1) = 1 by decide)) (by decide) rfl (fun ls hl => ?_)
              refine lv_goto (tgt := 8) hx hb dX0_wrongIn_78 (by decide) ?_
              exact ihx_X0_wrongIn_l8 _ _ _ _ _ _ _ hs hI (lv_sub hl [4, 5, 6, 1, 2, 0] rfl)
  exact Lx_X0_wrongIn_l8 NF _ _ _ _ _ _ _ hs hI (lv_sub hl [3, 4, 5, 2, 1, 0] rfl)
def x_X0_judge (a0 : Nat) (a1 : Int32) (a2 : Int32) (C : XH) (K : Int32 → XH → Prop) : Prop := (xcl C a0 = some 0 ∧ x_X0_shelf a0 a1 C (fun ad2 C1 => (xcl C1 ad2 = some 5 ∧ x_X5_row ad2 C1 (fun ad5 C4 => jn (fun (v7 : Int32) => x_X0_need v7 (-4) C4 (fun C8 => vd_X8_length ad5 C8 (fun r10 C9 => jn (fun (v11 : Int32) => x_X0_need v11 (-5) C9 (fun C12 => jn (fun (v13 : Int32) => x_X0_need v13 (-6) C12 (fun C14 => (xcl C14 a0 = some 0 ∧ x_X0_wrongIn a0 ad5 a2 C14 (fun r16 C15 => K r16 C15))) (fun ad18 C19 => (xcl C19 a0 = some 0 ∧ x_X0_refused a0 ad18 C19 (fun r21 C20 => K (r21 - 10) C20)))) (fun k52_13 => (if 8 < a2 then k52_13 0 else k52_13 1))) (fun ad24 C25 => (xcl C25 a0 = some 0 ∧ x_X0_refused a0 ad24 C25 (fun r27 C26 => K (r27 - 10) C26)))) (fun k36_11 => (if r10 < a2 then k36_11 0 else k36_11 1)))) (fun ad30 C31 => (xcl C31 a0 = some 0 ∧ x_X0_refused a0 ad30 C31 (fun r33 C32 => K (r33 - 10) C32)))) (fun k18_7 => (if a2 < 0 then k18_7 0 else k18_7 1))) (fun ad36 C37 => (xcl C37 a0 = some 0 ∧ x_X0_refused a0 ad36 C37 (fun r39 C38 => K (r39 - 10) C38))))) (fun ad41 C42 => (xcl C42 a0 = some 0 ∧ x_X0_refused a0 ad41 C42 (fun r44 C43 => K (r44 - 10) C43))))
theorem iX0_judge : xInfW yX0_judge cX0_judge 4 (some .int) [(0, 63, 64, 21)] 2 := ⟨q1326, by decide +kernel⟩
set_option maxHeartbeats 4000000 in
theorem xet_X0_judge (l : Launch) (hl0 : l.stackTraces = false) (a0 : Nat) (a1 : Int32) (a2 : Int32) (C : XH) (K : Int32 → XH → Prop) (hs : x_X0_judge a0 a1 a2 C K) : xMetX l yX0_judge (wsW_ yX0_judge cX0_judge 4 (some .int) [(0, 63, 64, 21)]) 13 10322 12 2062 C [.ref a0, .int a1, .int a2] (fun D dT A => xQi D dT K A) xE0 := by
  intro D dT adK adV sz
  refine xEnterW (own := RX0) (Qc := xQi D dT K) (XC := xXC D dT xE0) (by decide) rfl (by rfl) ?_
  intro p e s m args below meth c A ls X hnm hK hA hG hT hI hl
  have hx := X.1
  have hb := X.2.1
  have hts := X.2.2.2.2.1
  have hown := X.2.2.2.2.2.1
  have hl : lv_has ls 4 [(0, .ref a0), (1, .int a1), (2, .int a2)] := hl
  unfold x_X0_judge at hs
  refine lv_aload_n hx hb dX0_judge_0 rfl (lv_at hl 0 rfl) ?_
  refine lv_iload_n hx hb dX0_judge_1 rfl (lv_at hl 1 rfl) ?_
  obtain ⟨h2, hs⟩ := hs
  obtain ⟨fh2, h2⟩ := xcl_spec h2
  refine xT_gor hA hI (x_runVTW (As := [.int a1]) (rest := []) X hK hA hG hI h2 (q := (RX0, TX0, 10)) rfl rfl (xet_X0_shelf l hl0 a0 a1 _ _ _ hs) iX0_shelf q364 q366 qs0 q94 ⟨(Nat.le_of_ble_eq_true rfl), (Nat.le_of_ble_eq_true rfl)⟩ rfl hl.1 rfl (Nat.le_of_ble_eq_true rfl) dX0_judge_2 ⟨(Nat.le_of_ble_eq_true rfl), (Nat.le_of_ble_eq_true rfl)⟩) (fun En ce ad41 C42 H locs hs9 hI hce hvm hcl => ?_) (fun ad2 C1 H locs hs9 hI => ?_)
  · obtain ⟨rfl, hs0⟩ := hs9
    replace hs := hs0
    refine x_catch (k := 0) (a1 := 0) (a2 := 63) (a3 := 64) (a4 := 21) X hG hT rfl (x_cov rfl) rfl (by decide) q363 (by decide) hce hvm hcl ?_
    refine lv_astore_n (lv' := [(3, .ref ad41), (0, .ref a0), (1, .int a1), (2, .int a2)]) hx hb dX0_judge_64 rfl hl (by decide) rfl (fun ls hl => ?_)
    refine lv_aload_n hx hb dX0_judge_65 rfl (lv_at hl 1 rfl) ?_
    refine lv_aload_n hx hb dX0_judge_66 rfl (lv_at hl 0 rfl) ?_
    obtain ⟨h44, hs⟩ := hs
    obtain ⟨fh44, h44⟩ := xcl_spec h44
    refine x_goi hA hI (x_runV (As := [.ref ad41]) (rest := []) X hK hA hG hI h44 (q := (RX0, TX0, 10)) rfl rfl (xet_X0_refused l a0 ad41 _ _ hs) iX0_refused q538 q540 qs2 q94 ⟨(Nat.le_of_ble_eq_true rfl), (Nat.le_of_ble_eq_true rfl)⟩ rfl hl.1 rfl (Nat.le_of_ble_eq_true rfl) dX0_judge_67 ⟨(Nat.le_of_ble_eq_true rfl), (Nat.le_of_ble_eq_true rfl)⟩) (fun r44 C43 H locs hs9 hI => ?_)
    replace hs := hs9
    refine lv_bipush (v := 10) hx hb dX0_judge_70 (by decide) ?_
    refine lv_isub hx hb dX0_judge_72 ?_
    exact vx_ret (x_reti X hK hI hs (Nat.le_of_ble_eq_true rfl) (Nat.le_of_ble_eq_true rfl) dX0_judge_73)
  · replace hs := hs9
    obtain ⟨h5, hs⟩ := hs
    obtain ⟨fh5, h5⟩ := xcl_spec h5
    refine xT_gor hA hI (x_runVTW (As := []) (rest := []) X hK hA hG hI h5 (q := (RX5, TX5, 1)) rfl rfl (xet_X5_row l hl0 ad2 _ _ _ hs) iX5_row q546 q547 q548 q99 ⟨(Nat.le_of_ble_eq_true rfl), (Nat.le_of_ble_eq_true rfl)⟩ rfl hl.1 rfl (Nat.le_of_ble_eq_true rfl) dX0_judge_5 ⟨(Nat.le_of_ble_eq_true rfl), (Nat.le_of_ble_eq_true rfl)⟩) (fun En ce ad36 C37 H locs hs9 hI hce hvm hcl => ?_) (fun ad5 C4 H locs hs9 hI => ?_)
    · obtain ⟨rfl, hs0⟩ := hs9
      replace hs := hs0
      refine x_catch (k := 0) (a1 := 0) (a2 := 63) (a3 := 64) (a4 := 21) X hG hT rfl (x_cov rfl) rfl (by decide) q363 (by decide) hce hvm hcl ?_
      refine lv_astore_n (lv' := [(3, .ref ad36), (0, .ref a0), (1, .int a1), (2, .int a2)]) hx hb dX0_judge_64 rfl hl (by decide) rfl (fun ls hl => ?_)
      refine lv_aload_n hx hb dX0_judge_65 rfl (lv_at hl 1 rfl) ?_
      refine lv_aload_n hx hb dX0_judge_66 rfl (lv_at hl 0 rfl) ?_
      obtain ⟨h39, hs⟩ := hs
      obtain ⟨fh39, h39⟩ := xcl_spec h39
      refine x_goi hA hI (x_runV (As := [.ref ad36]) (rest := []) X hK hA hG hI h39 (q := (RX0, TX0, 10)) rfl rfl (xet_X0_refused l a0 ad36 _ _ hs) iX0_refused q538 q540 qs2 q94 ⟨(Nat.le_of_ble_eq_true rfl), (Nat.le_of_ble_eq_true rfl)⟩ rfl hl.1 rfl (Nat.le_of_ble_eq_true rfl) dX0_judge_67 ⟨(Nat.le_of_ble_eq_true rfl), (Nat.le_of_ble_eq_true rfl)⟩) (fun r39 C38 H locs hs9 hI => ?_)
      replace hs := hs9
      refine lv_bipush (v := 10) hx hb dX0_judge_70 (by decide) ?_
      refine lv_isub hx hb dX0_judge_72 ?_
      exact vx_ret (x_reti X hK hI hs (Nat.le_of_ble_eq_true rfl) (Nat.le_of_ble_eq_true rfl) dX0_judge_73)
    · replace hs := hs9
      refine lv_astore_n (lv' := [(3, .ref ad5), (0, .ref a0), (1, .int a1), (2, .int a2)]) hx hb dX0_judge_8 rfl hl (by decide) rfl (fun ls hl => ?_)
      refine lv_iload_n hx hb dX0_judge_9 rfl (lv_at hl 3 rfl) ?_
      obtain ⟨k18_7, hk18_7, hs⟩ := jn_ex hs
      have Ek18_7 : ∀ (v7 : Int32) (H : Heap) (locs : List Loc) (ls : Array Slot), k18_7 v7 → xI D dT A s.heap C4 H locs → lv_has ls 4 [(0, .ref a0), (2, .int a2), (3, .ref ad5)] → W p l e (xRm 13 10322 12 2062) s m args below meth c H locs 9 2041 (vx_MQ below (xQi D dT K A) (xXC D dT xE0 A) args s 12 2062 A) (F0 m 18 ls [.int v7]) := by
        intro v7 H locs ls hs hI hl
        rw [hk18_7] at hs
        refine lv_bipush (v := (-4)) hx hb dX0_judge_18 (by decide) ?_
        refine xT_gov hA hI (x_runST (As := [.int v7, .int (-4)]) (rest := []) X hK hA hG hI (xet_X0_need l hl0 v7 (-4) _ _ _ hs) iX0_need q469 q470 q94 ⟨(Nat.le_of_ble_eq_true rfl), (Nat.le_of_ble_eq_true rfl)⟩ rfl hl.1 rfl (Nat.le_of_ble_eq_true rfl) dX0_judge_20 ⟨(Nat.le_of_ble_eq_true rfl), (Nat.le_of_ble_eq_true rfl)⟩) (fun En ce ad30 C31 H locs hs9 hI hce hvm hcl => ?_) (fun C8 H locs hs9 hI => ?_)
        · obtain ⟨rfl, hs0⟩ := hs9
          replace hs := hs0
          refine x_catch (k := 0) (a1 := 0) (a2 := 63) (a3 := 64) (a4 := 21) X hG hT rfl (x_cov rfl) rfl (by decide) q363 (by decide) hce hvm hcl ?_
          refine lv_astore_n (lv' := [(3, .ref ad30), (0, .ref a0), (2, .int a2)]) hx hb dX0_judge_64 rfl hl (by decide) rfl (fun ls hl => ?_)
          refine lv_aload_n hx hb dX0_judge_65 rfl (lv_at hl 1 rfl) ?_
          refine lv_aload_n hx hb dX0_judge_66 rfl (lv_at hl 0 rfl) ?_
          obtain ⟨h33, hs⟩ := hs
          obtain ⟨fh33, h33⟩ := xcl_spec h33
          refine x_goi hA hI (x_runV (As := [.ref ad30]) (rest := []) X hK hA hG hI h33 (q := (RX0, TX0, 10)) rfl rfl (xet_X0_refused l a0 ad30 _ _ hs) iX0_refused q538 q540 qs2 q94 ⟨(Nat.le_of_ble_eq_true rfl), (Nat.le_of_ble_eq_true rfl)⟩ rfl hl.1 rfl (Nat.le_of_ble_eq_true rfl) dX0_judge_67 ⟨(Nat.le_of_ble_eq_true rfl), (Nat.le_of_ble_eq_true rfl)⟩) (fun r33 C32 H locs hs9 hI => ?_)
          replace hs := hs9
          refine lv_bipush (v := 10) hx hb dX0_judge_70 (by decide) ?_
          refine lv_isub hx hb dX0_judge_72 ?_
          exact vx_ret (x_reti X hK hI hs (Nat.le_of_ble_eq_true rfl) (Nat.le_of_ble_eq_true rfl) dX0_judge_73)
        · replace hs := hs9
          refine lv_iload_n hx hb dX0_judge_23 rfl (lv_at hl 1 rfl) ?_
          refine lv_aload_n hx hb dX0_judge_24 rfl (lv_at hl 2 rfl) ?_
          refine x_goi hA hI (vdc_X8_length (rest := [.int a2]) X hK hA hG hI ad5 _ hs q1327 ⟨(Nat.le_of_ble_eq_true rfl), (Nat.le_of_ble_eq_true rfl)⟩ hl.1 (Nat.le_of_ble_eq_true rfl) dX0_judge_25 ⟨(Nat.le_of_ble_eq_true rfl), (Nat.le_of_ble_eq_true rfl)⟩) (fun r10 C9 H locs hs9 hI => ?_)
          replace hs := hs9
          obtain ⟨k36_11, hk36_11, hs⟩ := jn_ex hs
          have Ek36_11 : ∀ (v11 : Int32) (H : Heap) (locs : List Loc) (ls : Array Slot), k36_11 v11 → xI D dT A s.heap C9 H locs → lv_has ls 4 [(0, .ref a0), (2, .int a2), (3, .ref ad5)] → W p l e (xRm 13 10322 12 2062) s m args below meth c H locs 10 2048 (vx_MQ below (xQi D dT K A) (xXC D dT xE0 A) args s 12 2062 A) (F0 m 36 ls [.int v11]) := by
            intro v11 H locs ls hs hI hl
            rw [hk36_11] at hs
            refine lv_bipush (v := (-5)) hx hb dX0_judge_36 (by decide) ?_
            refine xT_gov hA hI (x_runST (As := [.int v11, .int (-5)]) (rest := []) X hK hA hG hI (xet_X0_need l hl0 v11 (-5) _ _ _ hs) iX0_need q469 q470 q94 ⟨(Nat.le_of_ble_eq_true rfl), (Nat.le_of_ble_eq_true rfl)⟩ rfl hl.1 rfl (Nat.le_of_ble_eq_true rfl) dX0_judge_38 ⟨(Nat.le_of_ble_eq_true rfl), (Nat.le_of_ble_eq_true rfl)⟩) (fun En ce ad24 C25 H locs hs9 hI hce hvm hcl => ?_) (fun C12 H locs hs9 hI => ?_)
            · obtain ⟨rfl, hs0⟩ := hs9
              replace hs := hs0
              refine x_catch (k := 0) (a1 := 0) (a2 := 63) (a3 := 64) (a4 := 21) X hG hT rfl (x_cov rfl) rfl (by decide) q363 (by decide) hce hvm hcl ?_
              refine lv_astore_n (lv' := [(3, .ref ad24), (0, .ref a0), (2, .int a2)]) hx hb dX0_judge_64 rfl hl (by decide) rfl (fun ls hl => ?_)
              refine lv_aload_n hx hb dX0_judge_65 rfl (lv_at hl 1 rfl) ?_
              refine lv_aload_n hx hb dX0_judge_66 rfl (lv_at hl 0 rfl) ?_
              obtain ⟨h27, hs⟩ := hs
              obtain ⟨fh27, h27⟩ := xcl_spec h27
              refine x_goi hA hI (x_runV (As := [.ref ad24]) (rest := []) X hK hA hG hI h27 (q := (RX0, TX0, 10)) rfl rfl (xet_X0_refused l a0 ad24 _ _ hs) iX0_refused q538 q540 qs2 q94 ⟨(Nat.le_of_ble_eq_true rfl), (Nat.le_of_ble_eq_true rfl)⟩ rfl hl.1 rfl (Nat.le_of_ble_eq_true rfl) dX0_judge_67 ⟨(Nat.le_of_ble_eq_true rfl), (Nat.le_of_ble_eq_true rfl)⟩) (fun r27 C26 H locs hs9 hI => ?_)
              replace hs := hs9
              refine lv_bipush (v := 10) hx hb dX0_judge_70 (by decide) ?_
              refine lv_isub hx hb dX0_judge_72 ?_
              exact vx_ret (x_reti X hK hI hs (Nat.le_of_ble_eq_true rfl) (Nat.le_of_ble_eq_true rfl) dX0_judge_73)
            · replace hs := hs9
              refine lv_iload_n hx hb dX0_judge_41 rfl (lv_at hl 1 rfl) ?_
              refine lv_bipush (v := 8) hx hb dX0_judge_42 (by decide) ?_
              obtain ⟨k52_13, hk52_13, hs⟩ := jn_ex hs
              have Ek52_13 : ∀ (v13 : Int32) (H : Heap) (locs : List Loc) (ls : Array Slot), k52_13 v13 → xI D dT A s.heap C12 H locs → lv_has ls 4 [(0, .ref a0), (2, .int a2), (3, .ref ad5)] → W p l e (xRm 13 10322 12 2062) s m args below meth c H locs 11 2055 (vx_MQ below (xQi D dT K A) (xXC D dT xE0 A) args s 12 2062 A) (F0 m 52 ls [.int v13]) := by
                intro v13 H locs ls hs hI hl
                rw [hk52_13] at hs
                refine lv_bipush (v := (-6)) hx hb dX0_judge_52 (by decide) ?_
                refine xT_gov hA hI (x_runST (As := [.int v13, .int (-6)]) (rest := []) X hK hA hG hI (xet_X0_need l hl0 v13 (-6) _ _ _ hs) iX0_need q469 q470 q94 ⟨(Nat.le_of_ble_eq_true rfl), (Nat.le_of_ble_eq_true rfl)⟩ rfl hl.1 rfl (Nat.le_of_ble_eq_true rfl) dX0_judge_54 ⟨(Nat.le_of_ble_eq_true rfl), (Nat.le_of_ble_eq_true rfl)⟩) (fun En ce ad18 C19 H locs hs9 hI hce hvm hcl => ?_) (fun C14 H locs hs9 hI => ?_)
                · obtain ⟨rfl, hs0⟩ := hs9
                  replace hs := hs0
                  refine x_catch (k := 0) (a1 := 0) (a2 := 63) (a3 := 64) (a4 := 21) X hG hT rfl (x_cov rfl) rfl (by decide) q363 (by decide) hce hvm hcl ?_
                  refine lv_astore_n (lv' := [(3, .ref ad18), (0, .ref a0), (2, .int a2)]) hx hb dX0_judge_64 rfl hl (by decide) rfl (fun ls hl => ?_)
                  refine lv_aload_n hx hb dX0_judge_65 rfl (lv_at hl 1 rfl) ?_
                  refine lv_aload_n hx hb dX0_judge_66 rfl (lv_at hl 0 rfl) ?_
                  obtain ⟨h21, hs⟩ := hs
                  obtain ⟨fh21, h21⟩ := xcl_spec h21
                  refine x_goi hA hI (x_runV (As := [.ref ad18]) (rest := []) X hK hA hG hI h21 (q := (RX0, TX0, 10)) rfl rfl (xet_X0_refused l a0 ad18 _ _ hs) iX0_refused q538 q540 qs2 q94 ⟨(Nat.le_of_ble_eq_true rfl), (Nat.le_of_ble_eq_true rfl)⟩ rfl hl.1 rfl (Nat.le_of_ble_eq_true rfl) dX0_judge_67 ⟨(Nat.le_of_ble_eq_true rfl), (Nat.le_of_ble_eq_true rfl)⟩) (fun r21 C20 H locs hs9 hI => ?_)
                  replace hs := hs9
                  refine lv_bipush (v := 10) hx hb dX0_judge_70 (by decide) ?_
                  refine lv_isub hx hb dX0_judge_72 ?_
                  exact vx_ret (x_reti X hK hI hs (Nat.le_of_ble_eq_true rfl) (Nat.le_of_ble_eq_true rfl) dX0_judge_73)
                · replace hs := hs9
                  refine lv_aload_n hx hb dX0_judge_57 rfl (lv_at hl 0 rfl) ?_
                  refine lv_aload_n hx hb dX0_judge_58 rfl (lv_at hl 2 rfl) ?_
                  refine lv_iload_n hx hb dX0_judge_59 rfl (lv_at hl 1 rfl) ?_
                  obtain ⟨h16, hs⟩ := hs
                  obtain ⟨fh16, h16⟩ := xcl_spec h16
                  refine x_goi hA hI (x_runV (As := [.ref ad5, .int a2]) (rest := []) X hK hA hG hI h16 (q := (RX0, TX0, 10)) rfl rfl (xet_X0_wrongIn l a0 ad5 a2 _ _ hs) iX0_wrongIn q1328 q1330 qs36 q94 ⟨(Nat.le_of_ble_eq_true rfl), (Nat.le_of_ble_eq_true rfl)⟩ rfl hl.1 rfl (Nat.le_of_ble_eq_true rfl) dX0_judge_60 ⟨(Nat.le_of_ble_eq_true rfl), (Nat.le_of_ble_eq_true rfl)⟩) (fun r16 C15 H locs hs9 hI => ?_)
                  replace hs := hs9
                  exact vx_ret (x_reti X hK hI hs (Nat.le_of_ble_eq_true rfl) (Nat.le_of_ble_eq_true rfl) dX0_judge_63)
              refine lv_icmp_gt (tgt := 51) hx hb dX0_judge_44 (by decide) (fun c22 => ?_) (fun c22 => ?_)
              · replace hs := ifp c22 hs
                refine lv_iconst (v := 0) hx hb dX0_judge_51 (by decide) ?_
                exact Ek52_13 _ _ _ _ hs hI hl
              · replace hs := ifn c22 hs
                refine lv_iconst (v := 1) hx hb dX0_judge_47 (by decide) ?_
                refine lv_goto (tgt := 52) hx hb dX0_judge_48 (by decide) ?_
                exact Ek52_13 _ _ _ _ hs hI hl
          refine lv_icmp_gt (tgt := 35) hx hb dX0_judge_28 (by decide) (fun c28 => ?_) (fun c28 => ?_)
          · replace hs := ifp c28 hs
            refine lv_iconst (v := 0) hx hb dX0_judge_35 (by decide) ?_
            exact Ek36_11 _ _ _ _ hs hI hl
          · replace hs := ifn c28 hs
            refine lv_iconst (v := 1) hx hb dX0_judge_31 (by decide) ?_
            refine lv_goto (tgt := 36) hx hb dX0_judge_32 (by decide) ?_
            exact Ek36_11 _ _ _ _ hs hI hl
      refine lv_if_lt (tgt := 17) hx hb dX0_judge_10 (by decide) (fun c34 => ?_) (fun c34 => ?_)
      · replace hs := ifp c34 hs
        refine lv_iconst (v := 0) hx hb dX0_judge_17 (by decide) ?_
        exact Ek18_7 _ _ _ _ hs hI (lv_sub hl [1, 3, 0] rfl)
      · replace hs := ifn c34 hs
        refine lv_iconst (v := 1) hx hb dX0_judge_13 (by decide) ?_
        refine lv_goto (tgt := 18) hx hb dX0_judge_14 (by decide) ?_
        exact Ek18_7 _ _ _ _ hs hI (lv_sub hl [1, 3, 0] rfl)
