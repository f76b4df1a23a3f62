/-! the JDK's methods that need no world of ours -/
/-! jdk/internal/util/Preconditions.checkIndex(IILjava/util/function/BiFunction;)I -/
abbrev rm_P_checkIndex : Room := { frames := 1, cells := 0, slots := 0, locals := 21 }
theorem hy_P_checkIndex : v_yS yJ6_checkIndex cJ6_checkIndex 3 (some .int) 3 := ⟨q749, q146, q750, by decide +kernel⟩
def t_P_checkIndex_9 (fu : Nat) (p0 : Int32) (p1 : Int32) (s : v_S) : Option Int32 :=
none
def t_P_checkIndex (fu : Nat) (p0 : Int32) (p1 : Int32) (s : v_S) : Option Int32 :=
  if p0 < 0 then (t_P_checkIndex_9 fu p0 p1 s) else (if p0 < p1 then (some p0) else (t_P_checkIndex_9 fu p0 p1 s))
theorem w_P_checkIndex_9 {Γ : v_Ctx} {l : Launch} {g : v_G} {w : v_Wd} (fu : Nat) (p0 : Int32) (p1 : Int32) (s : v_S) (z2 : Option Nat) (X : v_C Γ l rm_P_checkIndex cJ6_checkIndex 3 RJ6 (some .int) w g)   : v_V Γ 3 w g (fun z : Int32 => (some (.int z), s)) 9 [(0, .int p0), (1, .int p1), (2, va_rf z2)] [] s (t_P_checkIndex_9 fu p0 p1 s) := by
  unfold t_P_checkIndex_9
  exact v_none
theorem m_P_checkIndex {w : v_Wd} (l : Launch) (g : v_G) (fu : Nat) (p0 : Int32) (p1 : Int32) (z2 : Option Nat) (s : v_S) : v_M l yJ6_checkIndex cJ6_checkIndex 3 (some .int) rm_P_checkIndex w g [.int p0, .int p1, va_rf z2] s (fun z : Int32 => (some (.int z), s)) (t_P_checkIndex fu p0 p1 s) := by
  refine v_met (by decide +kernel) (by cases z2 <;> exact Nat.le_of_ble_eq_true rfl) (fun Γ X => ?_)
  refine v_lv (lv' := [(0, .int p0), (1, .int p1), (2, va_rf z2)]) (by cases z2 <;> rfl) ?_
  unfold t_P_checkIndex
  refine v_iload_n (pc := 0) X dJ6_checkIndex_0 0 rfl ?_
  refine v_if_lt (pc := 1) (tgt := 9) X dJ6_checkIndex_1 (by decide) (fun c1 => ?_) (fun c1 => ?_)
  · exact w_P_checkIndex_9 fu p0 p1 s z2 X  
  · refine v_iload_n (pc := 4) X dJ6_checkIndex_4 0 rfl ?_
    refine v_iload_n (pc := 5) X dJ6_checkIndex_5 1 rfl ?_
    refine v_icmp_lt (pc := 6) (tgt := 16) X dJ6_checkIndex_6 (by decide) (fun c6 => ?_) (fun c6 => ?_)
    · refine v_iload_n (pc := 16) X dJ6_checkIndex_16 0 rfl ?_
      exact v_iret (pc := 17) X dJ6_checkIndex_17 rfl
    · exact w_P_checkIndex_9 fu p0 p1 s z2 X  
/-! java/util/Objects.checkIndex(II)I -/
abbrev rm_O_checkIndex : Room := { frames := 2, cells := 0, slots := 0, locals := 43 }
theorem hy_O_checkIndex : v_yS yJ13_checkIndex cJ13_checkIndex 2 (some .int) 2 := ⟨q1044, q158, q1045, by decide +kernel⟩
def t_O_checkIndex (fu : Nat) (p0 : Int32) (p1 : Int32) (s : v_S) : Option Int32 :=
  v_b1 (t_P_checkIndex fu p0 p1 s) fun (z_1 : Int32) => some z_1
theorem m_O_checkIndex {w : v_Wd} (l : Launch) (g : v_G) (fu : Nat) (p0 : Int32) (p1 : Int32) (s : v_S) : v_M l yJ13_checkIndex cJ13_checkIndex 2 (some .int) rm_O_checkIndex w g [.int p0, .int p1] s (fun z : Int32 => (some (.int z), s)) (t_O_checkIndex fu p0 p1 s) := by
  refine v_met (by decide +kernel) (Nat.le_of_ble_eq_true rfl) (fun Γ X => ?_)
  refine v_lv (lv' := [(0, .int p0), (1, .int p1)]) rfl ?_
  unfold t_O_checkIndex
  refine v_iload_n (pc := 0) X dJ13_checkIndex_0 0 rfl ?_
  refine v_iload_n (pc := 1) X dJ13_checkIndex_1 1 rfl ?_
  refine v_null (pc := 2) X dJ13_checkIndex_2 ?_
  refine v_cSi (pc := 3) X (m_P_checkIndex l g fu p0 p1 none _) q1046 hy_P_checkIndex rfl rfl rfl rfl dJ13_checkIndex_3 (fun z_1 _ => ?_)
  exact v_iret (pc := 6) X dJ13_checkIndex_6 rfl
/-! java/lang/Integer.bitCount(I)I -/
abbrev rm_I_bitCount : Room := { frames := 1, cells := 0, slots := 0, locals := 21 }
theorem hy_I_bitCount : v_yS yJ14_bitCount cJ14_bitCount 1 (some .int) 1 := ⟨q1389, q159, q1390, by decide +kernel⟩
def t_I_bitCount (fu : Nat) (p0 : Int32) (s : v_S) : Option Int32 :=
  v_n (p0 - ((UInt32.toInt32 (Int32.toUInt32 p0 >>> (Int32.toUInt32 (1 : Int32) &&& Int32.toUInt32 31))) &&& (1431655765 : Int32))) fun (x0_1 : Int32) => v_n ((x0_1 &&& (858993459 : Int32)) + ((UInt32.toInt32 (Int32.toUInt32 x0_1 >>> (Int32.toUInt32 (2 : Int32) &&& Int32.toUInt32 31))) &&& (858993459 : Int32))) fun (x0_2 : Int32) => v_n ((x0_2 + (UInt32.toInt32 (Int32.toUInt32 x0_2 >>> (Int32.toUInt32 (4 : Int32) &&& Int32.toUInt32 31)))) &&& (252645135 : Int32)) fun (x0_3 : Int32) => v_n (x0_3 + (UInt32.toInt32 (Int32.toUInt32 x0_3 >>> (Int32.toUInt32 (8 : Int32) &&& Int32.toUInt32 31)))) fun (x0_4 : Int32) => v_n (x0_4 + (UInt32.toInt32 (Int32.toUInt32 x0_4 >>> (Int32.toUInt32 (16 : Int32) &&& Int32.toUInt32 31)))) fun (x0_5 : Int32) => some (x0_5 &&& (63 : Int32))
theorem m_I_bitCount {w : v_Wd} (l : Launch) (g : v_G) (fu : Nat) (p0 : Int32) (s : v_S) : v_M l yJ14_bitCount cJ14_bitCount 1 (some .int) rm_I_bitCount w g [.int p0] s (fun z : Int32 => (some (.int z), s)) (t_I_bitCount fu p0 s) := by
  refine v_met (by decide +kernel) (Nat.le_of_ble_eq_true rfl) (fun Γ X => ?_)
  refine v_lv (lv' := [(0, .int p0)]) rfl ?_
  unfold t_I_bitCount
  refine v_iload_n (pc := 0) X dJ14_bitCount_0 0 rfl ?_
  refine v_iload_n (pc := 1) X dJ14_bitCount_1 0 rfl ?_
  refine v_iconst (pc := 2) (v := 1) X dJ14_bitCount_2 rfl ?_
  refine v_iushr (pc := 3) X dJ14_bitCount_3 ?_
  refine v_ldcw (pc := 4) X q1391 dJ14_bitCount_4 ?_
  refine v_iand (pc := 7) X dJ14_bitCount_7 ?_
  refine v_isub (pc := 8) X dJ14_bitCount_8 ?_
  refine v_istore_nN (pc := 9) (lvf := fun x0_1 => [(0, .int x0_1)]) X dJ14_bitCount_9 rfl (Nat.le_of_ble_eq_true rfl) (fun _ => rfl) (fun x0_1 => ?_)
  refine v_iload_n (pc := 10) X dJ14_bitCount_10 0 rfl ?_
  refine v_ldcw (pc := 11) X q1392 dJ14_bitCount_11 ?_
  refine v_iand (pc := 14) X dJ14_bitCount_14 ?_
  refine v_iload_n (pc := 15) X dJ14_bitCount_15 0 rfl ?_
  refine v_iconst (pc := 16) (v := 2) X dJ14_bitCount_16 rfl ?_
  refine v_iushr (pc := 17) X dJ14_bitCount_17 ?_
  refine v_ldcw (pc := 18) X q1392 dJ14_bitCount_18 ?_
  refine v_iand (pc := 21) X dJ14_bitCount_21 ?_
  refine v_iadd (pc := 22) X dJ14_bitCount_22 ?_
  refine v_istore_nN (pc := 23) (lvf := fun x0_2 => [(0, .int x0_2)]) X dJ14_bitCount_23 rfl (Nat.le_of_ble_eq_true rfl) (fun _ => rfl) (fun x0_2 => ?_)
  refine v_iload_n (pc := 24) X dJ14_bitCount_24 0 rfl ?_
  refine v_iload_n (pc := 25) X dJ14_bitCount_25 0 rfl ?_
  refine v_iconst (pc := 26) (v := 4) X dJ14_bitCount_26 rfl ?_
  refine v_iushr (pc := 27) X dJ14_bitCount_27 ?_
  refine v_iadd (pc := 28) X dJ14_bitCount_28 ?_
  refine v_ldcw (pc := 29) X q1393 dJ14_bitCount_29 ?_
  refine v_iand (pc := 32) X dJ14_bitCount_32 ?_
  refine v_istore_nN (pc := 33) (lvf := fun x0_3 => [(0, .int x0_3)]) X dJ14_bitCount_33 rfl (Nat.le_of_ble_eq_true rfl) (fun _ => rfl) (fun x0_3 => ?_)
  refine v_iload_n (pc := 34) X dJ14_bitCount_34 0 rfl ?_
  refine v_iload_n (pc := 35) X dJ14_bitCount_35 0 rfl ?_
  refine v_bipush (pc := 36) (v := 8) X dJ14_bitCount_36 rfl ?_
  refine v_iushr (pc := 38) X dJ14_bitCount_38 ?_
  refine v_iadd (pc := 39) X dJ14_bitCount_39 ?_
  refine v_istore_nN (pc := 40) (lvf := fun x0_4 => [(0, .int x0_4)]) X dJ14_bitCount_40 rfl (Nat.le_of_ble_eq_true rfl) (fun _ => rfl) (fun x0_4 => ?_)
  refine v_iload_n (pc := 41) X dJ14_bitCount_41 0 rfl ?_
  refine v_iload_n (pc := 42) X dJ14_bitCount_42 0 rfl ?_
  refine v_bipush (pc := 43) (v := 16) X dJ14_bitCount_43 rfl ?_
  refine v_iushr (pc := 45) X dJ14_bitCount_45 ?_
  refine v_iadd (pc := 46) X dJ14_bitCount_46 ?_
  refine v_istore_nN (pc := 47) (lvf := fun x0_5 => [(0, .int x0_5)]) X dJ14_bitCount_47 rfl (Nat.le_of_ble_eq_true rfl) (fun _ => rfl) (fun x0_5 => ?_)
  refine v_iload_n (pc := 48) X dJ14_bitCount_48 0 rfl ?_
  refine v_bipush (pc := 49) (v := 63) X dJ14_bitCount_49 rfl ?_
  refine v_iand (pc := 51) X dJ14_bitCount_51 ?_
  exact v_iret (pc := 52) X dJ14_bitCount_52 rfl
/-! java/lang/String.coder()B -/
abbrev rm_K_coder : Room := { frames := 1, cells := 0, slots := 0, locals := 21 }
theorem hy_K_coder : v_yV yJ4_coder cJ4_coder 1 (some .byte) 0 := ⟨q727, q728, q144, q729, by decide +kernel⟩
def t_K_coder (fu : Nat) (c0 : Nat) (s : v_S) : Option Int32 :=
  if (1 : Int32) = 0 then (if Int8.toInt32 (Int32.toInt8 (1 : Int32)) = (1 : Int32) then some (1 : Int32) else none) else (if c0 < 48 then (if Int8.toInt32 (Int32.toInt8 (0 : Int32)) = (0 : Int32) then some (0 : Int32) else none) else none)
theorem m_K_coder {w : v_Wd} (l : Launch) (g : v_G) (fu : Nat) (c0 : Nat) (s : v_S) : v_M l yJ4_coder cJ4_coder 1 (some .byte) rm_K_coder w g [.ref (v_K g c0)] s (fun z : Int32 => (some (.int z), s)) (t_K_coder fu c0 s) := by
  refine v_met (by decide +kernel) (Nat.le_of_ble_eq_true rfl) (fun Γ X => ?_)
  refine v_lv (lv' := [(0, .ref (v_K g c0))]) rfl ?_
  unfold t_K_coder
  refine v_gsti (pc := 0) (z := 1) X q731 (lw_all_tbl q144) [true, false, false, false, false, false, false, true, true, false] (by decide +kernel) q730 dJ4_coder_0 ?_
  refine v_if_eq (pc := 3) (tgt := 13) X dJ4_coder_3 (by decide) (fun c3 => ?_) (fun c3 => ?_)
  · refine v_iconst (pc := 13) (v := 1) X dJ4_coder_13 rfl ?_
    exact v_bret (pc := 14) X dJ4_coder_14 rfl
  · refine v_aload_n (pc := 6) X dJ4_coder_6 0 rfl ?_
    refine v_nzT (pc := 7) (fun h_1 => ?_)
    refine v_kcod (pc := 7) X h_1 q2145 dJ4_coder_7 ?_
    refine v_goto (pc := 10) (tgt := 14) X dJ4_coder_10 (by decide) ?_
    exact v_bret (pc := 14) X dJ4_coder_14 rfl
/-! java/lang/String.length()I -/
abbrev rm_K_length : Room := { frames := 2, cells := 0, slots := 0, locals := 41 }
theorem hy_K_length : v_yV yJ4_length cJ4_length 1 (some .int) 0 := ⟨q723, q724, q144, q725, by decide +kernel⟩
def t_K_length (fu : Nat) (c0 : Nat) (s : v_S) : Option Int32 :=
  if c0 < 48 then if c0 < 48 then if c0 < 48 then v_b1 (t_K_coder fu c0 s) fun (z_4 : Int32) => (some ((Int32.ofNat (v_sl c0)) >>> (z_4 &&& 31))) else none else none else none
theorem m_K_length {w : v_Wd} (l : Launch) (g : v_G) (fu : Nat) (c0 : Nat) (s : v_S) : v_M l yJ4_length cJ4_length 1 (some .int) rm_K_length w g [.ref (v_K g c0)] s (fun z : Int32 => (some (.int z), s)) (t_K_length fu c0 s) := by
  refine v_met (by decide +kernel) (Nat.le_of_ble_eq_true rfl) (fun Γ X => ?_)
  refine v_lv (lv' := [(0, .ref (v_K g c0))]) rfl ?_
  unfold t_K_length
  refine v_aload_n (pc := 0) X dJ4_length_0 0 rfl ?_
  refine v_nzT (pc := 1) (fun h_1 => ?_)
  refine v_kval (pc := 1) X h_1 q2144 dJ4_length_1 ?_
  refine v_nzT (pc := 4) (fun h_2 => ?_)
  refine v_klen (pc := 4) X h_2 dJ4_length_4 ?_
  refine v_aload_n (pc := 5) X dJ4_length_5 0 rfl ?_
  refine v_nzT (pc := 6) (fun h_3 => ?_)
  refine v_cGi (pc := 6) X (m_K_coder l g fu c0 _) (v_rc_k X h_3) (Or.inl q726) hy_K_coder rfl rfl rfl rfl dJ4_length_6 (fun z_4 _ => ?_)
  refine v_ishr (pc := 9) X dJ4_length_9 ?_
  exact v_iret (pc := 10) X dJ4_length_10 rfl
/-! java/lang/String.isLatin1()Z -/
abbrev rm_K_isLatin1 : Room := { frames := 1, cells := 0, slots := 0, locals := 21 }
theorem hy_K_isLatin1 : v_yV yJ4_isLatin1 cJ4_isLatin1 1 (some .boolean) 0 := ⟨q737, q738, q144, q739, by decide +kernel⟩
def t_K_isLatin1 (fu : Nat) (c0 : Nat) (s : v_S) : Option Int32 :=
  if (1 : Int32) = 0 then (some (0 : Int32)) else (if c0 < 48 then (if (0 : Int32) = 0 then (some (1 : Int32)) else (some (0 : Int32))) else none)
theorem m_K_isLatin1 {w : v_Wd} (l : Launch) (g : v_G) (fu : Nat) (c0 : Nat) (s : v_S) : v_M l yJ4_isLatin1 cJ4_isLatin1 1 (some .boolean) rm_K_isLatin1 w g [.ref (v_K g c0)] s (fun z : Int32 => (some (.int z), s)) (t_K_isLatin1 fu c0 s) := by
  refine v_met (by decide +kernel) (Nat.le_of_ble_eq_true rfl) (fun Γ X => ?_)
  refine v_lv (lv' := [(0, .ref (v_K g c0))]) rfl ?_
  unfold t_K_isLatin1
  refine v_gsti (pc := 0) (z := 1) X q731 (lw_all_tbl q144) [true, false, false, false, false, false, false, true, true, false] (by decide +kernel) q730 dJ4_isLatin1_0 ?_
  refine v_if_eq (pc := 3) (tgt := 17) X dJ4_isLatin1_3 (by decide) (fun c3 => ?_) (fun c3 => ?_)
  · refine v_iconst (pc := 17) (v := 0) X dJ4_isLatin1_17 rfl ?_
    exact v_zret (pc := 18) X dJ4_isLatin1_18 rfl rfl
  · refine v_aload_n (pc := 6) X dJ4_isLatin1_6 0 rfl ?_
    refine v_nzT (pc := 7) (fun h_1 => ?_)
    refine v_kcod (pc := 7) X h_1 q2145 dJ4_isLatin1_7 ?_
    refine v_if_ne (pc := 10) (tgt := 17) X dJ4_isLatin1_10 (by decide) (fun c10 => ?_) (fun c10 => ?_)
    · refine v_iconst (pc := 17) (v := 0) X dJ4_isLatin1_17 rfl ?_
      exact v_zret (pc := 18) X dJ4_isLatin1_18 rfl rfl
    · refine v_iconst (pc := 13) (v := 1) X dJ4_isLatin1_13 rfl ?_
      refine v_goto (pc := 14) (tgt := 18) X dJ4_isLatin1_14 (by decide) ?_
      exact v_zret (pc := 18) X dJ4_isLatin1_18 rfl rfl
/-! java/lang/String.checkIndex(II)V -/
abbrev rm_K_checkIndex : Room := { frames := 2, cells := 0, slots := 0, locals := 43 }
theorem hy_K_checkIndex : v_yS yJ4_checkIndex cJ4_checkIndex 2 none 2 := ⟨q744, q144, q745, by decide +kernel⟩
def t_K_checkIndex (fu : Nat) (p0 : Int32) (p1 : Int32) (s : v_S) : Option Unit :=
  v_b1 (t_P_checkIndex fu p0 p1 s) fun (z_2 : Int32) => some ()
theorem m_K_checkIndex {w : v_Wd} (l : Launch) (g : v_G) (fu : Nat) (p0 : Int32) (p1 : Int32) (s : v_S) : v_M l yJ4_checkIndex cJ4_checkIndex 2 none rm_K_checkIndex w g [.int p0, .int p1] s (fun _ : Unit => ((none : Option Value), s)) (t_K_checkIndex fu p0 p1 s) := by
  refine v_met (by decide +kernel) (Nat.le_of_ble_eq_true rfl) (fun Γ X => ?_)
  refine v_lv (lv' := [(0, .int p0), (1, .int p1)]) rfl ?_
  unfold t_K_checkIndex
  refine v_iload_n (pc := 0) X dJ4_checkIndex_0 0 rfl ?_
  refine v_iload_n (pc := 1) X dJ4_checkIndex_1 1 rfl ?_
  refine v_gstq (pc := 2) X q747 (lw_all_tbl q146) [true, false, false, false, false, false, false, true, true, true, false] (by decide +kernel) q746 dJ4_checkIndex_2 (fun z_1 => ?_)
  refine v_cSi (pc := 5) X (m_P_checkIndex l g fu p0 p1 z_1 _) q748 hy_P_checkIndex rfl rfl rfl rfl dJ4_checkIndex_5 (fun z_2 _ => ?_)
  refine v_pop (pc := 8) X dJ4_checkIndex_8 rfl ?_
  exact v_vret (pc := 9) X dJ4_checkIndex_9 rfl
/-! java/lang/StringLatin1.charAt([BI)C -/
abbrev rm_KL_charAt : Room := { frames := 3, cells := 0, slots := 0, locals := 64 }
theorem hy_KL_charAt : v_yS yJ5_charAt cJ5_charAt 2 (some .char) 2 := ⟨q741, q145, q742, by decide +kernel⟩
def t_KL_charAt (fu : Nat) (p0 : Nat) (p1 : Int32) (s : v_S) : Option Int32 :=
  if p0 < 48 then v_b1 (t_K_checkIndex fu p1 (Int32.ofNat (v_sl p0)) s) fun (_ : Unit) => if p0 < 48 then v_g p1 (v_sl p0) <| (if UInt32.toInt32 (Int32.toUInt32 (UInt32.toInt32 (Int32.toUInt32 ((v_sb p0 (Int32.toNatClampNeg p1)) &&& (255 : Int32)) % 65536)) % 65536) = (UInt32.toInt32 (Int32.toUInt32 ((v_sb p0 (Int32.toNatClampNeg p1)) &&& (255 : Int32)) % 65536)) then some (UInt32.toInt32 (Int32.toUInt32 ((v_sb p0 (Int32.toNatClampNeg p1)) &&& (255 : Int32)) % 65536)) else none) else none else none
theorem m_KL_charAt {w : v_Wd} (l : Launch) (g : v_G) (fu : Nat) (p0 : Nat) (p1 : Int32) (s : v_S) : v_M l yJ5_charAt cJ5_charAt 2 (some .char) rm_KL_charAt w g [.ref (v_KV g p0), .int p1] s (fun z : Int32 => (some (.int z), s)) (t_KL_charAt fu p0 p1 s) := by
  refine v_met (by decide +kernel) (Nat.le_of_ble_eq_true rfl) (fun Γ X => ?_)
  refine v_lv (lv' := [(0, .ref (v_KV g p0)), (1, .int p1)]) rfl ?_
  unfold t_KL_charAt
  refine v_iload_n (pc := 0) X dJ5_charAt_0 1 rfl ?_
  refine v_aload_n (pc := 1) X dJ5_charAt_1 0 rfl ?_
  refine v_nzT (pc := 2) (fun h_1 => ?_)
  refine v_klen (pc := 2) X h_1 dJ5_charAt_2 ?_
  refine v_cSu (pc := 3) X (m_K_checkIndex l g fu p1 (Int32.ofNat (v_sl p0)) _) q743 hy_K_checkIndex rfl rfl rfl rfl dJ5_charAt_3 (fun _ _ => ?_)
  refine v_aload_n (pc := 6) X dJ5_charAt_6 0 rfl ?_
  refine v_iload_n (pc := 7) X dJ5_charAt_7 1 rfl ?_
  refine v_nzT (pc := 8) (fun h_3 => ?_)
  refine v_kald (pc := 8) X h_3 dJ5_charAt_8 ?_
  refine v_sipush (pc := 9) (v := 255) X dJ5_charAt_9 rfl ?_
  refine v_iand (pc := 12) X dJ5_charAt_12 ?_
  refine v_i2c (pc := 13) X dJ5_charAt_13 ?_
  exact v_cret (pc := 14) X dJ5_charAt_14 rfl
/-! java/lang/String.charAt(I)C -/
abbrev rm_K_charAt : Room := { frames := 4, cells := 0, slots := 0, locals := 85 }
theorem hy_K_charAt : v_yV yJ4_charAt cJ4_charAt 2 (some .char) 1 := ⟨q733, q734, q144, q735, by decide +kernel⟩
def t_K_charAt (fu : Nat) (c0 : Nat) (p1 : Int32) (s : v_S) : Option Int32 :=
  if c0 < 48 then v_b1 (t_K_isLatin1 fu c0 s) fun (z_2 : Int32) => (if z_2 = 0 then (none) else (if c0 < 48 then v_b1 (t_KL_charAt fu c0 p1 s) fun (z_5 : Int32) => (if UInt32.toInt32 (Int32.toUInt32 z_5 % 65536) = z_5 then some z_5 else none) else none)) else none
theorem m_K_charAt {w : v_Wd} (l : Launch) (g : v_G) (fu : Nat) (c0 : Nat) (p1 : Int32) (s : v_S) : v_M l yJ4_charAt cJ4_charAt 2 (some .char) rm_K_charAt w g [.ref (v_K g c0), .int p1] s (fun z : Int32 => (some (.int z), s)) (t_K_charAt fu c0 p1 s) := by
  refine v_met (by decide +kernel) (Nat.le_of_ble_eq_true rfl) (fun Γ X => ?_)
  refine v_lv (lv' := [(0, .ref (v_K g c0)), (1, .int p1)]) rfl ?_
  unfold t_K_charAt
  refine v_aload_n (pc := 0) X dJ4_charAt_0 0 rfl ?_
  refine v_nzT (pc := 1) (fun h_1 => ?_)
  refine v_cGi (pc := 1) X (m_K_isLatin1 l g fu c0 _) (v_rc_k X h_1) (Or.inl q736) hy_K_isLatin1 rfl rfl rfl rfl dJ4_charAt_1 (fun z_2 _ => ?_)
  refine v_if_eq (pc := 4) (tgt := 16) X dJ4_charAt_4 (by decide) (fun c4 => ?_) (fun c4 => ?_)
  · exact v_none
  · refine v_aload_n (pc := 7) X dJ4_charAt_7 0 rfl ?_
    refine v_nzT (pc := 8) (fun h_4 => ?_)
    refine v_kval (pc := 8) X h_4 q2144 dJ4_charAt_8 ?_
    refine v_iload_n (pc := 11) X dJ4_charAt_11 1 rfl ?_
    refine v_cSi (pc := 12) X (m_KL_charAt l g fu c0 p1 _) q740 hy_KL_charAt rfl rfl rfl rfl dJ4_charAt_12 (fun z_5 _ => ?_)
    exact v_cret (pc := 15) X dJ4_charAt_15 rfl
