/-! the system's world: numbered cells 0 .. 47 -/
def layC : v_Lay := fun n => match n with
  | 0 => .inl (0, [4, 2, 0, 9, 10, 11, 12, 0, 0, 0, 13, 0, 1, 14, 21, 28])
  | 1 => .inr (6, 4, 5)
  | 2 => .inl (1, [2])
  | 3 => .inl (1, [2])
  | 4 => .inl (1, [2])
  | 5 => .inl (1, [2])
  | 6 => .inr (0, 3, 0)
  | 7 => .inl (2, [32, 39, 40, 41, 42, 43, 44, 45, 46, 47, 48, 49, 50, 2, 0, 0, 0, 0, 0, 0, 0, 0, 0])
  | 8 => .inr (7, 3, 2)
  | 9 => .inr (1, 1600, 0)
  | 10 => .inr (0, 3, 0)
  | 11 => .inr (5, 6, 15)
  | 12 => .inr (0, 6, 0)
  | 13 => .inr (0, 6, 0)
  | 14 => .inr (0, 6, 0)
  | 15 => .inr (0, 6, 0)
  | 16 => .inr (0, 6, 0)
  | 17 => .inr (0, 6, 0)
  | 18 => .inr (5, 6, 22)
  | 19 => .inr (0, 6, 0)
  | 20 => .inr (0, 6, 0)
  | 21 => .inr (0, 6, 0)
  | 22 => .inr (0, 6, 0)
  | 23 => .inr (0, 6, 0)
  | 24 => .inr (0, 6, 0)
  | 25 => .inl (3, [29, 30, 31, 0, 0, 0, 3])
  | 26 => .inr (0, 6, 0)
  | 27 => .inr (0, 6, 0)
  | 28 => .inr (0, 99, 0)
  | 29 => .inr (5, 6, 33)
  | 30 => .inr (0, 30, 0)
  | 31 => .inr (0, 30, 0)
  | 32 => .inr (0, 30, 0)
  | 33 => .inr (0, 30, 0)
  | 34 => .inr (0, 30, 0)
  | 35 => .inr (0, 30, 0)
  | 36 => .inr (0, 6, 0)
  | 37 => .inr (0, 3, 0)
  | 38 => .inr (0, 3, 0)
  | 39 => .inr (0, 3, 0)
  | 40 => .inr (0, 3, 0)
  | 41 => .inr (0, 8, 0)
  | 42 => .inr (0, 8, 0)
  | 43 => .inr (0, 8, 0)
  | 44 => .inr (0, 8, 0)
  | 45 => .inr (0, 8, 0)
  | 46 => .inr (0, 8, 0)
  | 47 => .inr (5, 8, 41)
  | _ => .inr (0, 0, 0)
def clC : List vw_C := [(RX0, TX0, 16), (RX1, TX1, 1), (RX3, TX3, 23), (RX4, TX4, 7), (RX2, TX2, 9), (RJ2, TJ2, 3), (RX8, TX8, 5), (RX9, TX9, 5), (RX10, TX10, 6), (RX11, TX11, 3), (RX6, TX6, 7), (RX7, TX7, 8)]
def wC : v_Wd := (layC, 48, clC)
theorem wC_c0 : wC.2.2[0]? = some ("FloodLent", TX0, 16) := rfl
theorem wC_c1 : wC.2.2[1]? = some ("FloodLent$Slot", TX1, 1) := rfl
theorem wC_c2 : wC.2.2[2]? = some ("FloodLent$Year", TX3, 23) := rfl
theorem wC_c3 : wC.2.2[3]? = some ("FloodLent$Rings", TX4, 7) := rfl
theorem wC_c4 : wC.2.2[4]? = some ("FloodLent$Plain", TX2, 9) := rfl
theorem wC_c5 : wC.2.2[5]? = some ("java/util/ArrayList", TJ2, 3) := rfl
theorem wC_c6 : wC.2.2[6]? = some ("FloodLent$Village", TX8, 5) := rfl
theorem wC_c7 : wC.2.2[7]? = some ("FloodLent$Crop", TX9, 5) := rfl
theorem wC_c8 : wC.2.2[8]? = some ("FloodLent$Lent", TX10, 6) := rfl
theorem wC_c9 : wC.2.2[9]? = some ("FloodLent$Image", TX11, 3) := rfl
theorem wC_c10 : wC.2.2[10]? = some ("FloodLent$Reader", TX6, 7) := rfl
theorem wC_c11 : wC.2.2[11]? = some ("FloodLent$Fault", TX7, 8) := rfl
theorem wC_n0 : 0 < wC.2.1 := Nat.le_of_ble_eq_true rfl
theorem wC_l0 : wC.1 0 = .inl (0, [4, 2, 0, 9, 10, 11, 12, 0, 0, 0, 13, 0, 1, 14, 21, 28]) := rfl
theorem wC_o0 : v_ob wC 0 RX0 := ⟨wC_n0, _, _, _, _, wC_l0, wC_c0⟩
theorem wC_n1 : 1 < wC.2.1 := Nat.le_of_ble_eq_true rfl
theorem wC_l1 : wC.1 1 = .inr (6, 4, 5) := rfl
theorem wC_n2 : 2 < wC.2.1 := Nat.le_of_ble_eq_true rfl
theorem wC_l2 : wC.1 2 = .inl (1, [2]) := rfl
theorem wC_o2 : v_ob wC 2 RX1 := ⟨wC_n2, _, _, _, _, wC_l2, wC_c1⟩
theorem wC_n3 : 3 < wC.2.1 := Nat.le_of_ble_eq_true rfl
theorem wC_l3 : wC.1 3 = .inl (1, [2]) := rfl
theorem wC_o3 : v_ob wC 3 RX1 := ⟨wC_n3, _, _, _, _, wC_l3, wC_c1⟩
theorem wC_n4 : 4 < wC.2.1 := Nat.le_of_ble_eq_true rfl
theorem wC_l4 : wC.1 4 = .inl (1, [2]) := rfl
theorem wC_o4 : v_ob wC 4 RX1 := ⟨wC_n4, _, _, _, _, wC_l4, wC_c1⟩
theorem wC_n5 : 5 < wC.2.1 := Nat.le_of_ble_eq_true rfl
theorem wC_l5 : wC.1 5 = .inl (1, [2]) := rfl
theorem wC_o5 : v_ob wC 5 RX1 := ⟨wC_n5, _, _, _, _, wC_l5, wC_c1⟩
theorem wC_n6 : 6 < wC.2.1 := Nat.le_of_ble_eq_true rfl
theorem wC_l6 : wC.1 6 = .inr (0, 3, 0) := rfl
theorem wC_n7 : 7 < wC.2.1 := Nat.le_of_ble_eq_true rfl
theorem wC_l7 : wC.1 7 = .inl (2, [32, 39, 40, 41, 42, 43, 44, 45, 46, 47, 48, 49, 50, 2, 0, 0, 0, 0, 0, 0, 0, 0, 0]) := rfl
theorem wC_o7 : v_ob wC 7 RX3 := ⟨wC_n7, _, _, _, _, wC_l7, wC_c2⟩
theorem wC_n8 : 8 < wC.2.1 := Nat.le_of_ble_eq_true rfl
theorem wC_l8 : wC.1 8 = .inr (7, 3, 2) := rfl
theorem wC_n9 : 9 < wC.2.1 := Nat.le_of_ble_eq_true rfl
theorem wC_l9 : wC.1 9 = .inr (1, 1600, 0) := rfl
theorem wC_n10 : 10 < wC.2.1 := Nat.le_of_ble_eq_true rfl
theorem wC_l10 : wC.1 10 = .inr (0, 3, 0) := rfl
theorem wC_n11 : 11 < wC.2.1 := Nat.le_of_ble_eq_true rfl
theorem wC_l11 : wC.1 11 = .inr (5, 6, 15) := rfl
theorem wC_n12 : 12 < wC.2.1 := Nat.le_of_ble_eq_true rfl
theorem wC_l12 : wC.1 12 = .inr (0, 6, 0) := rfl
theorem wC_n13 : 13 < wC.2.1 := Nat.le_of_ble_eq_true rfl
theorem wC_l13 : wC.1 13 = .inr (0, 6, 0) := rfl
theorem wC_n14 : 14 < wC.2.1 := Nat.le_of_ble_eq_true rfl
theorem wC_l14 : wC.1 14 = .inr (0, 6, 0) := rfl
theorem wC_n15 : 15 < wC.2.1 := Nat.le_of_ble_eq_true rfl
theorem wC_l15 : wC.1 15 = .inr (0, 6, 0) := rfl
theorem wC_n16 : 16 < wC.2.1 := Nat.le_of_ble_eq_true rfl
theorem wC_l16 : wC.1 16 = .inr (0, 6, 0) := rfl
theorem wC_n17 : 17 < wC.2.1 := Nat.le_of_ble_eq_true rfl
theorem wC_l17 : wC.1 17 = .inr (0, 6, 0) := rfl
theorem wC_n18 : 18 < wC.2.1 := Nat.le_of_ble_eq_true rfl
theorem wC_l18 : wC.1 18 = .inr (5, 6, 22) := rfl
theorem wC_n19 : 19 < wC.2.1 := Nat.le_of_ble_eq_true rfl
theorem wC_l19 : wC.1 19 = .inr (0, 6, 0) := rfl
theorem wC_n20 : 20 < wC.2.1 := Nat.le_of_ble_eq_true rfl
theorem wC_l20 : wC.1 20 = .inr (0, 6, 0) := rfl
theorem wC_n21 : 21 < wC.2.1 := Nat.le_of_ble_eq_true rfl
theorem wC_l21 : wC.1 21 = .inr (0, 6, 0) := rfl
theorem wC_n22 : 22 < wC.2.1 := Nat.le_of_ble_eq_true rfl
theorem wC_l22 : wC.1 22 = .inr (0, 6, 0) := rfl
theorem wC_n23 : 23 < wC.2.1 := Nat.le_of_ble_eq_true rfl
theorem wC_l23 : wC.1 23 = .inr (0, 6, 0) := rfl
theorem wC_n24 : 24 < wC.2.1 := Nat.le_of_ble_eq_true rfl
theorem wC_l24 : wC.1 24 = .inr (0, 6, 0) := rfl
theorem wC_n25 : 25 < wC.2.1 := Nat.le_of_ble_eq_true rfl
theorem wC_l25 : wC.1 25 = .inl (3, [29, 30, 31, 0, 0, 0, 3]) := rfl
theorem wC_o25 : v_ob wC 25 RX4 := ⟨wC_n25, _, _, _, _, wC_l25, wC_c3⟩
theorem wC_n26 : 26 < wC.2.1 := Nat.le_of_ble_eq_true rfl
theorem wC_l26 : wC.1 26 = .inr (0, 6, 0) := rfl
theorem wC_n27 : 27 < wC.2.1 := Nat.le_of_ble_eq_true rfl
theorem wC_l27 : wC.1 27 = .inr (0, 6, 0) := rfl
theorem wC_n28 : 28 < wC.2.1 := Nat.le_of_ble_eq_true rfl
theorem wC_l28 : wC.1 28 = .inr (0, 99, 0) := rfl
theorem wC_n29 : 29 < wC.2.1 := Nat.le_of_ble_eq_true rfl
theorem wC_l29 : wC.1 29 = .inr (5, 6, 33) := rfl
theorem wC_n30 : 30 < wC.2.1 := Nat.le_of_ble_eq_true rfl
theorem wC_l30 : wC.1 30 = .inr (0, 30, 0) := rfl
theorem wC_n31 : 31 < wC.2.1 := Nat.le_of_ble_eq_true rfl
theorem wC_l31 : wC.1 31 = .inr (0, 30, 0) := rfl
theorem wC_n32 : 32 < wC.2.1 := Nat.le_of_ble_eq_true rfl
theorem wC_l32 : wC.1 32 = .inr (0, 30, 0) := rfl
theorem wC_n33 : 33 < wC.2.1 := Nat.le_of_ble_eq_true rfl
theorem wC_l33 : wC.1 33 = .inr (0, 30, 0) := rfl
theorem wC_n34 : 34 < wC.2.1 := Nat.le_of_ble_eq_true rfl
theorem wC_l34 : wC.1 34 = .inr (0, 30, 0) := rfl
theorem wC_n35 : 35 < wC.2.1 := Nat.le_of_ble_eq_true rfl
theorem wC_l35 : wC.1 35 = .inr (0, 30, 0) := rfl
theorem wC_n36 : 36 < wC.2.1 := Nat.le_of_ble_eq_true rfl
theorem wC_l36 : wC.1 36 = .inr (0, 6, 0) := rfl
theorem wC_n37 : 37 < wC.2.1 := Nat.le_of_ble_eq_true rfl
theorem wC_l37 : wC.1 37 = .inr (0, 3, 0) := rfl
theorem wC_n38 : 38 < wC.2.1 := Nat.le_of_ble_eq_true rfl
theorem wC_l38 : wC.1 38 = .inr (0, 3, 0) := rfl
theorem wC_n39 : 39 < wC.2.1 := Nat.le_of_ble_eq_true rfl
theorem wC_l39 : wC.1 39 = .inr (0, 3, 0) := rfl
theorem wC_n40 : 40 < wC.2.1 := Nat.le_of_ble_eq_true rfl
theorem wC_l40 : wC.1 40 = .inr (0, 3, 0) := rfl
theorem wC_n41 : 41 < wC.2.1 := Nat.le_of_ble_eq_true rfl
theorem wC_l41 : wC.1 41 = .inr (0, 8, 0) := rfl
theorem wC_n42 : 42 < wC.2.1 := Nat.le_of_ble_eq_true rfl
theorem wC_l42 : wC.1 42 = .inr (0, 8, 0) := rfl
theorem wC_n43 : 43 < wC.2.1 := Nat.le_of_ble_eq_true rfl
theorem wC_l43 : wC.1 43 = .inr (0, 8, 0) := rfl
theorem wC_n44 : 44 < wC.2.1 := Nat.le_of_ble_eq_true rfl
theorem wC_l44 : wC.1 44 = .inr (0, 8, 0) := rfl
theorem wC_n45 : 45 < wC.2.1 := Nat.le_of_ble_eq_true rfl
theorem wC_l45 : wC.1 45 = .inr (0, 8, 0) := rfl
theorem wC_n46 : 46 < wC.2.1 := Nat.le_of_ble_eq_true rfl
theorem wC_l46 : wC.1 46 = .inr (0, 8, 0) := rfl
theorem wC_n47 : 47 < wC.2.1 := Nat.le_of_ble_eq_true rfl
theorem wC_l47 : wC.1 47 = .inr (5, 8, 41) := rfl
def yList_get : MethodName := ⟨"java/util/List", "get", "(I)Ljava/lang/Object;"⟩
def yList_size : MethodName := ⟨"java/util/List", "size", "()I"⟩
theorem hF_get : v_yF RJ2 yList_get yJ2_get cJ2_get 2 (some (.object "java/lang/Object")) 1 := ⟨⟨q1038, q1040, q138, q1042⟩, ⟨q1037, q1036, q1041, q1039, q833⟩, by decide +kernel⟩
theorem hF_size : v_yF RJ2 yList_size yJ2_size cJ2_size 1 (some .int) 0 := ⟨⟨q834, q836, q138, q838⟩, ⟨q832, q831, q837, q835, q833⟩, by decide +kernel⟩
/-! FloodLent$Plain.is()Z -/
abbrev rm_Q_is : Room := { frames := 1, cells := 0, slots := 0, locals := 21 }
theorem hy_Q_is : v_yV yX2_is cX2_is 1 (some .boolean) 0 := ⟨q1053, q1054, q135, q1055, by decide +kernel⟩
def t_Q_is (fu : Nat) (a0 : Nat) (s : v_S) : Option Int32 :=
  v_b1 (v_dI s a0 4 8) fun (z_1 : Int32) => if z_1 ≤ 0 then (some (0 : Int32)) else (some (1 : Int32))
theorem m_Q_is (l : Launch) (g : v_G) (fu : Nat) (a0 : Nat) (s : v_S) : v_M l yX2_is cX2_is 1 (some .boolean) rm_Q_is wC g [.ref a0] s (fun z : Int32 => (some (.int z), s)) (t_Q_is fu a0 s) := by
  refine v_met (by decide +kernel) (Nat.le_of_ble_eq_true rfl) (fun Γ X => ?_)
  refine v_lv (lv' := [(0, .ref a0)]) rfl ?_
  unfold t_Q_is
  refine v_aload_n (pc := 0) X dX2_is_0 0 rfl ?_
  refine v_dgetI (pc := 1) X wC_c4 in_X2 (Nat.le_of_ble_eq_true rfl : 8 < 9) q445 dX2_is_1 (fun z_1 => ?_)
  refine v_if_le (pc := 4) (tgt := 11) X dX2_is_4 (by decide) (fun c4 => ?_) (fun c4 => ?_)
  · refine v_iconst (pc := 11) (v := 0) X dX2_is_11 rfl ?_
    exact v_zret (pc := 12) X dX2_is_12 rfl rfl
  · refine v_iconst (pc := 7) (v := 1) X dX2_is_7 rfl ?_
    refine v_goto (pc := 8) (tgt := 12) X dX2_is_8 (by decide) ?_
    exact v_zret (pc := 12) X dX2_is_12 rfl rfl
/-! java/util/ArrayList.elementData(I)Ljava/lang/Object; -/
abbrev rm_L_elementData : Room := { frames := 1, cells := 0, slots := 0, locals := 21 }
theorem hy_L_elementData : v_yV yJ2_elementData cJ2_elementData 2 (some (.object "java/lang/Object")) 1 := ⟨q1048, q1049, q138, q1050, by decide +kernel⟩
def t_L_elementData (fu : Nat) (a0 : Nat) (p1 : Int32) (s : v_S) : Option (Option Nat) :=
  v_b1 (v_dR s a0 5 1) fun (e_1 : Option Nat) => v_b1 e_1 fun (a_2 : Nat) => v_b2 (v_dq s a_2 8) fun (n_3 : Nat) (f_4 : Nat → Option Nat) => v_g p1 n_3 <| some (f_4 (Int32.toNatClampNeg p1))
theorem m_L_elementData (l : Launch) (g : v_G) (fu : Nat) (a0 : Nat) (p1 : Int32) (s : v_S) : v_M l yJ2_elementData cJ2_elementData 2 (some (.object "java/lang/Object")) rm_L_elementData wC g [.ref a0, .int p1] s (fun z : Option Nat => (some (va_rf z), s)) (t_L_elementData fu a0 p1 s) := by
  refine v_met (by decide +kernel) (Nat.le_of_ble_eq_true rfl) (fun Γ X => ?_)
  refine v_lv (lv' := [(0, .ref a0), (1, .int p1)]) rfl ?_
  unfold t_L_elementData
  refine v_aload_n (pc := 0) X dJ2_elementData_0 0 rfl ?_
  refine v_dgetR (pc := 1) X wC_c5 in_J2 (Nat.le_of_ble_eq_true rfl : 1 < 3) q406 dJ2_elementData_1 (fun e_1 => ?_)
  refine v_iload_n (pc := 4) X dJ2_elementData_4 1 rfl ?_
  refine v_unq1 (pc := 5) (fun a_2 _ => ?_)
  refine v_dqald (pc := 5) X dJ2_elementData_5 (fun n_3 f_4 => ?_)
  exact v_aretq (pc := 6) X dJ2_elementData_6 rfl
/-! java/util/ArrayList.get(I)Ljava/lang/Object; -/
abbrev rm_L_get : Room := { frames := 3, cells := 0, slots := 0, locals := 64 }
def t_L_get (fu : Nat) (a0 : Nat) (p1 : Int32) (s : v_S) : Option (Option Nat) :=
  v_b1 (v_dI s a0 5 2) fun (z_1 : Int32) => v_b1 (t_O_checkIndex fu p1 z_1 s) fun (z_2 : Int32) => if v_isc s (some a0) 5 = true then v_b1 (t_L_elementData fu a0 p1 s) fun (e_4 : Option Nat) => (some e_4) else none
theorem m_L_get (l : Launch) (g : v_G) (fu : Nat) (a0 : Nat) (p1 : Int32) (s : v_S) : v_M l yJ2_get cJ2_get 2 (some (.object "java/lang/Object")) rm_L_get wC g [.ref a0, .int p1] s (fun z : Option Nat => (some (va_rf z), s)) (t_L_get fu a0 p1 s) := by
  refine v_met (by decide +kernel) (Nat.le_of_ble_eq_true rfl) (fun Γ X => ?_)
  refine v_lv (lv' := [(0, .ref a0), (1, .int p1)]) rfl ?_
  unfold t_L_get
  refine v_iload_n (pc := 0) X dJ2_get_0 1 rfl ?_
  refine v_aload_n (pc := 1) X dJ2_get_1 0 rfl ?_
  refine v_dgetI (pc := 2) X wC_c5 in_J2 (Nat.le_of_ble_eq_true rfl : 2 < 3) q407 dJ2_get_2 (fun z_1 => ?_)
  refine v_cSi (pc := 5) X (m_O_checkIndex l g fu p1 z_1 _) q1043 hy_O_checkIndex rfl rfl rfl rfl dJ2_get_5 (fun z_2 _ => ?_)
  refine v_pop (pc := 8) X dJ2_get_8 rfl ?_
  refine v_aload_n (pc := 9) X dJ2_get_9 0 rfl ?_
  refine v_iload_n (pc := 10) X dJ2_get_10 1 rfl ?_
  refine v_nzT (pc := 11) (fun h_3 => ?_)
  refine v_cGq (pc := 11) X (m_L_elementData l g fu a0 p1 _) (v_rc_d X wC_c5 h_3) (Or.inl q1047) hy_L_elementData rfl rfl rfl rfl dJ2_get_11 (fun e_4 _ => ?_)
  exact v_aretq (pc := 14) X dJ2_get_14 rfl
/-! java/util/ArrayList.size()I -/
abbrev rm_L_size : Room := { frames := 1, cells := 0, slots := 0, locals := 21 }
def t_L_size (fu : Nat) (a0 : Nat) (s : v_S) : Option Int32 :=
  v_b1 (v_dI s a0 5 2) fun (z_1 : Int32) => some z_1
theorem m_L_size (l : Launch) (g : v_G) (fu : Nat) (a0 : Nat) (s : v_S) : v_M l yJ2_size cJ2_size 1 (some .int) rm_L_size wC g [.ref a0] s (fun z : Int32 => (some (.int z), s)) (t_L_size fu a0 s) := by
  refine v_met (by decide +kernel) (Nat.le_of_ble_eq_true rfl) (fun Γ X => ?_)
  refine v_lv (lv' := [(0, .ref a0)]) rfl ?_
  unfold t_L_size
  refine v_aload_n (pc := 0) X dJ2_size_0 0 rfl ?_
  refine v_dgetI (pc := 1) X wC_c5 in_J2 (Nat.le_of_ble_eq_true rfl : 2 < 3) q407 dJ2_size_1 (fun z_1 => ?_)
  exact v_iret (pc := 4) X dJ2_size_4 rfl
/-! java/util/Arrays.fill([II)V -/
abbrev rm_A_fill : Room := { frames := 1, cells := 0, slots := 0, locals := 21 }
theorem hy_A_fill : v_yS yJ12_fill cJ12_fill 4 none 2 := ⟨q1057, q154, q1058, by decide +kernel⟩
def t_A_fill_5 (fu : Nat) (p0 : Nat) (p1 : Int32) (r5 : Int32 × Int32 × v_S → Option v_S) (x2 : Int32) (x3 : Int32) (s : v_S) : Option v_S :=
if x3 ≤ x2 then (some s) else (v_b1 (v_il wC p0) fun (n_2 : Nat) => v_g x2 n_2 <| v_n (v_uI s p0 (Int32.toNatClampNeg x2) p1) fun (s_3 : v_S) => r5 (x2 + (1 : Int32), x3, s_3))
def t_A_fill_5B (fu : Nat) (p0 : Nat) (p1 : Int32) (r5 : Int32 × Int32 × v_S → Option v_S) (a : Int32 × Int32 × v_S) : Option v_S := t_A_fill_5 fu p0 p1 r5 a.1 a.2.1 a.2.2
def t_A_fill (fu : Nat) (p0 : Nat) (p1 : Int32) (s : v_S) : Option v_S :=
  v_b1 ((v_il wC p0).map Int32.ofNat) fun (z_1 : Int32) => v_loop (t_A_fill_5B fu p0 p1) fu ((0 : Int32), z_1, s)
theorem w_A_fill_5 {Γ : v_Ctx} {l : Launch} {g : v_G} (fu : Nat) (p0 : Nat) (p1 : Int32) (X : v_C Γ l rm_A_fill cJ12_fill 4 RJ12 none wC g) (r5 : Int32 × Int32 × v_S → Option v_S) (h5 : ∀ (x2 : Int32) (x3 : Int32) (s : v_S), v_V Γ 4 wC g (fun z : v_S => ((none : Option Value), z)) 5 [(0, .ref (v_E g p0)), (1, .int p1), (2, .int x2), (3, .int x3)] [] s (r5 (x2, x3, s))) (x2 : Int32) (x3 : Int32) (s : v_S) : v_V Γ 4 wC g (fun z : v_S => ((none : Option Value), z)) 5 [(0, .ref (v_E g p0)), (1, .int p1), (2, .int x2), (3, .int x3)] [] s (t_A_fill_5 fu p0 p1 r5 x2 x3 s) := by
  unfold t_A_fill_5
  refine v_iload_n (pc := 5) X dJ12_fill_5 2 rfl ?_
  refine v_iload_n (pc := 6) X dJ12_fill_6 3 rfl ?_
  refine v_icmp_ge (pc := 7) (tgt := 20) X dJ12_fill_7 (by decide) (fun c7 => ?_) (fun c7 => ?_)
  · exact v_vret (pc := 20) X dJ12_fill_20 rfl
  · refine v_aload_n (pc := 10) X dJ12_fill_10 0 rfl ?_
    refine v_iload_n (pc := 11) X dJ12_fill_11 2 rfl ?_
    refine v_iload_n (pc := 12) X dJ12_fill_12 1 rfl ?_
    refine v_iastS (pc := 13) X dJ12_fill_13 (fun n_2 s_3 => ?_)
    refine v_iinc (pc := 14) (v := x2 + (1 : Int32)) (lv' := [(2, .int (x2 + (1 : Int32))), (0, .ref (v_E g p0)), (1, .int p1), (3, .int x3)]) (k := 2) X dJ12_fill_14 rfl rfl (Nat.le_of_ble_eq_true rfl) rfl ?_
    refine v_goto (pc := 17) (tgt := 5) X dJ12_fill_17 (by decide) ?_
    refine v_sub [1, 2, 0, 3] rfl ?_
    exact h5 (x2 + (1 : Int32)) x3 s_3
theorem w_A_fill_5L {Γ : v_Ctx} {l : Launch} {g : v_G} (fu : Nat) (p0 : Nat) (p1 : Int32) (X : v_C Γ l rm_A_fill cJ12_fill 4 RJ12 none wC g)  : ∀ (n : Nat), ∀ (x2 : Int32) (x3 : Int32) (s : v_S), v_V Γ 4 wC g (fun z : v_S => ((none : Option Value), z)) 5 [(0, .ref (v_E g p0)), (1, .int p1), (2, .int x2), (3, .int x3)] [] s (v_loop (t_A_fill_5B fu p0 p1) n (x2, x3, s)) := by
  intro n
  induction n with
  | zero => exact fun _ _ _ => v_none
  | succ n ih => exact fun x2 x3 s => w_A_fill_5 fu p0 p1 X  _ ih x2 x3 s
theorem m_A_fill (l : Launch) (g : v_G) (fu : Nat) (p0 : Nat) (p1 : Int32) (s : v_S) : v_M l yJ12_fill cJ12_fill 4 none rm_A_fill wC g [.ref (v_E g p0), .int p1] s (fun z : v_S => ((none : Option Value), z)) (t_A_fill fu p0 p1 s) := by
  refine v_met (by decide +kernel) (Nat.le_of_ble_eq_true rfl) (fun Γ X => ?_)
  refine v_lv (lv' := [(0, .ref (v_E g p0)), (1, .int p1)]) rfl ?_
  unfold t_A_fill
  refine v_iconst (pc := 0) (v := 0) X dJ12_fill_0 rfl ?_
  refine v_istore_n (pc := 1) (lv' := [(2, .int (0 : Int32)), (0, .ref (v_E g p0)), (1, .int p1)]) X dJ12_fill_1 rfl (Nat.le_of_ble_eq_true rfl) rfl ?_
  refine v_aload_n (pc := 2) X dJ12_fill_2 1 rfl ?_
  refine v_alenS (pc := 3) X dJ12_fill_3 (fun z_1 => ?_)
  refine v_istore_n (pc := 4) (lv' := [(3, .int z_1), (2, .int (0 : Int32)), (0, .ref (v_E g p0)), (1, .int p1)]) X dJ12_fill_4 rfl (Nat.le_of_ble_eq_true rfl) rfl ?_
  refine v_sub [2, 3, 1, 0] rfl ?_
  exact w_A_fill_5L fu p0 p1 X  fu (0 : Int32) z_1 s
/-! FloodLent.villages()I -/
abbrev rm_F_villages : Room := { frames := 2, cells := 0, slots := 0, locals := 41 }
theorem hy_F_villages : v_yV yX0_villages cX0_villages 1 (some .int) 0 := ⟨q1073, qs25, q133, q1074, by decide +kernel⟩
def t_F_villages (fu : Nat)  (s : v_S) : Option Int32 :=
  v_b1 (s.2.2.1 0 1) fun (a_1 : Nat) => v_b1 (v_dR s a_1 4 0) fun (e_2 : Option Nat) => v_b1 e_2 fun (a_3 : Nat) => if v_isc s (some a_3) 5 = true then v_b1 (t_L_size fu a_3 s) fun (z_4 : Int32) => (some z_4) else none
theorem m_F_villages (l : Launch) (g : v_G) (fu : Nat)  (s : v_S) : v_M l yX0_villages cX0_villages 1 (some .int) rm_F_villages wC g [.ref (v_E g 0)] s (fun z : Int32 => (some (.int z), s)) (t_F_villages fu  s) := by
  refine v_met (by decide +kernel) (Nat.le_of_ble_eq_true rfl) (fun Γ X => ?_)
  refine v_lv (lv' := [(0, .ref (v_E g 0))]) rfl ?_
  unfold t_F_villages
  refine v_aload_n (pc := 0) X dX0_villages_0 0 rfl ?_
  refine v_get (pc := 1) (kind := 2) (v := va_rf (s.2.2.1 0 1)) X wC_n0 wC_l0 wC_c0 in_X0 (Nat.le_of_ble_eq_true rfl : 1 < 16) q600 rfl rfl dX0_villages_1 ?_
  refine v_unq0 (pc := 4) (fun a_1 _ => ?_)
  refine v_dgetRN (pc := 4) X wC_c4 in_X2 (Nat.le_of_ble_eq_true rfl : 0 < 9) q421 dX0_villages_4 (fun e_2 => ?_)
  refine v_unq0 (pc := 7) (fun a_3 _ => ?_)
  refine v_cFi (pc := 7) X (m_L_size l g fu a_3  _) wC_c5 q1076 hF_size rfl rfl rfl rfl dX0_villages_7 (fun z_4 _ => ?_)
  exact v_iret (pc := 12) X dX0_villages_12 rfl
/-! FloodLent.isOn(II)Z -/
abbrev rm_F_isOn : Room := { frames := 1, cells := 0, slots := 0, locals := 21 }
theorem hy_F_isOn : v_yS yX0_isOn cX0_isOn 2 (some .boolean) 2 := ⟨q1122, q133, q1123, by decide +kernel⟩
def t_F_isOn (fu : Nat) (p0 : Int32) (p1 : Int32) (s : v_S) : Option Int32 :=
  if (p0 >>> (p1 &&& 31)) &&& (1 : Int32) = (1 : Int32) then (some (1 : Int32)) else (some (0 : Int32))
theorem m_F_isOn (l : Launch) (g : v_G) (fu : Nat) (p0 : Int32) (p1 : Int32) (s : v_S) : v_M l yX0_isOn cX0_isOn 2 (some .boolean) rm_F_isOn wC g [.int p0, .int p1] s (fun z : Int32 => (some (.int z), s)) (t_F_isOn fu p0 p1 s) := by
  refine v_met (by decide +kernel) (Nat.le_of_ble_eq_true rfl) (fun Γ X => ?_)
  refine v_lv (lv' := [(0, .int p0), (1, .int p1)]) rfl ?_
  unfold t_F_isOn
  refine v_iload_n (pc := 0) X dX0_isOn_0 0 rfl ?_
  refine v_iload_n (pc := 1) X dX0_isOn_1 1 rfl ?_
  refine v_ishr (pc := 2) X dX0_isOn_2 ?_
  refine v_iconst (pc := 3) (v := 1) X dX0_isOn_3 rfl ?_
  refine v_iand (pc := 4) X dX0_isOn_4 ?_
  refine v_iconst (pc := 5) (v := 1) X dX0_isOn_5 rfl ?_
  refine v_icmp_ne (pc := 6) (tgt := 13) X dX0_isOn_6 (by decide) (fun c6 => ?_) (fun c6 => ?_)
  · refine v_iconst (pc := 13) (v := 0) X dX0_isOn_13 rfl ?_
    exact v_zret (pc := 14) X dX0_isOn_14 rfl rfl
  · refine v_iconst (pc := 9) (v := 1) X dX0_isOn_9 rfl ?_
    refine v_goto (pc := 10) (tgt := 14) X dX0_isOn_10 (by decide) ?_
    exact v_zret (pc := 14) X dX0_isOn_14 rfl rfl
/-! FloodLent$Rings.goesRound(III)Z -/
abbrev rmr_G_goesRound (d : Nat) : Room := { frames := 3 + d, cells := 0, slots := 0, locals := 61 + d * 60 }
abbrev rm_G_goesRound : Room := { frames := 11, cells := 0, slots := 0, locals := 541 }
theorem hy_G_goesRound : v_yV yX4_goesRound cX4_goesRound 5 (some .boolean) 3 := ⟨q1349, qs52, q140, q1350, by decide +kernel⟩
def t_G_goesRound_67 (fu : Nat) (rf : Int32 → Int32 → Int32 → v_S → Option (Int32 × v_S)) (p1 : Int32) (p2 : Int32) (p3 : Int32) (r67 : Int32 × v_S → Option (Int32 × v_S)) (x4 : Int32) (s : v_S) : Option (Int32 × v_S) :=
v_b1 (t_F_villages fu s) fun (z_3 : Int32) => if z_3 ≤ x4 then (some ((0 : Int32), s)) else (v_g p1 6 <| v_b1 (v_il wC ((12 + Int32.toNatClampNeg p1))) fun (n_4 : Nat) => v_g x4 n_4 <| if s.1 ((12 + Int32.toNatClampNeg p1)) (Int32.toNatClampNeg x4) ≤ 0 then (r67 (x4 + (1 : Int32), s)) else (v_b1 (t_F_isOn fu (p3 ||| ((1 : Int32) <<< (p1 &&& 31))) x4 s) fun (z_5 : Int32) => if z_5 = 0 then (v_b2 (rf x4 (p2 + (1 : Int32)) (p3 ||| ((1 : Int32) <<< (p1 &&& 31))) s) fun (z_6 : Int32) (s_7 : v_S) => if z_6 = 0 then (r67 (x4 + (1 : Int32), s_7)) else (some ((1 : Int32), s_7))) else (r67 (x4 + (1 : Int32), s))))
def t_G_goesRound_67B (fu : Nat) (rf : Int32 → Int32 → Int32 → v_S → Option (Int32 × v_S)) (p1 : Int32) (p2 : Int32) (p3 : Int32) (r67 : Int32 × v_S → Option (Int32 × v_S)) (a : Int32 × v_S) : Option (Int32 × v_S) := t_G_goesRound_67 fu rf p1 p2 p3 r67 a.1 a.2
def t_G_goesRound_b (fu : Nat) (rf : Int32 → Int32 → Int32 → v_S → Option (Int32 × v_S)) (p1 : Int32) (p2 : Int32) (p3 : Int32) (s : v_S) : Option (Int32 × v_S) :=
  v_g p2 6 <| v_n (v_uI s 26 (Int32.toNatClampNeg p2) p1) fun (s_1 : v_S) => if p2 = (s_1.1 25 3) - (1 : Int32) then (v_g p1 6 <| v_b1 (v_il wC ((12 + Int32.toNatClampNeg p1))) fun (n_8 : Nat) => v_g (s_1.1 26 0) n_8 <| if s_1.1 ((12 + Int32.toNatClampNeg p1)) (Int32.toNatClampNeg (s_1.1 26 0)) = 0 then (some ((0 : Int32), s_1)) else (v_b1 (v_il wC (26)) fun (l0 : Nat) => v_b1 (v_il wC (27)) fun (l1 : Nat) => if v_bad (0 : Int32) (0 : Int32) (s_1.1 25 3) l0 l1 = true then none else v_n (v_cpS s_1 (26) (27) (Int32.toNatClampNeg (0 : Int32)) (Int32.toNatClampNeg (0 : Int32)) (Int32.toNatClampNeg (s_1.1 25 3))) fun (s_9 : v_S) => some ((1 : Int32), s_9))) else (v_n ((s_1.1 26 0) + (1 : Int32)) fun (x4_2 : Int32) => v_loop (t_G_goesRound_67B fu rf p1 p2 p3) fu (x4_2, s_1))
def t_G_goesRound_r (fu : Nat) : Nat → Int32 → Int32 → Int32 → v_S → Option (Int32 × v_S)
  | 0 => fun _ _ _ _ => none
  | d + 1 => fun p1 p2 p3 s => t_G_goesRound_b fu (t_G_goesRound_r fu d) p1 p2 p3 s
theorem w_G_goesRound_67 {Γ : v_Ctx} {l : Launch} {g : v_G} (fu : Nat) (rf : Int32 → Int32 → Int32 → v_S → Option (Int32 × v_S)) (p1 : Int32) (p2 : Int32) (p3 : Int32) (d : Nat) (hrf : ∀ (p1 : Int32) (p2 : Int32) (p3 : Int32) (s : v_S), v_M l yX4_goesRound cX4_goesRound 5 (some .boolean) (rmr_G_goesRound d) wC g [.ref (v_E g 25), .int p1, .int p2, .int p3] s (fun z : Int32 × v_S => (some (.int z.1), z.2)) (rf p1 p2 p3 s)) (X : v_C Γ l (rmr_G_goesRound (d + 1)) cX4_goesRound 5 RX4 (some .boolean) wC g) (r67 : Int32 × v_S → Option (Int32 × v_S)) (h67 : ∀ (x4 : Int32) (s : v_S), v_V Γ 5 wC g (fun z : Int32 × v_S => (some (.int z.1), z.2)) 67 [(0, .ref (v_E g 25)), (1, .int p1), (2, .int p2), (3, .int p3), (4, .int x4)] [] s (r67 (x4, s))) (x4 : Int32) (s : v_S) : v_V Γ 5 wC g (fun z : Int32 × v_S => (some (.int z.1), z.2)) 67 [(0, .ref (v_E g 25)), (1, .int p1), (2, .int p2), (3, .int p3), (4, .int x4)] [] s (t_G_goesRound_67 fu rf p1 p2 p3 r67 x4 s) := by
  unfold t_G_goesRound_67
  refine v_iload (pc := 67) X dX4_goesRound_67 4 rfl ?_
  refine v_aload_n (pc := 69) X dX4_goesRound_69 0 rfl ?_
  refine v_get (pc := 70) (kind := 3) (v := .ref (v_E g 0)) X wC_n25 wC_l25 wC_c3 in_X4 (Nat.le_of_ble_eq_true rfl : 6 < 7) q583 rfl rfl dX4_goesRound_70 ?_
  refine v_cGi (pc := 73) X (m_F_villages l g fu _) (v_rc_n X wC_o0) (Or.inr ⟨_, q1346⟩) hy_F_villages rfl (v_rm_up (d + 1) rfl) rfl rfl dX4_goesRound_73 (fun z_3 _ => ?_)
  refine v_icmp_ge (pc := 76) (tgt := 132) X dX4_goesRound_76 (by decide) (fun c76 => ?_) (fun c76 => ?_)
  · refine v_iconst (pc := 132) (v := 0) X dX4_goesRound_132 rfl ?_
    exact v_zret (pc := 133) X dX4_goesRound_133 rfl rfl
  · refine v_aload_n (pc := 79) X dX4_goesRound_79 0 rfl ?_
    refine v_get (pc := 80) (kind := 3) (v := .ref (v_E g 0)) X wC_n25 wC_l25 wC_c3 in_X4 (Nat.le_of_ble_eq_true rfl : 6 < 7) q583 rfl rfl dX4_goesRound_80 ?_
    refine v_getN (pc := 83) (kind := 14) (v := .ref (v_E g 11)) X wC_n0 wC_l0 wC_c0 in_X0 (Nat.le_of_ble_eq_true rfl : 13 < 16) q612 rfl rfl dX4_goesRound_83 ?_
    refine v_iload_n (pc := 86) X dX4_goesRound_86 1 rfl ?_
    refine v_aald (pc := 87) X wC_n11 wC_l11 rfl rfl dX4_goesRound_87 ?_
    refine v_iload (pc := 88) X dX4_goesRound_88 4 rfl ?_
    refine v_ialdS (pc := 90) X dX4_goesRound_90 (fun n_4 => ?_)
    refine v_if_le (pc := 91) (tgt := 126) X dX4_goesRound_91 (by decide) (fun c91 => ?_) (fun c91 => ?_)
    · refine v_iinc (pc := 126) (v := x4 + (1 : Int32)) (lv' := [(4, .int (x4 + (1 : Int32))), (0, .ref (v_E g 25)), (1, .int p1), (2, .int p2), (3, .int p3)]) (k := 4) X dX4_goesRound_126 rfl rfl (Nat.le_of_ble_eq_true rfl) rfl ?_
      refine v_goto (pc := 129) (tgt := 67) X dX4_goesRound_129 (by decide) ?_
      refine v_sub [1, 2, 3, 4, 0] rfl ?_
      exact h67 (x4 + (1 : Int32)) s
    · refine v_iload_n (pc := 94) X dX4_goesRound_94 3 rfl ?_
      refine v_iconst (pc := 95) (v := 1) X dX4_goesRound_95 rfl ?_
      refine v_iload_n (pc := 96) X dX4_goesRound_96 1 rfl ?_
      refine v_ishl (pc := 97) X dX4_goesRound_97 ?_
      refine v_ior (pc := 98) X dX4_goesRound_98 ?_
      refine v_iload (pc := 99) X dX4_goesRound_99 4 rfl ?_
      refine v_cTi (pc := 101) X (m_F_isOn l g fu (p3 ||| ((1 : Int32) <<< (p1 &&& 31))) x4 _) q1352 hy_F_isOn rfl (v_rm_up (d + 1) rfl) rfl rfl dX4_goesRound_101 (fun z_5 _ => ?_)
      refine v_if_ne (pc := 104) (tgt := 126) X dX4_goesRound_104 (by decide) (fun c104 => ?_) (fun c104 => ?_)
      · refine v_iinc (pc := 126) (v := x4 + (1 : Int32)) (lv' := [(4, .int (x4 + (1 : Int32))), (0, .ref (v_E g 25)), (1, .int p1), (2, .int p2), (3, .int p3)]) (k := 4) X dX4_goesRound_126 rfl rfl (Nat.le_of_ble_eq_true rfl) rfl ?_
        refine v_goto (pc := 129) (tgt := 67) X dX4_goesRound_129 (by decide) ?_
        refine v_sub [1, 2, 3, 4, 0] rfl ?_
        exact h67 (x4 + (1 : Int32)) s
      · refine v_aload_n (pc := 107) X dX4_goesRound_107 0 rfl ?_
        refine v_iload (pc := 108) X dX4_goesRound_108 4 rfl ?_
        refine v_iload_n (pc := 110) X dX4_goesRound_110 2 rfl ?_
        refine v_iconst (pc := 111) (v := 1) X dX4_goesRound_111 rfl ?_
        refine v_iadd (pc := 112) X dX4_goesRound_112 ?_
        refine v_iload_n (pc := 113) X dX4_goesRound_113 3 rfl ?_
        refine v_iconst (pc := 114) (v := 1) X dX4_goesRound_114 rfl ?_
        refine v_iload_n (pc := 115) X dX4_goesRound_115 1 rfl ?_
        refine v_ishl (pc := 116) X dX4_goesRound_116 ?_
        refine v_ior (pc := 117) X dX4_goesRound_117 ?_
        refine v_cGis (pc := 118) X (hrf x4 (p2 + (1 : Int32)) (p3 ||| ((1 : Int32) <<< (p1 &&& 31))) _) (v_rc_n X wC_o25) (Or.inl q1347) hy_G_goesRound rfl (v_rm_self d rfl) rfl rfl dX4_goesRound_118 (fun z_6 s_7 _ => ?_)
        refine v_if_eq (pc := 121) (tgt := 126) X dX4_goesRound_121 (by decide) (fun c121 => ?_) (fun c121 => ?_)
        · refine v_iinc (pc := 126) (v := x4 + (1 : Int32)) (lv' := [(4, .int (x4 + (1 : Int32))), (0, .ref (v_E g 25)), (1, .int p1), (2, .int p2), (3, .int p3)]) (k := 4) X dX4_goesRound_126 rfl rfl (Nat.le_of_ble_eq_true rfl) rfl ?_
          refine v_goto (pc := 129) (tgt := 67) X dX4_goesRound_129 (by decide) ?_
          refine v_sub [1, 2, 3, 4, 0] rfl ?_
          exact h67 (x4 + (1 : Int32)) s_7
        · refine v_iconst (pc := 124) (v := 1) X dX4_goesRound_124 rfl ?_
          exact v_zret (pc := 125) X dX4_goesRound_125 rfl rfl
theorem w_G_goesRound_67L {Γ : v_Ctx} {l : Launch} {g : v_G} (fu : Nat) (rf : Int32 → Int32 → Int32 → v_S → Option (Int32 × v_S)) (p1 : Int32) (p2 : Int32) (p3 : Int32) (d : Nat) (hrf : ∀ (p1 : Int32) (p2 : Int32) (p3 : Int32) (s : v_S), v_M l yX4_goesRound cX4_goesRound 5 (some .boolean) (rmr_G_goesRound d) wC g [.ref (v_E g 25), .int p1, .int p2, .int p3] s (fun z : Int32 × v_S => (some (.int z.1), z.2)) (rf p1 p2 p3 s)) (X : v_C Γ l (rmr_G_goesRound (d + 1)) cX4_goesRound 5 RX4 (some .boolean) wC g)  : ∀ (n : Nat), ∀ (x4 : Int32) (s : v_S), v_V Γ 5 wC g (fun z : Int32 × v_S => (some (.int z.1), z.2)) 67 [(0, .ref (v_E g 25)), (1, .int p1), (2, .int p2), (3, .int p3), (4, .int x4)] [] s (v_loop (t_G_goesRound_67B fu rf p1 p2 p3) n (x4, s)) := by
  intro n
  induction n with
  | zero => exact fun _ _ => v_none
  | succ n ih => exact fun x4 s => w_G_goesRound_67 fu rf p1 p2 p3 d hrf X  _ ih x4 s
theorem m_G_goesRound_b (l : Launch) (g : v_G) (fu : Nat) (rf : Int32 → Int32 → Int32 → v_S → Option (Int32 × v_S)) (p1 : Int32) (p2 : Int32) (p3 : Int32) (s : v_S) (d : Nat) (hrf : ∀ (p1 : Int32) (p2 : Int32) (p3 : Int32) (s : v_S), v_M l yX4_goesRound cX4_goesRound 5 (some .boolean) (rmr_G_goesRound d) wC g [.ref (v_E g 25), .int p1, .int p2, .int p3] s (fun z : Int32 × v_S => (some (.int z.1), z.2)) (rf p1 p2 p3 s)) : v_M l yX4_goesRound cX4_goesRound 5 (some .boolean) (rmr_G_goesRound (d + 1)) wC g [.ref (v_E g 25), .int p1, .int p2, .int p3] s (fun z : Int32 × v_S => (some (.int z.1), z.2)) (t_G_goesRound_b fu rf p1 p2 p3 s) := by
  refine v_met (by decide +kernel) (Nat.le_of_ble_eq_true rfl) (fun Γ X => ?_)
  refine v_lv (lv' := [(0, .ref (v_E g 25)), (1, .int p1), (2, .int p2), (3, .int p3)]) rfl ?_
  unfold t_G_goesRound_b
  refine v_aload_n (pc := 0) X dX4_goesRound_0 0 rfl ?_
  refine v_get (pc := 1) (kind := 29) (v := .ref (v_E g 26)) X wC_n25 wC_l25 wC_c3 in_X4 (Nat.le_of_ble_eq_true rfl : 0 < 7) q574 rfl rfl dX4_goesRound_1 ?_
  refine v_iload_n (pc := 4) X dX4_goesRound_4 2 rfl ?_
  refine v_iload_n (pc := 5) X dX4_goesRound_5 1 rfl ?_
  refine v_iast (pc := 6) X wC_n26 wC_l26 dX4_goesRound_6 (fun s_1 => ?_)
  refine v_iload_n (pc := 7) X dX4_goesRound_7 2 rfl ?_
  refine v_aload_n (pc := 8) X dX4_goesRound_8 0 rfl ?_
  refine v_get (pc := 9) (kind := 0) (v := .int (s_1.1 25 3)) X wC_n25 wC_l25 wC_c3 in_X4 (Nat.le_of_ble_eq_true rfl : 3 < 7) q578 rfl rfl dX4_goesRound_9 ?_
  refine v_iconst (pc := 12) (v := 1) X dX4_goesRound_12 rfl ?_
  refine v_isub (pc := 13) X dX4_goesRound_13 ?_
  refine v_icmp_ne (pc := 14) (tgt := 57) X dX4_goesRound_14 (by decide) (fun c14 => ?_) (fun c14 => ?_)
  · refine v_aload_n (pc := 57) X dX4_goesRound_57 0 rfl ?_
    refine v_get (pc := 58) (kind := 29) (v := .ref (v_E g 26)) X wC_n25 wC_l25 wC_c3 in_X4 (Nat.le_of_ble_eq_true rfl : 0 < 7) q574 rfl rfl dX4_goesRound_58 ?_
    refine v_iconst (pc := 61) (v := 0) X dX4_goesRound_61 rfl ?_
    refine v_ialdC (pc := 62) (k := 0) X wC_n26 wC_l26 rfl dX4_goesRound_62 ?_
    refine v_iconst (pc := 63) (v := 1) X dX4_goesRound_63 rfl ?_
    refine v_iadd (pc := 64) X dX4_goesRound_64 ?_
    refine v_istoreN (pc := 65) (lvf := fun x4_2 => [(4, .int x4_2), (0, .ref (v_E g 25)), (1, .int p1), (2, .int p2), (3, .int p3)]) X dX4_goesRound_65 (Nat.le_of_ble_eq_true rfl) (fun _ => rfl) (fun x4_2 => ?_)
    refine v_sub [1, 2, 3, 4, 0] rfl ?_
    exact w_G_goesRound_67L fu rf p1 p2 p3 d hrf X  fu x4_2 s_1
  · refine v_aload_n (pc := 17) X dX4_goesRound_17 0 rfl ?_
    refine v_get (pc := 18) (kind := 3) (v := .ref (v_E g 0)) X wC_n25 wC_l25 wC_c3 in_X4 (Nat.le_of_ble_eq_true rfl : 6 < 7) q583 rfl rfl dX4_goesRound_18 ?_
    refine v_getN (pc := 21) (kind := 14) (v := .ref (v_E g 11)) X wC_n0 wC_l0 wC_c0 in_X0 (Nat.le_of_ble_eq_true rfl : 13 < 16) q612 rfl rfl dX4_goesRound_21 ?_
    refine v_iload_n (pc := 24) X dX4_goesRound_24 1 rfl ?_
    refine v_aald (pc := 25) X wC_n11 wC_l11 rfl rfl dX4_goesRound_25 ?_
    refine v_aload_n (pc := 26) X dX4_goesRound_26 0 rfl ?_
    refine v_get (pc := 27) (kind := 29) (v := .ref (v_E g 26)) X wC_n25 wC_l25 wC_c3 in_X4 (Nat.le_of_ble_eq_true rfl : 0 < 7) q574 rfl rfl dX4_goesRound_27 ?_
    refine v_iconst (pc := 30) (v := 0) X dX4_goesRound_30 rfl ?_
    refine v_ialdC (pc := 31) (k := 0) X wC_n26 wC_l26 rfl dX4_goesRound_31 ?_
    refine v_ialdS (pc := 32) X dX4_goesRound_32 (fun n_8 => ?_)
    refine v_if_ne (pc := 33) (tgt := 38) X dX4_goesRound_33 (by decide) (fun c33 => ?_) (fun c33 => ?_)
    · refine v_aload_n (pc := 38) X dX4_goesRound_38 0 rfl ?_
      refine v_get (pc := 39) (kind := 29) (v := .ref (v_E g 26)) X wC_n25 wC_l25 wC_c3 in_X4 (Nat.le_of_ble_eq_true rfl : 0 < 7) q574 rfl rfl dX4_goesRound_39 ?_
      refine v_iconst (pc := 42) (v := 0) X dX4_goesRound_42 rfl ?_
      refine v_aload_n (pc := 43) X dX4_goesRound_43 0 rfl ?_
      refine v_get (pc := 44) (kind := 30) (v := .ref (v_E g 27)) X wC_n25 wC_l25 wC_c3 in_X4 (Nat.le_of_ble_eq_true rfl : 1 < 7) q575 rfl rfl dX4_goesRound_44 ?_
      refine v_iconst (pc := 47) (v := 0) X dX4_goesRound_47 rfl ?_
      refine v_aload_n (pc := 48) X dX4_goesRound_48 0 rfl ?_
      refine v_get (pc := 49) (kind := 0) (v := .int (s_1.1 25 3)) X wC_n25 wC_l25 wC_c3 in_X4 (Nat.le_of_ble_eq_true rfl : 3 < 7) q578 rfl rfl dX4_goesRound_49 ?_
      refine v_copyS (pc := 52) X q1351 q366 q365 q155 (v_hR_up (d + 1) rfl) dX4_goesRound_52 (fun s_9 => ?_)
      refine v_iconst (pc := 55) (v := 1) X dX4_goesRound_55 rfl ?_
      exact v_zret (pc := 56) X dX4_goesRound_56 rfl rfl
    · refine v_iconst (pc := 36) (v := 0) X dX4_goesRound_36 rfl ?_
      exact v_zret (pc := 37) X dX4_goesRound_37 rfl rfl
theorem m_G_goesRound_r (l : Launch) (g : v_G) (fu : Nat) : ∀ (d : Nat) (p1 : Int32) (p2 : Int32) (p3 : Int32) (s : v_S), v_M l yX4_goesRound cX4_goesRound 5 (some .boolean) (rmr_G_goesRound d) wC g [.ref (v_E g 25), .int p1, .int p2, .int p3] s (fun z : Int32 × v_S => (some (.int z.1), z.2)) (t_G_goesRound_r fu d p1 p2 p3 s) := by
  intro d
  induction d with
  | zero => exact fun _ _ _ _ x hx => by cases hx
  | succ d ih => exact fun p1 p2 p3 s => m_G_goesRound_b l g fu (t_G_goesRound_r fu d) p1 p2 p3 s d ih
def t_G_goesRound (fu : Nat) (p1 : Int32) (p2 : Int32) (p3 : Int32) (s : v_S) : Option (Int32 × v_S) := t_G_goesRound_r fu 8 p1 p2 p3 s
theorem m_G_goesRound (l : Launch) (g : v_G) (fu : Nat) (p1 : Int32) (p2 : Int32) (p3 : Int32) (s : v_S) : v_M l yX4_goesRound cX4_goesRound 5 (some .boolean) rm_G_goesRound wC g [.ref (v_E g 25), .int p1, .int p2, .int p3] s (fun z : Int32 × v_S => (some (.int z.1), z.2)) (t_G_goesRound fu p1 p2 p3 s) := m_G_goesRound_r l g fu 8 p1 p2 p3 s
/-! FloodLent$Rings.finds()Z -/
abbrev rm_G_finds : Room := { frames := 12, cells := 0, slots := 0, locals := 565 }
theorem hy_G_finds : v_yV yX4_finds cX4_finds 2 (some .boolean) 0 := ⟨q1344, qs51, q140, q1345, by decide +kernel⟩
def t_G_finds_50 (fu : Nat) (r5 : v_S → Option (Int32 × v_S)) (s : v_S) : Option (Int32 × v_S) :=
v_n (v_uI s 25 3 ((s.1 25 3) + (1 : Int32))) fun (s_4 : v_S) => r5 s_4
def t_G_finds_21 (fu : Nat) (r5 : v_S → Option (Int32 × v_S)) (r21 : Int32 × v_S → Option (Int32 × v_S)) (x1 : Int32) (s : v_S) : Option (Int32 × v_S) :=
v_b1 (t_F_villages fu s) fun (z_3 : Int32) => if z_3 ≤ x1 then (t_G_finds_50 fu r5 s) else (v_b2 (t_G_goesRound fu x1 (0 : Int32) (0 : Int32) s) fun (z_5 : Int32) (s_6 : v_S) => if z_5 = 0 then (r21 (x1 + (1 : Int32), s_6)) else (some ((1 : Int32), s_6)))
def t_G_finds_21B (fu : Nat) (r5 : v_S → Option (Int32 × v_S)) (r21 : Int32 × v_S → Option (Int32 × v_S)) (a : Int32 × v_S) : Option (Int32 × v_S) := t_G_finds_21 fu r5 r21 a.1 a.2
def t_G_finds_5 (fu : Nat) (r5 : v_S → Option (Int32 × v_S)) (s : v_S) : Option (Int32 × v_S) :=
v_b1 (t_F_villages fu s) fun (z_2 : Int32) => if z_2 < s.1 25 3 then (some ((0 : Int32), s)) else (v_loop (t_G_finds_21B fu r5) fu ((0 : Int32), s))
def t_G_finds_5B (fu : Nat) (r5 : v_S → Option (Int32 × v_S)) (a : v_S) : Option (Int32 × v_S) := t_G_finds_5 fu r5 a
def t_G_finds (fu : Nat)  (s : v_S) : Option (Int32 × v_S) :=
  v_n (v_uI s 25 3 (2 : Int32)) fun (s_1 : v_S) => v_loop (t_G_finds_5B fu) fu s_1
theorem w_G_finds_50 {Γ : v_Ctx} {l : Launch} {g : v_G} (fu : Nat) (X : v_C Γ l rm_G_finds cX4_finds 2 RX4 (some .boolean) wC g) (r5 : v_S → Option (Int32 × v_S)) (h5 : ∀  (s : v_S), v_V Γ 2 wC g (fun z : Int32 × v_S => (some (.int z.1), z.2)) 5 [(0, .ref (v_E g 25))] [] s (r5 s)) (s : v_S) : v_V Γ 2 wC g (fun z : Int32 × v_S => (some (.int z.1), z.2)) 50 [(0, .ref (v_E g 25))] [] s (t_G_finds_50 fu r5 s) := by
  unfold t_G_finds_50
  refine v_aload_n (pc := 50) X dX4_finds_50 0 rfl ?_
  refine v_dup (pc := 51) X dX4_finds_51 rfl ?_
  refine v_get (pc := 52) (kind := 0) (v := .int (s.1 25 3)) X wC_n25 wC_l25 wC_c3 in_X4 (Nat.le_of_ble_eq_true rfl : 3 < 7) q578 rfl rfl dX4_finds_52 ?_
  refine v_iconst (pc := 55) (v := 1) X dX4_finds_55 rfl ?_
  refine v_iadd (pc := 56) X dX4_finds_56 ?_
  refine v_putI (pc := 57) X wC_n25 wC_l25 wC_c3 in_X4 tyX4 tyX4_ok nmX4 (Nat.le_of_ble_eq_true rfl : 3 < 7) q578 rfl rfl rfl dX4_finds_57 (fun s_4 => ?_)
  refine v_goto (pc := 60) (tgt := 5) X dX4_finds_60 (by decide) ?_
  exact h5 s_4
theorem w_G_finds_21 {Γ : v_Ctx} {l : Launch} {g : v_G} (fu : Nat) (X : v_C Γ l rm_G_finds cX4_finds 2 RX4 (some .boolean) wC g) (r5 : v_S → Option (Int32 × v_S)) (h5 : ∀  (s : v_S), v_V Γ 2 wC g (fun z : Int32 × v_S => (some (.int z.1), z.2)) 5 [(0, .ref (v_E g 25))] [] s (r5 s)) (r21 : Int32 × v_S → Option (Int32 × v_S)) (h21 : ∀ (x1 : Int32) (s : v_S), v_V Γ 2 wC g (fun z : Int32 × v_S => (some (.int z.1), z.2)) 21 [(0, .ref (v_E g 25)), (1, .int x1)] [] s (r21 (x1, s))) (x1 : Int32) (s : v_S) : v_V Γ 2 wC g (fun z : Int32 × v_S => (some (.int z.1), z.2)) 21 [(0, .ref (v_E g 25)), (1, .int x1)] [] s (t_G_finds_21 fu r5 r21 x1 s) := by
  unfold t_G_finds_21
  refine v_iload_n (pc := 21) X dX4_finds_21 1 rfl ?_
  refine v_aload_n (pc := 22) X dX4_finds_22 0 rfl ?_
  refine v_get (pc := 23) (kind := 3) (v := .ref (v_E g 0)) X wC_n25 wC_l25 wC_c3 in_X4 (Nat.le_of_ble_eq_true rfl : 6 < 7) q583 rfl rfl dX4_finds_23 ?_
  refine v_cGi (pc := 26) X (m_F_villages l g fu _) (v_rc_n X wC_o0) (Or.inr ⟨_, q1346⟩) hy_F_villages rfl rfl rfl rfl dX4_finds_26 (fun z_3 _ => ?_)
  refine v_icmp_ge (pc := 29) (tgt := 50) X dX4_finds_29 (by decide) (fun c29 => ?_) (fun c29 => ?_)
  · refine v_sub [0] rfl ?_
    exact w_G_finds_50 fu X r5 h5 s
  · refine v_aload_n (pc := 32) X dX4_finds_32 0 rfl ?_
    refine v_iload_n (pc := 33) X dX4_finds_33 1 rfl ?_
    refine v_iconst (pc := 34) (v := 0) X dX4_finds_34 rfl ?_
    refine v_iconst (pc := 35) (v := 0) X dX4_finds_35 rfl ?_
    refine v_cGis (pc := 36) X (m_G_goesRound l g fu x1 (0 : Int32) (0 : Int32) _) (v_rc_n X wC_o25) (Or.inl q1347) hy_G_goesRound rfl rfl rfl rfl dX4_finds_36 (fun z_5 s_6 _ => ?_)
    refine v_if_eq (pc := 39) (tgt := 44) X dX4_finds_39 (by decide) (fun c39 => ?_) (fun c39 => ?_)
    · refine v_iinc (pc := 44) (v := x1 + (1 : Int32)) (lv' := [(1, .int (x1 + (1 : Int32))), (0, .ref (v_E g 25))]) (k := 1) X dX4_finds_44 rfl rfl (Nat.le_of_ble_eq_true rfl) rfl ?_
      refine v_goto (pc := 47) (tgt := 21) X dX4_finds_47 (by decide) ?_
      refine v_sub [1, 0] rfl ?_
      exact h21 (x1 + (1 : Int32)) s_6
    · refine v_iconst (pc := 42) (v := 1) X dX4_finds_42 rfl ?_
      exact v_zret (pc := 43) X dX4_finds_43 rfl rfl
theorem w_G_finds_21L {Γ : v_Ctx} {l : Launch} {g : v_G} (fu : Nat) (X : v_C Γ l rm_G_finds cX4_finds 2 RX4 (some .boolean) wC g) (r5 : v_S → Option (Int32 × v_S)) (h5 : ∀  (s : v_S), v_V Γ 2 wC g (fun z : Int32 × v_S => (some (.int z.1), z.2)) 5 [(0, .ref (v_E g 25))] [] s (r5 s)) : ∀ (n : Nat), ∀ (x1 : Int32) (s : v_S), v_V Γ 2 wC g (fun z : Int32 × v_S => (some (.int z.1), z.2)) 21 [(0, .ref (v_E g 25)), (1, .int x1)] [] s (v_loop (t_G_finds_21B fu r5) n (x1, s)) := by
  intro n
  induction n with
  | zero => exact fun _ _ => v_none
  | succ n ih => exact fun x1 s => w_G_finds_21 fu X r5 h5 _ ih x1 s
theorem w_G_finds_5 {Γ : v_Ctx} {l : Launch} {g : v_G} (fu : Nat) (X : v_C Γ l rm_G_finds cX4_finds 2 RX4 (some .boolean) wC g) (r5 : v_S → Option (Int32 × v_S)) (h5 : ∀  (s : v_S), v_V Γ 2 wC g (fun z : Int32 × v_S => (some (.int z.1), z.2)) 5 [(0, .ref (v_E g 25))] [] s (r5 s)) (s : v_S) : v_V Γ 2 wC g (fun z : Int32 × v_S => (some (.int z.1), z.2)) 5 [(0, .ref (v_E g 25))] [] s (t_G_finds_5 fu r5 s) := by
  unfold t_G_finds_5
  refine v_aload_n (pc := 5) X dX4_finds_5 0 rfl ?_
  refine v_get (pc := 6) (kind := 0) (v := .int (s.1 25 3)) X wC_n25 wC_l25 wC_c3 in_X4 (Nat.le_of_ble_eq_true rfl : 3 < 7) q578 rfl rfl dX4_finds_6 ?_
  refine v_aload_n (pc := 9) X dX4_finds_9 0 rfl ?_
  refine v_get (pc := 10) (kind := 3) (v := .ref (v_E g 0)) X wC_n25 wC_l25 wC_c3 in_X4 (Nat.le_of_ble_eq_true rfl : 6 < 7) q583 rfl rfl dX4_finds_10 ?_
  refine v_cGi (pc := 13) X (m_F_villages l g fu _) (v_rc_n X wC_o0) (Or.inr ⟨_, q1346⟩) hy_F_villages rfl rfl rfl rfl dX4_finds_13 (fun z_2 _ => ?_)
  refine v_icmp_gt (pc := 16) (tgt := 63) X dX4_finds_16 (by decide) (fun c16 => ?_) (fun c16 => ?_)
  · refine v_iconst (pc := 63) (v := 0) X dX4_finds_63 rfl ?_
    exact v_zret (pc := 64) X dX4_finds_64 rfl rfl
  · refine v_iconst (pc := 19) (v := 0) X dX4_finds_19 rfl ?_
    refine v_istore_n (pc := 20) (lv' := [(1, .int (0 : Int32)), (0, .ref (v_E g 25))]) X dX4_finds_20 rfl (Nat.le_of_ble_eq_true rfl) rfl ?_
    refine v_sub [1, 0] rfl ?_
    exact w_G_finds_21L fu X r5 h5 fu (0 : Int32) s
theorem w_G_finds_5L {Γ : v_Ctx} {l : Launch} {g : v_G} (fu : Nat) (X : v_C Γ l rm_G_finds cX4_finds 2 RX4 (some .boolean) wC g)  : ∀ (n : Nat), ∀  (s : v_S), v_V Γ 2 wC g (fun z : Int32 × v_S => (some (.int z.1), z.2)) 5 [(0, .ref (v_E g 25))] [] s (v_loop (t_G_finds_5B fu) n s) := by
  intro n
  induction n with
  | zero => exact fun _ => v_none
  | succ n ih => exact fun s => w_G_finds_5 fu X  _ ih s
theorem m_G_finds (l : Launch) (g : v_G) (fu : Nat)  (s : v_S) : v_M l yX4_finds cX4_finds 2 (some .boolean) rm_G_finds wC g [.ref (v_E g 25)] s (fun z : Int32 × v_S => (some (.int z.1), z.2)) (t_G_finds fu  s) := by
  refine v_met (by decide +kernel) (Nat.le_of_ble_eq_true rfl) (fun Γ X => ?_)
  refine v_lv (lv' := [(0, .ref (v_E g 25))]) rfl ?_
  unfold t_G_finds
  refine v_aload_n (pc := 0) X dX4_finds_0 0 rfl ?_
  refine v_iconst (pc := 1) (v := 2) X dX4_finds_1 rfl ?_
  refine v_putI (pc := 2) X wC_n25 wC_l25 wC_c3 in_X4 tyX4 tyX4_ok nmX4 (Nat.le_of_ble_eq_true rfl : 3 < 7) q578 rfl rfl rfl dX4_finds_2 (fun s_1 => ?_)
  exact w_G_finds_5L fu X  fu s_1
/-! FloodLent$Rings.clears()V -/
abbrev rm_G_clears : Room := { frames := 13, cells := 0, slots := 0, locals := 586 }
theorem hy_G_clears : v_yV yX4_clears cX4_clears 4 none 0 := ⟨q1339, q1340, q140, q1341, by decide +kernel⟩
def t_G_clears_130 (fu : Nat) (r10 : v_S → Option v_S) (x1 : Int32) (x2 : Int32) (s : v_S) : Option v_S :=
v_n (v_uI s 25 5 ((s.1 25 5) + (x1 * (s.1 25 3)))) fun (s_5 : v_S) => v_g (s_5.1 25 4) 99 <| v_n (v_uI s_5 28 (Int32.toNatClampNeg (s_5.1 25 4)) x2) fun (s_6 : v_S) => v_n (v_uI s_6 25 4 ((s_6.1 25 4) + (1 : Int32))) fun (s_7 : v_S) => r10 s_7
def t_G_clears_73 (fu : Nat) (r10 : v_S → Option v_S) (r73 : Int32 × Int32 × Int32 × v_S → Option v_S) (x1 : Int32) (x2 : Int32) (x3 : Int32) (s : v_S) : Option v_S :=
if s.1 25 3 ≤ x3 then (t_G_clears_130 fu r10 x1 x2 s) else (v_g x3 6 <| v_g (s.1 27 (Int32.toNatClampNeg x3)) 6 <| if (s.1 25 3) = 0 then none else v_g ((x3 + (1 : Int32)) - (x3 + (1 : Int32)) / (s.1 25 3) * (s.1 25 3)) 6 <| v_b1 (v_il wC ((12 + Int32.toNatClampNeg (s.1 27 (Int32.toNatClampNeg x3))))) fun (n_8 : Nat) => v_g (s.1 27 (Int32.toNatClampNeg ((x3 + (1 : Int32)) - (x3 + (1 : Int32)) / (s.1 25 3) * (s.1 25 3)))) n_8 <| v_b1 (v_il wC ((12 + Int32.toNatClampNeg (s.1 27 (Int32.toNatClampNeg x3))))) fun (n_9 : Nat) => v_g (s.1 27 (Int32.toNatClampNeg ((x3 + (1 : Int32)) - (x3 + (1 : Int32)) / (s.1 25 3) * (s.1 25 3)))) n_9 <| v_n (v_uI s ((12 + Int32.toNatClampNeg (s.1 27 (Int32.toNatClampNeg x3)))) (Int32.toNatClampNeg (s.1 27 (Int32.toNatClampNeg ((x3 + (1 : Int32)) - (x3 + (1 : Int32)) / (s.1 25 3) * (s.1 25 3))))) ((s.1 ((12 + Int32.toNatClampNeg (s.1 27 (Int32.toNatClampNeg x3)))) (Int32.toNatClampNeg (s.1 27 (Int32.toNatClampNeg ((x3 + (1 : Int32)) - (x3 + (1 : Int32)) / (s.1 25 3) * (s.1 25 3)))))) - x1)) fun (s_10 : v_S) => v_g x3 6 <| v_n (x2 ||| ((1 : Int32) <<< ((s_10.1 27 (Int32.toNatClampNeg x3)) &&& 31))) fun (x2_11 : Int32) => r73 (x1, x2_11, x3 + (1 : Int32), s_10))
def t_G_clears_73B (fu : Nat) (r10 : v_S → Option v_S) (r73 : Int32 × Int32 × Int32 × v_S → Option v_S) (a : Int32 × Int32 × Int32 × v_S) : Option v_S := t_G_clears_73 fu r10 r73 a.1 a.2.1 a.2.2.1 a.2.2.2
def t_G_clears_22 (fu : Nat) (r10 : v_S → Option v_S) (r22 : Int32 × Int32 × v_S → Option v_S) (x1 : Int32) (x2 : Int32) (s : v_S) : Option v_S :=
if s.1 25 3 ≤ x2 then (v_loop (t_G_clears_73B fu r10) fu (x1, (0 : Int32), (0 : Int32), s)) else (v_g x2 6 <| v_g (s.1 27 (Int32.toNatClampNeg x2)) 6 <| if (s.1 25 3) = 0 then none else v_g ((x2 + (1 : Int32)) - (x2 + (1 : Int32)) / (s.1 25 3) * (s.1 25 3)) 6 <| v_b1 (v_il wC ((12 + Int32.toNatClampNeg (s.1 27 (Int32.toNatClampNeg x2))))) fun (n_12 : Nat) => v_g (s.1 27 (Int32.toNatClampNeg ((x2 + (1 : Int32)) - (x2 + (1 : Int32)) / (s.1 25 3) * (s.1 25 3)))) n_12 <| v_n (if (s.1 ((12 + Int32.toNatClampNeg (s.1 27 (Int32.toNatClampNeg x2)))) (Int32.toNatClampNeg (s.1 27 (Int32.toNatClampNeg ((x2 + (1 : Int32)) - (x2 + (1 : Int32)) / (s.1 25 3) * (s.1 25 3)))))) < x1 then s.1 ((12 + Int32.toNatClampNeg (s.1 27 (Int32.toNatClampNeg x2)))) (Int32.toNatClampNeg (s.1 27 (Int32.toNatClampNeg ((x2 + (1 : Int32)) - (x2 + (1 : Int32)) / (s.1 25 3) * (s.1 25 3))))) else x1) fun (x1_13 : Int32) => r22 (x1_13, x2 + (1 : Int32), s))
def t_G_clears_22B (fu : Nat) (r10 : v_S → Option v_S) (r22 : Int32 × Int32 × v_S → Option v_S) (a : Int32 × Int32 × v_S) : Option v_S := t_G_clears_22 fu r10 r22 a.1 a.2.1 a.2.2
def t_G_clears_10 (fu : Nat) (r10 : v_S → Option v_S) (s : v_S) : Option v_S :=
v_b2 (t_G_finds fu s) fun (z_3 : Int32) (s_4 : v_S) => if z_3 = 0 then (some s_4) else (v_loop (t_G_clears_22B fu r10) fu ((2147483647 : Int32), (0 : Int32), s_4))
def t_G_clears_10B (fu : Nat) (r10 : v_S → Option v_S) (a : v_S) : Option v_S := t_G_clears_10 fu r10 a
def t_G_clears (fu : Nat)  (s : v_S) : Option v_S :=
  v_n (v_uI s 25 4 (0 : Int32)) fun (s_1 : v_S) => v_n (v_uI s_1 25 5 (0 : Int32)) fun (s_2 : v_S) => v_loop (t_G_clears_10B fu) fu s_2
theorem w_G_clears_130 {Γ : v_Ctx} {l : Launch} {g : v_G} (fu : Nat) (X : v_C Γ l rm_G_clears cX4_clears 4 RX4 none wC g) (r10 : v_S → Option v_S) (h10 : ∀  (s : v_S), v_V Γ 4 wC g (fun z : v_S => ((none : Option Value), z)) 10 [(0, .ref (v_E g 25))] [] s (r10 s)) (x1 : Int32) (x2 : Int32) (s : v_S) : v_V Γ 4 wC g (fun z : v_S => ((none : Option Value), z)) 130 [(0, .ref (v_E g 25)), (1, .int x1), (2, .int x2)] [] s (t_G_clears_130 fu r10 x1 x2 s) := by
  unfold t_G_clears_130
  refine v_aload_n (pc := 130) X dX4_clears_130 0 rfl ?_
  refine v_dup (pc := 131) X dX4_clears_131 rfl ?_
  refine v_get (pc := 132) (kind := 0) (v := .int (s.1 25 5)) X wC_n25 wC_l25 wC_c3 in_X4 (Nat.le_of_ble_eq_true rfl : 5 < 7) q581 rfl rfl dX4_clears_132 ?_
  refine v_iload_n (pc := 135) X dX4_clears_135 1 rfl ?_
  refine v_aload_n (pc := 136) X dX4_clears_136 0 rfl ?_
  refine v_get (pc := 137) (kind := 0) (v := .int (s.1 25 3)) X wC_n25 wC_l25 wC_c3 in_X4 (Nat.le_of_ble_eq_true rfl : 3 < 7) q578 rfl rfl dX4_clears_137 ?_
  refine v_imul (pc := 140) X dX4_clears_140 ?_
  refine v_iadd (pc := 141) X dX4_clears_141 ?_
  refine v_putI (pc := 142) X wC_n25 wC_l25 wC_c3 in_X4 tyX4 tyX4_ok nmX4 (Nat.le_of_ble_eq_true rfl : 5 < 7) q581 rfl rfl rfl dX4_clears_142 (fun s_5 => ?_)
  refine v_aload_n (pc := 145) X dX4_clears_145 0 rfl ?_
  refine v_get (pc := 146) (kind := 31) (v := .ref (v_E g 28)) X wC_n25 wC_l25 wC_c3 in_X4 (Nat.le_of_ble_eq_true rfl : 2 < 7) q576 rfl rfl dX4_clears_146 ?_
  refine v_aload_n (pc := 149) X dX4_clears_149 0 rfl ?_
  refine v_get (pc := 150) (kind := 0) (v := .int (s_5.1 25 4)) X wC_n25 wC_l25 wC_c3 in_X4 (Nat.le_of_ble_eq_true rfl : 4 < 7) q579 rfl rfl dX4_clears_150 ?_
  refine v_iload_n (pc := 153) X dX4_clears_153 2 rfl ?_
  refine v_iast (pc := 154) X wC_n28 wC_l28 dX4_clears_154 (fun s_6 => ?_)
  refine v_aload_n (pc := 155) X dX4_clears_155 0 rfl ?_
  refine v_dup (pc := 156) X dX4_clears_156 rfl ?_
  refine v_get (pc := 157) (kind := 0) (v := .int (s_6.1 25 4)) X wC_n25 wC_l25 wC_c3 in_X4 (Nat.le_of_ble_eq_true rfl : 4 < 7) q579 rfl rfl dX4_clears_157 ?_
  refine v_iconst (pc := 160) (v := 1) X dX4_clears_160 rfl ?_
  refine v_iadd (pc := 161) X dX4_clears_161 ?_
  refine v_putI (pc := 162) X wC_n25 wC_l25 wC_c3 in_X4 tyX4 tyX4_ok nmX4 (Nat.le_of_ble_eq_true rfl : 4 < 7) q579 rfl rfl rfl dX4_clears_162 (fun s_7 => ?_)
  refine v_goto (pc := 165) (tgt := 10) X dX4_clears_165 (by decide) ?_
  refine v_sub [0] rfl ?_
  exact h10 s_7
theorem w_G_clears_73 {Γ : v_Ctx} {l : Launch} {g : v_G} (fu : Nat) (X : v_C Γ l rm_G_clears cX4_clears 4 RX4 none wC g) (r10 : v_S → Option v_S) (h10 : ∀  (s : v_S), v_V Γ 4 wC g (fun z : v_S => ((none : Option Value), z)) 10 [(0, .ref (v_E g 25))] [] s (r10 s)) (r73 : Int32 × Int32 × Int32 × v_S → Option v_S) (h73 : ∀ (x1 : Int32) (x2 : Int32) (x3 : Int32) (s : v_S), v_V Γ 4 wC g (fun z : v_S => ((none : Option Value), z)) 73 [(0, .ref (v_E g 25)), (1, .int x1), (2, .int x2), (3, .int x3)] [] s (r73 (x1, x2, x3, s))) (x1 : Int32) (x2 : Int32) (x3 : Int32) (s : v_S) : v_V Γ 4 wC g (fun z : v_S => ((none : Option Value), z)) 73 [(0, .ref (v_E g 25)), (1, .int x1), (2, .int x2), (3, .int x3)] [] s (t_G_clears_73 fu r10 r73 x1 x2 x3 s) := by
  unfold t_G_clears_73
  refine v_iload_n (pc := 73) X dX4_clears_73 3 rfl ?_
  refine v_aload_n (pc := 74) X dX4_clears_74 0 rfl ?_
  refine v_get (pc := 75) (kind := 0) (v := .int (s.1 25 3)) X wC_n25 wC_l25 wC_c3 in_X4 (Nat.le_of_ble_eq_true rfl : 3 < 7) q578 rfl rfl dX4_clears_75 ?_
  refine v_icmp_ge (pc := 78) (tgt := 130) X dX4_clears_78 (by decide) (fun c78 => ?_) (fun c78 => ?_)
  · refine v_sub [0, 1, 2] rfl ?_
    exact w_G_clears_130 fu X r10 h10 x1 x2 s
  · refine v_aload_n (pc := 81) X dX4_clears_81 0 rfl ?_
    refine v_get (pc := 82) (kind := 3) (v := .ref (v_E g 0)) X wC_n25 wC_l25 wC_c3 in_X4 (Nat.le_of_ble_eq_true rfl : 6 < 7) q583 rfl rfl dX4_clears_82 ?_
    refine v_getN (pc := 85) (kind := 14) (v := .ref (v_E g 11)) X wC_n0 wC_l0 wC_c0 in_X0 (Nat.le_of_ble_eq_true rfl : 13 < 16) q612 rfl rfl dX4_clears_85 ?_
    refine v_aload_n (pc := 88) X dX4_clears_88 0 rfl ?_
    refine v_get (pc := 89) (kind := 30) (v := .ref (v_E g 27)) X wC_n25 wC_l25 wC_c3 in_X4 (Nat.le_of_ble_eq_true rfl : 1 < 7) q575 rfl rfl dX4_clears_89 ?_
    refine v_iload_n (pc := 92) X dX4_clears_92 3 rfl ?_
    refine v_iald (pc := 93) X wC_n27 wC_l27 dX4_clears_93 ?_
    refine v_aald (pc := 94) X wC_n11 wC_l11 rfl rfl dX4_clears_94 ?_
    refine v_aload_n (pc := 95) X dX4_clears_95 0 rfl ?_
    refine v_get (pc := 96) (kind := 30) (v := .ref (v_E g 27)) X wC_n25 wC_l25 wC_c3 in_X4 (Nat.le_of_ble_eq_true rfl : 1 < 7) q575 rfl rfl dX4_clears_96 ?_
    refine v_iload_n (pc := 99) X dX4_clears_99 3 rfl ?_
    refine v_iconst (pc := 100) (v := 1) X dX4_clears_100 rfl ?_
    refine v_iadd (pc := 101) X dX4_clears_101 ?_
    refine v_aload_n (pc := 102) X dX4_clears_102 0 rfl ?_
    refine v_get (pc := 103) (kind := 0) (v := .int (s.1 25 3)) X wC_n25 wC_l25 wC_c3 in_X4 (Nat.le_of_ble_eq_true rfl : 3 < 7) q578 rfl rfl dX4_clears_103 ?_
    refine v_irem (pc := 106) X dX4_clears_106 ?_
    refine v_iald (pc := 107) X wC_n27 wC_l27 dX4_clears_107 ?_
    refine v_dup2_11 (pc := 108) X dX4_clears_108 rfl rfl ?_
    refine v_ialdS (pc := 109) X dX4_clears_109 (fun n_8 => ?_)
    refine v_iload_n (pc := 110) X dX4_clears_110 1 rfl ?_
    refine v_isub (pc := 111) X dX4_clears_111 ?_
    refine v_iastS (pc := 112) X dX4_clears_112 (fun n_9 s_10 => ?_)
    refine v_iload_n (pc := 113) X dX4_clears_113 2 rfl ?_
    refine v_iconst (pc := 114) (v := 1) X dX4_clears_114 rfl ?_
    refine v_aload_n (pc := 115) X dX4_clears_115 0 rfl ?_
    refine v_get (pc := 116) (kind := 30) (v := .ref (v_E g 27)) X wC_n25 wC_l25 wC_c3 in_X4 (Nat.le_of_ble_eq_true rfl : 1 < 7) q575 rfl rfl dX4_clears_116 ?_
    refine v_iload_n (pc := 119) X dX4_clears_119 3 rfl ?_
    refine v_iald (pc := 120) X wC_n27 wC_l27 dX4_clears_120 ?_
    refine v_ishl (pc := 121) X dX4_clears_121 ?_
    refine v_ior (pc := 122) X dX4_clears_122 ?_
    refine v_istore_nN (pc := 123) (lvf := fun x2_11 => [(2, .int x2_11), (0, .ref (v_E g 25)), (1, .int x1), (3, .int x3)]) X dX4_clears_123 rfl (Nat.le_of_ble_eq_true rfl) (fun _ => rfl) (fun x2_11 => ?_)
    refine v_iinc (pc := 124) (v := x3 + (1 : Int32)) (lv' := [(3, .int (x3 + (1 : Int32))), (2, .int x2_11), (0, .ref (v_E g 25)), (1, .int x1)]) (k := 3) X dX4_clears_124 rfl rfl (Nat.le_of_ble_eq_true rfl) rfl ?_
    refine v_goto (pc := 127) (tgt := 73) X dX4_clears_127 (by decide) ?_
    refine v_sub [2, 3, 1, 0] rfl ?_
    exact h73 x1 x2_11 (x3 + (1 : Int32)) s_10
theorem w_G_clears_73L {Γ : v_Ctx} {l : Launch} {g : v_G} (fu : Nat) (X : v_C Γ l rm_G_clears cX4_clears 4 RX4 none wC g) (r10 : v_S → Option v_S) (h10 : ∀  (s : v_S), v_V Γ 4 wC g (fun z : v_S => ((none : Option Value), z)) 10 [(0, .ref (v_E g 25))] [] s (r10 s)) : ∀ (n : Nat), ∀ (x1 : Int32) (x2 : Int32) (x3 : Int32) (s : v_S), v_V Γ 4 wC g (fun z : v_S => ((none : Option Value), z)) 73 [(0, .ref (v_E g 25)), (1, .int x1), (2, .int x2), (3, .int x3)] [] s (v_loop (t_G_clears_73B fu r10) n (x1, x2, x3, s)) := by
  intro n
  induction n with
  | zero => exact fun _ _ _ _ => v_none
  | succ n ih => exact fun x1 x2 x3 s => w_G_clears_73 fu X r10 h10 _ ih x1 x2 x3 s
theorem w_G_clears_22 {Γ : v_Ctx} {l : Launch} {g : v_G} (fu : Nat) (X : v_C Γ l rm_G_clears cX4_clears 4 RX4 none wC g) (r10 : v_S → Option v_S) (h10 : ∀  (s : v_S), v_V Γ 4 wC g (fun z : v_S => ((none : Option Value), z)) 10 [(0, .ref (v_E g 25))] [] s (r10 s)) (r22 : Int32 × Int32 × v_S → Option v_S) (h22 : ∀ (x1 : Int32) (x2 : Int32) (s : v_S), v_V Γ 4 wC g (fun z : v_S => ((none : Option Value), z)) 22 [(0, .ref (v_E g 25)), (1, .int x1), (2, .int x2)] [] s (r22 (x1, x2, s))) (x1 : Int32) (x2 : Int32) (s : v_S) : v_V Γ 4 wC g (fun z : v_S => ((none : Option Value), z)) 22 [(0, .ref (v_E g 25)), (1, .int x1), (2, .int x2)] [] s (t_G_clears_22 fu r10 r22 x1 x2 s) := by
  unfold t_G_clears_22
  refine v_iload_n (pc := 22) X dX4_clears_22 2 rfl ?_
  refine v_aload_n (pc := 23) X dX4_clears_23 0 rfl ?_
  refine v_get (pc := 24) (kind := 0) (v := .int (s.1 25 3)) X wC_n25 wC_l25 wC_c3 in_X4 (Nat.le_of_ble_eq_true rfl : 3 < 7) q578 rfl rfl dX4_clears_24 ?_
  refine v_icmp_ge (pc := 27) (tgt := 69) X dX4_clears_27 (by decide) (fun c27 => ?_) (fun c27 => ?_)
  · refine v_iconst (pc := 69) (v := 0) X dX4_clears_69 rfl ?_
    refine v_istore_n (pc := 70) (lv' := [(2, .int (0 : Int32)), (0, .ref (v_E g 25)), (1, .int x1)]) X dX4_clears_70 rfl (Nat.le_of_ble_eq_true rfl) rfl ?_
    refine v_iconst (pc := 71) (v := 0) X dX4_clears_71 rfl ?_
    refine v_istore_n (pc := 72) (lv' := [(3, .int (0 : Int32)), (2, .int (0 : Int32)), (0, .ref (v_E g 25)), (1, .int x1)]) X dX4_clears_72 rfl (Nat.le_of_ble_eq_true rfl) rfl ?_
    refine v_sub [2, 3, 1, 0] rfl ?_
    exact w_G_clears_73L fu X r10 h10 fu x1 (0 : Int32) (0 : Int32) s
  · refine v_iload_n (pc := 30) X dX4_clears_30 1 rfl ?_
    refine v_aload_n (pc := 31) X dX4_clears_31 0 rfl ?_
    refine v_get (pc := 32) (kind := 3) (v := .ref (v_E g 0)) X wC_n25 wC_l25 wC_c3 in_X4 (Nat.le_of_ble_eq_true rfl : 6 < 7) q583 rfl rfl dX4_clears_32 ?_
    refine v_getN (pc := 35) (kind := 14) (v := .ref (v_E g 11)) X wC_n0 wC_l0 wC_c0 in_X0 (Nat.le_of_ble_eq_true rfl : 13 < 16) q612 rfl rfl dX4_clears_35 ?_
    refine v_aload_n (pc := 38) X dX4_clears_38 0 rfl ?_
    refine v_get (pc := 39) (kind := 30) (v := .ref (v_E g 27)) X wC_n25 wC_l25 wC_c3 in_X4 (Nat.le_of_ble_eq_true rfl : 1 < 7) q575 rfl rfl dX4_clears_39 ?_
    refine v_iload_n (pc := 42) X dX4_clears_42 2 rfl ?_
    refine v_iald (pc := 43) X wC_n27 wC_l27 dX4_clears_43 ?_
    refine v_aald (pc := 44) X wC_n11 wC_l11 rfl rfl dX4_clears_44 ?_
    refine v_aload_n (pc := 45) X dX4_clears_45 0 rfl ?_
    refine v_get (pc := 46) (kind := 30) (v := .ref (v_E g 27)) X wC_n25 wC_l25 wC_c3 in_X4 (Nat.le_of_ble_eq_true rfl : 1 < 7) q575 rfl rfl dX4_clears_46 ?_
    refine v_iload_n (pc := 49) X dX4_clears_49 2 rfl ?_
    refine v_iconst (pc := 50) (v := 1) X dX4_clears_50 rfl ?_
    refine v_iadd (pc := 51) X dX4_clears_51 ?_
    refine v_aload_n (pc := 52) X dX4_clears_52 0 rfl ?_
    refine v_get (pc := 53) (kind := 0) (v := .int (s.1 25 3)) X wC_n25 wC_l25 wC_c3 in_X4 (Nat.le_of_ble_eq_true rfl : 3 < 7) q578 rfl rfl dX4_clears_53 ?_
    refine v_irem (pc := 56) X dX4_clears_56 ?_
    refine v_iald (pc := 57) X wC_n27 wC_l27 dX4_clears_57 ?_
    refine v_ialdS (pc := 58) X dX4_clears_58 (fun n_12 => ?_)
    refine v_mmin (pc := 59) X q1354 q681 q143 q682 rfl dX4_clears_59 ?_
    refine v_istore_nN (pc := 62) (lvf := fun x1_13 => [(1, .int x1_13), (0, .ref (v_E g 25)), (2, .int x2)]) X dX4_clears_62 rfl (Nat.le_of_ble_eq_true rfl) (fun _ => rfl) (fun x1_13 => ?_)
    refine v_iinc (pc := 63) (v := x2 + (1 : Int32)) (lv' := [(2, .int (x2 + (1 : Int32))), (1, .int x1_13), (0, .ref (v_E g 25))]) (k := 2) X dX4_clears_63 rfl rfl (Nat.le_of_ble_eq_true rfl) rfl ?_
    refine v_goto (pc := 66) (tgt := 22) X dX4_clears_66 (by decide) ?_
    refine v_sub [2, 1, 0] rfl ?_
    exact h22 x1_13 (x2 + (1 : Int32)) s
theorem w_G_clears_22L {Γ : v_Ctx} {l : Launch} {g : v_G} (fu : Nat) (X : v_C Γ l rm_G_clears cX4_clears 4 RX4 none wC g) (r10 : v_S → Option v_S) (h10 : ∀  (s : v_S), v_V Γ 4 wC g (fun z : v_S => ((none : Option Value), z)) 10 [(0, .ref (v_E g 25))] [] s (r10 s)) : ∀ (n : Nat), ∀ (x1 : Int32) (x2 : Int32) (s : v_S), v_V Γ 4 wC g (fun z : v_S => ((none : Option Value), z)) 22 [(0, .ref (v_E g 25)), (1, .int x1), (2, .int x2)] [] s (v_loop (t_G_clears_22B fu r10) n (x1, x2, s)) := by
  intro n
  induction n with
  | zero => exact fun _ _ _ => v_none
  | succ n ih => exact fun x1 x2 s => w_G_clears_22 fu X r10 h10 _ ih x1 x2 s
theorem w_G_clears_10 {Γ : v_Ctx} {l : Launch} {g : v_G} (fu : Nat) (X : v_C Γ l rm_G_clears cX4_clears 4 RX4 none wC g) (r10 : v_S → Option v_S) (h10 : ∀  (s : v_S), v_V Γ 4 wC g (fun z : v_S => ((none : Option Value), z)) 10 [(0, .ref (v_E g 25))] [] s (r10 s)) (s : v_S) : v_V Γ 4 wC g (fun z : v_S => ((none : Option Value), z)) 10 [(0, .ref (v_E g 25))] [] s (t_G_clears_10 fu r10 s) := by
  unfold t_G_clears_10
  refine v_aload_n (pc := 10) X dX4_clears_10 0 rfl ?_
  refine v_cGis (pc := 11) X (m_G_finds l g fu _) (v_rc_n X wC_o25) (Or.inl q1342) hy_G_finds rfl rfl rfl rfl dX4_clears_11 (fun z_3 s_4 _ => ?_)
  refine v_if_eq (pc := 14) (tgt := 168) X dX4_clears_14 (by decide) (fun c14 => ?_) (fun c14 => ?_)
  · exact v_vret (pc := 168) X dX4_clears_168 rfl
  · refine v_ldc (pc := 17) X q1353 dX4_clears_17 ?_
    refine v_istore_n (pc := 19) (lv' := [(1, .int (2147483647 : Int32)), (0, .ref (v_E g 25))]) X dX4_clears_19 rfl (Nat.le_of_ble_eq_true rfl) rfl ?_
    refine v_iconst (pc := 20) (v := 0) X dX4_clears_20 rfl ?_
    refine v_istore_n (pc := 21) (lv' := [(2, .int (0 : Int32)), (1, .int (2147483647 : Int32)), (0, .ref (v_E g 25))]) X dX4_clears_21 rfl (Nat.le_of_ble_eq_true rfl) rfl ?_
    refine v_sub [2, 1, 0] rfl ?_
    exact w_G_clears_22L fu X r10 h10 fu (2147483647 : Int32) (0 : Int32) s_4
theorem w_G_clears_10L {Γ : v_Ctx} {l : Launch} {g : v_G} (fu : Nat) (X : v_C Γ l rm_G_clears cX4_clears 4 RX4 none wC g)  : ∀ (n : Nat), ∀  (s : v_S), v_V Γ 4 wC g (fun z : v_S => ((none : Option Value), z)) 10 [(0, .ref (v_E g 25))] [] s (v_loop (t_G_clears_10B fu) n s) := by
  intro n
  induction n with
  | zero => exact fun _ => v_none
  | succ n ih => exact fun s => w_G_clears_10 fu X  _ ih s
theorem m_G_clears (l : Launch) (g : v_G) (fu : Nat)  (s : v_S) : v_M l yX4_clears cX4_clears 4 none rm_G_clears wC g [.ref (v_E g 25)] s (fun z : v_S => ((none : Option Value), z)) (t_G_clears fu  s) := by
  refine v_met (by decide +kernel) (Nat.le_of_ble_eq_true rfl) (fun Γ X => ?_)
  refine v_lv (lv' := [(0, .ref (v_E g 25))]) rfl ?_
  unfold t_G_clears
  refine v_aload_n (pc := 0) X dX4_clears_0 0 rfl ?_
  refine v_iconst (pc := 1) (v := 0) X dX4_clears_1 rfl ?_
  refine v_putI (pc := 2) X wC_n25 wC_l25 wC_c3 in_X4 tyX4 tyX4_ok nmX4 (Nat.le_of_ble_eq_true rfl : 4 < 7) q579 rfl rfl rfl dX4_clears_2 (fun s_1 => ?_)
  refine v_aload_n (pc := 5) X dX4_clears_5 0 rfl ?_
  refine v_iconst (pc := 6) (v := 0) X dX4_clears_6 rfl ?_
  refine v_putI (pc := 7) X wC_n25 wC_l25 wC_c3 in_X4 tyX4 tyX4_ok nmX4 (Nat.le_of_ble_eq_true rfl : 5 < 7) q581 rfl rfl rfl dX4_clears_7 (fun s_2 => ?_)
  exact w_G_clears_10L fu X  fu s_2
/-! FloodLent$Year.begins(LFloodLent$Plain;[II)V -/
abbrev rm_Y_begins : Room := { frames := 2, cells := 0, slots := 0, locals := 60 }
theorem hy_Y_begins : v_yV yX3_begins cX3_begins 4 none 3 := ⟨q1102, q1103, q139, q1104, by decide +kernel⟩
def t_Y_begins (fu : Nat) (p1 : Option Nat) (p2 : Nat) (p3 : Int32) (s : v_S) : Option v_S :=
  v_n (v_uR s 7 13 p1) fun (s_1 : v_S) => v_b1 (v_il wC p2) fun (l0 : Nat) => v_b1 (v_il wC (37)) fun (l1 : Nat) => if v_bad (0 : Int32) (0 : Int32) (3 : Int32) l0 l1 = true then none else v_n (v_cpS s_1 p2 (37) (Int32.toNatClampNeg (0 : Int32)) (Int32.toNatClampNeg (0 : Int32)) (Int32.toNatClampNeg (3 : Int32))) fun (s_2 : v_S) => v_n (v_uI s_2 7 15 p3) fun (s_3 : v_S) => v_n (v_uI s_3 7 14 (7 : Int32)) fun (s_4 : v_S) => v_n (v_uI s_4 7 20 (-1 : Int32)) fun (s_5 : v_S) => v_n (v_uI s_5 7 21 (-1 : Int32)) fun (s_6 : v_S) => some s_6
theorem m_Y_begins (l : Launch) (g : v_G) (fu : Nat) (p1 : Option Nat) (p2 : Nat) (p3 : Int32) (s : v_S) : v_M l yX3_begins cX3_begins 4 none rm_Y_begins wC g [.ref (v_E g 7), va_rf p1, .ref (v_E g p2), .int p3] s (fun z : v_S => ((none : Option Value), z)) (t_Y_begins fu p1 p2 p3 s) := by
  refine v_met (by decide +kernel) (by cases p1 <;> exact Nat.le_of_ble_eq_true rfl) (fun Γ X => ?_)
  refine v_lv (lv' := [(0, .ref (v_E g 7)), (1, va_rf p1), (2, .ref (v_E g p2)), (3, .int p3)]) (by cases p1 <;> rfl) ?_
  unfold t_Y_begins
  refine v_aload_n (pc := 0) X dX3_begins_0 0 rfl ?_
  refine v_aload_nq (pc := 1) X dX3_begins_1 1 rfl ?_
  refine v_putR (pc := 2) (z := p1) X wC_n7 wC_l7 wC_c2 in_X3 tyX3 tyX3_ok nmX3 (Nat.le_of_ble_eq_true rfl : 13 < 23) q500 rfl rfl rfl dX3_begins_2 (fun s_1 => ?_)
  refine v_aload_n (pc := 5) X dX3_begins_5 2 rfl ?_
  refine v_iconst (pc := 6) (v := 0) X dX3_begins_6 rfl ?_
  refine v_aload_n (pc := 7) X dX3_begins_7 0 rfl ?_
  refine v_get (pc := 8) (kind := 40) (v := .ref (v_E g 37)) X wC_n7 wC_l7 wC_c2 in_X3 (Nat.le_of_ble_eq_true rfl : 2 < 23) q480 rfl rfl dX3_begins_8 ?_
  refine v_iconst (pc := 11) (v := 0) X dX3_begins_11 rfl ?_
  refine v_iconst (pc := 12) (v := 3) X dX3_begins_12 rfl ?_
  refine v_copyS (pc := 13) X q1105 q366 q365 q155 rfl dX3_begins_13 (fun s_2 => ?_)
  refine v_aload_n (pc := 16) X dX3_begins_16 0 rfl ?_
  refine v_iload_n (pc := 17) X dX3_begins_17 3 rfl ?_
  refine v_putI (pc := 18) X wC_n7 wC_l7 wC_c2 in_X3 tyX3 tyX3_ok nmX3 (Nat.le_of_ble_eq_true rfl : 15 < 23) q503 rfl rfl rfl dX3_begins_18 (fun s_3 => ?_)
  refine v_aload_n (pc := 21) X dX3_begins_21 0 rfl ?_
  refine v_bipush (pc := 22) (v := 7) X dX3_begins_22 rfl ?_
  refine v_putI (pc := 24) X wC_n7 wC_l7 wC_c2 in_X3 tyX3 tyX3_ok nmX3 (Nat.le_of_ble_eq_true rfl : 14 < 23) q501 rfl rfl rfl dX3_begins_24 (fun s_4 => ?_)
  refine v_aload_n (pc := 27) X dX3_begins_27 0 rfl ?_
  refine v_iconst (pc := 28) (v := -1) X dX3_begins_28 rfl ?_
  refine v_putI (pc := 29) X wC_n7 wC_l7 wC_c2 in_X3 tyX3 tyX3_ok nmX3 (Nat.le_of_ble_eq_true rfl : 20 < 23) q512 rfl rfl rfl dX3_begins_29 (fun s_5 => ?_)
  refine v_aload_n (pc := 32) X dX3_begins_32 0 rfl ?_
  refine v_iconst (pc := 33) (v := -1) X dX3_begins_33 rfl ?_
  refine v_putI (pc := 34) X wC_n7 wC_l7 wC_c2 in_X3 tyX3 tyX3_ok nmX3 (Nat.le_of_ble_eq_true rfl : 21 < 23) q514 rfl rfl rfl dX3_begins_34 (fun s_6 => ?_)
  exact v_vret (pc := 37) X dX3_begins_37 rfl
/-! FloodLent$Year.room(I)I -/
abbrev rm_Y_room : Room := { frames := 4, cells := 0, slots := 0, locals := 85 }
theorem hy_Y_room : v_yV yX3_room cX3_room 2 (some .int) 1 := ⟨q1126, qs30, q139, q1127, by decide +kernel⟩
def t_Y_room (fu : Nat) (p1 : Int32) (s : v_S) : Option Int32 :=
  v_b1 (s.2.2.1 7 13) fun (a_1 : Nat) => v_b1 (v_dR s a_1 4 0) fun (e_2 : Option Nat) => v_b1 e_2 fun (a_3 : Nat) => if v_isc s (some a_3) 5 = true then v_b1 (t_L_get fu a_3 p1 s) fun (e_4 : Option Nat) => if v_isc s e_4 6 = true then v_b1 e_4 fun (a_5 : Nat) => v_b1 (v_dI s a_5 6 0) fun (z_6 : Int32) => v_g p1 6 <| (some (z_6 - (s.1 36 (Int32.toNatClampNeg p1)))) else none else none
theorem m_Y_room (l : Launch) (g : v_G) (fu : Nat) (p1 : Int32) (s : v_S) : v_M l yX3_room cX3_room 2 (some .int) rm_Y_room wC g [.ref (v_E g 7), .int p1] s (fun z : Int32 => (some (.int z), s)) (t_Y_room fu p1 s) := by
  refine v_met (by decide +kernel) (Nat.le_of_ble_eq_true rfl) (fun Γ X => ?_)
  refine v_lv (lv' := [(0, .ref (v_E g 7)), (1, .int p1)]) rfl ?_
  unfold t_Y_room
  refine v_aload_n (pc := 0) X dX3_room_0 0 rfl ?_
  refine v_get (pc := 1) (kind := 2) (v := va_rf (s.2.2.1 7 13)) X wC_n7 wC_l7 wC_c2 in_X3 (Nat.le_of_ble_eq_true rfl : 13 < 23) q500 rfl rfl dX3_room_1 ?_
  refine v_unq0 (pc := 4) (fun a_1 _ => ?_)
  refine v_dgetRN (pc := 4) X wC_c4 in_X2 (Nat.le_of_ble_eq_true rfl : 0 < 9) q419 dX3_room_4 (fun e_2 => ?_)
  refine v_iload_n (pc := 7) X dX3_room_7 1 rfl ?_
  refine v_unq1 (pc := 8) (fun a_3 _ => ?_)
  refine v_cFq (pc := 8) X (m_L_get l g fu a_3 p1 _) wC_c5 q1113 hF_get rfl rfl rfl rfl dX3_room_8 (fun e_4 _ => ?_)
  refine v_castq (pc := 13) X wC_c6 q1114 dX3_room_13 ?_
  refine v_unq0 (pc := 16) (fun a_5 _ => ?_)
  refine v_dgetIN (pc := 16) X wC_c6 in_X8 (Nat.le_of_ble_eq_true rfl : 0 < 5) q854 dX3_room_16 (fun z_6 => ?_)
  refine v_aload_n (pc := 19) X dX3_room_19 0 rfl ?_
  refine v_get (pc := 20) (kind := 39) (v := .ref (v_E g 36)) X wC_n7 wC_l7 wC_c2 in_X3 (Nat.le_of_ble_eq_true rfl : 1 < 23) q478 rfl rfl dX3_room_20 ?_
  refine v_iload_n (pc := 23) X dX3_room_23 1 rfl ?_
  refine v_iald (pc := 24) X wC_n36 wC_l36 dX3_room_24 ?_
  refine v_isub (pc := 25) X dX3_room_25 ?_
  exact v_iret (pc := 26) X dX3_room_26 rfl
/-! FloodLent$Year.withMore(II)I -/
abbrev rm_Y_withMore : Room := { frames := 1, cells := 0, slots := 0, locals := 21 }
theorem hy_Y_withMore : v_yS yX3_withMore cX3_withMore 2 (some .int) 2 := ⟨q1130, q139, q1131, by decide +kernel⟩
def t_Y_withMore (fu : Nat) (p0 : Int32) (p1 : Int32) (s : v_S) : Option Int32 :=
  some (p0 + (((p0 * p1) + (99 : Int32)) / (100 : Int32)))
theorem m_Y_withMore (l : Launch) (g : v_G) (fu : Nat) (p0 : Int32) (p1 : Int32) (s : v_S) : v_M l yX3_withMore cX3_withMore 2 (some .int) rm_Y_withMore wC g [.int p0, .int p1] s (fun z : Int32 => (some (.int z), s)) (t_Y_withMore fu p0 p1 s) := by
  refine v_met (by decide +kernel) (Nat.le_of_ble_eq_true rfl) (fun Γ X => ?_)
  refine v_lv (lv' := [(0, .int p0), (1, .int p1)]) rfl ?_
  unfold t_Y_withMore
  refine v_iload_n (pc := 0) X dX3_withMore_0 0 rfl ?_
  refine v_iload_n (pc := 1) X dX3_withMore_1 0 rfl ?_
  refine v_iload_n (pc := 2) X dX3_withMore_2 1 rfl ?_
  refine v_imul (pc := 3) X dX3_withMore_3 ?_
  refine v_bipush (pc := 4) (v := 99) X dX3_withMore_4 rfl ?_
  refine v_iadd (pc := 6) X dX3_withMore_6 ?_
  refine v_bipush (pc := 7) (v := 100) X dX3_withMore_7 rfl ?_
  refine v_idivC (pc := 9) X (by decide) dX3_withMore_9 ?_
  refine v_iadd (pc := 10) X dX3_withMore_10 ?_
  exact v_iret (pc := 11) X dX3_withMore_11 rfl
/-! FloodLent$Year.floods(I)V -/
abbrev rm_Y_floods : Room := { frames := 5, cells := 0, slots := 0, locals := 106 }
theorem hy_Y_floods : v_yV yX3_floods cX3_floods 3 none 1 := ⟨q1118, qs29, q139, q1119, by decide +kernel⟩
def t_Y_floods_2 (fu : Nat) (p1 : Int32) (r2 : Int32 × v_S → Option v_S) (x2 : Int32) (s : v_S) : Option v_S :=
v_b1 (s.2.2.1 7 13) fun (a_1 : Nat) => v_b1 (v_dR s a_1 4 2) fun (e_2 : Option Nat) => v_b1 e_2 fun (a_3 : Nat) => if v_isc s (some a_3) 5 = true then v_b1 (t_L_size fu a_3 s) fun (z_4 : Int32) => (if z_4 ≤ x2 then (some s) else (v_b1 (s.2.2.1 7 13) fun (a_5 : Nat) => v_b1 (v_dR s a_5 4 2) fun (e_6 : Option Nat) => v_b1 e_6 fun (a_7 : Nat) => if v_isc s (some a_7) 5 = true then v_b1 (t_L_get fu a_7 x2 s) fun (e_8 : Option Nat) => if v_isc s e_8 8 = true then v_b1 e_8 fun (a_9 : Nat) => v_b1 (v_dI s a_9 8 3) fun (z_10 : Int32) => (if z_10 = p1 then (v_g x2 3 <| if s.1 37 (Int32.toNatClampNeg x2) = (-1 : Int32) then (r2 (x2 + (1 : Int32), s)) else (v_b1 (t_F_isOn fu (s.1 7 14) x2 s) fun (z_11 : Int32) => if z_11 = 0 then (r2 (x2 + (1 : Int32), s)) else (v_b1 (s.2.2.1 7 13) fun (a_12 : Nat) => v_b1 (v_dR s a_12 4 2) fun (e_13 : Option Nat) => v_b1 e_13 fun (a_14 : Nat) => if v_isc s (some a_14) 5 = true then v_b1 (t_L_get fu a_14 x2 s) fun (e_15 : Option Nat) => if v_isc s e_15 8 = true then v_b1 e_15 fun (a_16 : Nat) => v_b1 (v_dI s a_16 8 2) fun (z_17 : Int32) => v_g x2 3 <| v_b1 (t_Y_room fu (s.1 37 (Int32.toNatClampNeg x2)) s) fun (z_18 : Int32) => v_g x2 3 <| v_n (v_uI s 38 (Int32.toNatClampNeg x2) (if z_18 < z_17 then z_18 else z_17)) fun (s_19 : v_S) => v_g x2 3 <| v_b1 (t_Y_withMore fu (s_19.1 38 (Int32.toNatClampNeg x2)) (s_19.1 7 15) s_19) fun (z_20 : Int32) => v_g x2 3 <| v_n (v_uI s_19 39 (Int32.toNatClampNeg x2) z_20) fun (s_21 : v_S) => v_g x2 3 <| v_g (s_21.1 37 (Int32.toNatClampNeg x2)) 6 <| v_g x2 3 <| v_g (s_21.1 37 (Int32.toNatClampNeg x2)) 6 <| v_n (v_uI s_21 36 (Int32.toNatClampNeg (s_21.1 37 (Int32.toNatClampNeg x2))) ((s_21.1 36 (Int32.toNatClampNeg (s_21.1 37 (Int32.toNatClampNeg x2)))) + (s_21.1 38 (Int32.toNatClampNeg x2)))) fun (s_22 : v_S) => (r2 (x2 + (1 : Int32), s_22)) else none else none))) else (r2 (x2 + (1 : Int32), s))) else none else none)) else none
def t_Y_floods_2B (fu : Nat) (p1 : Int32) (r2 : Int32 × v_S → Option v_S) (a : Int32 × v_S) : Option v_S := t_Y_floods_2 fu p1 r2 a.1 a.2
def t_Y_floods (fu : Nat) (p1 : Int32) (s : v_S) : Option v_S :=
  v_loop (t_Y_floods_2B fu p1) fu ((0 : Int32), s)
theorem w_Y_floods_2 {Γ : v_Ctx} {l : Launch} {g : v_G} (fu : Nat) (p1 : Int32) (X : v_C Γ l rm_Y_floods cX3_floods 3 RX3 none wC g) (r2 : Int32 × v_S → Option v_S) (h2 : ∀ (x2 : Int32) (s : v_S), v_V Γ 3 wC g (fun z : v_S => ((none : Option Value), z)) 2 [(0, .ref (v_E g 7)), (1, .int p1), (2, .int x2)] [] s (r2 (x2, s))) (x2 : Int32) (s : v_S) : v_V Γ 3 wC g (fun z : v_S => ((none : Option Value), z)) 2 [(0, .ref (v_E g 7)), (1, .int p1), (2, .int x2)] [] s (t_Y_floods_2 fu p1 r2 x2 s) := by
  unfold t_Y_floods_2
  refine v_iload_n (pc := 2) X dX3_floods_2 2 rfl ?_
  refine v_aload_n (pc := 3) X dX3_floods_3 0 rfl ?_
  refine v_get (pc := 4) (kind := 2) (v := va_rf (s.2.2.1 7 13)) X wC_n7 wC_l7 wC_c2 in_X3 (Nat.le_of_ble_eq_true rfl : 13 < 23) q500 rfl rfl dX3_floods_4 ?_
  refine v_unq0 (pc := 7) (fun a_1 _ => ?_)
  refine v_dgetRN (pc := 7) X wC_c4 in_X2 (Nat.le_of_ble_eq_true rfl : 2 < 9) q427 dX3_floods_7 (fun e_2 => ?_)
  refine v_unq0 (pc := 10) (fun a_3 _ => ?_)
  refine v_cFi (pc := 10) X (m_L_size l g fu a_3  _) wC_c5 q1111 hF_size rfl rfl rfl rfl dX3_floods_10 (fun z_4 _ => ?_)
  refine v_icmp_ge (pc := 15) (tgt := 148) X dX3_floods_15 (by decide) (fun c15 => ?_) (fun c15 => ?_)
  · exact v_vret (pc := 148) X dX3_floods_148 rfl
  · refine v_aload_n (pc := 18) X dX3_floods_18 0 rfl ?_
    refine v_get (pc := 19) (kind := 2) (v := va_rf (s.2.2.1 7 13)) X wC_n7 wC_l7 wC_c2 in_X3 (Nat.le_of_ble_eq_true rfl : 13 < 23) q500 rfl rfl dX3_floods_19 ?_
    refine v_unq0 (pc := 22) (fun a_5 _ => ?_)
    refine v_dgetRN (pc := 22) X wC_c4 in_X2 (Nat.le_of_ble_eq_true rfl : 2 < 9) q427 dX3_floods_22 (fun e_6 => ?_)
    refine v_iload_n (pc := 25) X dX3_floods_25 2 rfl ?_
    refine v_unq1 (pc := 26) (fun a_7 _ => ?_)
    refine v_cFq (pc := 26) X (m_L_get l g fu a_7 x2 _) wC_c5 q1113 hF_get rfl rfl rfl rfl dX3_floods_26 (fun e_8 _ => ?_)
    refine v_castq (pc := 31) X wC_c8 q1120 dX3_floods_31 ?_
    refine v_unq0 (pc := 34) (fun a_9 _ => ?_)
    refine v_dgetIN (pc := 34) X wC_c8 in_X10 (Nat.le_of_ble_eq_true rfl : 3 < 6) q1005 dX3_floods_34 (fun z_10 => ?_)
    refine v_iload_n (pc := 37) X dX3_floods_37 1 rfl ?_
    refine v_icmp_ne (pc := 38) (tgt := 142) X dX3_floods_38 (by decide) (fun c38 => ?_) (fun c38 => ?_)
    · refine v_iinc (pc := 142) (v := x2 + (1 : Int32)) (lv' := [(2, .int (x2 + (1 : Int32))), (0, .ref (v_E g 7)), (1, .int p1)]) (k := 2) X dX3_floods_142 rfl rfl (Nat.le_of_ble_eq_true rfl) rfl ?_
      refine v_goto (pc := 145) (tgt := 2) X dX3_floods_145 (by decide) ?_
      refine v_sub [1, 2, 0] rfl ?_
      exact h2 (x2 + (1 : Int32)) s
    · refine v_aload_n (pc := 41) X dX3_floods_41 0 rfl ?_
      refine v_get (pc := 42) (kind := 40) (v := .ref (v_E g 37)) X wC_n7 wC_l7 wC_c2 in_X3 (Nat.le_of_ble_eq_true rfl : 2 < 23) q480 rfl rfl dX3_floods_42 ?_
      refine v_iload_n (pc := 45) X dX3_floods_45 2 rfl ?_
      refine v_iald (pc := 46) X wC_n37 wC_l37 dX3_floods_46 ?_
      refine v_iconst (pc := 47) (v := -1) X dX3_floods_47 rfl ?_
      refine v_icmp_eq (pc := 48) (tgt := 142) X dX3_floods_48 (by decide) (fun c48 => ?_) (fun c48 => ?_)
      · refine v_iinc (pc := 142) (v := x2 + (1 : Int32)) (lv' := [(2, .int (x2 + (1 : Int32))), (0, .ref (v_E g 7)), (1, .int p1)]) (k := 2) X dX3_floods_142 rfl rfl (Nat.le_of_ble_eq_true rfl) rfl ?_
        refine v_goto (pc := 145) (tgt := 2) X dX3_floods_145 (by decide) ?_
        refine v_sub [1, 2, 0] rfl ?_
        exact h2 (x2 + (1 : Int32)) s
      · refine v_aload_n (pc := 51) X dX3_floods_51 0 rfl ?_
        refine v_get (pc := 52) (kind := 0) (v := .int (s.1 7 14)) X wC_n7 wC_l7 wC_c2 in_X3 (Nat.le_of_ble_eq_true rfl : 14 < 23) q501 rfl rfl dX3_floods_52 ?_
        refine v_iload_n (pc := 55) X dX3_floods_55 2 rfl ?_
        refine v_cTi (pc := 56) X (m_F_isOn l g fu (s.1 7 14) x2 _) q1121 hy_F_isOn rfl rfl rfl rfl dX3_floods_56 (fun z_11 _ => ?_)
        refine v_if_ne (pc := 59) (tgt := 65) X dX3_floods_59 (by decide) (fun c59 => ?_) (fun c59 => ?_)
        · refine v_aload_n (pc := 65) X dX3_floods_65 0 rfl ?_
          refine v_get (pc := 66) (kind := 41) (v := .ref (v_E g 38)) X wC_n7 wC_l7 wC_c2 in_X3 (Nat.le_of_ble_eq_true rfl : 3 < 23) q481 rfl rfl dX3_floods_66 ?_
          refine v_iload_n (pc := 69) X dX3_floods_69 2 rfl ?_
          refine v_aload_n (pc := 70) X dX3_floods_70 0 rfl ?_
          refine v_get (pc := 71) (kind := 2) (v := va_rf (s.2.2.1 7 13)) X wC_n7 wC_l7 wC_c2 in_X3 (Nat.le_of_ble_eq_true rfl : 13 < 23) q500 rfl rfl dX3_floods_71 ?_
          refine v_unq0 (pc := 74) (fun a_12 _ => ?_)
          refine v_dgetRN (pc := 74) X wC_c4 in_X2 (Nat.le_of_ble_eq_true rfl : 2 < 9) q427 dX3_floods_74 (fun e_13 => ?_)
          refine v_iload_n (pc := 77) X dX3_floods_77 2 rfl ?_
          refine v_unq1 (pc := 78) (fun a_14 _ => ?_)
          refine v_cFq (pc := 78) X (m_L_get l g fu a_14 x2 _) wC_c5 q1113 hF_get rfl rfl rfl rfl dX3_floods_78 (fun e_15 _ => ?_)
          refine v_castq (pc := 83) X wC_c8 q1120 dX3_floods_83 ?_
          refine v_unq0 (pc := 86) (fun a_16 _ => ?_)
          refine v_dgetIN (pc := 86) X wC_c8 in_X10 (Nat.le_of_ble_eq_true rfl : 2 < 6) q1003 dX3_floods_86 (fun z_17 => ?_)
          refine v_aload_n (pc := 89) X dX3_floods_89 0 rfl ?_
          refine v_aload_n (pc := 90) X dX3_floods_90 0 rfl ?_
          refine v_get (pc := 91) (kind := 40) (v := .ref (v_E g 37)) X wC_n7 wC_l7 wC_c2 in_X3 (Nat.le_of_ble_eq_true rfl : 2 < 23) q480 rfl rfl dX3_floods_91 ?_
          refine v_iload_n (pc := 94) X dX3_floods_94 2 rfl ?_
          refine v_iald (pc := 95) X wC_n37 wC_l37 dX3_floods_95 ?_
          refine v_cGi (pc := 96) X (m_Y_room l g fu (s.1 37 (Int32.toNatClampNeg x2)) _) (v_rc_n X wC_o7) (Or.inl q1124) hy_Y_room rfl rfl rfl rfl dX3_floods_96 (fun z_18 _ => ?_)
          refine v_mmin (pc := 99) X q1128 q681 q143 q682 rfl dX3_floods_99 ?_
          refine v_iast (pc := 102) X wC_n38 wC_l38 dX3_floods_102 (fun s_19 => ?_)
          refine v_aload_n (pc := 103) X dX3_floods_103 0 rfl ?_
          refine v_get (pc := 104) (kind := 42) (v := .ref (v_E g 39)) X wC_n7 wC_l7 wC_c2 in_X3 (Nat.le_of_ble_eq_true rfl : 4 < 23) q483 rfl rfl dX3_floods_104 ?_
          refine v_iload_n (pc := 107) X dX3_floods_107 2 rfl ?_
          refine v_aload_n (pc := 108) X dX3_floods_108 0 rfl ?_
          refine v_get (pc := 109) (kind := 41) (v := .ref (v_E g 38)) X wC_n7 wC_l7 wC_c2 in_X3 (Nat.le_of_ble_eq_true rfl : 3 < 23) q481 rfl rfl dX3_floods_109 ?_
          refine v_iload_n (pc := 112) X dX3_floods_112 2 rfl ?_
          refine v_iald (pc := 113) X wC_n38 wC_l38 dX3_floods_113 ?_
          refine v_aload_n (pc := 114) X dX3_floods_114 0 rfl ?_
          refine v_get (pc := 115) (kind := 0) (v := .int (s_19.1 7 15)) X wC_n7 wC_l7 wC_c2 in_X3 (Nat.le_of_ble_eq_true rfl : 15 < 23) q503 rfl rfl dX3_floods_115 ?_
          refine v_cSi (pc := 118) X (m_Y_withMore l g fu (s_19.1 38 (Int32.toNatClampNeg x2)) (s_19.1 7 15) _) q1129 hy_Y_withMore rfl rfl rfl rfl dX3_floods_118 (fun z_20 _ => ?_)
          refine v_iast (pc := 121) X wC_n39 wC_l39 dX3_floods_121 (fun s_21 => ?_)
          refine v_aload_n (pc := 122) X dX3_floods_122 0 rfl ?_
          refine v_get (pc := 123) (kind := 39) (v := .ref (v_E g 36)) X wC_n7 wC_l7 wC_c2 in_X3 (Nat.le_of_ble_eq_true rfl : 1 < 23) q478 rfl rfl dX3_floods_123 ?_
          refine v_aload_n (pc := 126) X dX3_floods_126 0 rfl ?_
          refine v_get (pc := 127) (kind := 40) (v := .ref (v_E g 37)) X wC_n7 wC_l7 wC_c2 in_X3 (Nat.le_of_ble_eq_true rfl : 2 < 23) q480 rfl rfl dX3_floods_127 ?_
          refine v_iload_n (pc := 130) X dX3_floods_130 2 rfl ?_
          refine v_iald (pc := 131) X wC_n37 wC_l37 dX3_floods_131 ?_
          refine v_dup2_11 (pc := 132) X dX3_floods_132 rfl rfl ?_
          refine v_iald (pc := 133) X wC_n36 wC_l36 dX3_floods_133 ?_
          refine v_aload_n (pc := 134) X dX3_floods_134 0 rfl ?_
          refine v_get (pc := 135) (kind := 41) (v := .ref (v_E g 38)) X wC_n7 wC_l7 wC_c2 in_X3 (Nat.le_of_ble_eq_true rfl : 3 < 23) q481 rfl rfl dX3_floods_135 ?_
          refine v_iload_n (pc := 138) X dX3_floods_138 2 rfl ?_
          refine v_iald (pc := 139) X wC_n38 wC_l38 dX3_floods_139 ?_
          refine v_iadd (pc := 140) X dX3_floods_140 ?_
          refine v_iast (pc := 141) X wC_n36 wC_l36 dX3_floods_141 (fun s_22 => ?_)
          refine v_iinc (pc := 142) (v := x2 + (1 : Int32)) (lv' := [(2, .int (x2 + (1 : Int32))), (0, .ref (v_E g 7)), (1, .int p1)]) (k := 2) X dX3_floods_142 rfl rfl (Nat.le_of_ble_eq_true rfl) rfl ?_
          refine v_goto (pc := 145) (tgt := 2) X dX3_floods_145 (by decide) ?_
          refine v_sub [1, 2, 0] rfl ?_
          exact h2 (x2 + (1 : Int32)) s_22
        · refine v_goto (pc := 62) (tgt := 142) X dX3_floods_62 (by decide) ?_
          refine v_iinc (pc := 142) (v := x2 + (1 : Int32)) (lv' := [(2, .int (x2 + (1 : Int32))), (0, .ref (v_E g 7)), (1, .int p1)]) (k := 2) X dX3_floods_142 rfl rfl (Nat.le_of_ble_eq_true rfl) rfl ?_
          refine v_goto (pc := 145) (tgt := 2) X dX3_floods_145 (by decide) ?_
          refine v_sub [1, 2, 0] rfl ?_
          exact h2 (x2 + (1 : Int32)) s
theorem w_Y_floods_2L {Γ : v_Ctx} {l : Launch} {g : v_G} (fu : Nat) (p1 : Int32) (X : v_C Γ l rm_Y_floods cX3_floods 3 RX3 none wC g)  : ∀ (n : Nat), ∀ (x2 : Int32) (s : v_S), v_V Γ 3 wC g (fun z : v_S => ((none : Option Value), z)) 2 [(0, .ref (v_E g 7)), (1, .int p1), (2, .int x2)] [] s (v_loop (t_Y_floods_2B fu p1) n (x2, s)) := by
  intro n
  induction n with
  | zero => exact fun _ _ => v_none
  | succ n ih => exact fun x2 s => w_Y_floods_2 fu p1 X  _ ih x2 s
theorem m_Y_floods (l : Launch) (g : v_G) (fu : Nat) (p1 : Int32) (s : v_S) : v_M l yX3_floods cX3_floods 3 none rm_Y_floods wC g [.ref (v_E g 7), .int p1] s (fun z : v_S => ((none : Option Value), z)) (t_Y_floods fu p1 s) := by
  refine v_met (by decide +kernel) (Nat.le_of_ble_eq_true rfl) (fun Γ X => ?_)
  refine v_lv (lv' := [(0, .ref (v_E g 7)), (1, .int p1)]) rfl ?_
  unfold t_Y_floods
  refine v_iconst (pc := 0) (v := 0) X dX3_floods_0 rfl ?_
  refine v_istore_n (pc := 1) (lv' := [(2, .int (0 : Int32)), (0, .ref (v_E g 7)), (1, .int p1)]) X dX3_floods_1 rfl (Nat.le_of_ble_eq_true rfl) rfl ?_
  refine v_sub [1, 2, 0] rfl ?_
  exact w_Y_floods_2L fu p1 X  fu (0 : Int32) s
/-! FloodLent$Year.loans(I)V -/
abbrev rm_Y_loans : Room := { frames := 5, cells := 0, slots := 0, locals := 106 }
theorem hy_Y_loans : v_yV yX3_loans cX3_loans 4 none 1 := ⟨q1134, qs31, q139, q1135, by decide +kernel⟩
def t_Y_loans_2 (fu : Nat) (p1 : Int32) (r2 : Int32 × v_S → Option v_S) (x2 : Int32) (s : v_S) : Option v_S :=
v_b1 (s.2.2.1 7 13) fun (a_1 : Nat) => v_b1 (v_dR s a_1 4 3) fun (e_2 : Option Nat) => v_b1 e_2 fun (a_3 : Nat) => if v_isc s (some a_3) 5 = true then v_b1 (t_L_size fu a_3 s) fun (z_4 : Int32) => (if z_4 ≤ x2 then (some s) else (v_b1 (s.2.2.1 7 13) fun (a_5 : Nat) => v_b1 (v_dR s a_5 4 3) fun (e_6 : Option Nat) => v_b1 e_6 fun (a_7 : Nat) => if v_isc s (some a_7) 5 = true then v_b1 (t_L_get fu a_7 x2 s) fun (e_8 : Option Nat) => if v_isc s e_8 8 = true then v_b1 e_8 fun (a_9 : Nat) => v_b1 (v_dI s a_9 8 3) fun (z_10 : Int32) => (if z_10 = p1 then (v_b1 e_8 fun (a_11 : Nat) => v_b1 (v_dI s a_11 8 0) fun (z_12 : Int32) => if z_12 = s.1 7 20 then (r2 (x2 + (1 : Int32), s)) else (v_b1 e_8 fun (a_13 : Nat) => v_b1 (v_dI s a_13 8 2) fun (z_14 : Int32) => v_b1 e_8 fun (a_15 : Nat) => v_b1 (v_dI s a_15 8 0) fun (z_16 : Int32) => v_g z_16 6 <| v_b1 e_8 fun (a_17 : Nat) => v_b1 (v_dI s a_17 8 1) fun (z_18 : Int32) => v_b1 (t_Y_room fu z_18 s) fun (z_19 : Int32) => v_g x2 8 <| v_n (v_uI s 41 (Int32.toNatClampNeg x2) (if (if z_19 < (s.1 36 (Int32.toNatClampNeg z_16)) then z_19 else s.1 36 (Int32.toNatClampNeg z_16)) < z_14 then if z_19 < (s.1 36 (Int32.toNatClampNeg z_16)) then z_19 else s.1 36 (Int32.toNatClampNeg z_16) else z_14)) fun (s_20 : v_S) => v_g x2 8 <| v_b1 (t_Y_withMore fu (s_20.1 41 (Int32.toNatClampNeg x2)) (s_20.1 7 15) s_20) fun (z_21 : Int32) => v_g x2 8 <| v_n (v_uI s_20 42 (Int32.toNatClampNeg x2) z_21) fun (s_22 : v_S) => v_b1 e_8 fun (a_23 : Nat) => v_b1 (v_dI s_22 a_23 8 0) fun (z_24 : Int32) => v_g z_24 6 <| v_g x2 8 <| v_g z_24 6 <| v_n (v_uI s_22 36 (Int32.toNatClampNeg z_24) ((s_22.1 36 (Int32.toNatClampNeg z_24)) - (s_22.1 41 (Int32.toNatClampNeg x2)))) fun (s_25 : v_S) => v_b1 e_8 fun (a_26 : Nat) => v_b1 (v_dI s_25 a_26 8 1) fun (z_27 : Int32) => v_g z_27 6 <| v_g x2 8 <| v_g z_27 6 <| v_n (v_uI s_25 36 (Int32.toNatClampNeg z_27) ((s_25.1 36 (Int32.toNatClampNeg z_27)) + (s_25.1 41 (Int32.toNatClampNeg x2)))) fun (s_28 : v_S) => r2 (x2 + (1 : Int32), s_28))) else (r2 (x2 + (1 : Int32), s))) else none else none)) else none
def t_Y_loans_2B (fu : Nat) (p1 : Int32) (r2 : Int32 × v_S → Option v_S) (a : Int32 × v_S) : Option v_S := t_Y_loans_2 fu p1 r2 a.1 a.2
def t_Y_loans (fu : Nat) (p1 : Int32) (s : v_S) : Option v_S :=
  v_loop (t_Y_loans_2B fu p1) fu ((0 : Int32), s)
theorem w_Y_loans_2 {Γ : v_Ctx} {l : Launch} {g : v_G} (fu : Nat) (p1 : Int32) (X : v_C Γ l rm_Y_loans cX3_loans 4 RX3 none wC g) (r2 : Int32 × v_S → Option v_S) (h2 : ∀ (x2 : Int32) (s : v_S), v_V Γ 4 wC g (fun z : v_S => ((none : Option Value), z)) 2 [(0, .ref (v_E g 7)), (1, .int p1), (2, .int x2)] [] s (r2 (x2, s))) (x2 : Int32) (s : v_S) : v_V Γ 4 wC g (fun z : v_S => ((none : Option Value), z)) 2 [(0, .ref (v_E g 7)), (1, .int p1), (2, .int x2)] [] s (t_Y_loans_2 fu p1 r2 x2 s) := by
  unfold t_Y_loans_2
  refine v_iload_n (pc := 2) X dX3_loans_2 2 rfl ?_
  refine v_aload_n (pc := 3) X dX3_loans_3 0 rfl ?_
  refine v_get (pc := 4) (kind := 2) (v := va_rf (s.2.2.1 7 13)) X wC_n7 wC_l7 wC_c2 in_X3 (Nat.le_of_ble_eq_true rfl : 13 < 23) q500 rfl rfl dX3_loans_4 ?_
  refine v_unq0 (pc := 7) (fun a_1 _ => ?_)
  refine v_dgetRN (pc := 7) X wC_c4 in_X2 (Nat.le_of_ble_eq_true rfl : 3 < 9) q431 dX3_loans_7 (fun e_2 => ?_)
  refine v_unq0 (pc := 10) (fun a_3 _ => ?_)
  refine v_cFi (pc := 10) X (m_L_size l g fu a_3  _) wC_c5 q1111 hF_size rfl rfl rfl rfl dX3_loans_10 (fun z_4 _ => ?_)
  refine v_icmp_ge (pc := 15) (tgt := 151) X dX3_loans_15 (by decide) (fun c15 => ?_) (fun c15 => ?_)
  · exact v_vret (pc := 151) X dX3_loans_151 rfl
  · refine v_aload_n (pc := 18) X dX3_loans_18 0 rfl ?_
    refine v_get (pc := 19) (kind := 2) (v := va_rf (s.2.2.1 7 13)) X wC_n7 wC_l7 wC_c2 in_X3 (Nat.le_of_ble_eq_true rfl : 13 < 23) q500 rfl rfl dX3_loans_19 ?_
    refine v_unq0 (pc := 22) (fun a_5 _ => ?_)
    refine v_dgetRN (pc := 22) X wC_c4 in_X2 (Nat.le_of_ble_eq_true rfl : 3 < 9) q431 dX3_loans_22 (fun e_6 => ?_)
    refine v_iload_n (pc := 25) X dX3_loans_25 2 rfl ?_
    refine v_unq1 (pc := 26) (fun a_7 _ => ?_)
    refine v_cFq (pc := 26) X (m_L_get l g fu a_7 x2 _) wC_c5 q1113 hF_get rfl rfl rfl rfl dX3_loans_26 (fun e_8 _ => ?_)
    refine v_castq (pc := 31) X wC_c8 q1120 dX3_loans_31 ?_
    refine v_astore_nq (pc := 34) (lv' := [(3, va_rf e_8), (0, .ref (v_E g 7)), (1, .int p1), (2, .int x2)]) X dX3_loans_34 rfl (Nat.le_of_ble_eq_true rfl) rfl ?_
    refine v_aload_nq (pc := 35) X dX3_loans_35 0 rfl ?_
    refine v_unq0 (pc := 36) (fun a_9 _ => ?_)
    refine v_dgetIN (pc := 36) X wC_c8 in_X10 (Nat.le_of_ble_eq_true rfl : 3 < 6) q1005 dX3_loans_36 (fun z_10 => ?_)
    refine v_iload_n (pc := 39) X dX3_loans_39 2 rfl ?_
    refine v_icmp_ne (pc := 40) (tgt := 145) X dX3_loans_40 (by decide) (fun c40 => ?_) (fun c40 => ?_)
    · refine v_iinc (pc := 145) (v := x2 + (1 : Int32)) (lv' := [(2, .int (x2 + (1 : Int32))), (3, va_rf e_8), (0, .ref (v_E g 7)), (1, .int p1)]) (k := 3) X dX3_loans_145 rfl rfl (Nat.le_of_ble_eq_true rfl) rfl ?_
      refine v_goto (pc := 148) (tgt := 2) X dX3_loans_148 (by decide) ?_
      refine v_sub [2, 3, 0] rfl ?_
      exact h2 (x2 + (1 : Int32)) s
    · refine v_aload_nq (pc := 43) X dX3_loans_43 0 rfl ?_
      refine v_unq0 (pc := 44) (fun a_11 _ => ?_)
      refine v_dgetIN (pc := 44) X wC_c8 in_X10 (Nat.le_of_ble_eq_true rfl : 0 < 6) q998 dX3_loans_44 (fun z_12 => ?_)
      refine v_aload_n (pc := 47) X dX3_loans_47 1 rfl ?_
      refine v_get (pc := 48) (kind := 0) (v := .int (s.1 7 20)) X wC_n7 wC_l7 wC_c2 in_X3 (Nat.le_of_ble_eq_true rfl : 20 < 23) q512 rfl rfl dX3_loans_48 ?_
      refine v_icmp_ne (pc := 51) (tgt := 57) X dX3_loans_51 (by decide) (fun c51 => ?_) (fun c51 => ?_)
      · refine v_aload_n (pc := 57) X dX3_loans_57 1 rfl ?_
        refine v_get (pc := 58) (kind := 44) (v := .ref (v_E g 41)) X wC_n7 wC_l7 wC_c2 in_X3 (Nat.le_of_ble_eq_true rfl : 6 < 23) q487 rfl rfl dX3_loans_58 ?_
        refine v_iload_n (pc := 61) X dX3_loans_61 3 rfl ?_
        refine v_aload_nq (pc := 62) X dX3_loans_62 0 rfl ?_
        refine v_unq0 (pc := 63) (fun a_13 _ => ?_)
        refine v_dgetIN (pc := 63) X wC_c8 in_X10 (Nat.le_of_ble_eq_true rfl : 2 < 6) q1003 dX3_loans_63 (fun z_14 => ?_)
        refine v_aload_n (pc := 66) X dX3_loans_66 1 rfl ?_
        refine v_get (pc := 67) (kind := 39) (v := .ref (v_E g 36)) X wC_n7 wC_l7 wC_c2 in_X3 (Nat.le_of_ble_eq_true rfl : 1 < 23) q478 rfl rfl dX3_loans_67 ?_
        refine v_aload_nq (pc := 70) X dX3_loans_70 0 rfl ?_
        refine v_unq0 (pc := 71) (fun a_15 _ => ?_)
        refine v_dgetIN (pc := 71) X wC_c8 in_X10 (Nat.le_of_ble_eq_true rfl : 0 < 6) q998 dX3_loans_71 (fun z_16 => ?_)
        refine v_iald (pc := 74) X wC_n36 wC_l36 dX3_loans_74 ?_
        refine v_aload_n (pc := 75) X dX3_loans_75 1 rfl ?_
        refine v_aload_nq (pc := 76) X dX3_loans_76 0 rfl ?_
        refine v_unq0 (pc := 77) (fun a_17 _ => ?_)
        refine v_dgetIN (pc := 77) X wC_c8 in_X10 (Nat.le_of_ble_eq_true rfl : 1 < 6) q1000 dX3_loans_77 (fun z_18 => ?_)
        refine v_cGi (pc := 80) X (m_Y_room l g fu z_18 _) (v_rc_n X wC_o7) (Or.inl q1124) hy_Y_room rfl rfl rfl rfl dX3_loans_80 (fun z_19 _ => ?_)
        refine v_mmin (pc := 83) X q1128 q681 q143 q682 rfl dX3_loans_83 ?_
        refine v_mmin (pc := 86) X q1128 q681 q143 q682 rfl dX3_loans_86 ?_
        refine v_iast (pc := 89) X wC_n41 wC_l41 dX3_loans_89 (fun s_20 => ?_)
        refine v_aload_n (pc := 90) X dX3_loans_90 1 rfl ?_
        refine v_get (pc := 91) (kind := 45) (v := .ref (v_E g 42)) X wC_n7 wC_l7 wC_c2 in_X3 (Nat.le_of_ble_eq_true rfl : 7 < 23) q489 rfl rfl dX3_loans_91 ?_
        refine v_iload_n (pc := 94) X dX3_loans_94 3 rfl ?_
        refine v_aload_n (pc := 95) X dX3_loans_95 1 rfl ?_
        refine v_get (pc := 96) (kind := 44) (v := .ref (v_E g 41)) X wC_n7 wC_l7 wC_c2 in_X3 (Nat.le_of_ble_eq_true rfl : 6 < 23) q487 rfl rfl dX3_loans_96 ?_
        refine v_iload_n (pc := 99) X dX3_loans_99 3 rfl ?_
        refine v_iald (pc := 100) X wC_n41 wC_l41 dX3_loans_100 ?_
        refine v_aload_n (pc := 101) X dX3_loans_101 1 rfl ?_
        refine v_get (pc := 102) (kind := 0) (v := .int (s_20.1 7 15)) X wC_n7 wC_l7 wC_c2 in_X3 (Nat.le_of_ble_eq_true rfl : 15 < 23) q503 rfl rfl dX3_loans_102 ?_
        refine v_cSi (pc := 105) X (m_Y_withMore l g fu (s_20.1 41 (Int32.toNatClampNeg x2)) (s_20.1 7 15) _) q1129 hy_Y_withMore rfl rfl rfl rfl dX3_loans_105 (fun z_21 _ => ?_)
        refine v_iast (pc := 108) X wC_n42 wC_l42 dX3_loans_108 (fun s_22 => ?_)
        refine v_aload_n (pc := 109) X dX3_loans_109 1 rfl ?_
        refine v_get (pc := 110) (kind := 39) (v := .ref (v_E g 36)) X wC_n7 wC_l7 wC_c2 in_X3 (Nat.le_of_ble_eq_true rfl : 1 < 23) q478 rfl rfl dX3_loans_110 ?_
        refine v_aload_nq (pc := 113) X dX3_loans_113 0 rfl ?_
        refine v_unq0 (pc := 114) (fun a_23 _ => ?_)
        refine v_dgetIN (pc := 114) X wC_c8 in_X10 (Nat.le_of_ble_eq_true rfl : 0 < 6) q998 dX3_loans_114 (fun z_24 => ?_)
        refine v_dup2_11 (pc := 117) X dX3_loans_117 rfl rfl ?_
        refine v_iald (pc := 118) X wC_n36 wC_l36 dX3_loans_118 ?_
        refine v_aload_n (pc := 119) X dX3_loans_119 1 rfl ?_
        refine v_get (pc := 120) (kind := 44) (v := .ref (v_E g 41)) X wC_n7 wC_l7 wC_c2 in_X3 (Nat.le_of_ble_eq_true rfl : 6 < 23) q487 rfl rfl dX3_loans_120 ?_
        refine v_iload_n (pc := 123) X dX3_loans_123 3 rfl ?_
        refine v_iald (pc := 124) X wC_n41 wC_l41 dX3_loans_124 ?_
        refine v_isub (pc := 125) X dX3_loans_125 ?_
        refine v_iast (pc := 126) X wC_n36 wC_l36 dX3_loans_126 (fun s_25 => ?_)
        refine v_aload_n (pc := 127) X dX3_loans_127 1 rfl ?_
        refine v_get (pc := 128) (kind := 39) (v := .ref (v_E g 36)) X wC_n7 wC_l7 wC_c2 in_X3 (Nat.le_of_ble_eq_true rfl : 1 < 23) q478 rfl rfl dX3_loans_128 ?_
        refine v_aload_nq (pc := 131) X dX3_loans_131 0 rfl ?_
        refine v_unq0 (pc := 132) (fun a_26 _ => ?_)
        refine v_dgetIN (pc := 132) X wC_c8 in_X10 (Nat.le_of_ble_eq_true rfl : 1 < 6) q1000 dX3_loans_132 (fun z_27 => ?_)
        refine v_dup2_11 (pc := 135) X dX3_loans_135 rfl rfl ?_
        refine v_iald (pc := 136) X wC_n36 wC_l36 dX3_loans_136 ?_
        refine v_aload_n (pc := 137) X dX3_loans_137 1 rfl ?_
        refine v_get (pc := 138) (kind := 44) (v := .ref (v_E g 41)) X wC_n7 wC_l7 wC_c2 in_X3 (Nat.le_of_ble_eq_true rfl : 6 < 23) q487 rfl rfl dX3_loans_138 ?_
        refine v_iload_n (pc := 141) X dX3_loans_141 3 rfl ?_
        refine v_iald (pc := 142) X wC_n41 wC_l41 dX3_loans_142 ?_
        refine v_iadd (pc := 143) X dX3_loans_143 ?_
        refine v_iast (pc := 144) X wC_n36 wC_l36 dX3_loans_144 (fun s_28 => ?_)
        refine v_iinc (pc := 145) (v := x2 + (1 : Int32)) (lv' := [(2, .int (x2 + (1 : Int32))), (3, va_rf e_8), (0, .ref (v_E g 7)), (1, .int p1)]) (k := 3) X dX3_loans_145 rfl rfl (Nat.le_of_ble_eq_true rfl) rfl ?_
        refine v_goto (pc := 148) (tgt := 2) X dX3_loans_148 (by decide) ?_
        refine v_sub [2, 3, 0] rfl ?_
        exact h2 (x2 + (1 : Int32)) s_28
      · refine v_goto (pc := 54) (tgt := 145) X dX3_loans_54 (by decide) ?_
        refine v_iinc (pc := 145) (v := x2 + (1 : Int32)) (lv' := [(2, .int (x2 + (1 : Int32))), (3, va_rf e_8), (0, .ref (v_E g 7)), (1, .int p1)]) (k := 3) X dX3_loans_145 rfl rfl (Nat.le_of_ble_eq_true rfl) rfl ?_
        refine v_goto (pc := 148) (tgt := 2) X dX3_loans_148 (by decide) ?_
        refine v_sub [2, 3, 0] rfl ?_
        exact h2 (x2 + (1 : Int32)) s
theorem w_Y_loans_2L {Γ : v_Ctx} {l : Launch} {g : v_G} (fu : Nat) (p1 : Int32) (X : v_C Γ l rm_Y_loans cX3_loans 4 RX3 none wC g)  : ∀ (n : Nat), ∀ (x2 : Int32) (s : v_S), v_V Γ 4 wC g (fun z : v_S => ((none : Option Value), z)) 2 [(0, .ref (v_E g 7)), (1, .int p1), (2, .int x2)] [] s (v_loop (t_Y_loans_2B fu p1) n (x2, s)) := by
  intro n
  induction n with
  | zero => exact fun _ _ => v_none
  | succ n ih => exact fun x2 s => w_Y_loans_2 fu p1 X  _ ih x2 s
theorem m_Y_loans (l : Launch) (g : v_G) (fu : Nat) (p1 : Int32) (s : v_S) : v_M l yX3_loans cX3_loans 4 none rm_Y_loans wC g [.ref (v_E g 7), .int p1] s (fun z : v_S => ((none : Option Value), z)) (t_Y_loans fu p1 s) := by
  refine v_met (by decide +kernel) (Nat.le_of_ble_eq_true rfl) (fun Γ X => ?_)
  refine v_lv (lv' := [(0, .ref (v_E g 7)), (1, .int p1)]) rfl ?_
  unfold t_Y_loans
  refine v_iconst (pc := 0) (v := 0) X dX3_loans_0 rfl ?_
  refine v_istore_n (pc := 1) (lv' := [(2, .int (0 : Int32)), (0, .ref (v_E g 7)), (1, .int p1)]) X dX3_loans_1 rfl (Nat.le_of_ble_eq_true rfl) rfl ?_
  refine v_sub [1, 2, 0] rfl ?_
  exact w_Y_loans_2L fu p1 X  fu (0 : Int32) s
/-! FloodLent$Year.isBad(I)V -/
abbrev rm_Y_isBad : Room := { frames := 1, cells := 0, slots := 0, locals := 21 }
theorem hy_Y_isBad : v_yV yX3_isBad cX3_isBad 2 none 1 := ⟨q1142, qs33, q139, q1143, by decide +kernel⟩
def t_Y_isBad (fu : Nat) (p1 : Int32) (s : v_S) : Option v_S :=
  if s.1 7 19 = (-1 : Int32) then (v_n (v_uI s 7 19 p1) fun (s_1 : v_S) => some s_1) else (some s)
theorem m_Y_isBad (l : Launch) (g : v_G) (fu : Nat) (p1 : Int32) (s : v_S) : v_M l yX3_isBad cX3_isBad 2 none rm_Y_isBad wC g [.ref (v_E g 7), .int p1] s (fun z : v_S => ((none : Option Value), z)) (t_Y_isBad fu p1 s) := by
  refine v_met (by decide +kernel) (Nat.le_of_ble_eq_true rfl) (fun Γ X => ?_)
  refine v_lv (lv' := [(0, .ref (v_E g 7)), (1, .int p1)]) rfl ?_
  unfold t_Y_isBad
  refine v_aload_n (pc := 0) X dX3_isBad_0 0 rfl ?_
  refine v_get (pc := 1) (kind := 0) (v := .int (s.1 7 19)) X wC_n7 wC_l7 wC_c2 in_X3 (Nat.le_of_ble_eq_true rfl : 19 < 23) q510 rfl rfl dX3_isBad_1 ?_
  refine v_iconst (pc := 4) (v := -1) X dX3_isBad_4 rfl ?_
  refine v_icmp_ne (pc := 5) (tgt := 13) X dX3_isBad_5 (by decide) (fun c5 => ?_) (fun c5 => ?_)
  · exact v_vret (pc := 13) X dX3_isBad_13 rfl
  · refine v_aload_n (pc := 8) X dX3_isBad_8 0 rfl ?_
    refine v_iload_n (pc := 9) X dX3_isBad_9 1 rfl ?_
    refine v_putI (pc := 10) X wC_n7 wC_l7 wC_c2 in_X3 tyX3 tyX3_ok nmX3 (Nat.le_of_ble_eq_true rfl : 19 < 23) q510 rfl rfl rfl dX3_isBad_10 (fun s_1 => ?_)
    exact v_vret (pc := 13) X dX3_isBad_13 rfl
/-! FloodLent$Year.pays(I)V -/
abbrev rm_Y_pays : Room := { frames := 5, cells := 0, slots := 0, locals := 106 }
theorem hy_Y_pays : v_yV yX3_pays cX3_pays 4 none 1 := ⟨q1138, qs32, q139, q1139, by decide +kernel⟩
def t_Y_pays_145 (fu : Nat) (p1 : Int32) (r145 : Int32 × v_S → Option v_S) (x2 : Int32) (s : v_S) : Option v_S :=
v_b1 (s.2.2.1 7 13) fun (a_5 : Nat) => v_b1 (v_dR s a_5 4 2) fun (e_6 : Option Nat) => v_b1 e_6 fun (a_7 : Nat) => if v_isc s (some a_7) 5 = true then v_b1 (t_L_size fu a_7 s) fun (z_8 : Int32) => (if z_8 ≤ x2 then (some s) else (v_b1 (s.2.2.1 7 13) fun (a_9 : Nat) => v_b1 (v_dI s a_9 4 7) fun (z_10 : Int32) => if p1 = z_10 then (v_g x2 3 <| if s.1 37 (Int32.toNatClampNeg x2) = (-1 : Int32) then (r145 (x2 + (1 : Int32), s)) else (v_g x2 3 <| v_g x2 3 <| v_g (s.1 37 (Int32.toNatClampNeg x2)) 6 <| v_g x2 3 <| v_n (v_uI s 40 (Int32.toNatClampNeg x2) (if (s.1 36 (Int32.toNatClampNeg (s.1 37 (Int32.toNatClampNeg x2)))) < (s.1 39 (Int32.toNatClampNeg x2)) then s.1 36 (Int32.toNatClampNeg (s.1 37 (Int32.toNatClampNeg x2))) else s.1 39 (Int32.toNatClampNeg x2))) fun (s_11 : v_S) => v_g x2 3 <| v_g (s_11.1 37 (Int32.toNatClampNeg x2)) 6 <| v_g x2 3 <| v_g (s_11.1 37 (Int32.toNatClampNeg x2)) 6 <| v_n (v_uI s_11 36 (Int32.toNatClampNeg (s_11.1 37 (Int32.toNatClampNeg x2))) ((s_11.1 36 (Int32.toNatClampNeg (s_11.1 37 (Int32.toNatClampNeg x2)))) - (s_11.1 40 (Int32.toNatClampNeg x2)))) fun (s_12 : v_S) => v_g x2 3 <| v_g x2 3 <| if s_12.1 39 (Int32.toNatClampNeg x2) ≤ s_12.1 40 (Int32.toNatClampNeg x2) then (r145 (x2 + (1 : Int32), s_12)) else (v_b1 (t_Y_isBad fu p1 s_12) fun (s_13 : v_S) => r145 (x2 + (1 : Int32), s_13)))) else (some s))) else none
def t_Y_pays_145B (fu : Nat) (p1 : Int32) (r145 : Int32 × v_S → Option v_S) (a : Int32 × v_S) : Option v_S := t_Y_pays_145 fu p1 r145 a.1 a.2
def t_Y_pays_2 (fu : Nat) (p1 : Int32) (r2 : Int32 × v_S → Option v_S) (x2 : Int32) (s : v_S) : Option v_S :=
v_b1 (s.2.2.1 7 13) fun (a_1 : Nat) => v_b1 (v_dR s a_1 4 3) fun (e_2 : Option Nat) => v_b1 e_2 fun (a_3 : Nat) => if v_isc s (some a_3) 5 = true then v_b1 (t_L_size fu a_3 s) fun (z_4 : Int32) => (if z_4 ≤ x2 then (v_loop (t_Y_pays_145B fu p1) fu ((0 : Int32), s)) else (v_b1 (s.2.2.1 7 13) fun (a_14 : Nat) => v_b1 (v_dR s a_14 4 3) fun (e_15 : Option Nat) => v_b1 e_15 fun (a_16 : Nat) => if v_isc s (some a_16) 5 = true then v_b1 (t_L_get fu a_16 x2 s) fun (e_17 : Option Nat) => if v_isc s e_17 8 = true then v_b1 e_17 fun (a_18 : Nat) => v_b1 (v_dI s a_18 8 4) fun (z_19 : Int32) => (if z_19 = p1 then (v_g x2 8 <| v_b1 e_17 fun (a_20 : Nat) => v_b1 (v_dI s a_20 8 1) fun (z_21 : Int32) => v_g z_21 6 <| v_b1 e_17 fun (a_22 : Nat) => v_b1 (v_dI s a_22 8 0) fun (z_23 : Int32) => v_b1 (t_Y_room fu z_23 s) fun (z_24 : Int32) => v_g x2 8 <| v_n (v_uI s 43 (Int32.toNatClampNeg x2) (if (if z_24 < (s.1 36 (Int32.toNatClampNeg z_21)) then z_24 else s.1 36 (Int32.toNatClampNeg z_21)) < (s.1 42 (Int32.toNatClampNeg x2)) then if z_24 < (s.1 36 (Int32.toNatClampNeg z_21)) then z_24 else s.1 36 (Int32.toNatClampNeg z_21) else s.1 42 (Int32.toNatClampNeg x2))) fun (s_25 : v_S) => v_b1 e_17 fun (a_26 : Nat) => v_b1 (v_dI s_25 a_26 8 1) fun (z_27 : Int32) => v_g z_27 6 <| v_g x2 8 <| v_g z_27 6 <| v_n (v_uI s_25 36 (Int32.toNatClampNeg z_27) ((s_25.1 36 (Int32.toNatClampNeg z_27)) - (s_25.1 43 (Int32.toNatClampNeg x2)))) fun (s_28 : v_S) => v_b1 e_17 fun (a_29 : Nat) => v_b1 (v_dI s_28 a_29 8 0) fun (z_30 : Int32) => v_g z_30 6 <| v_g x2 8 <| v_g z_30 6 <| v_n (v_uI s_28 36 (Int32.toNatClampNeg z_30) ((s_28.1 36 (Int32.toNatClampNeg z_30)) + (s_28.1 43 (Int32.toNatClampNeg x2)))) fun (s_31 : v_S) => v_g x2 8 <| v_g x2 8 <| if s_31.1 42 (Int32.toNatClampNeg x2) ≤ s_31.1 43 (Int32.toNatClampNeg x2) then (r2 (x2 + (1 : Int32), s_31)) else (v_b1 (t_Y_isBad fu p1 s_31) fun (s_32 : v_S) => r2 (x2 + (1 : Int32), s_32))) else (r2 (x2 + (1 : Int32), s))) else none else none)) else none
def t_Y_pays_2B (fu : Nat) (p1 : Int32) (r2 : Int32 × v_S → Option v_S) (a : Int32 × v_S) : Option v_S := t_Y_pays_2 fu p1 r2 a.1 a.2
def t_Y_pays (fu : Nat) (p1 : Int32) (s : v_S) : Option v_S :=
  v_loop (t_Y_pays_2B fu p1) fu ((0 : Int32), s)
theorem w_Y_pays_145 {Γ : v_Ctx} {l : Launch} {g : v_G} (fu : Nat) (p1 : Int32) (X : v_C Γ l rm_Y_pays cX3_pays 4 RX3 none wC g) (r145 : Int32 × v_S → Option v_S) (h145 : ∀ (x2 : Int32) (s : v_S), v_V Γ 4 wC g (fun z : v_S => ((none : Option Value), z)) 145 [(0, .ref (v_E g 7)), (1, .int p1), (2, .int x2)] [] s (r145 (x2, s))) (x2 : Int32) (s : v_S) : v_V Γ 4 wC g (fun z : v_S => ((none : Option Value), z)) 145 [(0, .ref (v_E g 7)), (1, .int p1), (2, .int x2)] [] s (t_Y_pays_145 fu p1 r145 x2 s) := by
  unfold t_Y_pays_145
  refine v_iload_n (pc := 145) X dX3_pays_145 2 rfl ?_
  refine v_aload_n (pc := 146) X dX3_pays_146 0 rfl ?_
  refine v_get (pc := 147) (kind := 2) (v := va_rf (s.2.2.1 7 13)) X wC_n7 wC_l7 wC_c2 in_X3 (Nat.le_of_ble_eq_true rfl : 13 < 23) q500 rfl rfl dX3_pays_147 ?_
  refine v_unq0 (pc := 150) (fun a_5 _ => ?_)
  refine v_dgetRN (pc := 150) X wC_c4 in_X2 (Nat.le_of_ble_eq_true rfl : 2 < 9) q427 dX3_pays_150 (fun e_6 => ?_)
  refine v_unq0 (pc := 153) (fun a_7 _ => ?_)
  refine v_cFi (pc := 153) X (m_L_size l g fu a_7  _) wC_c5 q1111 hF_size rfl rfl rfl rfl dX3_pays_153 (fun z_8 _ => ?_)
  refine v_icmp_ge (pc := 158) (tgt := 257) X dX3_pays_158 (by decide) (fun c158 => ?_) (fun c158 => ?_)
  · exact v_vret (pc := 257) X dX3_pays_257 rfl
  · refine v_iload_n (pc := 161) X dX3_pays_161 1 rfl ?_
    refine v_aload_n (pc := 162) X dX3_pays_162 0 rfl ?_
    refine v_get (pc := 163) (kind := 2) (v := va_rf (s.2.2.1 7 13)) X wC_n7 wC_l7 wC_c2 in_X3 (Nat.le_of_ble_eq_true rfl : 13 < 23) q500 rfl rfl dX3_pays_163 ?_
    refine v_unq0 (pc := 166) (fun a_9 _ => ?_)
    refine v_dgetIN (pc := 166) X wC_c4 in_X2 (Nat.le_of_ble_eq_true rfl : 7 < 9) q442 dX3_pays_166 (fun z_10 => ?_)
    refine v_icmp_ne (pc := 169) (tgt := 257) X dX3_pays_169 (by decide) (fun c169 => ?_) (fun c169 => ?_)
    · exact v_vret (pc := 257) X dX3_pays_257 rfl
    · refine v_aload_n (pc := 172) X dX3_pays_172 0 rfl ?_
      refine v_get (pc := 173) (kind := 40) (v := .ref (v_E g 37)) X wC_n7 wC_l7 wC_c2 in_X3 (Nat.le_of_ble_eq_true rfl : 2 < 23) q480 rfl rfl dX3_pays_173 ?_
      refine v_iload_n (pc := 176) X dX3_pays_176 2 rfl ?_
      refine v_iald (pc := 177) X wC_n37 wC_l37 dX3_pays_177 ?_
      refine v_iconst (pc := 178) (v := -1) X dX3_pays_178 rfl ?_
      refine v_icmp_ne (pc := 179) (tgt := 185) X dX3_pays_179 (by decide) (fun c179 => ?_) (fun c179 => ?_)
      · refine v_aload_n (pc := 185) X dX3_pays_185 0 rfl ?_
        refine v_get (pc := 186) (kind := 43) (v := .ref (v_E g 40)) X wC_n7 wC_l7 wC_c2 in_X3 (Nat.le_of_ble_eq_true rfl : 5 < 23) q485 rfl rfl dX3_pays_186 ?_
        refine v_iload_n (pc := 189) X dX3_pays_189 2 rfl ?_
        refine v_aload_n (pc := 190) X dX3_pays_190 0 rfl ?_
        refine v_get (pc := 191) (kind := 42) (v := .ref (v_E g 39)) X wC_n7 wC_l7 wC_c2 in_X3 (Nat.le_of_ble_eq_true rfl : 4 < 23) q483 rfl rfl dX3_pays_191 ?_
        refine v_iload_n (pc := 194) X dX3_pays_194 2 rfl ?_
        refine v_iald (pc := 195) X wC_n39 wC_l39 dX3_pays_195 ?_
        refine v_aload_n (pc := 196) X dX3_pays_196 0 rfl ?_
        refine v_get (pc := 197) (kind := 39) (v := .ref (v_E g 36)) X wC_n7 wC_l7 wC_c2 in_X3 (Nat.le_of_ble_eq_true rfl : 1 < 23) q478 rfl rfl dX3_pays_197 ?_
        refine v_aload_n (pc := 200) X dX3_pays_200 0 rfl ?_
        refine v_get (pc := 201) (kind := 40) (v := .ref (v_E g 37)) X wC_n7 wC_l7 wC_c2 in_X3 (Nat.le_of_ble_eq_true rfl : 2 < 23) q480 rfl rfl dX3_pays_201 ?_
        refine v_iload_n (pc := 204) X dX3_pays_204 2 rfl ?_
        refine v_iald (pc := 205) X wC_n37 wC_l37 dX3_pays_205 ?_
        refine v_iald (pc := 206) X wC_n36 wC_l36 dX3_pays_206 ?_
        refine v_mmin (pc := 207) X q1128 q681 q143 q682 rfl dX3_pays_207 ?_
        refine v_iast (pc := 210) X wC_n40 wC_l40 dX3_pays_210 (fun s_11 => ?_)
        refine v_aload_n (pc := 211) X dX3_pays_211 0 rfl ?_
        refine v_get (pc := 212) (kind := 39) (v := .ref (v_E g 36)) X wC_n7 wC_l7 wC_c2 in_X3 (Nat.le_of_ble_eq_true rfl : 1 < 23) q478 rfl rfl dX3_pays_212 ?_
        refine v_aload_n (pc := 215) X dX3_pays_215 0 rfl ?_
        refine v_get (pc := 216) (kind := 40) (v := .ref (v_E g 37)) X wC_n7 wC_l7 wC_c2 in_X3 (Nat.le_of_ble_eq_true rfl : 2 < 23) q480 rfl rfl dX3_pays_216 ?_
        refine v_iload_n (pc := 219) X dX3_pays_219 2 rfl ?_
        refine v_iald (pc := 220) X wC_n37 wC_l37 dX3_pays_220 ?_
        refine v_dup2_11 (pc := 221) X dX3_pays_221 rfl rfl ?_
        refine v_iald (pc := 222) X wC_n36 wC_l36 dX3_pays_222 ?_
        refine v_aload_n (pc := 223) X dX3_pays_223 0 rfl ?_
        refine v_get (pc := 224) (kind := 43) (v := .ref (v_E g 40)) X wC_n7 wC_l7 wC_c2 in_X3 (Nat.le_of_ble_eq_true rfl : 5 < 23) q485 rfl rfl dX3_pays_224 ?_
        refine v_iload_n (pc := 227) X dX3_pays_227 2 rfl ?_
        refine v_iald (pc := 228) X wC_n40 wC_l40 dX3_pays_228 ?_
        refine v_isub (pc := 229) X dX3_pays_229 ?_
        refine v_iast (pc := 230) X wC_n36 wC_l36 dX3_pays_230 (fun s_12 => ?_)
        refine v_aload_n (pc := 231) X dX3_pays_231 0 rfl ?_
        refine v_get (pc := 232) (kind := 43) (v := .ref (v_E g 40)) X wC_n7 wC_l7 wC_c2 in_X3 (Nat.le_of_ble_eq_true rfl : 5 < 23) q485 rfl rfl dX3_pays_232 ?_
        refine v_iload_n (pc := 235) X dX3_pays_235 2 rfl ?_
        refine v_iald (pc := 236) X wC_n40 wC_l40 dX3_pays_236 ?_
        refine v_aload_n (pc := 237) X dX3_pays_237 0 rfl ?_
        refine v_get (pc := 238) (kind := 42) (v := .ref (v_E g 39)) X wC_n7 wC_l7 wC_c2 in_X3 (Nat.le_of_ble_eq_true rfl : 4 < 23) q483 rfl rfl dX3_pays_238 ?_
        refine v_iload_n (pc := 241) X dX3_pays_241 2 rfl ?_
        refine v_iald (pc := 242) X wC_n39 wC_l39 dX3_pays_242 ?_
        refine v_icmp_ge (pc := 243) (tgt := 251) X dX3_pays_243 (by decide) (fun c243 => ?_) (fun c243 => ?_)
        · refine v_iinc (pc := 251) (v := x2 + (1 : Int32)) (lv' := [(2, .int (x2 + (1 : Int32))), (0, .ref (v_E g 7)), (1, .int p1)]) (k := 2) X dX3_pays_251 rfl rfl (Nat.le_of_ble_eq_true rfl) rfl ?_
          refine v_goto (pc := 254) (tgt := 145) X dX3_pays_254 (by decide) ?_
          refine v_sub [1, 2, 0] rfl ?_
          exact h145 (x2 + (1 : Int32)) s_12
        · refine v_aload_n (pc := 246) X dX3_pays_246 0 rfl ?_
          refine v_iload_n (pc := 247) X dX3_pays_247 1 rfl ?_
          refine v_cGs (pc := 248) X (m_Y_isBad l g fu p1 _) (v_rc_n X wC_o7) (Or.inl q1140) hy_Y_isBad rfl rfl rfl rfl dX3_pays_248 (fun s_13 _ => ?_)
          refine v_iinc (pc := 251) (v := x2 + (1 : Int32)) (lv' := [(2, .int (x2 + (1 : Int32))), (0, .ref (v_E g 7)), (1, .int p1)]) (k := 2) X dX3_pays_251 rfl rfl (Nat.le_of_ble_eq_true rfl) rfl ?_
          refine v_goto (pc := 254) (tgt := 145) X dX3_pays_254 (by decide) ?_
          refine v_sub [1, 2, 0] rfl ?_
          exact h145 (x2 + (1 : Int32)) s_13
      · refine v_goto (pc := 182) (tgt := 251) X dX3_pays_182 (by decide) ?_
        refine v_iinc (pc := 251) (v := x2 + (1 : Int32)) (lv' := [(2, .int (x2 + (1 : Int32))), (0, .ref (v_E g 7)), (1, .int p1)]) (k := 2) X dX3_pays_251 rfl rfl (Nat.le_of_ble_eq_true rfl) rfl ?_
        refine v_goto (pc := 254) (tgt := 145) X dX3_pays_254 (by decide) ?_
        refine v_sub [1, 2, 0] rfl ?_
        exact h145 (x2 + (1 : Int32)) s
theorem w_Y_pays_145L {Γ : v_Ctx} {l : Launch} {g : v_G} (fu : Nat) (p1 : Int32) (X : v_C Γ l rm_Y_pays cX3_pays 4 RX3 none wC g)  : ∀ (n : Nat), ∀ (x2 : Int32) (s : v_S), v_V Γ 4 wC g (fun z : v_S => ((none : Option Value), z)) 145 [(0, .ref (v_E g 7)), (1, .int p1), (2, .int x2)] [] s (v_loop (t_Y_pays_145B fu p1) n (x2, s)) := by
  intro n
  induction n with
  | zero => exact fun _ _ => v_none
  | succ n ih => exact fun x2 s => w_Y_pays_145 fu p1 X  _ ih x2 s
theorem w_Y_pays_2 {Γ : v_Ctx} {l : Launch} {g : v_G} (fu : Nat) (p1 : Int32) (X : v_C Γ l rm_Y_pays cX3_pays 4 RX3 none wC g) (r2 : Int32 × v_S → Option v_S) (h2 : ∀ (x2 : Int32) (s : v_S), v_V Γ 4 wC g (fun z : v_S => ((none : Option Value), z)) 2 [(0, .ref (v_E g 7)), (1, .int p1), (2, .int x2)] [] s (r2 (x2, s))) (x2 : Int32) (s : v_S) : v_V Γ 4 wC g (fun z : v_S => ((none : Option Value), z)) 2 [(0, .ref (v_E g 7)), (1, .int p1), (2, .int x2)] [] s (t_Y_pays_2 fu p1 r2 x2 s) := by
  unfold t_Y_pays_2
  refine v_iload_n (pc := 2) X dX3_pays_2 2 rfl ?_
  refine v_aload_n (pc := 3) X dX3_pays_3 0 rfl ?_
  refine v_get (pc := 4) (kind := 2) (v := va_rf (s.2.2.1 7 13)) X wC_n7 wC_l7 wC_c2 in_X3 (Nat.le_of_ble_eq_true rfl : 13 < 23) q500 rfl rfl dX3_pays_4 ?_
  refine v_unq0 (pc := 7) (fun a_1 _ => ?_)
  refine v_dgetRN (pc := 7) X wC_c4 in_X2 (Nat.le_of_ble_eq_true rfl : 3 < 9) q431 dX3_pays_7 (fun e_2 => ?_)
  refine v_unq0 (pc := 10) (fun a_3 _ => ?_)
  refine v_cFi (pc := 10) X (m_L_size l g fu a_3  _) wC_c5 q1111 hF_size rfl rfl rfl rfl dX3_pays_10 (fun z_4 _ => ?_)
  refine v_icmp_ge (pc := 15) (tgt := 143) X dX3_pays_15 (by decide) (fun c15 => ?_) (fun c15 => ?_)
  · refine v_iconst (pc := 143) (v := 0) X dX3_pays_143 rfl ?_
    refine v_istore_n (pc := 144) (lv' := [(2, .int (0 : Int32)), (0, .ref (v_E g 7)), (1, .int p1)]) X dX3_pays_144 rfl (Nat.le_of_ble_eq_true rfl) rfl ?_
    refine v_sub [1, 2, 0] rfl ?_
    exact w_Y_pays_145L fu p1 X  fu (0 : Int32) s
  · refine v_aload_n (pc := 18) X dX3_pays_18 0 rfl ?_
    refine v_get (pc := 19) (kind := 2) (v := va_rf (s.2.2.1 7 13)) X wC_n7 wC_l7 wC_c2 in_X3 (Nat.le_of_ble_eq_true rfl : 13 < 23) q500 rfl rfl dX3_pays_19 ?_
    refine v_unq0 (pc := 22) (fun a_14 _ => ?_)
    refine v_dgetRN (pc := 22) X wC_c4 in_X2 (Nat.le_of_ble_eq_true rfl : 3 < 9) q431 dX3_pays_22 (fun e_15 => ?_)
    refine v_iload_n (pc := 25) X dX3_pays_25 2 rfl ?_
    refine v_unq1 (pc := 26) (fun a_16 _ => ?_)
    refine v_cFq (pc := 26) X (m_L_get l g fu a_16 x2 _) wC_c5 q1113 hF_get rfl rfl rfl rfl dX3_pays_26 (fun e_17 _ => ?_)
    refine v_castq (pc := 31) X wC_c8 q1120 dX3_pays_31 ?_
    refine v_astore_nq (pc := 34) (lv' := [(3, va_rf e_17), (0, .ref (v_E g 7)), (1, .int p1), (2, .int x2)]) X dX3_pays_34 rfl (Nat.le_of_ble_eq_true rfl) rfl ?_
    refine v_aload_nq (pc := 35) X dX3_pays_35 0 rfl ?_
    refine v_unq0 (pc := 36) (fun a_18 _ => ?_)
    refine v_dgetIN (pc := 36) X wC_c8 in_X10 (Nat.le_of_ble_eq_true rfl : 4 < 6) q1007 dX3_pays_36 (fun z_19 => ?_)
    refine v_iload_n (pc := 39) X dX3_pays_39 2 rfl ?_
    refine v_icmp_eq (pc := 40) (tgt := 46) X dX3_pays_40 (by decide) (fun c40 => ?_) (fun c40 => ?_)
    · refine v_aload_n (pc := 46) X dX3_pays_46 1 rfl ?_
      refine v_get (pc := 47) (kind := 46) (v := .ref (v_E g 43)) X wC_n7 wC_l7 wC_c2 in_X3 (Nat.le_of_ble_eq_true rfl : 8 < 23) q491 rfl rfl dX3_pays_47 ?_
      refine v_iload_n (pc := 50) X dX3_pays_50 3 rfl ?_
      refine v_aload_n (pc := 51) X dX3_pays_51 1 rfl ?_
      refine v_get (pc := 52) (kind := 45) (v := .ref (v_E g 42)) X wC_n7 wC_l7 wC_c2 in_X3 (Nat.le_of_ble_eq_true rfl : 7 < 23) q489 rfl rfl dX3_pays_52 ?_
      refine v_iload_n (pc := 55) X dX3_pays_55 3 rfl ?_
      refine v_iald (pc := 56) X wC_n42 wC_l42 dX3_pays_56 ?_
      refine v_aload_n (pc := 57) X dX3_pays_57 1 rfl ?_
      refine v_get (pc := 58) (kind := 39) (v := .ref (v_E g 36)) X wC_n7 wC_l7 wC_c2 in_X3 (Nat.le_of_ble_eq_true rfl : 1 < 23) q478 rfl rfl dX3_pays_58 ?_
      refine v_aload_nq (pc := 61) X dX3_pays_61 0 rfl ?_
      refine v_unq0 (pc := 62) (fun a_20 _ => ?_)
      refine v_dgetIN (pc := 62) X wC_c8 in_X10 (Nat.le_of_ble_eq_true rfl : 1 < 6) q1000 dX3_pays_62 (fun z_21 => ?_)
      refine v_iald (pc := 65) X wC_n36 wC_l36 dX3_pays_65 ?_
      refine v_aload_n (pc := 66) X dX3_pays_66 1 rfl ?_
      refine v_aload_nq (pc := 67) X dX3_pays_67 0 rfl ?_
      refine v_unq0 (pc := 68) (fun a_22 _ => ?_)
      refine v_dgetIN (pc := 68) X wC_c8 in_X10 (Nat.le_of_ble_eq_true rfl : 0 < 6) q998 dX3_pays_68 (fun z_23 => ?_)
      refine v_cGi (pc := 71) X (m_Y_room l g fu z_23 _) (v_rc_n X wC_o7) (Or.inl q1124) hy_Y_room rfl rfl rfl rfl dX3_pays_71 (fun z_24 _ => ?_)
      refine v_mmin (pc := 74) X q1128 q681 q143 q682 rfl dX3_pays_74 ?_
      refine v_mmin (pc := 77) X q1128 q681 q143 q682 rfl dX3_pays_77 ?_
      refine v_iast (pc := 80) X wC_n43 wC_l43 dX3_pays_80 (fun s_25 => ?_)
      refine v_aload_n (pc := 81) X dX3_pays_81 1 rfl ?_
      refine v_get (pc := 82) (kind := 39) (v := .ref (v_E g 36)) X wC_n7 wC_l7 wC_c2 in_X3 (Nat.le_of_ble_eq_true rfl : 1 < 23) q478 rfl rfl dX3_pays_82 ?_
      refine v_aload_nq (pc := 85) X dX3_pays_85 0 rfl ?_
      refine v_unq0 (pc := 86) (fun a_26 _ => ?_)
      refine v_dgetIN (pc := 86) X wC_c8 in_X10 (Nat.le_of_ble_eq_true rfl : 1 < 6) q1000 dX3_pays_86 (fun z_27 => ?_)
      refine v_dup2_11 (pc := 89) X dX3_pays_89 rfl rfl ?_
      refine v_iald (pc := 90) X wC_n36 wC_l36 dX3_pays_90 ?_
      refine v_aload_n (pc := 91) X dX3_pays_91 1 rfl ?_
      refine v_get (pc := 92) (kind := 46) (v := .ref (v_E g 43)) X wC_n7 wC_l7 wC_c2 in_X3 (Nat.le_of_ble_eq_true rfl : 8 < 23) q491 rfl rfl dX3_pays_92 ?_
      refine v_iload_n (pc := 95) X dX3_pays_95 3 rfl ?_
      refine v_iald (pc := 96) X wC_n43 wC_l43 dX3_pays_96 ?_
      refine v_isub (pc := 97) X dX3_pays_97 ?_
      refine v_iast (pc := 98) X wC_n36 wC_l36 dX3_pays_98 (fun s_28 => ?_)
      refine v_aload_n (pc := 99) X dX3_pays_99 1 rfl ?_
      refine v_get (pc := 100) (kind := 39) (v := .ref (v_E g 36)) X wC_n7 wC_l7 wC_c2 in_X3 (Nat.le_of_ble_eq_true rfl : 1 < 23) q478 rfl rfl dX3_pays_100 ?_
      refine v_aload_nq (pc := 103) X dX3_pays_103 0 rfl ?_
      refine v_unq0 (pc := 104) (fun a_29 _ => ?_)
      refine v_dgetIN (pc := 104) X wC_c8 in_X10 (Nat.le_of_ble_eq_true rfl : 0 < 6) q998 dX3_pays_104 (fun z_30 => ?_)
      refine v_dup2_11 (pc := 107) X dX3_pays_107 rfl rfl ?_
      refine v_iald (pc := 108) X wC_n36 wC_l36 dX3_pays_108 ?_
      refine v_aload_n (pc := 109) X dX3_pays_109 1 rfl ?_
      refine v_get (pc := 110) (kind := 46) (v := .ref (v_E g 43)) X wC_n7 wC_l7 wC_c2 in_X3 (Nat.le_of_ble_eq_true rfl : 8 < 23) q491 rfl rfl dX3_pays_110 ?_
      refine v_iload_n (pc := 113) X dX3_pays_113 3 rfl ?_
      refine v_iald (pc := 114) X wC_n43 wC_l43 dX3_pays_114 ?_
      refine v_iadd (pc := 115) X dX3_pays_115 ?_
      refine v_iast (pc := 116) X wC_n36 wC_l36 dX3_pays_116 (fun s_31 => ?_)
      refine v_aload_n (pc := 117) X dX3_pays_117 1 rfl ?_
      refine v_get (pc := 118) (kind := 46) (v := .ref (v_E g 43)) X wC_n7 wC_l7 wC_c2 in_X3 (Nat.le_of_ble_eq_true rfl : 8 < 23) q491 rfl rfl dX3_pays_118 ?_
      refine v_iload_n (pc := 121) X dX3_pays_121 3 rfl ?_
      refine v_iald (pc := 122) X wC_n43 wC_l43 dX3_pays_122 ?_
      refine v_aload_n (pc := 123) X dX3_pays_123 1 rfl ?_
      refine v_get (pc := 124) (kind := 45) (v := .ref (v_E g 42)) X wC_n7 wC_l7 wC_c2 in_X3 (Nat.le_of_ble_eq_true rfl : 7 < 23) q489 rfl rfl dX3_pays_124 ?_
      refine v_iload_n (pc := 127) X dX3_pays_127 3 rfl ?_
      refine v_iald (pc := 128) X wC_n42 wC_l42 dX3_pays_128 ?_
      refine v_icmp_ge (pc := 129) (tgt := 137) X dX3_pays_129 (by decide) (fun c129 => ?_) (fun c129 => ?_)
      · refine v_iinc (pc := 137) (v := x2 + (1 : Int32)) (lv' := [(2, .int (x2 + (1 : Int32))), (3, va_rf e_17), (0, .ref (v_E g 7)), (1, .int p1)]) (k := 3) X dX3_pays_137 rfl rfl (Nat.le_of_ble_eq_true rfl) rfl ?_
        refine v_goto (pc := 140) (tgt := 2) X dX3_pays_140 (by decide) ?_
        refine v_sub [2, 3, 0] rfl ?_
        exact h2 (x2 + (1 : Int32)) s_31
      · refine v_aload_n (pc := 132) X dX3_pays_132 1 rfl ?_
        refine v_iload_n (pc := 133) X dX3_pays_133 2 rfl ?_
        refine v_cGs (pc := 134) X (m_Y_isBad l g fu p1 _) (v_rc_n X wC_o7) (Or.inl q1140) hy_Y_isBad rfl rfl rfl rfl dX3_pays_134 (fun s_32 _ => ?_)
        refine v_iinc (pc := 137) (v := x2 + (1 : Int32)) (lv' := [(2, .int (x2 + (1 : Int32))), (3, va_rf e_17), (0, .ref (v_E g 7)), (1, .int p1)]) (k := 3) X dX3_pays_137 rfl rfl (Nat.le_of_ble_eq_true rfl) rfl ?_
        refine v_goto (pc := 140) (tgt := 2) X dX3_pays_140 (by decide) ?_
        refine v_sub [2, 3, 0] rfl ?_
        exact h2 (x2 + (1 : Int32)) s_32
    · refine v_goto (pc := 43) (tgt := 137) X dX3_pays_43 (by decide) ?_
      refine v_iinc (pc := 137) (v := x2 + (1 : Int32)) (lv' := [(2, .int (x2 + (1 : Int32))), (3, va_rf e_17), (0, .ref (v_E g 7)), (1, .int p1)]) (k := 3) X dX3_pays_137 rfl rfl (Nat.le_of_ble_eq_true rfl) rfl ?_
      refine v_goto (pc := 140) (tgt := 2) X dX3_pays_140 (by decide) ?_
      refine v_sub [2, 3, 0] rfl ?_
      exact h2 (x2 + (1 : Int32)) s
theorem w_Y_pays_2L {Γ : v_Ctx} {l : Launch} {g : v_G} (fu : Nat) (p1 : Int32) (X : v_C Γ l rm_Y_pays cX3_pays 4 RX3 none wC g)  : ∀ (n : Nat), ∀ (x2 : Int32) (s : v_S), v_V Γ 4 wC g (fun z : v_S => ((none : Option Value), z)) 2 [(0, .ref (v_E g 7)), (1, .int p1), (2, .int x2)] [] s (v_loop (t_Y_pays_2B fu p1) n (x2, s)) := by
  intro n
  induction n with
  | zero => exact fun _ _ => v_none
  | succ n ih => exact fun x2 s => w_Y_pays_2 fu p1 X  _ ih x2 s
theorem m_Y_pays (l : Launch) (g : v_G) (fu : Nat) (p1 : Int32) (s : v_S) : v_M l yX3_pays cX3_pays 4 none rm_Y_pays wC g [.ref (v_E g 7), .int p1] s (fun z : v_S => ((none : Option Value), z)) (t_Y_pays fu p1 s) := by
  refine v_met (by decide +kernel) (Nat.le_of_ble_eq_true rfl) (fun Γ X => ?_)
  refine v_lv (lv' := [(0, .ref (v_E g 7)), (1, .int p1)]) rfl ?_
  unfold t_Y_pays
  refine v_iconst (pc := 0) (v := 0) X dX3_pays_0 rfl ?_
  refine v_istore_n (pc := 1) (lv' := [(2, .int (0 : Int32)), (0, .ref (v_E g 7)), (1, .int p1)]) X dX3_pays_1 rfl (Nat.le_of_ble_eq_true rfl) rfl ?_
  refine v_sub [1, 2, 0] rfl ?_
  exact w_Y_pays_2L fu p1 X  fu (0 : Int32) s
/-! FloodLent$Year.crops(I)V -/
abbrev rm_Y_crops : Room := { frames := 4, cells := 0, slots := 0, locals := 85 }
theorem hy_Y_crops : v_yV yX3_crops cX3_crops 4 none 1 := ⟨q1146, qs34, q139, q1147, by decide +kernel⟩
def t_Y_crops_97 (fu : Nat) (p1 : Int32) (r2 : Int32 × v_S → Option v_S) (x2 : Int32) (s : v_S) : Option v_S :=
v_b1 (t_Y_isBad fu p1 s) fun (s_29 : v_S) => r2 (x2 + (1 : Int32), s_29)
def t_Y_crops_2 (fu : Nat) (p1 : Int32) (r2 : Int32 × v_S → Option v_S) (x2 : Int32) (s : v_S) : Option v_S :=
v_b1 (s.2.2.1 7 13) fun (a_1 : Nat) => v_b1 (v_dR s a_1 4 1) fun (e_2 : Option Nat) => v_b1 e_2 fun (a_3 : Nat) => if v_isc s (some a_3) 5 = true then v_b1 (t_L_size fu a_3 s) fun (z_4 : Int32) => (if z_4 ≤ x2 then (some s) else (v_b1 (s.2.2.1 7 13) fun (a_5 : Nat) => v_b1 (v_dR s a_5 4 1) fun (e_6 : Option Nat) => v_b1 e_6 fun (a_7 : Nat) => if v_isc s (some a_7) 5 = true then v_b1 (t_L_get fu a_7 x2 s) fun (e_8 : Option Nat) => if v_isc s e_8 7 = true then v_b1 e_8 fun (a_9 : Nat) => v_b1 (v_dI s a_9 7 3) fun (z_10 : Int32) => (if p1 < z_10 then (r2 (x2 + (1 : Int32), s)) else (v_b1 e_8 fun (a_11 : Nat) => v_b1 (v_dI s a_11 7 4) fun (z_12 : Int32) => if p1 ≤ z_12 then (v_b1 e_8 fun (a_13 : Nat) => v_b1 (v_dI s a_13 7 0) fun (z_14 : Int32) => v_g z_14 6 <| v_b1 e_8 fun (a_15 : Nat) => v_b1 (v_dI s a_15 7 1) fun (z_16 : Int32) => if z_16 ≤ s.1 36 (Int32.toNatClampNeg z_14) then (v_b1 e_8 fun (a_17 : Nat) => v_b1 (v_dI s a_17 7 0) fun (z_18 : Int32) => v_g z_18 6 <| v_b1 e_8 fun (a_19 : Nat) => v_b1 (v_dI s a_19 7 1) fun (z_20 : Int32) => v_g z_18 6 <| v_n (v_uI s 36 (Int32.toNatClampNeg z_18) ((s.1 36 (Int32.toNatClampNeg z_18)) - z_20)) fun (s_21 : v_S) => v_b1 e_8 fun (a_22 : Nat) => v_b1 (v_dI s_21 a_22 7 1) fun (z_23 : Int32) => v_n (v_uI s_21 7 18 ((s_21.1 7 18) + z_23)) fun (s_24 : v_S) => v_g x2 8 <| v_b1 e_8 fun (a_25 : Nat) => v_b1 (v_dI s_24 a_25 7 2) fun (z_26 : Int32) => v_g x2 8 <| v_n (v_uI s_24 44 (Int32.toNatClampNeg x2) ((s_24.1 44 (Int32.toNatClampNeg x2)) + z_26)) fun (s_27 : v_S) => r2 (x2 + (1 : Int32), s_27)) else (v_g x2 8 <| v_g x2 8 <| v_n (v_uI s 45 (Int32.toNatClampNeg x2) ((s.1 45 (Int32.toNatClampNeg x2)) + (1 : Int32))) fun (s_28 : v_S) => v_g x2 8 <| if s_28.1 46 (Int32.toNatClampNeg x2) = (-1 : Int32) then (v_g x2 8 <| v_n (v_uI s_28 46 (Int32.toNatClampNeg x2) p1) fun (s_30 : v_S) => t_Y_crops_97 fu p1 r2 x2 s_30) else (t_Y_crops_97 fu p1 r2 x2 s_28))) else (r2 (x2 + (1 : Int32), s)))) else none else none)) else none
def t_Y_crops_2B (fu : Nat) (p1 : Int32) (r2 : Int32 × v_S → Option v_S) (a : Int32 × v_S) : Option v_S := t_Y_crops_2 fu p1 r2 a.1 a.2
def t_Y_crops (fu : Nat) (p1 : Int32) (s : v_S) : Option v_S :=
  v_loop (t_Y_crops_2B fu p1) fu ((0 : Int32), s)
theorem w_Y_crops_97 {Γ : v_Ctx} {l : Launch} {g : v_G} (fu : Nat) (p1 : Int32) (X : v_C Γ l rm_Y_crops cX3_crops 4 RX3 none wC g) (r2 : Int32 × v_S → Option v_S) (h2 : ∀ (x2 : Int32) (s : v_S), v_V Γ 4 wC g (fun z : v_S => ((none : Option Value), z)) 2 [(0, .ref (v_E g 7)), (1, .int p1), (2, .int x2)] [] s (r2 (x2, s))) (x2 : Int32) (s : v_S) : v_V Γ 4 wC g (fun z : v_S => ((none : Option Value), z)) 97 [(0, .ref (v_E g 7)), (1, .int p1), (2, .int x2)] [] s (t_Y_crops_97 fu p1 r2 x2 s) := by
  unfold t_Y_crops_97
  refine v_aload_n (pc := 97) X dX3_crops_97 0 rfl ?_
  refine v_iload_n (pc := 98) X dX3_crops_98 1 rfl ?_
  refine v_cGs (pc := 99) X (m_Y_isBad l g fu p1 _) (v_rc_n X wC_o7) (Or.inl q1140) hy_Y_isBad rfl rfl rfl rfl dX3_crops_99 (fun s_29 _ => ?_)
  refine v_goto (pc := 102) (tgt := 147) X dX3_crops_102 (by decide) ?_
  refine v_iinc (pc := 147) (v := x2 + (1 : Int32)) (lv' := [(2, .int (x2 + (1 : Int32))), (0, .ref (v_E g 7)), (1, .int p1)]) (k := 2) X dX3_crops_147 rfl rfl (Nat.le_of_ble_eq_true rfl) rfl ?_
  refine v_goto (pc := 150) (tgt := 2) X dX3_crops_150 (by decide) ?_
  refine v_sub [1, 2, 0] rfl ?_
  exact h2 (x2 + (1 : Int32)) s_29
theorem w_Y_crops_2 {Γ : v_Ctx} {l : Launch} {g : v_G} (fu : Nat) (p1 : Int32) (X : v_C Γ l rm_Y_crops cX3_crops 4 RX3 none wC g) (r2 : Int32 × v_S → Option v_S) (h2 : ∀ (x2 : Int32) (s : v_S), v_V Γ 4 wC g (fun z : v_S => ((none : Option Value), z)) 2 [(0, .ref (v_E g 7)), (1, .int p1), (2, .int x2)] [] s (r2 (x2, s))) (x2 : Int32) (s : v_S) : v_V Γ 4 wC g (fun z : v_S => ((none : Option Value), z)) 2 [(0, .ref (v_E g 7)), (1, .int p1), (2, .int x2)] [] s (t_Y_crops_2 fu p1 r2 x2 s) := by
  unfold t_Y_crops_2
  refine v_iload_n (pc := 2) X dX3_crops_2 2 rfl ?_
  refine v_aload_n (pc := 3) X dX3_crops_3 0 rfl ?_
  refine v_get (pc := 4) (kind := 2) (v := va_rf (s.2.2.1 7 13)) X wC_n7 wC_l7 wC_c2 in_X3 (Nat.le_of_ble_eq_true rfl : 13 < 23) q500 rfl rfl dX3_crops_4 ?_
  refine v_unq0 (pc := 7) (fun a_1 _ => ?_)
  refine v_dgetRN (pc := 7) X wC_c4 in_X2 (Nat.le_of_ble_eq_true rfl : 1 < 9) q423 dX3_crops_7 (fun e_2 => ?_)
  refine v_unq0 (pc := 10) (fun a_3 _ => ?_)
  refine v_cFi (pc := 10) X (m_L_size l g fu a_3  _) wC_c5 q1111 hF_size rfl rfl rfl rfl dX3_crops_10 (fun z_4 _ => ?_)
  refine v_icmp_ge (pc := 15) (tgt := 153) X dX3_crops_15 (by decide) (fun c15 => ?_) (fun c15 => ?_)
  · exact v_vret (pc := 153) X dX3_crops_153 rfl
  · refine v_aload_n (pc := 18) X dX3_crops_18 0 rfl ?_
    refine v_get (pc := 19) (kind := 2) (v := va_rf (s.2.2.1 7 13)) X wC_n7 wC_l7 wC_c2 in_X3 (Nat.le_of_ble_eq_true rfl : 13 < 23) q500 rfl rfl dX3_crops_19 ?_
    refine v_unq0 (pc := 22) (fun a_5 _ => ?_)
    refine v_dgetRN (pc := 22) X wC_c4 in_X2 (Nat.le_of_ble_eq_true rfl : 1 < 9) q423 dX3_crops_22 (fun e_6 => ?_)
    refine v_iload_n (pc := 25) X dX3_crops_25 2 rfl ?_
    refine v_unq1 (pc := 26) (fun a_7 _ => ?_)
    refine v_cFq (pc := 26) X (m_L_get l g fu a_7 x2 _) wC_c5 q1113 hF_get rfl rfl rfl rfl dX3_crops_26 (fun e_8 _ => ?_)
    refine v_castq (pc := 31) X wC_c7 q1148 dX3_crops_31 ?_
    refine v_astore_nq (pc := 34) (lv' := [(3, va_rf e_8), (0, .ref (v_E g 7)), (1, .int p1), (2, .int x2)]) X dX3_crops_34 rfl (Nat.le_of_ble_eq_true rfl) rfl ?_
    refine v_iload_n (pc := 35) X dX3_crops_35 2 rfl ?_
    refine v_aload_nq (pc := 36) X dX3_crops_36 0 rfl ?_
    refine v_unq0 (pc := 37) (fun a_9 _ => ?_)
    refine v_dgetIN (pc := 37) X wC_c7 in_X9 (Nat.le_of_ble_eq_true rfl : 3 < 5) q971 dX3_crops_37 (fun z_10 => ?_)
    refine v_icmp_lt (pc := 40) (tgt := 147) X dX3_crops_40 (by decide) (fun c40 => ?_) (fun c40 => ?_)
    · refine v_iinc (pc := 147) (v := x2 + (1 : Int32)) (lv' := [(2, .int (x2 + (1 : Int32))), (3, va_rf e_8), (0, .ref (v_E g 7)), (1, .int p1)]) (k := 3) X dX3_crops_147 rfl rfl (Nat.le_of_ble_eq_true rfl) rfl ?_
      refine v_goto (pc := 150) (tgt := 2) X dX3_crops_150 (by decide) ?_
      refine v_sub [2, 3, 0] rfl ?_
      exact h2 (x2 + (1 : Int32)) s
    · refine v_iload_n (pc := 43) X dX3_crops_43 2 rfl ?_
      refine v_aload_nq (pc := 44) X dX3_crops_44 0 rfl ?_
      refine v_unq0 (pc := 45) (fun a_11 _ => ?_)
      refine v_dgetIN (pc := 45) X wC_c7 in_X9 (Nat.le_of_ble_eq_true rfl : 4 < 5) q973 dX3_crops_45 (fun z_12 => ?_)
      refine v_icmp_le (pc := 48) (tgt := 54) X dX3_crops_48 (by decide) (fun c48 => ?_) (fun c48 => ?_)
      · refine v_aload_n (pc := 54) X dX3_crops_54 1 rfl ?_
        refine v_get (pc := 55) (kind := 39) (v := .ref (v_E g 36)) X wC_n7 wC_l7 wC_c2 in_X3 (Nat.le_of_ble_eq_true rfl : 1 < 23) q478 rfl rfl dX3_crops_55 ?_
        refine v_aload_nq (pc := 58) X dX3_crops_58 0 rfl ?_
        refine v_unq0 (pc := 59) (fun a_13 _ => ?_)
        refine v_dgetIN (pc := 59) X wC_c7 in_X9 (Nat.le_of_ble_eq_true rfl : 0 < 5) q963 dX3_crops_59 (fun z_14 => ?_)
        refine v_iald (pc := 62) X wC_n36 wC_l36 dX3_crops_62 ?_
        refine v_aload_nq (pc := 63) X dX3_crops_63 0 rfl ?_
        refine v_unq0 (pc := 64) (fun a_15 _ => ?_)
        refine v_dgetIN (pc := 64) X wC_c7 in_X9 (Nat.le_of_ble_eq_true rfl : 1 < 5) q966 dX3_crops_64 (fun z_16 => ?_)
        refine v_icmp_ge (pc := 67) (tgt := 105) X dX3_crops_67 (by decide) (fun c67 => ?_) (fun c67 => ?_)
        · refine v_aload_n (pc := 105) X dX3_crops_105 1 rfl ?_
          refine v_get (pc := 106) (kind := 39) (v := .ref (v_E g 36)) X wC_n7 wC_l7 wC_c2 in_X3 (Nat.le_of_ble_eq_true rfl : 1 < 23) q478 rfl rfl dX3_crops_106 ?_
          refine v_aload_nq (pc := 109) X dX3_crops_109 0 rfl ?_
          refine v_unq0 (pc := 110) (fun a_17 _ => ?_)
          refine v_dgetIN (pc := 110) X wC_c7 in_X9 (Nat.le_of_ble_eq_true rfl : 0 < 5) q963 dX3_crops_110 (fun z_18 => ?_)
          refine v_dup2_11 (pc := 113) X dX3_crops_113 rfl rfl ?_
          refine v_iald (pc := 114) X wC_n36 wC_l36 dX3_crops_114 ?_
          refine v_aload_nq (pc := 115) X dX3_crops_115 0 rfl ?_
          refine v_unq0 (pc := 116) (fun a_19 _ => ?_)
          refine v_dgetIN (pc := 116) X wC_c7 in_X9 (Nat.le_of_ble_eq_true rfl : 1 < 5) q966 dX3_crops_116 (fun z_20 => ?_)
          refine v_isub (pc := 119) X dX3_crops_119 ?_
          refine v_iast (pc := 120) X wC_n36 wC_l36 dX3_crops_120 (fun s_21 => ?_)
          refine v_aload_n (pc := 121) X dX3_crops_121 1 rfl ?_
          refine v_dup (pc := 122) X dX3_crops_122 rfl ?_
          refine v_get (pc := 123) (kind := 0) (v := .int (s_21.1 7 18)) X wC_n7 wC_l7 wC_c2 in_X3 (Nat.le_of_ble_eq_true rfl : 18 < 23) q508 rfl rfl dX3_crops_123 ?_
          refine v_aload_nq (pc := 126) X dX3_crops_126 0 rfl ?_
          refine v_unq0 (pc := 127) (fun a_22 _ => ?_)
          refine v_dgetIN (pc := 127) X wC_c7 in_X9 (Nat.le_of_ble_eq_true rfl : 1 < 5) q966 dX3_crops_127 (fun z_23 => ?_)
          refine v_iadd (pc := 130) X dX3_crops_130 ?_
          refine v_putI (pc := 131) X wC_n7 wC_l7 wC_c2 in_X3 tyX3 tyX3_ok nmX3 (Nat.le_of_ble_eq_true rfl : 18 < 23) q508 rfl rfl rfl dX3_crops_131 (fun s_24 => ?_)
          refine v_aload_n (pc := 134) X dX3_crops_134 1 rfl ?_
          refine v_get (pc := 135) (kind := 47) (v := .ref (v_E g 44)) X wC_n7 wC_l7 wC_c2 in_X3 (Nat.le_of_ble_eq_true rfl : 9 < 23) q493 rfl rfl dX3_crops_135 ?_
          refine v_iload_n (pc := 138) X dX3_crops_138 3 rfl ?_
          refine v_dup2_11 (pc := 139) X dX3_crops_139 rfl rfl ?_
          refine v_iald (pc := 140) X wC_n44 wC_l44 dX3_crops_140 ?_
          refine v_aload_nq (pc := 141) X dX3_crops_141 0 rfl ?_
          refine v_unq0 (pc := 142) (fun a_25 _ => ?_)
          refine v_dgetIN (pc := 142) X wC_c7 in_X9 (Nat.le_of_ble_eq_true rfl : 2 < 5) q969 dX3_crops_142 (fun z_26 => ?_)
          refine v_iadd (pc := 145) X dX3_crops_145 ?_
          refine v_iast (pc := 146) X wC_n44 wC_l44 dX3_crops_146 (fun s_27 => ?_)
          refine v_iinc (pc := 147) (v := x2 + (1 : Int32)) (lv' := [(2, .int (x2 + (1 : Int32))), (3, va_rf e_8), (0, .ref (v_E g 7)), (1, .int p1)]) (k := 3) X dX3_crops_147 rfl rfl (Nat.le_of_ble_eq_true rfl) rfl ?_
          refine v_goto (pc := 150) (tgt := 2) X dX3_crops_150 (by decide) ?_
          refine v_sub [2, 3, 0] rfl ?_
          exact h2 (x2 + (1 : Int32)) s_27
        · refine v_aload_n (pc := 70) X dX3_crops_70 1 rfl ?_
          refine v_get (pc := 71) (kind := 48) (v := .ref (v_E g 45)) X wC_n7 wC_l7 wC_c2 in_X3 (Nat.le_of_ble_eq_true rfl : 10 < 23) q495 rfl rfl dX3_crops_71 ?_
          refine v_iload_n (pc := 74) X dX3_crops_74 3 rfl ?_
          refine v_dup2_11 (pc := 75) X dX3_crops_75 rfl rfl ?_
          refine v_iald (pc := 76) X wC_n45 wC_l45 dX3_crops_76 ?_
          refine v_iconst (pc := 77) (v := 1) X dX3_crops_77 rfl ?_
          refine v_iadd (pc := 78) X dX3_crops_78 ?_
          refine v_iast (pc := 79) X wC_n45 wC_l45 dX3_crops_79 (fun s_28 => ?_)
          refine v_aload_n (pc := 80) X dX3_crops_80 1 rfl ?_
          refine v_get (pc := 81) (kind := 49) (v := .ref (v_E g 46)) X wC_n7 wC_l7 wC_c2 in_X3 (Nat.le_of_ble_eq_true rfl : 11 < 23) q497 rfl rfl dX3_crops_81 ?_
          refine v_iload_n (pc := 84) X dX3_crops_84 3 rfl ?_
          refine v_iald (pc := 85) X wC_n46 wC_l46 dX3_crops_85 ?_
          refine v_iconst (pc := 86) (v := -1) X dX3_crops_86 rfl ?_
          refine v_icmp_ne (pc := 87) (tgt := 97) X dX3_crops_87 (by decide) (fun c87 => ?_) (fun c87 => ?_)
          · refine v_sub [1, 2, 3] rfl ?_
            exact w_Y_crops_97 fu p1 X r2 h2 x2 s_28
          · refine v_aload_n (pc := 90) X dX3_crops_90 1 rfl ?_
            refine v_get (pc := 91) (kind := 49) (v := .ref (v_E g 46)) X wC_n7 wC_l7 wC_c2 in_X3 (Nat.le_of_ble_eq_true rfl : 11 < 23) q497 rfl rfl dX3_crops_91 ?_
            refine v_iload_n (pc := 94) X dX3_crops_94 3 rfl ?_
            refine v_iload_n (pc := 95) X dX3_crops_95 2 rfl ?_
            refine v_iast (pc := 96) X wC_n46 wC_l46 dX3_crops_96 (fun s_30 => ?_)
            refine v_sub [1, 2, 3] rfl ?_
            exact w_Y_crops_97 fu p1 X r2 h2 x2 s_30
      · refine v_goto (pc := 51) (tgt := 147) X dX3_crops_51 (by decide) ?_
        refine v_iinc (pc := 147) (v := x2 + (1 : Int32)) (lv' := [(2, .int (x2 + (1 : Int32))), (3, va_rf e_8), (0, .ref (v_E g 7)), (1, .int p1)]) (k := 3) X dX3_crops_147 rfl rfl (Nat.le_of_ble_eq_true rfl) rfl ?_
        refine v_goto (pc := 150) (tgt := 2) X dX3_crops_150 (by decide) ?_
        refine v_sub [2, 3, 0] rfl ?_
        exact h2 (x2 + (1 : Int32)) s
theorem w_Y_crops_2L {Γ : v_Ctx} {l : Launch} {g : v_G} (fu : Nat) (p1 : Int32) (X : v_C Γ l rm_Y_crops cX3_crops 4 RX3 none wC g)  : ∀ (n : Nat), ∀ (x2 : Int32) (s : v_S), v_V Γ 4 wC g (fun z : v_S => ((none : Option Value), z)) 2 [(0, .ref (v_E g 7)), (1, .int p1), (2, .int x2)] [] s (v_loop (t_Y_crops_2B fu p1) n (x2, s)) := by
  intro n
  induction n with
  | zero => exact fun _ _ => v_none
  | succ n ih => exact fun x2 s => w_Y_crops_2 fu p1 X  _ ih x2 s
theorem m_Y_crops (l : Launch) (g : v_G) (fu : Nat) (p1 : Int32) (s : v_S) : v_M l yX3_crops cX3_crops 4 none rm_Y_crops wC g [.ref (v_E g 7), .int p1] s (fun z : v_S => ((none : Option Value), z)) (t_Y_crops fu p1 s) := by
  refine v_met (by decide +kernel) (Nat.le_of_ble_eq_true rfl) (fun Γ X => ?_)
  refine v_lv (lv' := [(0, .ref (v_E g 7)), (1, .int p1)]) rfl ?_
  unfold t_Y_crops
  refine v_iconst (pc := 0) (v := 0) X dX3_crops_0 rfl ?_
  refine v_istore_n (pc := 1) (lv' := [(2, .int (0 : Int32)), (0, .ref (v_E g 7)), (1, .int p1)]) X dX3_crops_1 rfl (Nat.le_of_ble_eq_true rfl) rfl ?_
  refine v_sub [1, 2, 0] rfl ?_
  exact w_Y_crops_2L fu p1 X  fu (0 : Int32) s
/-! FloodLent$Year.suns(I)V -/
abbrev rm_Y_suns : Room := { frames := 4, cells := 0, slots := 0, locals := 85 }
theorem hy_Y_suns : v_yV yX3_suns cX3_suns 4 none 1 := ⟨q1151, qs35, q139, q1152, by decide +kernel⟩
def t_Y_suns_2 (fu : Nat) (p1 : Int32) (r2 : Int32 × v_S → Option v_S) (x2 : Int32) (s : v_S) : Option v_S :=
v_b1 (s.2.2.1 7 13) fun (a_1 : Nat) => v_b1 (v_dR s a_1 4 0) fun (e_2 : Option Nat) => v_b1 e_2 fun (a_3 : Nat) => if v_isc s (some a_3) 5 = true then v_b1 (t_L_size fu a_3 s) fun (z_4 : Int32) => (if z_4 ≤ x2 then (some s) else (v_g x2 6 <| v_b1 (s.2.2.1 7 13) fun (a_5 : Nat) => v_b1 (v_dR s a_5 4 0) fun (e_6 : Option Nat) => v_b1 e_6 fun (a_7 : Nat) => if v_isc s (some a_7) 5 = true then v_b1 (t_L_get fu a_7 x2 s) fun (e_8 : Option Nat) => if v_isc s e_8 6 = true then v_b1 e_8 fun (a_9 : Nat) => v_b1 (v_dI s a_9 6 2) fun (z_10 : Int32) => v_b1 (s.2.2.1 7 13) fun (a_11 : Nat) => v_b1 (v_dR s a_11 4 4) fun (e_12 : Option Nat) => v_b1 e_12 fun (a_13 : Nat) => v_b2 (v_da s a_13 0) fun (n_14 : Nat) (f_15 : Nat → Int32) => v_g p1 n_14 <| v_n (if ((z_10 * (f_15 (Int32.toNatClampNeg p1))) / (100 : Int32)) < (s.1 36 (Int32.toNatClampNeg x2)) then (z_10 * (f_15 (Int32.toNatClampNeg p1))) / (100 : Int32) else s.1 36 (Int32.toNatClampNeg x2)) fun (x3_16 : Int32) => v_g x2 6 <| v_g x2 6 <| v_n (v_uI s 36 (Int32.toNatClampNeg x2) ((s.1 36 (Int32.toNatClampNeg x2)) - x3_16)) fun (s_17 : v_S) => v_n (v_uI s_17 7 16 ((s_17.1 7 16) + x3_16)) fun (s_18 : v_S) => (r2 (x2 + (1 : Int32), s_18)) else none else none)) else none
def t_Y_suns_2B (fu : Nat) (p1 : Int32) (r2 : Int32 × v_S → Option v_S) (a : Int32 × v_S) : Option v_S := t_Y_suns_2 fu p1 r2 a.1 a.2
def t_Y_suns (fu : Nat) (p1 : Int32) (s : v_S) : Option v_S :=
  v_loop (t_Y_suns_2B fu p1) fu ((0 : Int32), s)
theorem w_Y_suns_2 {Γ : v_Ctx} {l : Launch} {g : v_G} (fu : Nat) (p1 : Int32) (X : v_C Γ l rm_Y_suns cX3_suns 4 RX3 none wC g) (r2 : Int32 × v_S → Option v_S) (h2 : ∀ (x2 : Int32) (s : v_S), v_V Γ 4 wC g (fun z : v_S => ((none : Option Value), z)) 2 [(0, .ref (v_E g 7)), (1, .int p1), (2, .int x2)] [] s (r2 (x2, s))) (x2 : Int32) (s : v_S) : v_V Γ 4 wC g (fun z : v_S => ((none : Option Value), z)) 2 [(0, .ref (v_E g 7)), (1, .int p1), (2, .int x2)] [] s (t_Y_suns_2 fu p1 r2 x2 s) := by
  unfold t_Y_suns_2
  refine v_iload_n (pc := 2) X dX3_suns_2 2 rfl ?_
  refine v_aload_n (pc := 3) X dX3_suns_3 0 rfl ?_
  refine v_get (pc := 4) (kind := 2) (v := va_rf (s.2.2.1 7 13)) X wC_n7 wC_l7 wC_c2 in_X3 (Nat.le_of_ble_eq_true rfl : 13 < 23) q500 rfl rfl dX3_suns_4 ?_
  refine v_unq0 (pc := 7) (fun a_1 _ => ?_)
  refine v_dgetRN (pc := 7) X wC_c4 in_X2 (Nat.le_of_ble_eq_true rfl : 0 < 9) q419 dX3_suns_7 (fun e_2 => ?_)
  refine v_unq0 (pc := 10) (fun a_3 _ => ?_)
  refine v_cFi (pc := 10) X (m_L_size l g fu a_3  _) wC_c5 q1111 hF_size rfl rfl rfl rfl dX3_suns_10 (fun z_4 _ => ?_)
  refine v_icmp_ge (pc := 15) (tgt := 86) X dX3_suns_15 (by decide) (fun c15 => ?_) (fun c15 => ?_)
  · exact v_vret (pc := 86) X dX3_suns_86 rfl
  · refine v_aload_n (pc := 18) X dX3_suns_18 0 rfl ?_
    refine v_get (pc := 19) (kind := 39) (v := .ref (v_E g 36)) X wC_n7 wC_l7 wC_c2 in_X3 (Nat.le_of_ble_eq_true rfl : 1 < 23) q478 rfl rfl dX3_suns_19 ?_
    refine v_iload_n (pc := 22) X dX3_suns_22 2 rfl ?_
    refine v_iald (pc := 23) X wC_n36 wC_l36 dX3_suns_23 ?_
    refine v_aload_n (pc := 24) X dX3_suns_24 0 rfl ?_
    refine v_get (pc := 25) (kind := 2) (v := va_rf (s.2.2.1 7 13)) X wC_n7 wC_l7 wC_c2 in_X3 (Nat.le_of_ble_eq_true rfl : 13 < 23) q500 rfl rfl dX3_suns_25 ?_
    refine v_unq0 (pc := 28) (fun a_5 _ => ?_)
    refine v_dgetRN (pc := 28) X wC_c4 in_X2 (Nat.le_of_ble_eq_true rfl : 0 < 9) q419 dX3_suns_28 (fun e_6 => ?_)
    refine v_iload_n (pc := 31) X dX3_suns_31 2 rfl ?_
    refine v_unq1 (pc := 32) (fun a_7 _ => ?_)
    refine v_cFq (pc := 32) X (m_L_get l g fu a_7 x2 _) wC_c5 q1113 hF_get rfl rfl rfl rfl dX3_suns_32 (fun e_8 _ => ?_)
    refine v_castq (pc := 37) X wC_c6 q1114 dX3_suns_37 ?_
    refine v_unq0 (pc := 40) (fun a_9 _ => ?_)
    refine v_dgetIN (pc := 40) X wC_c6 in_X8 (Nat.le_of_ble_eq_true rfl : 2 < 5) q860 dX3_suns_40 (fun z_10 => ?_)
    refine v_aload_n (pc := 43) X dX3_suns_43 0 rfl ?_
    refine v_get (pc := 44) (kind := 2) (v := va_rf (s.2.2.1 7 13)) X wC_n7 wC_l7 wC_c2 in_X3 (Nat.le_of_ble_eq_true rfl : 13 < 23) q500 rfl rfl dX3_suns_44 ?_
    refine v_unq0 (pc := 47) (fun a_11 _ => ?_)
    refine v_dgetRN (pc := 47) X wC_c4 in_X2 (Nat.le_of_ble_eq_true rfl : 4 < 9) q435 dX3_suns_47 (fun e_12 => ?_)
    refine v_iload_n (pc := 50) X dX3_suns_50 1 rfl ?_
    refine v_unq1 (pc := 51) (fun a_13 _ => ?_)
    refine v_diald (pc := 51) X dX3_suns_51 (fun n_14 f_15 => ?_)
    refine v_imul (pc := 52) X dX3_suns_52 ?_
    refine v_bipush (pc := 53) (v := 100) X dX3_suns_53 rfl ?_
    refine v_idivC (pc := 55) X (by decide) dX3_suns_55 ?_
    refine v_mmin (pc := 56) X q1128 q681 q143 q682 rfl dX3_suns_56 ?_
    refine v_istore_nN (pc := 59) (lvf := fun x3_16 => [(3, .int x3_16), (0, .ref (v_E g 7)), (1, .int p1), (2, .int x2)]) X dX3_suns_59 rfl (Nat.le_of_ble_eq_true rfl) (fun _ => rfl) (fun x3_16 => ?_)
    refine v_aload_n (pc := 60) X dX3_suns_60 1 rfl ?_
    refine v_get (pc := 61) (kind := 39) (v := .ref (v_E g 36)) X wC_n7 wC_l7 wC_c2 in_X3 (Nat.le_of_ble_eq_true rfl : 1 < 23) q478 rfl rfl dX3_suns_61 ?_
    refine v_iload_n (pc := 64) X dX3_suns_64 3 rfl ?_
    refine v_dup2_11 (pc := 65) X dX3_suns_65 rfl rfl ?_
    refine v_iald (pc := 66) X wC_n36 wC_l36 dX3_suns_66 ?_
    refine v_iload_n (pc := 67) X dX3_suns_67 0 rfl ?_
    refine v_isub (pc := 68) X dX3_suns_68 ?_
    refine v_iast (pc := 69) X wC_n36 wC_l36 dX3_suns_69 (fun s_17 => ?_)
    refine v_aload_n (pc := 70) X dX3_suns_70 1 rfl ?_
    refine v_dup (pc := 71) X dX3_suns_71 rfl ?_
    refine v_get (pc := 72) (kind := 0) (v := .int (s_17.1 7 16)) X wC_n7 wC_l7 wC_c2 in_X3 (Nat.le_of_ble_eq_true rfl : 16 < 23) q504 rfl rfl dX3_suns_72 ?_
    refine v_iload_n (pc := 75) X dX3_suns_75 0 rfl ?_
    refine v_iadd (pc := 76) X dX3_suns_76 ?_
    refine v_putI (pc := 77) X wC_n7 wC_l7 wC_c2 in_X3 tyX3 tyX3_ok nmX3 (Nat.le_of_ble_eq_true rfl : 16 < 23) q504 rfl rfl rfl dX3_suns_77 (fun s_18 => ?_)
    refine v_iinc (pc := 80) (v := x2 + (1 : Int32)) (lv' := [(2, .int (x2 + (1 : Int32))), (3, .int x3_16), (0, .ref (v_E g 7)), (1, .int p1)]) (k := 3) X dX3_suns_80 rfl rfl (Nat.le_of_ble_eq_true rfl) rfl ?_
    refine v_goto (pc := 83) (tgt := 2) X dX3_suns_83 (by decide) ?_
    refine v_sub [2, 3, 0] rfl ?_
    exact h2 (x2 + (1 : Int32)) s_18
theorem w_Y_suns_2L {Γ : v_Ctx} {l : Launch} {g : v_G} (fu : Nat) (p1 : Int32) (X : v_C Γ l rm_Y_suns cX3_suns 4 RX3 none wC g)  : ∀ (n : Nat), ∀ (x2 : Int32) (s : v_S), v_V Γ 4 wC g (fun z : v_S => ((none : Option Value), z)) 2 [(0, .ref (v_E g 7)), (1, .int p1), (2, .int x2)] [] s (v_loop (t_Y_suns_2B fu p1) n (x2, s)) := by
  intro n
  induction n with
  | zero => exact fun _ _ => v_none
  | succ n ih => exact fun x2 s => w_Y_suns_2 fu p1 X  _ ih x2 s
theorem m_Y_suns (l : Launch) (g : v_G) (fu : Nat) (p1 : Int32) (s : v_S) : v_M l yX3_suns cX3_suns 4 none rm_Y_suns wC g [.ref (v_E g 7), .int p1] s (fun z : v_S => ((none : Option Value), z)) (t_Y_suns fu p1 s) := by
  refine v_met (by decide +kernel) (Nat.le_of_ble_eq_true rfl) (fun Γ X => ?_)
  refine v_lv (lv' := [(0, .ref (v_E g 7)), (1, .int p1)]) rfl ?_
  unfold t_Y_suns
  refine v_iconst (pc := 0) (v := 0) X dX3_suns_0 rfl ?_
  refine v_istore_n (pc := 1) (lv' := [(2, .int (0 : Int32)), (0, .ref (v_E g 7)), (1, .int p1)]) X dX3_suns_1 rfl (Nat.le_of_ble_eq_true rfl) rfl ?_
  refine v_sub [1, 2, 0] rfl ?_
  exact w_Y_suns_2L fu p1 X  fu (0 : Int32) s
/-! FloodLent$Year.seeps()V -/
abbrev rm_Y_seeps : Room := { frames := 5, cells := 0, slots := 0, locals := 106 }
theorem hy_Y_seeps : v_yV yX3_seeps cX3_seeps 4 none 0 := ⟨q1155, qs36, q139, q1156, by decide +kernel⟩
def t_Y_seeps_108 (fu : Nat) (r15 : Int32 × v_S → Option v_S) (x1 : Int32) (x2 : Int32) (x3 : Int32) (s : v_S) : Option v_S :=
v_n (v_uI s 7 17 ((s.1 7 17) + (x2 - x3))) fun (s_18 : v_S) => r15 (x1 + (-1 : Int32), s_18)
def t_Y_seeps_81 (fu : Nat) (r15 : Int32 × v_S → Option v_S) (x1 : Int32) (x2 : Int32) (y0 : Int32) (s : v_S) : Option v_S :=
v_g x1 6 <| v_g x1 6 <| v_n (v_uI s 36 (Int32.toNatClampNeg x1) ((s.1 36 (Int32.toNatClampNeg x1)) - x2)) fun (s_17 : v_S) => if y0 ≤ 0 then (t_Y_seeps_108 fu r15 x1 x2 y0 s_17) else (v_g (x1 + (1 : Int32)) 6 <| v_g (x1 + (1 : Int32)) 6 <| v_n (v_uI s_17 36 (Int32.toNatClampNeg (x1 + (1 : Int32))) ((s_17.1 36 (Int32.toNatClampNeg (x1 + (1 : Int32)))) + y0)) fun (s_19 : v_S) => t_Y_seeps_108 fu r15 x1 x2 y0 s_19)
def t_Y_seeps_15 (fu : Nat) (r15 : Int32 × v_S → Option v_S) (x1 : Int32) (s : v_S) : Option v_S :=
if x1 < 0 then (some s) else (v_g x1 6 <| v_b1 (s.2.2.1 7 13) fun (a_6 : Nat) => v_b1 (v_dR s a_6 4 0) fun (e_7 : Option Nat) => v_b1 e_7 fun (a_8 : Nat) => if v_isc s (some a_8) 5 = true then v_b1 (t_L_get fu a_8 x1 s) fun (e_9 : Option Nat) => if v_isc s e_9 6 = true then v_b1 e_9 fun (a_10 : Nat) => v_b1 (v_dI s a_10 6 3) fun (z_11 : Int32) => v_n (if z_11 < (s.1 36 (Int32.toNatClampNeg x1)) then z_11 else s.1 36 (Int32.toNatClampNeg x1)) fun (x2_12 : Int32) => v_b1 (s.2.2.1 7 13) fun (a_13 : Nat) => v_b1 (v_dR s a_13 4 0) fun (e_14 : Option Nat) => v_b1 e_14 fun (a_15 : Nat) => if v_isc s (some a_15) 5 = true then v_b1 (t_L_size fu a_15 s) fun (z_16 : Int32) => (if z_16 ≤ x1 + (1 : Int32) then (t_Y_seeps_81 fu r15 x1 x2_12 (0 : Int32) s) else (v_b1 (t_Y_room fu (x1 + (1 : Int32)) s) fun (z_20 : Int32) => t_Y_seeps_81 fu r15 x1 x2_12 (if z_20 < x2_12 then z_20 else x2_12) s)) else none else none else none)
def t_Y_seeps_15B (fu : Nat) (r15 : Int32 × v_S → Option v_S) (a : Int32 × v_S) : Option v_S := t_Y_seeps_15 fu r15 a.1 a.2
def t_Y_seeps (fu : Nat)  (s : v_S) : Option v_S :=
  v_b1 (s.2.2.1 7 13) fun (a_1 : Nat) => v_b1 (v_dR s a_1 4 0) fun (e_2 : Option Nat) => v_b1 e_2 fun (a_3 : Nat) => if v_isc s (some a_3) 5 = true then v_b1 (t_L_size fu a_3 s) fun (z_4 : Int32) => v_n (z_4 - (1 : Int32)) fun (x1_5 : Int32) => (v_loop (t_Y_seeps_15B fu) fu (x1_5, s)) else none
theorem w_Y_seeps_108 {Γ : v_Ctx} {l : Launch} {g : v_G} (fu : Nat) (X : v_C Γ l rm_Y_seeps cX3_seeps 4 RX3 none wC g) (r15 : Int32 × v_S → Option v_S) (h15 : ∀ (x1 : Int32) (s : v_S), v_V Γ 4 wC g (fun z : v_S => ((none : Option Value), z)) 15 [(0, .ref (v_E g 7)), (1, .int x1)] [] s (r15 (x1, s))) (x1 : Int32) (x2 : Int32) (x3 : Int32) (s : v_S) : v_V Γ 4 wC g (fun z : v_S => ((none : Option Value), z)) 108 [(0, .ref (v_E g 7)), (1, .int x1), (2, .int x2), (3, .int x3)] [] s (t_Y_seeps_108 fu r15 x1 x2 x3 s) := by
  unfold t_Y_seeps_108
  refine v_aload_n (pc := 108) X dX3_seeps_108 0 rfl ?_
  refine v_dup (pc := 109) X dX3_seeps_109 rfl ?_
  refine v_get (pc := 110) (kind := 0) (v := .int (s.1 7 17)) X wC_n7 wC_l7 wC_c2 in_X3 (Nat.le_of_ble_eq_true rfl : 17 < 23) q506 rfl rfl dX3_seeps_110 ?_
  refine v_iload_n (pc := 113) X dX3_seeps_113 2 rfl ?_
  refine v_iload_n (pc := 114) X dX3_seeps_114 3 rfl ?_
  refine v_isub (pc := 115) X dX3_seeps_115 ?_
  refine v_iadd (pc := 116) X dX3_seeps_116 ?_
  refine v_putI (pc := 117) X wC_n7 wC_l7 wC_c2 in_X3 tyX3 tyX3_ok nmX3 (Nat.le_of_ble_eq_true rfl : 17 < 23) q506 rfl rfl rfl dX3_seeps_117 (fun s_18 => ?_)
  refine v_iinc (pc := 120) (v := x1 + (-1 : Int32)) (lv' := [(1, .int (x1 + (-1 : Int32))), (0, .ref (v_E g 7)), (2, .int x2), (3, .int x3)]) (k := 1) X dX3_seeps_120 rfl rfl (Nat.le_of_ble_eq_true rfl) rfl ?_
  refine v_goto (pc := 123) (tgt := 15) X dX3_seeps_123 (by decide) ?_
  refine v_sub [1, 0] rfl ?_
  exact h15 (x1 + (-1 : Int32)) s_18
theorem w_Y_seeps_81 {Γ : v_Ctx} {l : Launch} {g : v_G} (fu : Nat) (X : v_C Γ l rm_Y_seeps cX3_seeps 4 RX3 none wC g) (r15 : Int32 × v_S → Option v_S) (h15 : ∀ (x1 : Int32) (s : v_S), v_V Γ 4 wC g (fun z : v_S => ((none : Option Value), z)) 15 [(0, .ref (v_E g 7)), (1, .int x1)] [] s (r15 (x1, s))) (x1 : Int32) (x2 : Int32) (y0 : Int32) (s : v_S) : v_V Γ 4 wC g (fun z : v_S => ((none : Option Value), z)) 81 [(0, .ref (v_E g 7)), (1, .int x1), (2, .int x2)] [.int y0] s (t_Y_seeps_81 fu r15 x1 x2 y0 s) := by
  unfold t_Y_seeps_81
  refine v_istore_n (pc := 81) (lv' := [(3, .int y0), (0, .ref (v_E g 7)), (1, .int x1), (2, .int x2)]) X dX3_seeps_81 rfl (Nat.le_of_ble_eq_true rfl) rfl ?_
  refine v_aload_n (pc := 82) X dX3_seeps_82 1 rfl ?_
  refine v_get (pc := 83) (kind := 39) (v := .ref (v_E g 36)) X wC_n7 wC_l7 wC_c2 in_X3 (Nat.le_of_ble_eq_true rfl : 1 < 23) q478 rfl rfl dX3_seeps_83 ?_
  refine v_iload_n (pc := 86) X dX3_seeps_86 2 rfl ?_
  refine v_dup2_11 (pc := 87) X dX3_seeps_87 rfl rfl ?_
  refine v_iald (pc := 88) X wC_n36 wC_l36 dX3_seeps_88 ?_
  refine v_iload_n (pc := 89) X dX3_seeps_89 3 rfl ?_
  refine v_isub (pc := 90) X dX3_seeps_90 ?_
  refine v_iast (pc := 91) X wC_n36 wC_l36 dX3_seeps_91 (fun s_17 => ?_)
  refine v_iload_n (pc := 92) X dX3_seeps_92 0 rfl ?_
  refine v_if_le (pc := 93) (tgt := 108) X dX3_seeps_93 (by decide) (fun c93 => ?_) (fun c93 => ?_)
  · refine v_sub [1, 2, 3, 0] rfl ?_
    exact w_Y_seeps_108 fu X r15 h15 x1 x2 y0 s_17
  · refine v_aload_n (pc := 96) X dX3_seeps_96 1 rfl ?_
    refine v_get (pc := 97) (kind := 39) (v := .ref (v_E g 36)) X wC_n7 wC_l7 wC_c2 in_X3 (Nat.le_of_ble_eq_true rfl : 1 < 23) q478 rfl rfl dX3_seeps_97 ?_
    refine v_iload_n (pc := 100) X dX3_seeps_100 2 rfl ?_
    refine v_iconst (pc := 101) (v := 1) X dX3_seeps_101 rfl ?_
    refine v_iadd (pc := 102) X dX3_seeps_102 ?_
    refine v_dup2_11 (pc := 103) X dX3_seeps_103 rfl rfl ?_
    refine v_iald (pc := 104) X wC_n36 wC_l36 dX3_seeps_104 ?_
    refine v_iload_n (pc := 105) X dX3_seeps_105 0 rfl ?_
    refine v_iadd (pc := 106) X dX3_seeps_106 ?_
    refine v_iast (pc := 107) X wC_n36 wC_l36 dX3_seeps_107 (fun s_19 => ?_)
    refine v_sub [1, 2, 3, 0] rfl ?_
    exact w_Y_seeps_108 fu X r15 h15 x1 x2 y0 s_19
theorem w_Y_seeps_15 {Γ : v_Ctx} {l : Launch} {g : v_G} (fu : Nat) (X : v_C Γ l rm_Y_seeps cX3_seeps 4 RX3 none wC g) (r15 : Int32 × v_S → Option v_S) (h15 : ∀ (x1 : Int32) (s : v_S), v_V Γ 4 wC g (fun z : v_S => ((none : Option Value), z)) 15 [(0, .ref (v_E g 7)), (1, .int x1)] [] s (r15 (x1, s))) (x1 : Int32) (s : v_S) : v_V Γ 4 wC g (fun z : v_S => ((none : Option Value), z)) 15 [(0, .ref (v_E g 7)), (1, .int x1)] [] s (t_Y_seeps_15 fu r15 x1 s) := by
  unfold t_Y_seeps_15
  refine v_iload_n (pc := 15) X dX3_seeps_15 1 rfl ?_
  refine v_if_lt (pc := 16) (tgt := 126) X dX3_seeps_16 (by decide) (fun c16 => ?_) (fun c16 => ?_)
  · exact v_vret (pc := 126) X dX3_seeps_126 rfl
  · refine v_aload_n (pc := 19) X dX3_seeps_19 0 rfl ?_
    refine v_get (pc := 20) (kind := 39) (v := .ref (v_E g 36)) X wC_n7 wC_l7 wC_c2 in_X3 (Nat.le_of_ble_eq_true rfl : 1 < 23) q478 rfl rfl dX3_seeps_20 ?_
    refine v_iload_n (pc := 23) X dX3_seeps_23 1 rfl ?_
    refine v_iald (pc := 24) X wC_n36 wC_l36 dX3_seeps_24 ?_
    refine v_aload_n (pc := 25) X dX3_seeps_25 0 rfl ?_
    refine v_get (pc := 26) (kind := 2) (v := va_rf (s.2.2.1 7 13)) X wC_n7 wC_l7 wC_c2 in_X3 (Nat.le_of_ble_eq_true rfl : 13 < 23) q500 rfl rfl dX3_seeps_26 ?_
    refine v_unq0 (pc := 29) (fun a_6 _ => ?_)
    refine v_dgetRN (pc := 29) X wC_c4 in_X2 (Nat.le_of_ble_eq_true rfl : 0 < 9) q419 dX3_seeps_29 (fun e_7 => ?_)
    refine v_iload_n (pc := 32) X dX3_seeps_32 1 rfl ?_
    refine v_unq1 (pc := 33) (fun a_8 _ => ?_)
    refine v_cFq (pc := 33) X (m_L_get l g fu a_8 x1 _) wC_c5 q1113 hF_get rfl rfl rfl rfl dX3_seeps_33 (fun e_9 _ => ?_)
    refine v_castq (pc := 38) X wC_c6 q1114 dX3_seeps_38 ?_
    refine v_unq0 (pc := 41) (fun a_10 _ => ?_)
    refine v_dgetIN (pc := 41) X wC_c6 in_X8 (Nat.le_of_ble_eq_true rfl : 3 < 5) q863 dX3_seeps_41 (fun z_11 => ?_)
    refine v_mmin (pc := 44) X q1128 q681 q143 q682 rfl dX3_seeps_44 ?_
    refine v_istore_nN (pc := 47) (lvf := fun x2_12 => [(2, .int x2_12), (0, .ref (v_E g 7)), (1, .int x1)]) X dX3_seeps_47 rfl (Nat.le_of_ble_eq_true rfl) (fun _ => rfl) (fun x2_12 => ?_)
    refine v_iload_n (pc := 48) X dX3_seeps_48 2 rfl ?_
    refine v_iconst (pc := 49) (v := 1) X dX3_seeps_49 rfl ?_
    refine v_iadd (pc := 50) X dX3_seeps_50 ?_
    refine v_aload_n (pc := 51) X dX3_seeps_51 1 rfl ?_
    refine v_get (pc := 52) (kind := 2) (v := va_rf (s.2.2.1 7 13)) X wC_n7 wC_l7 wC_c2 in_X3 (Nat.le_of_ble_eq_true rfl : 13 < 23) q500 rfl rfl dX3_seeps_52 ?_
    refine v_unq0 (pc := 55) (fun a_13 _ => ?_)
    refine v_dgetRN (pc := 55) X wC_c4 in_X2 (Nat.le_of_ble_eq_true rfl : 0 < 9) q419 dX3_seeps_55 (fun e_14 => ?_)
    refine v_unq0 (pc := 58) (fun a_15 _ => ?_)
    refine v_cFi (pc := 58) X (m_L_size l g fu a_15  _) wC_c5 q1111 hF_size rfl rfl rfl rfl dX3_seeps_58 (fun z_16 _ => ?_)
    refine v_icmp_ge (pc := 63) (tgt := 80) X dX3_seeps_63 (by decide) (fun c63 => ?_) (fun c63 => ?_)
    · refine v_iconst (pc := 80) (v := 0) X dX3_seeps_80 rfl ?_
      refine v_sub [1, 2, 0] rfl ?_
      exact w_Y_seeps_81 fu X r15 h15 x1 x2_12 (0 : Int32) s
    · refine v_iload_n (pc := 66) X dX3_seeps_66 0 rfl ?_
      refine v_aload_n (pc := 67) X dX3_seeps_67 1 rfl ?_
      refine v_iload_n (pc := 68) X dX3_seeps_68 2 rfl ?_
      refine v_iconst (pc := 69) (v := 1) X dX3_seeps_69 rfl ?_
      refine v_iadd (pc := 70) X dX3_seeps_70 ?_
      refine v_cGi (pc := 71) X (m_Y_room l g fu (x1 + (1 : Int32)) _) (v_rc_n X wC_o7) (Or.inl q1124) hy_Y_room rfl rfl rfl rfl dX3_seeps_71 (fun z_20 _ => ?_)
      refine v_mmin (pc := 74) X q1128 q681 q143 q682 rfl dX3_seeps_74 ?_
      refine v_goto (pc := 77) (tgt := 81) X dX3_seeps_77 (by decide) ?_
      refine v_sub [1, 2, 0] rfl ?_
      exact w_Y_seeps_81 fu X r15 h15 x1 x2_12 (if z_20 < x2_12 then z_20 else x2_12) s
theorem w_Y_seeps_15L {Γ : v_Ctx} {l : Launch} {g : v_G} (fu : Nat) (X : v_C Γ l rm_Y_seeps cX3_seeps 4 RX3 none wC g)  : ∀ (n : Nat), ∀ (x1 : Int32) (s : v_S), v_V Γ 4 wC g (fun z : v_S => ((none : Option Value), z)) 15 [(0, .ref (v_E g 7)), (1, .int x1)] [] s (v_loop (t_Y_seeps_15B fu) n (x1, s)) := by
  intro n
  induction n with
  | zero => exact fun _ _ => v_none
  | succ n ih => exact fun x1 s => w_Y_seeps_15 fu X  _ ih x1 s
theorem m_Y_seeps (l : Launch) (g : v_G) (fu : Nat)  (s : v_S) : v_M l yX3_seeps cX3_seeps 4 none rm_Y_seeps wC g [.ref (v_E g 7)] s (fun z : v_S => ((none : Option Value), z)) (t_Y_seeps fu  s) := by
  refine v_met (by decide +kernel) (Nat.le_of_ble_eq_true rfl) (fun Γ X => ?_)
  refine v_lv (lv' := [(0, .ref (v_E g 7))]) rfl ?_
  unfold t_Y_seeps
  refine v_aload_n (pc := 0) X dX3_seeps_0 0 rfl ?_
  refine v_get (pc := 1) (kind := 2) (v := va_rf (s.2.2.1 7 13)) X wC_n7 wC_l7 wC_c2 in_X3 (Nat.le_of_ble_eq_true rfl : 13 < 23) q500 rfl rfl dX3_seeps_1 ?_
  refine v_unq0 (pc := 4) (fun a_1 _ => ?_)
  refine v_dgetRN (pc := 4) X wC_c4 in_X2 (Nat.le_of_ble_eq_true rfl : 0 < 9) q419 dX3_seeps_4 (fun e_2 => ?_)
  refine v_unq0 (pc := 7) (fun a_3 _ => ?_)
  refine v_cFi (pc := 7) X (m_L_size l g fu a_3  _) wC_c5 q1111 hF_size rfl rfl rfl rfl dX3_seeps_7 (fun z_4 _ => ?_)
  refine v_iconst (pc := 12) (v := 1) X dX3_seeps_12 rfl ?_
  refine v_isub (pc := 13) X dX3_seeps_13 ?_
  refine v_istore_nN (pc := 14) (lvf := fun x1_5 => [(1, .int x1_5), (0, .ref (v_E g 7))]) X dX3_seeps_14 rfl (Nat.le_of_ble_eq_true rfl) (fun _ => rfl) (fun x1_5 => ?_)
  refine v_sub [1, 0] rfl ?_
  exact w_Y_seeps_15L fu X  fu x1_5 s
/-! FloodLent$Year.goes()LFloodLent$Year; -/
abbrev rm_Y_goes : Room := { frames := 6, cells := 0, slots := 0, locals := 129 }
theorem hy_Y_goes : v_yV yX3_goes cX3_goes 5 (some (.object "FloodLent$Year")) 0 := ⟨q1107, q1108, q139, q1109, by decide +kernel⟩
def t_Y_goes_168 (fu : Nat) (r126 : Int32 × v_S → Option v_S) (r168 : Int32 × Int32 × v_S → Option v_S) (x1 : Int32) (x2 : Int32) (s : v_S) : Option v_S :=
v_b1 (s.2.2.1 7 13) fun (a_18 : Nat) => v_b1 (v_dR s a_18 4 0) fun (e_19 : Option Nat) => v_b1 e_19 fun (a_20 : Nat) => if v_isc s (some a_20) 5 = true then v_b1 (t_L_size fu a_20 s) fun (z_21 : Int32) => (if z_21 ≤ x2 then (r126 (x1 + (1 : Int32), s)) else (v_g x2 6 <| v_g x2 6 <| v_b1 (v_il wC ((30 + Int32.toNatClampNeg x2))) fun (n_22 : Nat) => v_g x1 n_22 <| v_n (v_uI s ((30 + Int32.toNatClampNeg x2)) (Int32.toNatClampNeg x1) (s.1 36 (Int32.toNatClampNeg x2))) fun (s_23 : v_S) => r168 (x1, x2 + (1 : Int32), s_23))) else none
def t_Y_goes_168B (fu : Nat) (r126 : Int32 × v_S → Option v_S) (r168 : Int32 × Int32 × v_S → Option v_S) (a : Int32 × Int32 × v_S) : Option v_S := t_Y_goes_168 fu r126 r168 a.1 a.2.1 a.2.2
def t_Y_goes_126 (fu : Nat) (r126 : Int32 × v_S → Option v_S) (x1 : Int32) (s : v_S) : Option v_S :=
v_b1 (s.2.2.1 7 13) fun (a_10 : Nat) => v_b1 (v_dI s a_10 4 5) fun (z_11 : Int32) => if z_11 ≤ x1 then (some s) else (v_b1 (t_Y_floods fu x1 s) fun (s_12 : v_S) => v_b1 (t_Y_loans fu x1 s_12) fun (s_13 : v_S) => v_b1 (t_Y_pays fu x1 s_13) fun (s_14 : v_S) => v_b1 (t_Y_crops fu x1 s_14) fun (s_15 : v_S) => v_b1 (t_Y_suns fu x1 s_15) fun (s_16 : v_S) => v_b1 (t_Y_seeps fu s_16) fun (s_17 : v_S) => v_loop (t_Y_goes_168B fu r126) fu (x1, (0 : Int32), s_17))
def t_Y_goes_126B (fu : Nat) (r126 : Int32 × v_S → Option v_S) (a : Int32 × v_S) : Option v_S := t_Y_goes_126 fu r126 a.1 a.2
def t_Y_goes_96 (fu : Nat) (s : v_S) : Option v_S :=
v_b1 (t_A_fill fu (46) (-1 : Int32) s) fun (s_5 : v_S) => v_n (v_uI s_5 7 16 (0 : Int32)) fun (s_6 : v_S) => v_n (v_uI s_6 7 17 (0 : Int32)) fun (s_7 : v_S) => v_n (v_uI s_7 7 18 (0 : Int32)) fun (s_8 : v_S) => v_n (v_uI s_8 7 19 (-1 : Int32)) fun (s_9 : v_S) => v_loop (t_Y_goes_126B fu) fu ((0 : Int32), s_9)
def t_Y_goes_74 (fu : Nat) (r74 : Int32 × Int32 × v_S → Option v_S) (x2 : Int32) (x3 : Int32) (s : v_S) : Option v_S :=
if x2 ≤ x3 then (t_Y_goes_96 fu s) else (v_g x3 8 <| v_b1 (t_A_fill fu ((38 + Int32.toNatClampNeg x3)) (0 : Int32) s) fun (s_24 : v_S) => r74 (x2, x3 + (1 : Int32), s_24))
def t_Y_goes_74B (fu : Nat) (r74 : Int32 × Int32 × v_S → Option v_S) (a : Int32 × Int32 × v_S) : Option v_S := t_Y_goes_74 fu r74 a.1 a.2.1 a.2.2
def t_Y_goes_64 (fu : Nat) (s : v_S) : Option v_S :=
v_loop (t_Y_goes_74B fu) fu ((8 : Int32), (0 : Int32), s)
def t_Y_goes_2 (fu : Nat) (r2 : Int32 × v_S → Option v_S) (x1 : Int32) (s : v_S) : Option v_S :=
v_b1 (s.2.2.1 7 13) fun (a_1 : Nat) => v_b1 (v_dR s a_1 4 0) fun (e_2 : Option Nat) => v_b1 e_2 fun (a_3 : Nat) => if v_isc s (some a_3) 5 = true then v_b1 (t_L_size fu a_3 s) fun (z_4 : Int32) => (if z_4 ≤ x1 then (t_Y_goes_64 fu s) else (if x1 = s.1 7 21 then (v_g x1 6 <| v_n (v_uI s 36 (Int32.toNatClampNeg x1) (s.1 7 22)) fun (s_32 : v_S) => r2 (x1 + (1 : Int32), s_32)) else (v_b1 (s.2.2.1 7 13) fun (a_25 : Nat) => v_b1 (v_dR s a_25 4 0) fun (e_26 : Option Nat) => v_b1 e_26 fun (a_27 : Nat) => if v_isc s (some a_27) 5 = true then v_b1 (t_L_get fu a_27 x1 s) fun (e_28 : Option Nat) => if v_isc s e_28 6 = true then v_b1 e_28 fun (a_29 : Nat) => v_b1 (v_dI s a_29 6 1) fun (z_30 : Int32) => v_g x1 6 <| v_n (v_uI s 36 (Int32.toNatClampNeg x1) z_30) fun (s_31 : v_S) => (r2 (x1 + (1 : Int32), s_31)) else none else none))) else none
def t_Y_goes_2B (fu : Nat) (r2 : Int32 × v_S → Option v_S) (a : Int32 × v_S) : Option v_S := t_Y_goes_2 fu r2 a.1 a.2
def t_Y_goes (fu : Nat)  (s : v_S) : Option v_S :=
  v_loop (t_Y_goes_2B fu) fu ((0 : Int32), s)
theorem w_Y_goes_168 {Γ : v_Ctx} {l : Launch} {g : v_G} (fu : Nat) (X : v_C Γ l rm_Y_goes cX3_goes 5 RX3 (some (.object "FloodLent$Year")) wC g) (r126 : Int32 × v_S → Option v_S) (h126 : ∀ (x1 : Int32) (s : v_S), v_V Γ 5 wC g (fun z : v_S => (some (.ref (v_E g 7)), z)) 126 [(0, .ref (v_E g 7)), (1, .int x1)] [] s (r126 (x1, s))) (r168 : Int32 × Int32 × v_S → Option v_S) (h168 : ∀ (x1 : Int32) (x2 : Int32) (s : v_S), v_V Γ 5 wC g (fun z : v_S => (some (.ref (v_E g 7)), z)) 168 [(0, .ref (v_E g 7)), (1, .int x1), (2, .int x2)] [] s (r168 (x1, x2, s))) (x1 : Int32) (x2 : Int32) (s : v_S) : v_V Γ 5 wC g (fun z : v_S => (some (.ref (v_E g 7)), z)) 168 [(0, .ref (v_E g 7)), (1, .int x1), (2, .int x2)] [] s (t_Y_goes_168 fu r126 r168 x1 x2 s) := by
  unfold t_Y_goes_168
  refine v_iload_n (pc := 168) X dX3_goes_168 2 rfl ?_
  refine v_aload_n (pc := 169) X dX3_goes_169 0 rfl ?_
  refine v_get (pc := 170) (kind := 2) (v := va_rf (s.2.2.1 7 13)) X wC_n7 wC_l7 wC_c2 in_X3 (Nat.le_of_ble_eq_true rfl : 13 < 23) q500 rfl rfl dX3_goes_170 ?_
  refine v_unq0 (pc := 173) (fun a_18 _ => ?_)
  refine v_dgetRN (pc := 173) X wC_c4 in_X2 (Nat.le_of_ble_eq_true rfl : 0 < 9) q419 dX3_goes_173 (fun e_19 => ?_)
  refine v_unq0 (pc := 176) (fun a_20 _ => ?_)
  refine v_cFi (pc := 176) X (m_L_size l g fu a_20  _) wC_c5 q1111 hF_size rfl rfl rfl rfl dX3_goes_176 (fun z_21 _ => ?_)
  refine v_icmp_ge (pc := 181) (tgt := 204) X dX3_goes_181 (by decide) (fun c181 => ?_) (fun c181 => ?_)
  · refine v_iinc (pc := 204) (v := x1 + (1 : Int32)) (lv' := [(1, .int (x1 + (1 : Int32))), (0, .ref (v_E g 7)), (2, .int x2)]) (k := 1) X dX3_goes_204 rfl rfl (Nat.le_of_ble_eq_true rfl) rfl ?_
    refine v_goto (pc := 207) (tgt := 126) X dX3_goes_207 (by decide) ?_
    refine v_sub [1, 0] rfl ?_
    exact h126 (x1 + (1 : Int32)) s
  · refine v_aload_n (pc := 184) X dX3_goes_184 0 rfl ?_
    refine v_get (pc := 185) (kind := 32) (v := .ref (v_E g 29)) X wC_n7 wC_l7 wC_c2 in_X3 (Nat.le_of_ble_eq_true rfl : 0 < 23) q476 rfl rfl dX3_goes_185 ?_
    refine v_iload_n (pc := 188) X dX3_goes_188 2 rfl ?_
    refine v_aald (pc := 189) X wC_n29 wC_l29 rfl rfl dX3_goes_189 ?_
    refine v_iload_n (pc := 190) X dX3_goes_190 1 rfl ?_
    refine v_aload_n (pc := 191) X dX3_goes_191 0 rfl ?_
    refine v_get (pc := 192) (kind := 39) (v := .ref (v_E g 36)) X wC_n7 wC_l7 wC_c2 in_X3 (Nat.le_of_ble_eq_true rfl : 1 < 23) q478 rfl rfl dX3_goes_192 ?_
    refine v_iload_n (pc := 195) X dX3_goes_195 2 rfl ?_
    refine v_iald (pc := 196) X wC_n36 wC_l36 dX3_goes_196 ?_
    refine v_iastS (pc := 197) X dX3_goes_197 (fun n_22 s_23 => ?_)
    refine v_iinc (pc := 198) (v := x2 + (1 : Int32)) (lv' := [(2, .int (x2 + (1 : Int32))), (0, .ref (v_E g 7)), (1, .int x1)]) (k := 2) X dX3_goes_198 rfl rfl (Nat.le_of_ble_eq_true rfl) rfl ?_
    refine v_goto (pc := 201) (tgt := 168) X dX3_goes_201 (by decide) ?_
    refine v_sub [1, 2, 0] rfl ?_
    exact h168 x1 (x2 + (1 : Int32)) s_23
theorem w_Y_goes_168L {Γ : v_Ctx} {l : Launch} {g : v_G} (fu : Nat) (X : v_C Γ l rm_Y_goes cX3_goes 5 RX3 (some (.object "FloodLent$Year")) wC g) (r126 : Int32 × v_S → Option v_S) (h126 : ∀ (x1 : Int32) (s : v_S), v_V Γ 5 wC g (fun z : v_S => (some (.ref (v_E g 7)), z)) 126 [(0, .ref (v_E g 7)), (1, .int x1)] [] s (r126 (x1, s))) : ∀ (n : Nat), ∀ (x1 : Int32) (x2 : Int32) (s : v_S), v_V Γ 5 wC g (fun z : v_S => (some (.ref (v_E g 7)), z)) 168 [(0, .ref (v_E g 7)), (1, .int x1), (2, .int x2)] [] s (v_loop (t_Y_goes_168B fu r126) n (x1, x2, s)) := by
  intro n
  induction n with
  | zero => exact fun _ _ _ => v_none
  | succ n ih => exact fun x1 x2 s => w_Y_goes_168 fu X r126 h126 _ ih x1 x2 s
theorem w_Y_goes_126 {Γ : v_Ctx} {l : Launch} {g : v_G} (fu : Nat) (X : v_C Γ l rm_Y_goes cX3_goes 5 RX3 (some (.object "FloodLent$Year")) wC g) (r126 : Int32 × v_S → Option v_S) (h126 : ∀ (x1 : Int32) (s : v_S), v_V Γ 5 wC g (fun z : v_S => (some (.ref (v_E g 7)), z)) 126 [(0, .ref (v_E g 7)), (1, .int x1)] [] s (r126 (x1, s))) (x1 : Int32) (s : v_S) : v_V Γ 5 wC g (fun z : v_S => (some (.ref (v_E g 7)), z)) 126 [(0, .ref (v_E g 7)), (1, .int x1)] [] s (t_Y_goes_126 fu r126 x1 s) := by
  unfold t_Y_goes_126
  refine v_iload_n (pc := 126) X dX3_goes_126 1 rfl ?_
  refine v_aload_n (pc := 127) X dX3_goes_127 0 rfl ?_
  refine v_get (pc := 128) (kind := 2) (v := va_rf (s.2.2.1 7 13)) X wC_n7 wC_l7 wC_c2 in_X3 (Nat.le_of_ble_eq_true rfl : 13 < 23) q500 rfl rfl dX3_goes_128 ?_
  refine v_unq0 (pc := 131) (fun a_10 _ => ?_)
  refine v_dgetIN (pc := 131) X wC_c4 in_X2 (Nat.le_of_ble_eq_true rfl : 5 < 9) q437 dX3_goes_131 (fun z_11 => ?_)
  refine v_icmp_ge (pc := 134) (tgt := 210) X dX3_goes_134 (by decide) (fun c134 => ?_) (fun c134 => ?_)
  · refine v_aload_n (pc := 210) X dX3_goes_210 0 rfl ?_
    exact v_aret (pc := 211) X dX3_goes_211 rfl
  · refine v_aload_n (pc := 137) X dX3_goes_137 0 rfl ?_
    refine v_iload_n (pc := 138) X dX3_goes_138 1 rfl ?_
    refine v_cGs (pc := 139) X (m_Y_floods l g fu x1 _) (v_rc_n X wC_o7) (Or.inl q1116) hy_Y_floods rfl rfl rfl rfl dX3_goes_139 (fun s_12 _ => ?_)
    refine v_aload_n (pc := 142) X dX3_goes_142 0 rfl ?_
    refine v_iload_n (pc := 143) X dX3_goes_143 1 rfl ?_
    refine v_cGs (pc := 144) X (m_Y_loans l g fu x1 _) (v_rc_n X wC_o7) (Or.inl q1132) hy_Y_loans rfl rfl rfl rfl dX3_goes_144 (fun s_13 _ => ?_)
    refine v_aload_n (pc := 147) X dX3_goes_147 0 rfl ?_
    refine v_iload_n (pc := 148) X dX3_goes_148 1 rfl ?_
    refine v_cGs (pc := 149) X (m_Y_pays l g fu x1 _) (v_rc_n X wC_o7) (Or.inl q1136) hy_Y_pays rfl rfl rfl rfl dX3_goes_149 (fun s_14 _ => ?_)
    refine v_aload_n (pc := 152) X dX3_goes_152 0 rfl ?_
    refine v_iload_n (pc := 153) X dX3_goes_153 1 rfl ?_
    refine v_cGs (pc := 154) X (m_Y_crops l g fu x1 _) (v_rc_n X wC_o7) (Or.inl q1144) hy_Y_crops rfl rfl rfl rfl dX3_goes_154 (fun s_15 _ => ?_)
    refine v_aload_n (pc := 157) X dX3_goes_157 0 rfl ?_
    refine v_iload_n (pc := 158) X dX3_goes_158 1 rfl ?_
    refine v_cGs (pc := 159) X (m_Y_suns l g fu x1 _) (v_rc_n X wC_o7) (Or.inl q1149) hy_Y_suns rfl rfl rfl rfl dX3_goes_159 (fun s_16 _ => ?_)
    refine v_aload_n (pc := 162) X dX3_goes_162 0 rfl ?_
    refine v_cGs (pc := 163) X (m_Y_seeps l g fu _) (v_rc_n X wC_o7) (Or.inl q1153) hy_Y_seeps rfl rfl rfl rfl dX3_goes_163 (fun s_17 _ => ?_)
    refine v_iconst (pc := 166) (v := 0) X dX3_goes_166 rfl ?_
    refine v_istore_n (pc := 167) (lv' := [(2, .int (0 : Int32)), (0, .ref (v_E g 7)), (1, .int x1)]) X dX3_goes_167 rfl (Nat.le_of_ble_eq_true rfl) rfl ?_
    refine v_sub [1, 2, 0] rfl ?_
    exact w_Y_goes_168L fu X r126 h126 fu x1 (0 : Int32) s_17
theorem w_Y_goes_126L {Γ : v_Ctx} {l : Launch} {g : v_G} (fu : Nat) (X : v_C Γ l rm_Y_goes cX3_goes 5 RX3 (some (.object "FloodLent$Year")) wC g)  : ∀ (n : Nat), ∀ (x1 : Int32) (s : v_S), v_V Γ 5 wC g (fun z : v_S => (some (.ref (v_E g 7)), z)) 126 [(0, .ref (v_E g 7)), (1, .int x1)] [] s (v_loop (t_Y_goes_126B fu) n (x1, s)) := by
  intro n
  induction n with
  | zero => exact fun _ _ => v_none
  | succ n ih => exact fun x1 s => w_Y_goes_126 fu X  _ ih x1 s
theorem w_Y_goes_96 {Γ : v_Ctx} {l : Launch} {g : v_G} (fu : Nat) (X : v_C Γ l rm_Y_goes cX3_goes 5 RX3 (some (.object "FloodLent$Year")) wC g)  (s : v_S) : v_V Γ 5 wC g (fun z : v_S => (some (.ref (v_E g 7)), z)) 96 [(0, .ref (v_E g 7))] [] s (t_Y_goes_96 fu s) := by
  unfold t_Y_goes_96
  refine v_aload_n (pc := 96) X dX3_goes_96 0 rfl ?_
  refine v_get (pc := 97) (kind := 49) (v := .ref (v_E g 46)) X wC_n7 wC_l7 wC_c2 in_X3 (Nat.le_of_ble_eq_true rfl : 11 < 23) q497 rfl rfl dX3_goes_97 ?_
  refine v_iconst (pc := 100) (v := -1) X dX3_goes_100 rfl ?_
  refine v_cSs (pc := 101) X (m_A_fill l g fu (46) (-1 : Int32) _) q1115 hy_A_fill rfl rfl rfl rfl dX3_goes_101 (fun s_5 _ => ?_)
  refine v_aload_n (pc := 104) X dX3_goes_104 0 rfl ?_
  refine v_iconst (pc := 105) (v := 0) X dX3_goes_105 rfl ?_
  refine v_putI (pc := 106) X wC_n7 wC_l7 wC_c2 in_X3 tyX3 tyX3_ok nmX3 (Nat.le_of_ble_eq_true rfl : 16 < 23) q504 rfl rfl rfl dX3_goes_106 (fun s_6 => ?_)
  refine v_aload_n (pc := 109) X dX3_goes_109 0 rfl ?_
  refine v_iconst (pc := 110) (v := 0) X dX3_goes_110 rfl ?_
  refine v_putI (pc := 111) X wC_n7 wC_l7 wC_c2 in_X3 tyX3 tyX3_ok nmX3 (Nat.le_of_ble_eq_true rfl : 17 < 23) q506 rfl rfl rfl dX3_goes_111 (fun s_7 => ?_)
  refine v_aload_n (pc := 114) X dX3_goes_114 0 rfl ?_
  refine v_iconst (pc := 115) (v := 0) X dX3_goes_115 rfl ?_
  refine v_putI (pc := 116) X wC_n7 wC_l7 wC_c2 in_X3 tyX3 tyX3_ok nmX3 (Nat.le_of_ble_eq_true rfl : 18 < 23) q508 rfl rfl rfl dX3_goes_116 (fun s_8 => ?_)
  refine v_aload_n (pc := 119) X dX3_goes_119 0 rfl ?_
  refine v_iconst (pc := 120) (v := -1) X dX3_goes_120 rfl ?_
  refine v_putI (pc := 121) X wC_n7 wC_l7 wC_c2 in_X3 tyX3 tyX3_ok nmX3 (Nat.le_of_ble_eq_true rfl : 19 < 23) q510 rfl rfl rfl dX3_goes_121 (fun s_9 => ?_)
  refine v_iconst (pc := 124) (v := 0) X dX3_goes_124 rfl ?_
  refine v_istore_n (pc := 125) (lv' := [(1, .int (0 : Int32)), (0, .ref (v_E g 7))]) X dX3_goes_125 rfl (Nat.le_of_ble_eq_true rfl) rfl ?_
  refine v_sub [1, 0] rfl ?_
  exact w_Y_goes_126L fu X  fu (0 : Int32) s_9
theorem w_Y_goes_74 {Γ : v_Ctx} {l : Launch} {g : v_G} (fu : Nat) (X : v_C Γ l rm_Y_goes cX3_goes 5 RX3 (some (.object "FloodLent$Year")) wC g) (r74 : Int32 × Int32 × v_S → Option v_S) (h74 : ∀ (x2 : Int32) (x3 : Int32) (s : v_S), v_V Γ 5 wC g (fun z : v_S => (some (.ref (v_E g 7)), z)) 74 [(0, .ref (v_E g 7)), (1, .ref (v_E g 47)), (2, .int x2), (3, .int x3)] [] s (r74 (x2, x3, s))) (x2 : Int32) (x3 : Int32) (s : v_S) : v_V Γ 5 wC g (fun z : v_S => (some (.ref (v_E g 7)), z)) 74 [(0, .ref (v_E g 7)), (1, .ref (v_E g 47)), (2, .int x2), (3, .int x3)] [] s (t_Y_goes_74 fu r74 x2 x3 s) := by
  unfold t_Y_goes_74
  refine v_iload_n (pc := 74) X dX3_goes_74 3 rfl ?_
  refine v_iload_n (pc := 75) X dX3_goes_75 2 rfl ?_
  refine v_icmp_ge (pc := 76) (tgt := 96) X dX3_goes_76 (by decide) (fun c76 => ?_) (fun c76 => ?_)
  · refine v_sub [0] rfl ?_
    exact w_Y_goes_96 fu X  s
  · refine v_aload_n (pc := 79) X dX3_goes_79 1 rfl ?_
    refine v_iload_n (pc := 80) X dX3_goes_80 3 rfl ?_
    refine v_aald (pc := 81) X wC_n47 wC_l47 rfl rfl dX3_goes_81 ?_
    refine v_astore (pc := 82) (lv' := [(4, .ref (v_E g (38 + Int32.toNatClampNeg x3))), (0, .ref (v_E g 7)), (1, .ref (v_E g 47)), (2, .int x2), (3, .int x3)]) X dX3_goes_82 (Nat.le_of_ble_eq_true rfl) rfl ?_
    refine v_aload (pc := 84) X dX3_goes_84 0 rfl ?_
    refine v_iconst (pc := 86) (v := 0) X dX3_goes_86 rfl ?_
    refine v_cSs (pc := 87) X (m_A_fill l g fu ((38 + Int32.toNatClampNeg x3)) (0 : Int32) _) q1115 hy_A_fill rfl rfl rfl rfl dX3_goes_87 (fun s_24 _ => ?_)
    refine v_iinc (pc := 90) (v := x3 + (1 : Int32)) (lv' := [(3, .int (x3 + (1 : Int32))), (4, .ref (v_E g (38 + Int32.toNatClampNeg x3))), (0, .ref (v_E g 7)), (1, .ref (v_E g 47)), (2, .int x2)]) (k := 4) X dX3_goes_90 rfl rfl (Nat.le_of_ble_eq_true rfl) rfl ?_
    refine v_goto (pc := 93) (tgt := 74) X dX3_goes_93 (by decide) ?_
    refine v_sub [2, 3, 4, 0] rfl ?_
    exact h74 x2 (x3 + (1 : Int32)) s_24
theorem w_Y_goes_74L {Γ : v_Ctx} {l : Launch} {g : v_G} (fu : Nat) (X : v_C Γ l rm_Y_goes cX3_goes 5 RX3 (some (.object "FloodLent$Year")) wC g)  : ∀ (n : Nat), ∀ (x2 : Int32) (x3 : Int32) (s : v_S), v_V Γ 5 wC g (fun z : v_S => (some (.ref (v_E g 7)), z)) 74 [(0, .ref (v_E g 7)), (1, .ref (v_E g 47)), (2, .int x2), (3, .int x3)] [] s (v_loop (t_Y_goes_74B fu) n (x2, x3, s)) := by
  intro n
  induction n with
  | zero => exact fun _ _ _ => v_none
  | succ n ih => exact fun x2 x3 s => w_Y_goes_74 fu X  _ ih x2 x3 s
theorem w_Y_goes_64 {Γ : v_Ctx} {l : Launch} {g : v_G} (fu : Nat) (X : v_C Γ l rm_Y_goes cX3_goes 5 RX3 (some (.object "FloodLent$Year")) wC g)  (s : v_S) : v_V Γ 5 wC g (fun z : v_S => (some (.ref (v_E g 7)), z)) 64 [(0, .ref (v_E g 7))] [] s (t_Y_goes_64 fu s) := by
  unfold t_Y_goes_64
  refine v_aload_n (pc := 64) X dX3_goes_64 0 rfl ?_
  refine v_get (pc := 65) (kind := 50) (v := .ref (v_E g 47)) X wC_n7 wC_l7 wC_c2 in_X3 (Nat.le_of_ble_eq_true rfl : 12 < 23) q499 rfl rfl dX3_goes_65 ?_
  refine v_astore_n (pc := 68) (lv' := [(1, .ref (v_E g 47)), (0, .ref (v_E g 7))]) X dX3_goes_68 rfl (Nat.le_of_ble_eq_true rfl) rfl ?_
  refine v_aload_n (pc := 69) X dX3_goes_69 0 rfl ?_
  refine v_alen (pc := 70) (v := 8) X wC_n47 wC_l47 rfl rfl dX3_goes_70 ?_
  refine v_istore_n (pc := 71) (lv' := [(2, .int (8 : Int32)), (1, .ref (v_E g 47)), (0, .ref (v_E g 7))]) X dX3_goes_71 rfl (Nat.le_of_ble_eq_true rfl) rfl ?_
  refine v_iconst (pc := 72) (v := 0) X dX3_goes_72 rfl ?_
  refine v_istore_n (pc := 73) (lv' := [(3, .int (0 : Int32)), (2, .int (8 : Int32)), (1, .ref (v_E g 47)), (0, .ref (v_E g 7))]) X dX3_goes_73 rfl (Nat.le_of_ble_eq_true rfl) rfl ?_
  refine v_sub [3, 2, 1, 0] rfl ?_
  exact w_Y_goes_74L fu X  fu (8 : Int32) (0 : Int32) s
theorem w_Y_goes_2 {Γ : v_Ctx} {l : Launch} {g : v_G} (fu : Nat) (X : v_C Γ l rm_Y_goes cX3_goes 5 RX3 (some (.object "FloodLent$Year")) wC g) (r2 : Int32 × v_S → Option v_S) (h2 : ∀ (x1 : Int32) (s : v_S), v_V Γ 5 wC g (fun z : v_S => (some (.ref (v_E g 7)), z)) 2 [(0, .ref (v_E g 7)), (1, .int x1)] [] s (r2 (x1, s))) (x1 : Int32) (s : v_S) : v_V Γ 5 wC g (fun z : v_S => (some (.ref (v_E g 7)), z)) 2 [(0, .ref (v_E g 7)), (1, .int x1)] [] s (t_Y_goes_2 fu r2 x1 s) := by
  unfold t_Y_goes_2
  refine v_iload_n (pc := 2) X dX3_goes_2 1 rfl ?_
  refine v_aload_n (pc := 3) X dX3_goes_3 0 rfl ?_
  refine v_get (pc := 4) (kind := 2) (v := va_rf (s.2.2.1 7 13)) X wC_n7 wC_l7 wC_c2 in_X3 (Nat.le_of_ble_eq_true rfl : 13 < 23) q500 rfl rfl dX3_goes_4 ?_
  refine v_unq0 (pc := 7) (fun a_1 _ => ?_)
  refine v_dgetRN (pc := 7) X wC_c4 in_X2 (Nat.le_of_ble_eq_true rfl : 0 < 9) q419 dX3_goes_7 (fun e_2 => ?_)
  refine v_unq0 (pc := 10) (fun a_3 _ => ?_)
  refine v_cFi (pc := 10) X (m_L_size l g fu a_3  _) wC_c5 q1111 hF_size rfl rfl rfl rfl dX3_goes_10 (fun z_4 _ => ?_)
  refine v_icmp_ge (pc := 15) (tgt := 64) X dX3_goes_15 (by decide) (fun c15 => ?_) (fun c15 => ?_)
  · refine v_sub [0] rfl ?_
    exact w_Y_goes_64 fu X  s
  · refine v_aload_n (pc := 18) X dX3_goes_18 0 rfl ?_
    refine v_get (pc := 19) (kind := 39) (v := .ref (v_E g 36)) X wC_n7 wC_l7 wC_c2 in_X3 (Nat.le_of_ble_eq_true rfl : 1 < 23) q478 rfl rfl dX3_goes_19 ?_
    refine v_iload_n (pc := 22) X dX3_goes_22 1 rfl ?_
    refine v_iload_n (pc := 23) X dX3_goes_23 1 rfl ?_
    refine v_aload_n (pc := 24) X dX3_goes_24 0 rfl ?_
    refine v_get (pc := 25) (kind := 0) (v := .int (s.1 7 21)) X wC_n7 wC_l7 wC_c2 in_X3 (Nat.le_of_ble_eq_true rfl : 21 < 23) q514 rfl rfl dX3_goes_25 ?_
    refine v_icmp_ne (pc := 28) (tgt := 38) X dX3_goes_28 (by decide) (fun c28 => ?_) (fun c28 => ?_)
    · refine v_aload_n (pc := 38) X dX3_goes_38 0 rfl ?_
      refine v_get (pc := 39) (kind := 2) (v := va_rf (s.2.2.1 7 13)) X wC_n7 wC_l7 wC_c2 in_X3 (Nat.le_of_ble_eq_true rfl : 13 < 23) q500 rfl rfl dX3_goes_39 ?_
      refine v_unq0 (pc := 42) (fun a_25 _ => ?_)
      refine v_dgetRN (pc := 42) X wC_c4 in_X2 (Nat.le_of_ble_eq_true rfl : 0 < 9) q419 dX3_goes_42 (fun e_26 => ?_)
      refine v_iload_n (pc := 45) X dX3_goes_45 1 rfl ?_
      refine v_unq1 (pc := 46) (fun a_27 _ => ?_)
      refine v_cFq (pc := 46) X (m_L_get l g fu a_27 x1 _) wC_c5 q1113 hF_get rfl rfl rfl rfl dX3_goes_46 (fun e_28 _ => ?_)
      refine v_castq (pc := 51) X wC_c6 q1114 dX3_goes_51 ?_
      refine v_unq0 (pc := 54) (fun a_29 _ => ?_)
      refine v_dgetIN (pc := 54) X wC_c6 in_X8 (Nat.le_of_ble_eq_true rfl : 1 < 5) q857 dX3_goes_54 (fun z_30 => ?_)
      refine v_iast (pc := 57) X wC_n36 wC_l36 dX3_goes_57 (fun s_31 => ?_)
      refine v_iinc (pc := 58) (v := x1 + (1 : Int32)) (lv' := [(1, .int (x1 + (1 : Int32))), (0, .ref (v_E g 7))]) (k := 1) X dX3_goes_58 rfl rfl (Nat.le_of_ble_eq_true rfl) rfl ?_
      refine v_goto (pc := 61) (tgt := 2) X dX3_goes_61 (by decide) ?_
      refine v_sub [1, 0] rfl ?_
      exact h2 (x1 + (1 : Int32)) s_31
    · refine v_aload_n (pc := 31) X dX3_goes_31 0 rfl ?_
      refine v_get (pc := 32) (kind := 0) (v := .int (s.1 7 22)) X wC_n7 wC_l7 wC_c2 in_X3 (Nat.le_of_ble_eq_true rfl : 22 < 23) q516 rfl rfl dX3_goes_32 ?_
      refine v_goto (pc := 35) (tgt := 57) X dX3_goes_35 (by decide) ?_
      refine v_iast (pc := 57) X wC_n36 wC_l36 dX3_goes_57 (fun s_32 => ?_)
      refine v_iinc (pc := 58) (v := x1 + (1 : Int32)) (lv' := [(1, .int (x1 + (1 : Int32))), (0, .ref (v_E g 7))]) (k := 1) X dX3_goes_58 rfl rfl (Nat.le_of_ble_eq_true rfl) rfl ?_
      refine v_goto (pc := 61) (tgt := 2) X dX3_goes_61 (by decide) ?_
      refine v_sub [1, 0] rfl ?_
      exact h2 (x1 + (1 : Int32)) s_32
theorem w_Y_goes_2L {Γ : v_Ctx} {l : Launch} {g : v_G} (fu : Nat) (X : v_C Γ l rm_Y_goes cX3_goes 5 RX3 (some (.object "FloodLent$Year")) wC g)  : ∀ (n : Nat), ∀ (x1 : Int32) (s : v_S), v_V Γ 5 wC g (fun z : v_S => (some (.ref (v_E g 7)), z)) 2 [(0, .ref (v_E g 7)), (1, .int x1)] [] s (v_loop (t_Y_goes_2B fu) n (x1, s)) := by
  intro n
  induction n with
  | zero => exact fun _ _ => v_none
  | succ n ih => exact fun x1 s => w_Y_goes_2 fu X  _ ih x1 s
theorem m_Y_goes (l : Launch) (g : v_G) (fu : Nat)  (s : v_S) : v_M l yX3_goes cX3_goes 5 (some (.object "FloodLent$Year")) rm_Y_goes wC g [.ref (v_E g 7)] s (fun z : v_S => (some (.ref (v_E g 7)), z)) (t_Y_goes fu  s) := by
  refine v_met (by decide +kernel) (Nat.le_of_ble_eq_true rfl) (fun Γ X => ?_)
  refine v_lv (lv' := [(0, .ref (v_E g 7))]) rfl ?_
  unfold t_Y_goes
  refine v_iconst (pc := 0) (v := 0) X dX3_goes_0 rfl ?_
  refine v_istore_n (pc := 1) (lv' := [(1, .int (0 : Int32)), (0, .ref (v_E g 7))]) X dX3_goes_1 rfl (Nat.le_of_ble_eq_true rfl) rfl ?_
  refine v_sub [1, 0] rfl ?_
  exact w_Y_goes_2L fu X  fu (0 : Int32) s
/-! FloodLent$Year.broughtInAll()I -/
abbrev rm_Y_broughtInAll : Room := { frames := 1, cells := 0, slots := 0, locals := 21 }
theorem hy_Y_broughtInAll : v_yV yX3_broughtInAll cX3_broughtInAll 6 (some .int) 0 := ⟨q1176, q1177, q139, q1178, by decide +kernel⟩
def t_Y_broughtInAll_13 (fu : Nat) (s : v_S) (r13 : Int32 × Int32 × Int32 → Option Int32) (x1 : Int32) (x3 : Int32) (x4 : Int32) : Option Int32 :=
if x3 ≤ x4 then (some x1) else (v_g x4 8 <| v_n (s.1 44 (Int32.toNatClampNeg x4)) fun (x5_1 : Int32) => v_n (x1 + x5_1) fun (x1_2 : Int32) => r13 (x1_2, x3, x4 + (1 : Int32)))
def t_Y_broughtInAll_13B (fu : Nat) (s : v_S) (r13 : Int32 × Int32 × Int32 → Option Int32) (a : Int32 × Int32 × Int32) : Option Int32 := t_Y_broughtInAll_13 fu s r13 a.1 a.2.1 a.2.2
def t_Y_broughtInAll (fu : Nat)  (s : v_S) : Option Int32 :=
  v_loop (t_Y_broughtInAll_13B fu s) fu ((0 : Int32), (8 : Int32), (0 : Int32))
theorem w_Y_broughtInAll_13 {Γ : v_Ctx} {l : Launch} {g : v_G} (fu : Nat) (s : v_S) (X : v_C Γ l rm_Y_broughtInAll cX3_broughtInAll 6 RX3 (some .int) wC g) (r13 : Int32 × Int32 × Int32 → Option Int32) (h13 : ∀ (x1 : Int32) (x3 : Int32) (x4 : Int32), v_V Γ 6 wC g (fun z : Int32 => (some (.int z), s)) 13 [(1, .int x1), (2, .ref (v_E g 44)), (3, .int x3), (4, .int x4)] [] s (r13 (x1, x3, x4))) (x1 : Int32) (x3 : Int32) (x4 : Int32) : v_V Γ 6 wC g (fun z : Int32 => (some (.int z), s)) 13 [(1, .int x1), (2, .ref (v_E g 44)), (3, .int x3), (4, .int x4)] [] s (t_Y_broughtInAll_13 fu s r13 x1 x3 x4) := by
  unfold t_Y_broughtInAll_13
  refine v_iload (pc := 13) X dX3_broughtInAll_13 3 rfl ?_
  refine v_iload_n (pc := 15) X dX3_broughtInAll_15 2 rfl ?_
  refine v_icmp_ge (pc := 16) (tgt := 36) X dX3_broughtInAll_16 (by decide) (fun c16 => ?_) (fun c16 => ?_)
  · refine v_iload_n (pc := 36) X dX3_broughtInAll_36 0 rfl ?_
    exact v_iret (pc := 37) X dX3_broughtInAll_37 rfl
  · refine v_aload_n (pc := 19) X dX3_broughtInAll_19 1 rfl ?_
    refine v_iload (pc := 20) X dX3_broughtInAll_20 3 rfl ?_
    refine v_iald (pc := 22) X wC_n44 wC_l44 dX3_broughtInAll_22 ?_
    refine v_istoreN (pc := 23) (lvf := fun x5_1 => [(5, .int x5_1), (1, .int x1), (2, .ref (v_E g 44)), (3, .int x3), (4, .int x4)]) X dX3_broughtInAll_23 (Nat.le_of_ble_eq_true rfl) (fun _ => rfl) (fun x5_1 => ?_)
    refine v_iload_n (pc := 25) X dX3_broughtInAll_25 1 rfl ?_
    refine v_iload (pc := 26) X dX3_broughtInAll_26 0 rfl ?_
    refine v_iadd (pc := 28) X dX3_broughtInAll_28 ?_
    refine v_istore_nN (pc := 29) (lvf := fun x1_2 => [(1, .int x1_2), (5, .int x5_1), (2, .ref (v_E g 44)), (3, .int x3), (4, .int x4)]) X dX3_broughtInAll_29 rfl (Nat.le_of_ble_eq_true rfl) (fun _ => rfl) (fun x1_2 => ?_)
    refine v_iinc (pc := 30) (v := x4 + (1 : Int32)) (lv' := [(4, .int (x4 + (1 : Int32))), (1, .int x1_2), (5, .int x5_1), (2, .ref (v_E g 44)), (3, .int x3)]) (k := 4) X dX3_broughtInAll_30 rfl rfl (Nat.le_of_ble_eq_true rfl) rfl ?_
    refine v_goto (pc := 33) (tgt := 13) X dX3_broughtInAll_33 (by decide) ?_
    refine v_sub [1, 3, 4, 0] rfl ?_
    exact h13 x1_2 x3 (x4 + (1 : Int32))
theorem w_Y_broughtInAll_13L {Γ : v_Ctx} {l : Launch} {g : v_G} (fu : Nat) (s : v_S) (X : v_C Γ l rm_Y_broughtInAll cX3_broughtInAll 6 RX3 (some .int) wC g)  : ∀ (n : Nat), ∀ (x1 : Int32) (x3 : Int32) (x4 : Int32), v_V Γ 6 wC g (fun z : Int32 => (some (.int z), s)) 13 [(1, .int x1), (2, .ref (v_E g 44)), (3, .int x3), (4, .int x4)] [] s (v_loop (t_Y_broughtInAll_13B fu s) n (x1, x3, x4)) := by
  intro n
  induction n with
  | zero => exact fun _ _ _ => v_none
  | succ n ih => exact fun x1 x3 x4 => w_Y_broughtInAll_13 fu s X  _ ih x1 x3 x4
theorem m_Y_broughtInAll (l : Launch) (g : v_G) (fu : Nat)  (s : v_S) : v_M l yX3_broughtInAll cX3_broughtInAll 6 (some .int) rm_Y_broughtInAll wC g [.ref (v_E g 7)] s (fun z : Int32 => (some (.int z), s)) (t_Y_broughtInAll fu  s) := by
  refine v_met (by decide +kernel) (Nat.le_of_ble_eq_true rfl) (fun Γ X => ?_)
  refine v_lv (lv' := [(0, .ref (v_E g 7))]) rfl ?_
  unfold t_Y_broughtInAll
  refine v_iconst (pc := 0) (v := 0) X dX3_broughtInAll_0 rfl ?_
  refine v_istore_n (pc := 1) (lv' := [(1, .int (0 : Int32)), (0, .ref (v_E g 7))]) X dX3_broughtInAll_1 rfl (Nat.le_of_ble_eq_true rfl) rfl ?_
  refine v_aload_n (pc := 2) X dX3_broughtInAll_2 1 rfl ?_
  refine v_get (pc := 3) (kind := 47) (v := .ref (v_E g 44)) X wC_n7 wC_l7 wC_c2 in_X3 (Nat.le_of_ble_eq_true rfl : 9 < 23) q493 rfl rfl dX3_broughtInAll_3 ?_
  refine v_astore_n (pc := 6) (lv' := [(2, .ref (v_E g 44)), (1, .int (0 : Int32)), (0, .ref (v_E g 7))]) X dX3_broughtInAll_6 rfl (Nat.le_of_ble_eq_true rfl) rfl ?_
  refine v_aload_n (pc := 7) X dX3_broughtInAll_7 0 rfl ?_
  refine v_alen (pc := 8) (v := 8) X wC_n44 wC_l44 rfl rfl dX3_broughtInAll_8 ?_
  refine v_istore_n (pc := 9) (lv' := [(3, .int (8 : Int32)), (2, .ref (v_E g 44)), (1, .int (0 : Int32)), (0, .ref (v_E g 7))]) X dX3_broughtInAll_9 rfl (Nat.le_of_ble_eq_true rfl) rfl ?_
  refine v_iconst (pc := 10) (v := 0) X dX3_broughtInAll_10 rfl ?_
  refine v_istore (pc := 11) (lv' := [(4, .int (0 : Int32)), (3, .int (8 : Int32)), (2, .ref (v_E g 44)), (1, .int (0 : Int32)), (0, .ref (v_E g 7))]) X dX3_broughtInAll_11 (Nat.le_of_ble_eq_true rfl) rfl ?_
  refine v_sub [3, 2, 1, 0] rfl ?_
  exact w_Y_broughtInAll_13L fu s X  fu (0 : Int32) (8 : Int32) (0 : Int32)
/-! FloodLent$Year.shortOfFloods()I -/
abbrev rm_Y_shortOfFloods : Room := { frames := 1, cells := 0, slots := 0, locals := 21 }
theorem hy_Y_shortOfFloods : v_yV yX3_shortOfFloods cX3_shortOfFloods 3 (some .int) 0 := ⟨q1180, q1181, q139, q1182, by decide +kernel⟩
def t_Y_shortOfFloods_4 (fu : Nat) (s : v_S) (r4 : Int32 × Int32 → Option Int32) (x1 : Int32) (x2 : Int32) : Option Int32 :=
if (3 : Int32) ≤ x2 then (some x1) else (v_g x2 3 <| v_g x2 3 <| v_n (x1 + ((s.1 39 (Int32.toNatClampNeg x2)) - (s.1 40 (Int32.toNatClampNeg x2)))) fun (x1_1 : Int32) => r4 (x1_1, x2 + (1 : Int32)))
def t_Y_shortOfFloods_4B (fu : Nat) (s : v_S) (r4 : Int32 × Int32 → Option Int32) (a : Int32 × Int32) : Option Int32 := t_Y_shortOfFloods_4 fu s r4 a.1 a.2
def t_Y_shortOfFloods (fu : Nat)  (s : v_S) : Option Int32 :=
  v_loop (t_Y_shortOfFloods_4B fu s) fu ((0 : Int32), (0 : Int32))
theorem w_Y_shortOfFloods_4 {Γ : v_Ctx} {l : Launch} {g : v_G} (fu : Nat) (s : v_S) (X : v_C Γ l rm_Y_shortOfFloods cX3_shortOfFloods 3 RX3 (some .int) wC g) (r4 : Int32 × Int32 → Option Int32) (h4 : ∀ (x1 : Int32) (x2 : Int32), v_V Γ 3 wC g (fun z : Int32 => (some (.int z), s)) 4 [(0, .ref (v_E g 7)), (1, .int x1), (2, .int x2)] [] s (r4 (x1, x2))) (x1 : Int32) (x2 : Int32) : v_V Γ 3 wC g (fun z : Int32 => (some (.int z), s)) 4 [(0, .ref (v_E g 7)), (1, .int x1), (2, .int x2)] [] s (t_Y_shortOfFloods_4 fu s r4 x1 x2) := by
  unfold t_Y_shortOfFloods_4
  refine v_iload_n (pc := 4) X dX3_shortOfFloods_4 2 rfl ?_
  refine v_iconst (pc := 5) (v := 3) X dX3_shortOfFloods_5 rfl ?_
  refine v_icmp_ge (pc := 6) (tgt := 31) X dX3_shortOfFloods_6 (by decide) (fun c6 => ?_) (fun c6 => ?_)
  · refine v_iload_n (pc := 31) X dX3_shortOfFloods_31 1 rfl ?_
    exact v_iret (pc := 32) X dX3_shortOfFloods_32 rfl
  · refine v_iload_n (pc := 9) X dX3_shortOfFloods_9 1 rfl ?_
    refine v_aload_n (pc := 10) X dX3_shortOfFloods_10 0 rfl ?_
    refine v_get (pc := 11) (kind := 42) (v := .ref (v_E g 39)) X wC_n7 wC_l7 wC_c2 in_X3 (Nat.le_of_ble_eq_true rfl : 4 < 23) q483 rfl rfl dX3_shortOfFloods_11 ?_
    refine v_iload_n (pc := 14) X dX3_shortOfFloods_14 2 rfl ?_
    refine v_iald (pc := 15) X wC_n39 wC_l39 dX3_shortOfFloods_15 ?_
    refine v_aload_n (pc := 16) X dX3_shortOfFloods_16 0 rfl ?_
    refine v_get (pc := 17) (kind := 43) (v := .ref (v_E g 40)) X wC_n7 wC_l7 wC_c2 in_X3 (Nat.le_of_ble_eq_true rfl : 5 < 23) q485 rfl rfl dX3_shortOfFloods_17 ?_
    refine v_iload_n (pc := 20) X dX3_shortOfFloods_20 2 rfl ?_
    refine v_iald (pc := 21) X wC_n40 wC_l40 dX3_shortOfFloods_21 ?_
    refine v_isub (pc := 22) X dX3_shortOfFloods_22 ?_
    refine v_iadd (pc := 23) X dX3_shortOfFloods_23 ?_
    refine v_istore_nN (pc := 24) (lvf := fun x1_1 => [(1, .int x1_1), (0, .ref (v_E g 7)), (2, .int x2)]) X dX3_shortOfFloods_24 rfl (Nat.le_of_ble_eq_true rfl) (fun _ => rfl) (fun x1_1 => ?_)
    refine v_iinc (pc := 25) (v := x2 + (1 : Int32)) (lv' := [(2, .int (x2 + (1 : Int32))), (1, .int x1_1), (0, .ref (v_E g 7))]) (k := 2) X dX3_shortOfFloods_25 rfl rfl (Nat.le_of_ble_eq_true rfl) rfl ?_
    refine v_goto (pc := 28) (tgt := 4) X dX3_shortOfFloods_28 (by decide) ?_
    refine v_sub [2, 1, 0] rfl ?_
    exact h4 x1_1 (x2 + (1 : Int32))
theorem w_Y_shortOfFloods_4L {Γ : v_Ctx} {l : Launch} {g : v_G} (fu : Nat) (s : v_S) (X : v_C Γ l rm_Y_shortOfFloods cX3_shortOfFloods 3 RX3 (some .int) wC g)  : ∀ (n : Nat), ∀ (x1 : Int32) (x2 : Int32), v_V Γ 3 wC g (fun z : Int32 => (some (.int z), s)) 4 [(0, .ref (v_E g 7)), (1, .int x1), (2, .int x2)] [] s (v_loop (t_Y_shortOfFloods_4B fu s) n (x1, x2)) := by
  intro n
  induction n with
  | zero => exact fun _ _ => v_none
  | succ n ih => exact fun x1 x2 => w_Y_shortOfFloods_4 fu s X  _ ih x1 x2
theorem m_Y_shortOfFloods (l : Launch) (g : v_G) (fu : Nat)  (s : v_S) : v_M l yX3_shortOfFloods cX3_shortOfFloods 3 (some .int) rm_Y_shortOfFloods wC g [.ref (v_E g 7)] s (fun z : Int32 => (some (.int z), s)) (t_Y_shortOfFloods fu  s) := by
  refine v_met (by decide +kernel) (Nat.le_of_ble_eq_true rfl) (fun Γ X => ?_)
  refine v_lv (lv' := [(0, .ref (v_E g 7))]) rfl ?_
  unfold t_Y_shortOfFloods
  refine v_iconst (pc := 0) (v := 0) X dX3_shortOfFloods_0 rfl ?_
  refine v_istore_n (pc := 1) (lv' := [(1, .int (0 : Int32)), (0, .ref (v_E g 7))]) X dX3_shortOfFloods_1 rfl (Nat.le_of_ble_eq_true rfl) rfl ?_
  refine v_iconst (pc := 2) (v := 0) X dX3_shortOfFloods_2 rfl ?_
  refine v_istore_n (pc := 3) (lv' := [(2, .int (0 : Int32)), (1, .int (0 : Int32)), (0, .ref (v_E g 7))]) X dX3_shortOfFloods_3 rfl (Nat.le_of_ble_eq_true rfl) rfl ?_
  refine v_sub [2, 1, 0] rfl ?_
  exact w_Y_shortOfFloods_4L fu s X  fu (0 : Int32) (0 : Int32)
/-! FloodLent$Year.shortOfLoans()I -/
abbrev rm_Y_shortOfLoans : Room := { frames := 1, cells := 0, slots := 0, locals := 21 }
theorem hy_Y_shortOfLoans : v_yV yX3_shortOfLoans cX3_shortOfLoans 3 (some .int) 0 := ⟨q1184, q1185, q139, q1186, by decide +kernel⟩
def t_Y_shortOfLoans_4 (fu : Nat) (s : v_S) (r4 : Int32 × Int32 → Option Int32) (x1 : Int32) (x2 : Int32) : Option Int32 :=
if (8 : Int32) ≤ x2 then (some x1) else (v_g x2 8 <| v_g x2 8 <| v_n (x1 + ((s.1 42 (Int32.toNatClampNeg x2)) - (s.1 43 (Int32.toNatClampNeg x2)))) fun (x1_1 : Int32) => r4 (x1_1, x2 + (1 : Int32)))
def t_Y_shortOfLoans_4B (fu : Nat) (s : v_S) (r4 : Int32 × Int32 → Option Int32) (a : Int32 × Int32) : Option Int32 := t_Y_shortOfLoans_4 fu s r4 a.1 a.2
def t_Y_shortOfLoans (fu : Nat)  (s : v_S) : Option Int32 :=
  v_loop (t_Y_shortOfLoans_4B fu s) fu ((0 : Int32), (0 : Int32))
theorem w_Y_shortOfLoans_4 {Γ : v_Ctx} {l : Launch} {g : v_G} (fu : Nat) (s : v_S) (X : v_C Γ l rm_Y_shortOfLoans cX3_shortOfLoans 3 RX3 (some .int) wC g) (r4 : Int32 × Int32 → Option Int32) (h4 : ∀ (x1 : Int32) (x2 : Int32), v_V Γ 3 wC g (fun z : Int32 => (some (.int z), s)) 4 [(0, .ref (v_E g 7)), (1, .int x1), (2, .int x2)] [] s (r4 (x1, x2))) (x1 : Int32) (x2 : Int32) : v_V Γ 3 wC g (fun z : Int32 => (some (.int z), s)) 4 [(0, .ref (v_E g 7)), (1, .int x1), (2, .int x2)] [] s (t_Y_shortOfLoans_4 fu s r4 x1 x2) := by
  unfold t_Y_shortOfLoans_4
  refine v_iload_n (pc := 4) X dX3_shortOfLoans_4 2 rfl ?_
  refine v_bipush (pc := 5) (v := 8) X dX3_shortOfLoans_5 rfl ?_
  refine v_icmp_ge (pc := 7) (tgt := 32) X dX3_shortOfLoans_7 (by decide) (fun c7 => ?_) (fun c7 => ?_)
  · refine v_iload_n (pc := 32) X dX3_shortOfLoans_32 1 rfl ?_
    exact v_iret (pc := 33) X dX3_shortOfLoans_33 rfl
  · refine v_iload_n (pc := 10) X dX3_shortOfLoans_10 1 rfl ?_
    refine v_aload_n (pc := 11) X dX3_shortOfLoans_11 0 rfl ?_
    refine v_get (pc := 12) (kind := 45) (v := .ref (v_E g 42)) X wC_n7 wC_l7 wC_c2 in_X3 (Nat.le_of_ble_eq_true rfl : 7 < 23) q489 rfl rfl dX3_shortOfLoans_12 ?_
    refine v_iload_n (pc := 15) X dX3_shortOfLoans_15 2 rfl ?_
    refine v_iald (pc := 16) X wC_n42 wC_l42 dX3_shortOfLoans_16 ?_
    refine v_aload_n (pc := 17) X dX3_shortOfLoans_17 0 rfl ?_
    refine v_get (pc := 18) (kind := 46) (v := .ref (v_E g 43)) X wC_n7 wC_l7 wC_c2 in_X3 (Nat.le_of_ble_eq_true rfl : 8 < 23) q491 rfl rfl dX3_shortOfLoans_18 ?_
    refine v_iload_n (pc := 21) X dX3_shortOfLoans_21 2 rfl ?_
    refine v_iald (pc := 22) X wC_n43 wC_l43 dX3_shortOfLoans_22 ?_
    refine v_isub (pc := 23) X dX3_shortOfLoans_23 ?_
    refine v_iadd (pc := 24) X dX3_shortOfLoans_24 ?_
    refine v_istore_nN (pc := 25) (lvf := fun x1_1 => [(1, .int x1_1), (0, .ref (v_E g 7)), (2, .int x2)]) X dX3_shortOfLoans_25 rfl (Nat.le_of_ble_eq_true rfl) (fun _ => rfl) (fun x1_1 => ?_)
    refine v_iinc (pc := 26) (v := x2 + (1 : Int32)) (lv' := [(2, .int (x2 + (1 : Int32))), (1, .int x1_1), (0, .ref (v_E g 7))]) (k := 2) X dX3_shortOfLoans_26 rfl rfl (Nat.le_of_ble_eq_true rfl) rfl ?_
    refine v_goto (pc := 29) (tgt := 4) X dX3_shortOfLoans_29 (by decide) ?_
    refine v_sub [2, 1, 0] rfl ?_
    exact h4 x1_1 (x2 + (1 : Int32))
theorem w_Y_shortOfLoans_4L {Γ : v_Ctx} {l : Launch} {g : v_G} (fu : Nat) (s : v_S) (X : v_C Γ l rm_Y_shortOfLoans cX3_shortOfLoans 3 RX3 (some .int) wC g)  : ∀ (n : Nat), ∀ (x1 : Int32) (x2 : Int32), v_V Γ 3 wC g (fun z : Int32 => (some (.int z), s)) 4 [(0, .ref (v_E g 7)), (1, .int x1), (2, .int x2)] [] s (v_loop (t_Y_shortOfLoans_4B fu s) n (x1, x2)) := by
  intro n
  induction n with
  | zero => exact fun _ _ => v_none
  | succ n ih => exact fun x1 x2 => w_Y_shortOfLoans_4 fu s X  _ ih x1 x2
theorem m_Y_shortOfLoans (l : Launch) (g : v_G) (fu : Nat)  (s : v_S) : v_M l yX3_shortOfLoans cX3_shortOfLoans 3 (some .int) rm_Y_shortOfLoans wC g [.ref (v_E g 7)] s (fun z : Int32 => (some (.int z), s)) (t_Y_shortOfLoans fu  s) := by
  refine v_met (by decide +kernel) (Nat.le_of_ble_eq_true rfl) (fun Γ X => ?_)
  refine v_lv (lv' := [(0, .ref (v_E g 7))]) rfl ?_
  unfold t_Y_shortOfLoans
  refine v_iconst (pc := 0) (v := 0) X dX3_shortOfLoans_0 rfl ?_
  refine v_istore_n (pc := 1) (lv' := [(1, .int (0 : Int32)), (0, .ref (v_E g 7))]) X dX3_shortOfLoans_1 rfl (Nat.le_of_ble_eq_true rfl) rfl ?_
  refine v_iconst (pc := 2) (v := 0) X dX3_shortOfLoans_2 rfl ?_
  refine v_istore_n (pc := 3) (lv' := [(2, .int (0 : Int32)), (1, .int (0 : Int32)), (0, .ref (v_E g 7))]) X dX3_shortOfLoans_3 rfl (Nat.le_of_ble_eq_true rfl) rfl ?_
  refine v_sub [2, 1, 0] rfl ?_
  exact w_Y_shortOfLoans_4L fu s X  fu (0 : Int32) (0 : Int32)
/-! FloodLent$Year.allShort()I -/
abbrev rm_Y_allShort : Room := { frames := 2, cells := 0, slots := 0, locals := 43 }
theorem hy_Y_allShort : v_yV yX3_allShort cX3_allShort 1 (some .int) 0 := ⟨q1219, q1220, q139, q1221, by decide +kernel⟩
def t_Y_allShort (fu : Nat)  (s : v_S) : Option Int32 :=
  v_b1 (t_Y_shortOfFloods fu s) fun (z_1 : Int32) => v_b1 (t_Y_shortOfLoans fu s) fun (z_2 : Int32) => some (z_1 + z_2)
theorem m_Y_allShort (l : Launch) (g : v_G) (fu : Nat)  (s : v_S) : v_M l yX3_allShort cX3_allShort 1 (some .int) rm_Y_allShort wC g [.ref (v_E g 7)] s (fun z : Int32 => (some (.int z), s)) (t_Y_allShort fu  s) := by
  refine v_met (by decide +kernel) (Nat.le_of_ble_eq_true rfl) (fun Γ X => ?_)
  refine v_lv (lv' := [(0, .ref (v_E g 7))]) rfl ?_
  unfold t_Y_allShort
  refine v_aload_n (pc := 0) X dX3_allShort_0 0 rfl ?_
  refine v_cGi (pc := 1) X (m_Y_shortOfFloods l g fu _) (v_rc_n X wC_o7) (Or.inl q1222) hy_Y_shortOfFloods rfl rfl rfl rfl dX3_allShort_1 (fun z_1 _ => ?_)
  refine v_aload_n (pc := 4) X dX3_allShort_4 0 rfl ?_
  refine v_cGi (pc := 5) X (m_Y_shortOfLoans l g fu _) (v_rc_n X wC_o7) (Or.inl q1223) hy_Y_shortOfLoans rfl rfl rfl rfl dX3_allShort_5 (fun z_2 _ => ?_)
  refine v_iadd (pc := 8) X dX3_allShort_8 ?_
  exact v_iret (pc := 9) X dX3_allShort_9 rfl
/-! FloodLent$Year.has(I)I -/
abbrev rm_Y_has : Room := { frames := 4, cells := 0, slots := 0, locals := 85 }
theorem hy_Y_has : v_yV yX3_has cX3_has 4 (some .int) 1 := ⟨q1307, q1308, q139, q1309, by decide +kernel⟩
def t_Y_has_9 (fu : Nat) (p1 : Int32) (s : v_S) (r9 : Int32 × Int32 → Option Int32) (x2 : Int32) (x3 : Int32) : Option Int32 :=
v_b1 (s.2.2.1 7 13) fun (a_2 : Nat) => v_b1 (v_dR s a_2 4 1) fun (e_3 : Option Nat) => v_b1 e_3 fun (a_4 : Nat) => if v_isc s (some a_4) 5 = true then v_b1 (t_L_size fu a_4 s) fun (z_5 : Int32) => (if z_5 ≤ x3 then (some x2) else (v_b1 (s.2.2.1 7 13) fun (a_6 : Nat) => v_b1 (v_dR s a_6 4 1) fun (e_7 : Option Nat) => v_b1 e_7 fun (a_8 : Nat) => if v_isc s (some a_8) 5 = true then v_b1 (t_L_get fu a_8 x3 s) fun (e_9 : Option Nat) => if v_isc s e_9 7 = true then v_b1 e_9 fun (a_10 : Nat) => v_b1 (v_dI s a_10 7 0) fun (z_11 : Int32) => (if z_11 = p1 then (v_g x3 8 <| v_n (x2 + (s.1 44 (Int32.toNatClampNeg x3))) fun (x2_13 : Int32) => r9 (x2_13, x3 + (1 : Int32))) else (v_n (x2 + (0 : Int32)) fun (x2_12 : Int32) => r9 (x2_12, x3 + (1 : Int32)))) else none else none)) else none
def t_Y_has_9B (fu : Nat) (p1 : Int32) (s : v_S) (r9 : Int32 × Int32 → Option Int32) (a : Int32 × Int32) : Option Int32 := t_Y_has_9 fu p1 s r9 a.1 a.2
def t_Y_has (fu : Nat) (p1 : Int32) (s : v_S) : Option Int32 :=
  v_g p1 6 <| v_n (s.1 36 (Int32.toNatClampNeg p1)) fun (x2_1 : Int32) => v_loop (t_Y_has_9B fu p1 s) fu (x2_1, (0 : Int32))
theorem w_Y_has_9 {Γ : v_Ctx} {l : Launch} {g : v_G} (fu : Nat) (p1 : Int32) (s : v_S) (X : v_C Γ l rm_Y_has cX3_has 4 RX3 (some .int) wC g) (r9 : Int32 × Int32 → Option Int32) (h9 : ∀ (x2 : Int32) (x3 : Int32), v_V Γ 4 wC g (fun z : Int32 => (some (.int z), s)) 9 [(0, .ref (v_E g 7)), (1, .int p1), (2, .int x2), (3, .int x3)] [] s (r9 (x2, x3))) (x2 : Int32) (x3 : Int32) : v_V Γ 4 wC g (fun z : Int32 => (some (.int z), s)) 9 [(0, .ref (v_E g 7)), (1, .int p1), (2, .int x2), (3, .int x3)] [] s (t_Y_has_9 fu p1 s r9 x2 x3) := by
  unfold t_Y_has_9
  refine v_iload_n (pc := 9) X dX3_has_9 3 rfl ?_
  refine v_aload_n (pc := 10) X dX3_has_10 0 rfl ?_
  refine v_get (pc := 11) (kind := 2) (v := va_rf (s.2.2.1 7 13)) X wC_n7 wC_l7 wC_c2 in_X3 (Nat.le_of_ble_eq_true rfl : 13 < 23) q500 rfl rfl dX3_has_11 ?_
  refine v_unq0 (pc := 14) (fun a_2 _ => ?_)
  refine v_dgetRN (pc := 14) X wC_c4 in_X2 (Nat.le_of_ble_eq_true rfl : 1 < 9) q423 dX3_has_14 (fun e_3 => ?_)
  refine v_unq0 (pc := 17) (fun a_4 _ => ?_)
  refine v_cFi (pc := 17) X (m_L_size l g fu a_4  _) wC_c5 q1111 hF_size rfl rfl rfl rfl dX3_has_17 (fun z_5 _ => ?_)
  refine v_icmp_ge (pc := 22) (tgt := 67) X dX3_has_22 (by decide) (fun c22 => ?_) (fun c22 => ?_)
  · refine v_iload_n (pc := 67) X dX3_has_67 2 rfl ?_
    exact v_iret (pc := 68) X dX3_has_68 rfl
  · refine v_iload_n (pc := 25) X dX3_has_25 2 rfl ?_
    refine v_aload_n (pc := 26) X dX3_has_26 0 rfl ?_
    refine v_get (pc := 27) (kind := 2) (v := va_rf (s.2.2.1 7 13)) X wC_n7 wC_l7 wC_c2 in_X3 (Nat.le_of_ble_eq_true rfl : 13 < 23) q500 rfl rfl dX3_has_27 ?_
    refine v_unq0 (pc := 30) (fun a_6 _ => ?_)
    refine v_dgetRN (pc := 30) X wC_c4 in_X2 (Nat.le_of_ble_eq_true rfl : 1 < 9) q423 dX3_has_30 (fun e_7 => ?_)
    refine v_iload_n (pc := 33) X dX3_has_33 3 rfl ?_
    refine v_unq1 (pc := 34) (fun a_8 _ => ?_)
    refine v_cFq (pc := 34) X (m_L_get l g fu a_8 x3 _) wC_c5 q1113 hF_get rfl rfl rfl rfl dX3_has_34 (fun e_9 _ => ?_)
    refine v_castq (pc := 39) X wC_c7 q1148 dX3_has_39 ?_
    refine v_unq0 (pc := 42) (fun a_10 _ => ?_)
    refine v_dgetIN (pc := 42) X wC_c7 in_X9 (Nat.le_of_ble_eq_true rfl : 0 < 5) q963 dX3_has_42 (fun z_11 => ?_)
    refine v_iload_n (pc := 45) X dX3_has_45 1 rfl ?_
    refine v_icmp_ne (pc := 46) (tgt := 58) X dX3_has_46 (by decide) (fun c46 => ?_) (fun c46 => ?_)
    · refine v_iconst (pc := 58) (v := 0) X dX3_has_58 rfl ?_
      refine v_iadd (pc := 59) X dX3_has_59 ?_
      refine v_istore_nN (pc := 60) (lvf := fun x2_12 => [(2, .int x2_12), (0, .ref (v_E g 7)), (1, .int p1), (3, .int x3)]) X dX3_has_60 rfl (Nat.le_of_ble_eq_true rfl) (fun _ => rfl) (fun x2_12 => ?_)
      refine v_iinc (pc := 61) (v := x3 + (1 : Int32)) (lv' := [(3, .int (x3 + (1 : Int32))), (2, .int x2_12), (0, .ref (v_E g 7)), (1, .int p1)]) (k := 3) X dX3_has_61 rfl rfl (Nat.le_of_ble_eq_true rfl) rfl ?_
      refine v_goto (pc := 64) (tgt := 9) X dX3_has_64 (by decide) ?_
      refine v_sub [2, 3, 1, 0] rfl ?_
      exact h9 x2_12 (x3 + (1 : Int32))
    · refine v_aload_n (pc := 49) X dX3_has_49 0 rfl ?_
      refine v_get (pc := 50) (kind := 47) (v := .ref (v_E g 44)) X wC_n7 wC_l7 wC_c2 in_X3 (Nat.le_of_ble_eq_true rfl : 9 < 23) q493 rfl rfl dX3_has_50 ?_
      refine v_iload_n (pc := 53) X dX3_has_53 3 rfl ?_
      refine v_iald (pc := 54) X wC_n44 wC_l44 dX3_has_54 ?_
      refine v_goto (pc := 55) (tgt := 59) X dX3_has_55 (by decide) ?_
      refine v_iadd (pc := 59) X dX3_has_59 ?_
      refine v_istore_nN (pc := 60) (lvf := fun x2_13 => [(2, .int x2_13), (0, .ref (v_E g 7)), (1, .int p1), (3, .int x3)]) X dX3_has_60 rfl (Nat.le_of_ble_eq_true rfl) (fun _ => rfl) (fun x2_13 => ?_)
      refine v_iinc (pc := 61) (v := x3 + (1 : Int32)) (lv' := [(3, .int (x3 + (1 : Int32))), (2, .int x2_13), (0, .ref (v_E g 7)), (1, .int p1)]) (k := 3) X dX3_has_61 rfl rfl (Nat.le_of_ble_eq_true rfl) rfl ?_
      refine v_goto (pc := 64) (tgt := 9) X dX3_has_64 (by decide) ?_
      refine v_sub [2, 3, 1, 0] rfl ?_
      exact h9 x2_13 (x3 + (1 : Int32))
theorem w_Y_has_9L {Γ : v_Ctx} {l : Launch} {g : v_G} (fu : Nat) (p1 : Int32) (s : v_S) (X : v_C Γ l rm_Y_has cX3_has 4 RX3 (some .int) wC g)  : ∀ (n : Nat), ∀ (x2 : Int32) (x3 : Int32), v_V Γ 4 wC g (fun z : Int32 => (some (.int z), s)) 9 [(0, .ref (v_E g 7)), (1, .int p1), (2, .int x2), (3, .int x3)] [] s (v_loop (t_Y_has_9B fu p1 s) n (x2, x3)) := by
  intro n
  induction n with
  | zero => exact fun _ _ => v_none
  | succ n ih => exact fun x2 x3 => w_Y_has_9 fu p1 s X  _ ih x2 x3
theorem m_Y_has (l : Launch) (g : v_G) (fu : Nat) (p1 : Int32) (s : v_S) : v_M l yX3_has cX3_has 4 (some .int) rm_Y_has wC g [.ref (v_E g 7), .int p1] s (fun z : Int32 => (some (.int z), s)) (t_Y_has fu p1 s) := by
  refine v_met (by decide +kernel) (Nat.le_of_ble_eq_true rfl) (fun Γ X => ?_)
  refine v_lv (lv' := [(0, .ref (v_E g 7)), (1, .int p1)]) rfl ?_
  unfold t_Y_has
  refine v_aload_n (pc := 0) X dX3_has_0 0 rfl ?_
  refine v_get (pc := 1) (kind := 39) (v := .ref (v_E g 36)) X wC_n7 wC_l7 wC_c2 in_X3 (Nat.le_of_ble_eq_true rfl : 1 < 23) q478 rfl rfl dX3_has_1 ?_
  refine v_iload_n (pc := 4) X dX3_has_4 1 rfl ?_
  refine v_iald (pc := 5) X wC_n36 wC_l36 dX3_has_5 ?_
  refine v_istore_nN (pc := 6) (lvf := fun x2_1 => [(2, .int x2_1), (0, .ref (v_E g 7)), (1, .int p1)]) X dX3_has_6 rfl (Nat.le_of_ble_eq_true rfl) (fun _ => rfl) (fun x2_1 => ?_)
  refine v_iconst (pc := 7) (v := 0) X dX3_has_7 rfl ?_
  refine v_istore_n (pc := 8) (lv' := [(3, .int (0 : Int32)), (2, .int x2_1), (0, .ref (v_E g 7)), (1, .int p1)]) X dX3_has_8 rfl (Nat.le_of_ble_eq_true rfl) rfl ?_
  refine v_sub [2, 3, 1, 0] rfl ?_
  exact w_Y_has_9L fu p1 s X  fu x2_1 (0 : Int32)
/-! FloodLent$Year.debts([[I)V -/
abbrev rm_Y_debts : Room := { frames := 4, cells := 0, slots := 0, locals := 85 }
theorem hy_Y_debts : v_yV yX3_debts cX3_debts 6 none 1 := ⟨q1327, q1328, q139, q1329, by decide +kernel⟩
def t_Y_debts_34 (fu : Nat) (r34 : Int32 × v_S → Option v_S) (x2 : Int32) (s : v_S) : Option v_S :=
v_b1 (s.2.2.1 7 13) fun (a_1 : Nat) => v_b1 (v_dR s a_1 4 3) fun (e_2 : Option Nat) => v_b1 e_2 fun (a_3 : Nat) => if v_isc s (some a_3) 5 = true then v_b1 (t_L_size fu a_3 s) fun (z_4 : Int32) => (if z_4 ≤ x2 then (some s) else (v_b1 (s.2.2.1 7 13) fun (a_5 : Nat) => v_b1 (v_dR s a_5 4 3) fun (e_6 : Option Nat) => v_b1 e_6 fun (a_7 : Nat) => if v_isc s (some a_7) 5 = true then v_b1 (t_L_get fu a_7 x2 s) fun (e_8 : Option Nat) => if v_isc s e_8 8 = true then v_b1 e_8 fun (a_9 : Nat) => v_b1 (v_dI s a_9 8 1) fun (z_10 : Int32) => v_g z_10 6 <| v_b1 (s.2.2.1 7 13) fun (a_11 : Nat) => v_b1 (v_dR s a_11 4 3) fun (e_12 : Option Nat) => v_b1 e_12 fun (a_13 : Nat) => if v_isc s (some a_13) 5 = true then v_b1 (t_L_get fu a_13 x2 s) fun (e_14 : Option Nat) => if v_isc s e_14 8 = true then v_b1 e_14 fun (a_15 : Nat) => v_b1 (v_dI s a_15 8 0) fun (z_16 : Int32) => v_b1 (v_il wC ((12 + Int32.toNatClampNeg z_10))) fun (n_17 : Nat) => v_g z_16 n_17 <| v_g x2 8 <| v_g x2 8 <| v_b1 (v_il wC ((12 + Int32.toNatClampNeg z_10))) fun (n_18 : Nat) => v_g z_16 n_18 <| v_n (v_uI s ((12 + Int32.toNatClampNeg z_10)) (Int32.toNatClampNeg z_16) ((s.1 ((12 + Int32.toNatClampNeg z_10)) (Int32.toNatClampNeg z_16)) + ((s.1 42 (Int32.toNatClampNeg x2)) - (s.1 43 (Int32.toNatClampNeg x2))))) fun (s_19 : v_S) => (r34 (x2 + (1 : Int32), s_19)) else none else none else none else none)) else none
def t_Y_debts_34B (fu : Nat) (r34 : Int32 × v_S → Option v_S) (a : Int32 × v_S) : Option v_S := t_Y_debts_34 fu r34 a.1 a.2
def t_Y_debts_8 (fu : Nat) (r8 : Int32 × Int32 × v_S → Option v_S) (x3 : Int32) (x4 : Int32) (s : v_S) : Option v_S :=
if x3 ≤ x4 then (v_loop (t_Y_debts_34B fu) fu ((0 : Int32), s)) else (v_g x4 6 <| v_b1 (t_A_fill fu ((12 + Int32.toNatClampNeg x4)) (0 : Int32) s) fun (s_20 : v_S) => r8 (x3, x4 + (1 : Int32), s_20))
def t_Y_debts_8B (fu : Nat) (r8 : Int32 × Int32 × v_S → Option v_S) (a : Int32 × Int32 × v_S) : Option v_S := t_Y_debts_8 fu r8 a.1 a.2.1 a.2.2
def t_Y_debts (fu : Nat)  (s : v_S) : Option v_S :=
  v_loop (t_Y_debts_8B fu) fu ((6 : Int32), (0 : Int32), s)
theorem w_Y_debts_34 {Γ : v_Ctx} {l : Launch} {g : v_G} (fu : Nat) (X : v_C Γ l rm_Y_debts cX3_debts 6 RX3 none wC g) (r34 : Int32 × v_S → Option v_S) (h34 : ∀ (x2 : Int32) (s : v_S), v_V Γ 6 wC g (fun z : v_S => ((none : Option Value), z)) 34 [(0, .ref (v_E g 7)), (1, .ref (v_E g 11)), (2, .int x2)] [] s (r34 (x2, s))) (x2 : Int32) (s : v_S) : v_V Γ 6 wC g (fun z : v_S => ((none : Option Value), z)) 34 [(0, .ref (v_E g 7)), (1, .ref (v_E g 11)), (2, .int x2)] [] s (t_Y_debts_34 fu r34 x2 s) := by
  unfold t_Y_debts_34
  refine v_iload_n (pc := 34) X dX3_debts_34 2 rfl ?_
  refine v_aload_n (pc := 35) X dX3_debts_35 0 rfl ?_
  refine v_get (pc := 36) (kind := 2) (v := va_rf (s.2.2.1 7 13)) X wC_n7 wC_l7 wC_c2 in_X3 (Nat.le_of_ble_eq_true rfl : 13 < 23) q500 rfl rfl dX3_debts_36 ?_
  refine v_unq0 (pc := 39) (fun a_1 _ => ?_)
  refine v_dgetRN (pc := 39) X wC_c4 in_X2 (Nat.le_of_ble_eq_true rfl : 3 < 9) q431 dX3_debts_39 (fun e_2 => ?_)
  refine v_unq0 (pc := 42) (fun a_3 _ => ?_)
  refine v_cFi (pc := 42) X (m_L_size l g fu a_3  _) wC_c5 q1111 hF_size rfl rfl rfl rfl dX3_debts_42 (fun z_4 _ => ?_)
  refine v_icmp_ge (pc := 47) (tgt := 113) X dX3_debts_47 (by decide) (fun c47 => ?_) (fun c47 => ?_)
  · exact v_vret (pc := 113) X dX3_debts_113 rfl
  · refine v_aload_n (pc := 50) X dX3_debts_50 1 rfl ?_
    refine v_aload_n (pc := 51) X dX3_debts_51 0 rfl ?_
    refine v_get (pc := 52) (kind := 2) (v := va_rf (s.2.2.1 7 13)) X wC_n7 wC_l7 wC_c2 in_X3 (Nat.le_of_ble_eq_true rfl : 13 < 23) q500 rfl rfl dX3_debts_52 ?_
    refine v_unq0 (pc := 55) (fun a_5 _ => ?_)
    refine v_dgetRN (pc := 55) X wC_c4 in_X2 (Nat.le_of_ble_eq_true rfl : 3 < 9) q431 dX3_debts_55 (fun e_6 => ?_)
    refine v_iload_n (pc := 58) X dX3_debts_58 2 rfl ?_
    refine v_unq1 (pc := 59) (fun a_7 _ => ?_)
    refine v_cFq (pc := 59) X (m_L_get l g fu a_7 x2 _) wC_c5 q1113 hF_get rfl rfl rfl rfl dX3_debts_59 (fun e_8 _ => ?_)
    refine v_castq (pc := 64) X wC_c8 q1120 dX3_debts_64 ?_
    refine v_unq0 (pc := 67) (fun a_9 _ => ?_)
    refine v_dgetIN (pc := 67) X wC_c8 in_X10 (Nat.le_of_ble_eq_true rfl : 1 < 6) q1000 dX3_debts_67 (fun z_10 => ?_)
    refine v_aald (pc := 70) X wC_n11 wC_l11 rfl rfl dX3_debts_70 ?_
    refine v_aload_n (pc := 71) X dX3_debts_71 0 rfl ?_
    refine v_get (pc := 72) (kind := 2) (v := va_rf (s.2.2.1 7 13)) X wC_n7 wC_l7 wC_c2 in_X3 (Nat.le_of_ble_eq_true rfl : 13 < 23) q500 rfl rfl dX3_debts_72 ?_
    refine v_unq0 (pc := 75) (fun a_11 _ => ?_)
    refine v_dgetRN (pc := 75) X wC_c4 in_X2 (Nat.le_of_ble_eq_true rfl : 3 < 9) q431 dX3_debts_75 (fun e_12 => ?_)
    refine v_iload_n (pc := 78) X dX3_debts_78 2 rfl ?_
    refine v_unq1 (pc := 79) (fun a_13 _ => ?_)
    refine v_cFq (pc := 79) X (m_L_get l g fu a_13 x2 _) wC_c5 q1113 hF_get rfl rfl rfl rfl dX3_debts_79 (fun e_14 _ => ?_)
    refine v_castq (pc := 84) X wC_c8 q1120 dX3_debts_84 ?_
    refine v_unq0 (pc := 87) (fun a_15 _ => ?_)
    refine v_dgetIN (pc := 87) X wC_c8 in_X10 (Nat.le_of_ble_eq_true rfl : 0 < 6) q998 dX3_debts_87 (fun z_16 => ?_)
    refine v_dup2_11 (pc := 90) X dX3_debts_90 rfl rfl ?_
    refine v_ialdS (pc := 91) X dX3_debts_91 (fun n_17 => ?_)
    refine v_aload_n (pc := 92) X dX3_debts_92 0 rfl ?_
    refine v_get (pc := 93) (kind := 45) (v := .ref (v_E g 42)) X wC_n7 wC_l7 wC_c2 in_X3 (Nat.le_of_ble_eq_true rfl : 7 < 23) q489 rfl rfl dX3_debts_93 ?_
    refine v_iload_n (pc := 96) X dX3_debts_96 2 rfl ?_
    refine v_iald (pc := 97) X wC_n42 wC_l42 dX3_debts_97 ?_
    refine v_aload_n (pc := 98) X dX3_debts_98 0 rfl ?_
    refine v_get (pc := 99) (kind := 46) (v := .ref (v_E g 43)) X wC_n7 wC_l7 wC_c2 in_X3 (Nat.le_of_ble_eq_true rfl : 8 < 23) q491 rfl rfl dX3_debts_99 ?_
    refine v_iload_n (pc := 102) X dX3_debts_102 2 rfl ?_
    refine v_iald (pc := 103) X wC_n43 wC_l43 dX3_debts_103 ?_
    refine v_isub (pc := 104) X dX3_debts_104 ?_
    refine v_iadd (pc := 105) X dX3_debts_105 ?_
    refine v_iastS (pc := 106) X dX3_debts_106 (fun n_18 s_19 => ?_)
    refine v_iinc (pc := 107) (v := x2 + (1 : Int32)) (lv' := [(2, .int (x2 + (1 : Int32))), (0, .ref (v_E g 7)), (1, .ref (v_E g 11))]) (k := 2) X dX3_debts_107 rfl rfl (Nat.le_of_ble_eq_true rfl) rfl ?_
    refine v_goto (pc := 110) (tgt := 34) X dX3_debts_110 (by decide) ?_
    refine v_sub [1, 2, 0] rfl ?_
    exact h34 (x2 + (1 : Int32)) s_19
theorem w_Y_debts_34L {Γ : v_Ctx} {l : Launch} {g : v_G} (fu : Nat) (X : v_C Γ l rm_Y_debts cX3_debts 6 RX3 none wC g)  : ∀ (n : Nat), ∀ (x2 : Int32) (s : v_S), v_V Γ 6 wC g (fun z : v_S => ((none : Option Value), z)) 34 [(0, .ref (v_E g 7)), (1, .ref (v_E g 11)), (2, .int x2)] [] s (v_loop (t_Y_debts_34B fu) n (x2, s)) := by
  intro n
  induction n with
  | zero => exact fun _ _ => v_none
  | succ n ih => exact fun x2 s => w_Y_debts_34 fu X  _ ih x2 s
theorem w_Y_debts_8 {Γ : v_Ctx} {l : Launch} {g : v_G} (fu : Nat) (X : v_C Γ l rm_Y_debts cX3_debts 6 RX3 none wC g) (r8 : Int32 × Int32 × v_S → Option v_S) (h8 : ∀ (x3 : Int32) (x4 : Int32) (s : v_S), v_V Γ 6 wC g (fun z : v_S => ((none : Option Value), z)) 8 [(0, .ref (v_E g 7)), (1, .ref (v_E g 11)), (2, .ref (v_E g 11)), (3, .int x3), (4, .int x4)] [] s (r8 (x3, x4, s))) (x3 : Int32) (x4 : Int32) (s : v_S) : v_V Γ 6 wC g (fun z : v_S => ((none : Option Value), z)) 8 [(0, .ref (v_E g 7)), (1, .ref (v_E g 11)), (2, .ref (v_E g 11)), (3, .int x3), (4, .int x4)] [] s (t_Y_debts_8 fu r8 x3 x4 s) := by
  unfold t_Y_debts_8
  refine v_iload (pc := 8) X dX3_debts_8 4 rfl ?_
  refine v_iload_n (pc := 10) X dX3_debts_10 3 rfl ?_
  refine v_icmp_ge (pc := 11) (tgt := 32) X dX3_debts_11 (by decide) (fun c11 => ?_) (fun c11 => ?_)
  · refine v_iconst (pc := 32) (v := 0) X dX3_debts_32 rfl ?_
    refine v_istore_n (pc := 33) (lv' := [(2, .int (0 : Int32)), (0, .ref (v_E g 7)), (1, .ref (v_E g 11)), (3, .int x3), (4, .int x4)]) X dX3_debts_33 rfl (Nat.le_of_ble_eq_true rfl) rfl ?_
    refine v_sub [1, 2, 0] rfl ?_
    exact w_Y_debts_34L fu X  fu (0 : Int32) s
  · refine v_aload_n (pc := 14) X dX3_debts_14 2 rfl ?_
    refine v_iload (pc := 15) X dX3_debts_15 4 rfl ?_
    refine v_aald (pc := 17) X wC_n11 wC_l11 rfl rfl dX3_debts_17 ?_
    refine v_astore (pc := 18) (lv' := [(5, .ref (v_E g (12 + Int32.toNatClampNeg x4))), (0, .ref (v_E g 7)), (1, .ref (v_E g 11)), (2, .ref (v_E g 11)), (3, .int x3), (4, .int x4)]) X dX3_debts_18 (Nat.le_of_ble_eq_true rfl) rfl ?_
    refine v_aload (pc := 20) X dX3_debts_20 0 rfl ?_
    refine v_iconst (pc := 22) (v := 0) X dX3_debts_22 rfl ?_
    refine v_cSs (pc := 23) X (m_A_fill l g fu ((12 + Int32.toNatClampNeg x4)) (0 : Int32) _) q1115 hy_A_fill rfl rfl rfl rfl dX3_debts_23 (fun s_20 _ => ?_)
    refine v_iinc (pc := 26) (v := x4 + (1 : Int32)) (lv' := [(4, .int (x4 + (1 : Int32))), (5, .ref (v_E g (12 + Int32.toNatClampNeg x4))), (0, .ref (v_E g 7)), (1, .ref (v_E g 11)), (2, .ref (v_E g 11)), (3, .int x3)]) (k := 5) X dX3_debts_26 rfl rfl (Nat.le_of_ble_eq_true rfl) rfl ?_
    refine v_goto (pc := 29) (tgt := 8) X dX3_debts_29 (by decide) ?_
    refine v_sub [2, 3, 4, 5, 0] rfl ?_
    exact h8 x3 (x4 + (1 : Int32)) s_20
theorem w_Y_debts_8L {Γ : v_Ctx} {l : Launch} {g : v_G} (fu : Nat) (X : v_C Γ l rm_Y_debts cX3_debts 6 RX3 none wC g)  : ∀ (n : Nat), ∀ (x3 : Int32) (x4 : Int32) (s : v_S), v_V Γ 6 wC g (fun z : v_S => ((none : Option Value), z)) 8 [(0, .ref (v_E g 7)), (1, .ref (v_E g 11)), (2, .ref (v_E g 11)), (3, .int x3), (4, .int x4)] [] s (v_loop (t_Y_debts_8B fu) n (x3, x4, s)) := by
  intro n
  induction n with
  | zero => exact fun _ _ _ => v_none
  | succ n ih => exact fun x3 x4 s => w_Y_debts_8 fu X  _ ih x3 x4 s
theorem m_Y_debts (l : Launch) (g : v_G) (fu : Nat)  (s : v_S) : v_M l yX3_debts cX3_debts 6 none rm_Y_debts wC g [.ref (v_E g 7), .ref (v_E g 11)] s (fun z : v_S => ((none : Option Value), z)) (t_Y_debts fu  s) := by
  refine v_met (by decide +kernel) (Nat.le_of_ble_eq_true rfl) (fun Γ X => ?_)
  refine v_lv (lv' := [(0, .ref (v_E g 7)), (1, .ref (v_E g 11))]) rfl ?_
  unfold t_Y_debts
  refine v_aload_n (pc := 0) X dX3_debts_0 1 rfl ?_
  refine v_astore_n (pc := 1) (lv' := [(2, .ref (v_E g 11)), (0, .ref (v_E g 7)), (1, .ref (v_E g 11))]) X dX3_debts_1 rfl (Nat.le_of_ble_eq_true rfl) rfl ?_
  refine v_aload_n (pc := 2) X dX3_debts_2 0 rfl ?_
  refine v_alen (pc := 3) (v := 6) X wC_n11 wC_l11 rfl rfl dX3_debts_3 ?_
  refine v_istore_n (pc := 4) (lv' := [(3, .int (6 : Int32)), (2, .ref (v_E g 11)), (0, .ref (v_E g 7)), (1, .ref (v_E g 11))]) X dX3_debts_4 rfl (Nat.le_of_ble_eq_true rfl) rfl ?_
  refine v_iconst (pc := 5) (v := 0) X dX3_debts_5 rfl ?_
  refine v_istore (pc := 6) (lv' := [(4, .int (0 : Int32)), (3, .int (6 : Int32)), (2, .ref (v_E g 11)), (0, .ref (v_E g 7)), (1, .ref (v_E g 11))]) X dX3_debts_6 (Nat.le_of_ble_eq_true rfl) rfl ?_
  refine v_sub [3, 4, 2, 1, 0] rfl ?_
  exact w_Y_debts_8L fu X  fu (6 : Int32) (0 : Int32) s
/-! FloodLent.in(JJJ)Z -/
abbrev rm_F_in : Room := { frames := 1, cells := 0, slots := 0, locals := 21 }
theorem hy_F_in : v_yS yX0_in cX0_in 6 (some .boolean) 3 := ⟨q175, q133, q176, by decide +kernel⟩
def t_F_in (fu : Nat) (p0 : Int64) (p2 : Int64) (p4 : Int64) (s : v_S) : Option Int32 :=
  if lg_cmp p0 p2 < 0 then (some (0 : Int32)) else (if (0 : Int32) < lg_cmp p0 p4 then (some (0 : Int32)) else (some (1 : Int32)))
theorem m_F_in (l : Launch) (g : v_G) (fu : Nat) (p0 : Int64) (p2 : Int64) (p4 : Int64) (s : v_S) : v_M l yX0_in cX0_in 6 (some .boolean) rm_F_in wC g [.long p0, .long p2, .long p4] s (fun z : Int32 => (some (.int z), s)) (t_F_in fu p0 p2 p4 s) := by
  refine v_met (by decide +kernel) (Nat.le_of_ble_eq_true rfl) (fun Γ X => ?_)
  refine v_lv (lv' := [(0, .long p0), (2, .long p2), (4, .long p4)]) rfl ?_
  unfold t_F_in
  refine v_lload_n (pc := 0) X dX0_in_0 0 rfl ?_
  refine v_lload_n (pc := 1) X dX0_in_1 1 rfl ?_
  refine v_lcmp (pc := 2) X dX0_in_2 ?_
  refine v_if_lt (pc := 3) (tgt := 17) X dX0_in_3 (by decide) (fun c3 => ?_) (fun c3 => ?_)
  · refine v_iconst (pc := 17) (v := 0) X dX0_in_17 rfl ?_
    exact v_zret (pc := 18) X dX0_in_18 rfl rfl
  · refine v_lload_n (pc := 6) X dX0_in_6 0 rfl ?_
    refine v_lload (pc := 7) X dX0_in_7 2 rfl ?_
    refine v_lcmp (pc := 9) X dX0_in_9 ?_
    refine v_if_gt (pc := 10) (tgt := 17) X dX0_in_10 (by decide) (fun c10 => ?_) (fun c10 => ?_)
    · refine v_iconst (pc := 17) (v := 0) X dX0_in_17 rfl ?_
      exact v_zret (pc := 18) X dX0_in_18 rfl rfl
    · refine v_iconst (pc := 13) (v := 1) X dX0_in_13 rfl ?_
      refine v_goto (pc := 14) (tgt := 18) X dX0_in_14 (by decide) ?_
      exact v_zret (pc := 18) X dX0_in_18 rfl rfl
/-! FloodLent.isSlot(I)Z -/
abbrev rm_F_isSlot : Room := { frames := 2, cells := 0, slots := 0, locals := 46 }
theorem hy_F_isSlot : v_yS yX0_isSlot cX0_isSlot 1 (some .boolean) 1 := ⟨q171, q133, q172, by decide +kernel⟩
def t_F_isSlot (fu : Nat) (p0 : Int32) (s : v_S) : Option Int32 :=
  v_b1 (t_F_in fu (Int32.toInt64 p0) (0 : Int64) (3 : Int64) s) fun (z_1 : Int32) => if z_1 = 0 ∨ z_1 = 1 then some z_1 else none
theorem m_F_isSlot (l : Launch) (g : v_G) (fu : Nat) (p0 : Int32) (s : v_S) : v_M l yX0_isSlot cX0_isSlot 1 (some .boolean) rm_F_isSlot wC g [.int p0] s (fun z : Int32 => (some (.int z), s)) (t_F_isSlot fu p0 s) := by
  refine v_met (by decide +kernel) (Nat.le_of_ble_eq_true rfl) (fun Γ X => ?_)
  refine v_lv (lv' := [(0, .int p0)]) rfl ?_
  unfold t_F_isSlot
  refine v_iload_n (pc := 0) X dX0_isSlot_0 0 rfl ?_
  refine v_i2l (pc := 1) X dX0_isSlot_1 ?_
  refine v_lconst (pc := 2) (v := 0) X dX0_isSlot_2 rfl ?_
  refine v_ldc2 (pc := 3) X q173 dX0_isSlot_3 ?_
  refine v_cSi (pc := 6) X (m_F_in l g fu (Int32.toInt64 p0) (0 : Int64) (3 : Int64) _) q174 hy_F_in rfl rfl rfl rfl dX0_isSlot_6 (fun z_1 _ => ?_)
  exact v_zretG (pc := 9) X dX0_isSlot_9 rfl
/-! FloodLent$Slot.width()I -/
abbrev rm_S_width : Room := { frames := 1, cells := 0, slots := 0, locals := 21 }
theorem hy_S_width : v_yV yX1_width cX1_width 1 (some .int) 0 := ⟨q362, qs4, q134, q363, by decide +kernel⟩
def t_S_width (fu : Nat) (c0 : Nat) (s : v_S) : Option Int32 :=
  if v_ok wC c0 1 [2] = true then v_b1 (v_inst s (s.2.2.1 c0 0) 1) fun (z_2 : Int32) => (if z_2 = 0 then (if v_ok wC c0 1 [2] = true then v_b1 (v_inst s (s.2.2.1 c0 0) 4) fun (z_4 : Int32) => (if z_4 = 0 then (if v_ok wC c0 1 [2] = true then v_b1 (v_inst s (s.2.2.1 c0 0) 0) fun (z_6 : Int32) => (if z_6 = 0 then (some (3 : Int32)) else (some (2 : Int32))) else none) else (some (1 : Int32))) else none) else (some (0 : Int32))) else none
theorem m_S_width (l : Launch) (g : v_G) (fu : Nat) (c0 : Nat) (s : v_S) : v_M l yX1_width cX1_width 1 (some .int) rm_S_width wC g [.ref (v_E g c0)] s (fun z : Int32 => (some (.int z), s)) (t_S_width fu c0 s) := by
  refine v_met (by decide +kernel) (Nat.le_of_ble_eq_true rfl) (fun Γ X => ?_)
  refine v_lv (lv' := [(0, .ref (v_E g c0))]) rfl ?_
  unfold t_S_width
  refine v_aload_n (pc := 0) X dX1_width_0 0 rfl ?_
  refine v_nzT (pc := 1) (fun h_1 => ?_)
  refine v_get (pc := 1) (kind := 2) (v := va_rf (s.2.2.1 c0 0)) X (v_ok_n h_1) (v_ok_l h_1) wC_c1 in_X1 (Nat.le_of_ble_eq_true rfl : 0 < 1) q379 rfl rfl dX1_width_1 ?_
  refine v_insta (pc := 4) X (by decide) (rfl : v_anm 1 = "[B") q329 dX1_width_4 (fun z_2 => ?_)
  refine v_if_eq (pc := 7) (tgt := 14) X dX1_width_7 (by decide) (fun c7 => ?_) (fun c7 => ?_)
  · refine v_aload_n (pc := 14) X dX1_width_14 0 rfl ?_
    refine v_nzT (pc := 15) (fun h_3 => ?_)
    refine v_get (pc := 15) (kind := 2) (v := va_rf (s.2.2.1 c0 0)) X (v_ok_n h_3) (v_ok_l h_3) wC_c1 in_X1 (Nat.le_of_ble_eq_true rfl : 0 < 1) q379 rfl rfl dX1_width_15 ?_
    refine v_insta (pc := 18) X (by decide) (rfl : v_anm 4 = "[S") q330 dX1_width_18 (fun z_4 => ?_)
    refine v_if_eq (pc := 21) (tgt := 28) X dX1_width_21 (by decide) (fun c21 => ?_) (fun c21 => ?_)
    · refine v_aload_n (pc := 28) X dX1_width_28 0 rfl ?_
      refine v_nzT (pc := 29) (fun h_5 => ?_)
      refine v_get (pc := 29) (kind := 2) (v := va_rf (s.2.2.1 c0 0)) X (v_ok_n h_5) (v_ok_l h_5) wC_c1 in_X1 (Nat.le_of_ble_eq_true rfl : 0 < 1) q379 rfl rfl dX1_width_29 ?_
      refine v_insta (pc := 32) X (by decide) (rfl : v_anm 0 = "[I") q349 dX1_width_32 (fun z_6 => ?_)
      refine v_if_eq (pc := 35) (tgt := 42) X dX1_width_35 (by decide) (fun c35 => ?_) (fun c35 => ?_)
      · refine v_iconst (pc := 42) (v := 3) X dX1_width_42 rfl ?_
        exact v_iret (pc := 43) X dX1_width_43 rfl
      · refine v_iconst (pc := 38) (v := 2) X dX1_width_38 rfl ?_
        refine v_goto (pc := 39) (tgt := 43) X dX1_width_39 (by decide) ?_
        exact v_iret (pc := 43) X dX1_width_43 rfl
    · refine v_iconst (pc := 24) (v := 1) X dX1_width_24 rfl ?_
      refine v_goto (pc := 25) (tgt := 43) X dX1_width_25 (by decide) ?_
      exact v_iret (pc := 43) X dX1_width_43 rfl
  · refine v_iconst (pc := 10) (v := 0) X dX1_width_10 rfl ?_
    refine v_goto (pc := 11) (tgt := 43) X dX1_width_11 (by decide) ?_
    exact v_iret (pc := 43) X dX1_width_43 rfl
/-! FloodLent.end(I)I -/
abbrev rm_F_end : Room := { frames := 2, cells := 0, slots := 0, locals := 46 }
theorem hy_F_end : v_yV yX0_end cX0_end 2 (some .int) 1 := ⟨q654, q655, q133, q656, by decide +kernel⟩
def t_F_end (fu : Nat) (p1 : Int32) (s : v_S) : Option (Int32 × v_S) :=
  v_b1 (t_F_in fu (Int32.toInt64 p1) (0 : Int64) (Int32.toInt64 (s.1 0 7)) s) fun (z_1 : Int32) => if z_1 = 0 then (some ((-1 : Int32), s)) else (v_n (v_uI s 0 7 p1) fun (s_2 : v_S) => some (p1, s_2))
theorem m_F_end (l : Launch) (g : v_G) (fu : Nat) (p1 : Int32) (s : v_S) : v_M l yX0_end cX0_end 2 (some .int) rm_F_end wC g [.ref (v_E g 0), .int p1] s (fun z : Int32 × v_S => (some (.int z.1), z.2)) (t_F_end fu p1 s) := by
  refine v_met (by decide +kernel) (Nat.le_of_ble_eq_true rfl) (fun Γ X => ?_)
  refine v_lv (lv' := [(0, .ref (v_E g 0)), (1, .int p1)]) rfl ?_
  unfold t_F_end
  refine v_iload_n (pc := 0) X dX0_end_0 1 rfl ?_
  refine v_i2l (pc := 1) X dX0_end_1 ?_
  refine v_lconst (pc := 2) (v := 0) X dX0_end_2 rfl ?_
  refine v_aload_n (pc := 3) X dX0_end_3 0 rfl ?_
  refine v_get (pc := 4) (kind := 0) (v := .int (s.1 0 7)) X wC_n0 wC_l0 wC_c0 in_X0 (Nat.le_of_ble_eq_true rfl : 7 < 16) q606 rfl rfl dX0_end_4 ?_
  refine v_i2l (pc := 7) X dX0_end_7 ?_
  refine v_cSi (pc := 8) X (m_F_in l g fu (Int32.toInt64 p1) (0 : Int64) (Int32.toInt64 (s.1 0 7)) _) q174 hy_F_in rfl rfl rfl rfl dX0_end_8 (fun z_1 _ => ?_)
  refine v_if_ne (pc := 11) (tgt := 16) X dX0_end_11 (by decide) (fun c11 => ?_) (fun c11 => ?_)
  · refine v_aload_n (pc := 16) X dX0_end_16 0 rfl ?_
    refine v_iload_n (pc := 17) X dX0_end_17 1 rfl ?_
    refine v_putI (pc := 18) X wC_n0 wC_l0 wC_c0 in_X0 tyX0 tyX0_ok nmX0 (Nat.le_of_ble_eq_true rfl : 7 < 16) q606 rfl rfl rfl dX0_end_18 (fun s_2 => ?_)
    refine v_iload_n (pc := 21) X dX0_end_21 1 rfl ?_
    exact v_iret (pc := 22) X dX0_end_22 rfl
  · refine v_iconst (pc := 14) (v := -1) X dX0_end_14 rfl ?_
    exact v_iret (pc := 15) X dX0_end_15 rfl
/-! FloodLent.fault(I)I -/
abbrev rm_F_fault : Room := { frames := 1, cells := 0, slots := 0, locals := 21 }
theorem hy_F_fault : v_yV yX0_fault cX0_fault 2 (some .int) 1 := ⟨q1060, q1061, q133, q1062, by decide +kernel⟩
def t_F_fault (fu : Nat) (p1 : Int32) (s : v_S) : Option Int32 :=
  if p1 = 0 then (some (s.1 0 8)) else (if p1 = (1 : Int32) then (some (s.1 0 9)) else (some (-1 : Int32)))
theorem m_F_fault (l : Launch) (g : v_G) (fu : Nat) (p1 : Int32) (s : v_S) : v_M l yX0_fault cX0_fault 2 (some .int) rm_F_fault wC g [.ref (v_E g 0), .int p1] s (fun z : Int32 => (some (.int z), s)) (t_F_fault fu p1 s) := by
  refine v_met (by decide +kernel) (Nat.le_of_ble_eq_true rfl) (fun Γ X => ?_)
  refine v_lv (lv' := [(0, .ref (v_E g 0)), (1, .int p1)]) rfl ?_
  unfold t_F_fault
  refine v_iload_n (pc := 0) X dX0_fault_0 1 rfl ?_
  refine v_if_ne (pc := 1) (tgt := 11) X dX0_fault_1 (by decide) (fun c1 => ?_) (fun c1 => ?_)
  · refine v_iload_n (pc := 11) X dX0_fault_11 1 rfl ?_
    refine v_iconst (pc := 12) (v := 1) X dX0_fault_12 rfl ?_
    refine v_icmp_ne (pc := 13) (tgt := 23) X dX0_fault_13 (by decide) (fun c13 => ?_) (fun c13 => ?_)
    · refine v_iconst (pc := 23) (v := -1) X dX0_fault_23 rfl ?_
      exact v_iret (pc := 24) X dX0_fault_24 rfl
    · refine v_aload_n (pc := 16) X dX0_fault_16 0 rfl ?_
      refine v_get (pc := 17) (kind := 0) (v := .int (s.1 0 9)) X wC_n0 wC_l0 wC_c0 in_X0 (Nat.le_of_ble_eq_true rfl : 9 < 16) q608 rfl rfl dX0_fault_17 ?_
      refine v_goto (pc := 20) (tgt := 24) X dX0_fault_20 (by decide) ?_
      exact v_iret (pc := 24) X dX0_fault_24 rfl
  · refine v_aload_n (pc := 4) X dX0_fault_4 0 rfl ?_
    refine v_get (pc := 5) (kind := 0) (v := .int (s.1 0 8)) X wC_n0 wC_l0 wC_c0 in_X0 (Nat.le_of_ble_eq_true rfl : 8 < 16) q607 rfl rfl dX0_fault_5 ?_
    refine v_goto (pc := 8) (tgt := 24) X dX0_fault_8 (by decide) ?_
    exact v_iret (pc := 24) X dX0_fault_24 rfl
/-! FloodLent.isVillage(J)Z -/
abbrev rm_F_isVillage : Room := { frames := 3, cells := 0, slots := 0, locals := 61 }
theorem hy_F_isVillage : v_yV yX0_isVillage cX0_isVillage 3 (some .boolean) 1 := ⟨q1069, qs24, q133, q1070, by decide +kernel⟩
def t_F_isVillage (fu : Nat) (p1 : Int64) (s : v_S) : Option Int32 :=
  v_b1 (t_F_villages fu s) fun (z_1 : Int32) => v_b1 (t_F_in fu p1 (0 : Int64) (Int32.toInt64 (z_1 - (1 : Int32))) s) fun (z_2 : Int32) => if z_2 = 0 ∨ z_2 = 1 then some z_2 else none
theorem m_F_isVillage (l : Launch) (g : v_G) (fu : Nat) (p1 : Int64) (s : v_S) : v_M l yX0_isVillage cX0_isVillage 3 (some .boolean) rm_F_isVillage wC g [.ref (v_E g 0), .long p1] s (fun z : Int32 => (some (.int z), s)) (t_F_isVillage fu p1 s) := by
  refine v_met (by decide +kernel) (Nat.le_of_ble_eq_true rfl) (fun Γ X => ?_)
  refine v_lv (lv' := [(0, .ref (v_E g 0)), (1, .long p1)]) rfl ?_
  unfold t_F_isVillage
  refine v_lload_n (pc := 0) X dX0_isVillage_0 1 rfl ?_
  refine v_lconst (pc := 1) (v := 0) X dX0_isVillage_1 rfl ?_
  refine v_aload_n (pc := 2) X dX0_isVillage_2 0 rfl ?_
  refine v_cGi (pc := 3) X (m_F_villages l g fu _) (v_rc_n X wC_o0) (Or.inl q1071) hy_F_villages rfl rfl rfl rfl dX0_isVillage_3 (fun z_1 _ => ?_)
  refine v_iconst (pc := 6) (v := 1) X dX0_isVillage_6 rfl ?_
  refine v_isub (pc := 7) X dX0_isVillage_7 ?_
  refine v_i2l (pc := 8) X dX0_isVillage_8 ?_
  refine v_cSi (pc := 9) X (m_F_in l g fu p1 (0 : Int64) (Int32.toInt64 (z_1 - (1 : Int32))) _) q174 hy_F_in rfl rfl rfl rfl dX0_isVillage_9 (fun z_2 _ => ?_)
  exact v_zretG (pc := 12) X dX0_isVillage_12 rfl
/-! FloodLent.village(II)I -/
abbrev rm_F_village : Room := { frames := 4, cells := 0, slots := 0, locals := 85 }
theorem hy_F_village : v_yV yX0_village cX0_village 4 (some .int) 2 := ⟨q1064, q1065, q133, q1066, by decide +kernel⟩
def t_F_village (fu : Nat) (p1 : Int32) (p2 : Int32) (s : v_S) : Option Int32 :=
  v_b1 (t_F_isVillage fu (Int32.toInt64 p1) s) fun (z_1 : Int32) => if z_1 = 0 then (some (-2 : Int32)) else (v_b1 (t_F_in fu (Int32.toInt64 p2) (0 : Int64) (4 : Int64) s) fun (z_2 : Int32) => if z_2 = 0 then (some (-2 : Int32)) else (v_b1 (s.2.2.1 0 1) fun (a_3 : Nat) => v_b1 (v_dR s a_3 4 0) fun (e_4 : Option Nat) => v_b1 e_4 fun (a_5 : Nat) => if v_isc s (some a_5) 5 = true then v_b1 (t_L_get fu a_5 p1 s) fun (e_6 : Option Nat) => if v_isc s e_6 6 = true then (if p2 = 0 then (v_b1 e_6 fun (a_15 : Nat) => v_b1 (v_dI s a_15 6 0) fun (z_16 : Int32) => some z_16) else (if p2 = (1 : Int32) then (v_b1 e_6 fun (a_13 : Nat) => v_b1 (v_dI s a_13 6 1) fun (z_14 : Int32) => some z_14) else (if p2 = (2 : Int32) then (v_b1 e_6 fun (a_11 : Nat) => v_b1 (v_dI s a_11 6 2) fun (z_12 : Int32) => some z_12) else (if p2 = (3 : Int32) then (v_b1 e_6 fun (a_9 : Nat) => v_b1 (v_dI s a_9 6 3) fun (z_10 : Int32) => some z_10) else (v_b1 e_6 fun (a_7 : Nat) => v_b1 (v_dI s a_7 6 4) fun (z_8 : Int32) => some z_8))))) else none else none))
theorem m_F_village (l : Launch) (g : v_G) (fu : Nat) (p1 : Int32) (p2 : Int32) (s : v_S) : v_M l yX0_village cX0_village 4 (some .int) rm_F_village wC g [.ref (v_E g 0), .int p1, .int p2] s (fun z : Int32 => (some (.int z), s)) (t_F_village fu p1 p2 s) := by
  refine v_met (by decide +kernel) (Nat.le_of_ble_eq_true rfl) (fun Γ X => ?_)
  refine v_lv (lv' := [(0, .ref (v_E g 0)), (1, .int p1), (2, .int p2)]) rfl ?_
  unfold t_F_village
  refine v_aload_n (pc := 0) X dX0_village_0 0 rfl ?_
  refine v_iload_n (pc := 1) X dX0_village_1 1 rfl ?_
  refine v_i2l (pc := 2) X dX0_village_2 ?_
  refine v_cGi (pc := 3) X (m_F_isVillage l g fu (Int32.toInt64 p1) _) (v_rc_n X wC_o0) (Or.inl q1067) hy_F_isVillage rfl rfl rfl rfl dX0_village_3 (fun z_1 _ => ?_)
  refine v_if_eq (pc := 6) (tgt := 21) X dX0_village_6 (by decide) (fun c6 => ?_) (fun c6 => ?_)
  · refine v_bipush (pc := 21) (v := -2) X dX0_village_21 rfl ?_
    exact v_iret (pc := 23) X dX0_village_23 rfl
  · refine v_iload_n (pc := 9) X dX0_village_9 2 rfl ?_
    refine v_i2l (pc := 10) X dX0_village_10 ?_
    refine v_lconst (pc := 11) (v := 0) X dX0_village_11 rfl ?_
    refine v_ldc2 (pc := 12) X q1077 dX0_village_12 ?_
    refine v_cSi (pc := 15) X (m_F_in l g fu (Int32.toInt64 p2) (0 : Int64) (4 : Int64) _) q174 hy_F_in rfl rfl rfl rfl dX0_village_15 (fun z_2 _ => ?_)
    refine v_if_ne (pc := 18) (tgt := 24) X dX0_village_18 (by decide) (fun c18 => ?_) (fun c18 => ?_)
    · refine v_aload_n (pc := 24) X dX0_village_24 0 rfl ?_
      refine v_get (pc := 25) (kind := 2) (v := va_rf (s.2.2.1 0 1)) X wC_n0 wC_l0 wC_c0 in_X0 (Nat.le_of_ble_eq_true rfl : 1 < 16) q600 rfl rfl dX0_village_25 ?_
      refine v_unq0 (pc := 28) (fun a_3 _ => ?_)
      refine v_dgetRN (pc := 28) X wC_c4 in_X2 (Nat.le_of_ble_eq_true rfl : 0 < 9) q421 dX0_village_28 (fun e_4 => ?_)
      refine v_iload_n (pc := 31) X dX0_village_31 1 rfl ?_
      refine v_unq1 (pc := 32) (fun a_5 _ => ?_)
      refine v_cFq (pc := 32) X (m_L_get l g fu a_5 p1 _) wC_c5 q1079 hF_get rfl rfl rfl rfl dX0_village_32 (fun e_6 _ => ?_)
      refine v_castq (pc := 37) X wC_c6 q1080 dX0_village_37 ?_
      refine v_astore_nq (pc := 40) (lv' := [(3, va_rf e_6), (0, .ref (v_E g 0)), (1, .int p1), (2, .int p2)]) X dX0_village_40 rfl (Nat.le_of_ble_eq_true rfl) rfl ?_
      refine v_iload_n (pc := 41) X dX0_village_41 3 rfl ?_
      refine v_if_ne (pc := 42) (tgt := 52) X dX0_village_42 (by decide) (fun c42 => ?_) (fun c42 => ?_)
      · refine v_iload_n (pc := 52) X dX0_village_52 3 rfl ?_
        refine v_iconst (pc := 53) (v := 1) X dX0_village_53 rfl ?_
        refine v_icmp_ne (pc := 54) (tgt := 64) X dX0_village_54 (by decide) (fun c54 => ?_) (fun c54 => ?_)
        · refine v_iload_n (pc := 64) X dX0_village_64 3 rfl ?_
          refine v_iconst (pc := 65) (v := 2) X dX0_village_65 rfl ?_
          refine v_icmp_ne (pc := 66) (tgt := 76) X dX0_village_66 (by decide) (fun c66 => ?_) (fun c66 => ?_)
          · refine v_iload_n (pc := 76) X dX0_village_76 3 rfl ?_
            refine v_iconst (pc := 77) (v := 3) X dX0_village_77 rfl ?_
            refine v_icmp_ne (pc := 78) (tgt := 88) X dX0_village_78 (by decide) (fun c78 => ?_) (fun c78 => ?_)
            · refine v_aload_nq (pc := 88) X dX0_village_88 0 rfl ?_
              refine v_unq0 (pc := 89) (fun a_7 _ => ?_)
              refine v_dgetIN (pc := 89) X wC_c6 in_X8 (Nat.le_of_ble_eq_true rfl : 4 < 5) q866 dX0_village_89 (fun z_8 => ?_)
              exact v_iret (pc := 92) X dX0_village_92 rfl
            · refine v_aload_nq (pc := 81) X dX0_village_81 0 rfl ?_
              refine v_unq0 (pc := 82) (fun a_9 _ => ?_)
              refine v_dgetIN (pc := 82) X wC_c6 in_X8 (Nat.le_of_ble_eq_true rfl : 3 < 5) q864 dX0_village_82 (fun z_10 => ?_)
              refine v_goto (pc := 85) (tgt := 92) X dX0_village_85 (by decide) ?_
              exact v_iret (pc := 92) X dX0_village_92 rfl
          · refine v_aload_nq (pc := 69) X dX0_village_69 0 rfl ?_
            refine v_unq0 (pc := 70) (fun a_11 _ => ?_)
            refine v_dgetIN (pc := 70) X wC_c6 in_X8 (Nat.le_of_ble_eq_true rfl : 2 < 5) q861 dX0_village_70 (fun z_12 => ?_)
            refine v_goto (pc := 73) (tgt := 92) X dX0_village_73 (by decide) ?_
            exact v_iret (pc := 92) X dX0_village_92 rfl
        · refine v_aload_nq (pc := 57) X dX0_village_57 0 rfl ?_
          refine v_unq0 (pc := 58) (fun a_13 _ => ?_)
          refine v_dgetIN (pc := 58) X wC_c6 in_X8 (Nat.le_of_ble_eq_true rfl : 1 < 5) q858 dX0_village_58 (fun z_14 => ?_)
          refine v_goto (pc := 61) (tgt := 92) X dX0_village_61 (by decide) ?_
          exact v_iret (pc := 92) X dX0_village_92 rfl
      · refine v_aload_nq (pc := 45) X dX0_village_45 0 rfl ?_
        refine v_unq0 (pc := 46) (fun a_15 _ => ?_)
        refine v_dgetIN (pc := 46) X wC_c6 in_X8 (Nat.le_of_ble_eq_true rfl : 0 < 5) q855 dX0_village_46 (fun z_16 => ?_)
        refine v_goto (pc := 49) (tgt := 92) X dX0_village_49 (by decide) ?_
        exact v_iret (pc := 92) X dX0_village_92 rfl
    · refine v_bipush (pc := 21) (v := -2) X dX0_village_21 rfl ?_
      exact v_iret (pc := 23) X dX0_village_23 rfl
/-! FloodLent.isFlood(I)Z -/
abbrev rm_F_isFlood : Room := { frames := 2, cells := 0, slots := 0, locals := 46 }
theorem hy_F_isFlood : v_yV yX0_isFlood cX0_isFlood 2 (some .boolean) 1 := ⟨q1087, qs26, q133, q1088, by decide +kernel⟩
def t_F_isFlood (fu : Nat) (p1 : Int32) (s : v_S) : Option Int32 :=
  v_b1 (s.2.2.1 0 1) fun (a_1 : Nat) => v_b1 (v_dR s a_1 4 2) fun (e_2 : Option Nat) => v_b1 e_2 fun (a_3 : Nat) => if v_isc s (some a_3) 5 = true then v_b1 (t_L_size fu a_3 s) fun (z_4 : Int32) => v_b1 (t_F_in fu (Int32.toInt64 p1) (0 : Int64) (Int32.toInt64 (z_4 - (1 : Int32))) s) fun (z_5 : Int32) => (if z_5 = 0 ∨ z_5 = 1 then some z_5 else none) else none
theorem m_F_isFlood (l : Launch) (g : v_G) (fu : Nat) (p1 : Int32) (s : v_S) : v_M l yX0_isFlood cX0_isFlood 2 (some .boolean) rm_F_isFlood wC g [.ref (v_E g 0), .int p1] s (fun z : Int32 => (some (.int z), s)) (t_F_isFlood fu p1 s) := by
  refine v_met (by decide +kernel) (Nat.le_of_ble_eq_true rfl) (fun Γ X => ?_)
  refine v_lv (lv' := [(0, .ref (v_E g 0)), (1, .int p1)]) rfl ?_
  unfold t_F_isFlood
  refine v_iload_n (pc := 0) X dX0_isFlood_0 1 rfl ?_
  refine v_i2l (pc := 1) X dX0_isFlood_1 ?_
  refine v_lconst (pc := 2) (v := 0) X dX0_isFlood_2 rfl ?_
  refine v_aload_n (pc := 3) X dX0_isFlood_3 0 rfl ?_
  refine v_get (pc := 4) (kind := 2) (v := va_rf (s.2.2.1 0 1)) X wC_n0 wC_l0 wC_c0 in_X0 (Nat.le_of_ble_eq_true rfl : 1 < 16) q600 rfl rfl dX0_isFlood_4 ?_
  refine v_unq0 (pc := 7) (fun a_1 _ => ?_)
  refine v_dgetRN (pc := 7) X wC_c4 in_X2 (Nat.le_of_ble_eq_true rfl : 2 < 9) q429 dX0_isFlood_7 (fun e_2 => ?_)
  refine v_unq0 (pc := 10) (fun a_3 _ => ?_)
  refine v_cFi (pc := 10) X (m_L_size l g fu a_3  _) wC_c5 q1076 hF_size rfl rfl rfl rfl dX0_isFlood_10 (fun z_4 _ => ?_)
  refine v_iconst (pc := 15) (v := 1) X dX0_isFlood_15 rfl ?_
  refine v_isub (pc := 16) X dX0_isFlood_16 ?_
  refine v_i2l (pc := 17) X dX0_isFlood_17 ?_
  refine v_cSi (pc := 18) X (m_F_in l g fu (Int32.toInt64 p1) (0 : Int64) (Int32.toInt64 (z_4 - (1 : Int32))) _) q174 hy_F_in rfl rfl rfl rfl dX0_isFlood_18 (fun z_5 _ => ?_)
  exact v_zretG (pc := 21) X dX0_isFlood_21 rfl
/-! FloodLent.takes(II)I -/
abbrev rm_F_takes : Room := { frames := 4, cells := 0, slots := 0, locals := 83 }
theorem hy_F_takes : v_yV yX0_takes cX0_takes 4 (some .int) 2 := ⟨q1082, q1083, q133, q1084, by decide +kernel⟩
def t_F_takes_25 (fu : Nat) (p1 : Int32) (p2 : Int32) (s : v_S) : Option (Int32 × v_S) :=
v_g p1 3 <| v_n (s.1 6 (Int32.toNatClampNeg p1)) fun (x3_2 : Int32) => v_g p1 3 <| v_n (v_uI s 6 (Int32.toNatClampNeg p1) p2) fun (s_3 : v_S) => some (x3_2, s_3)
def t_F_takes (fu : Nat) (p1 : Int32) (p2 : Int32) (s : v_S) : Option (Int32 × v_S) :=
  v_b1 (t_F_isFlood fu p1 s) fun (z_1 : Int32) => if z_1 = 0 then (some ((-2 : Int32), s)) else (if p2 = (-1 : Int32) then (t_F_takes_25 fu p1 p2 s) else (v_b1 (t_F_isVillage fu (Int32.toInt64 p2) s) fun (z_4 : Int32) => if z_4 = 0 then (some ((-2 : Int32), s)) else (t_F_takes_25 fu p1 p2 s)))
theorem w_F_takes_25 {Γ : v_Ctx} {l : Launch} {g : v_G} (fu : Nat) (p1 : Int32) (p2 : Int32) (X : v_C Γ l rm_F_takes cX0_takes 4 RX0 (some .int) wC g)  (s : v_S) : v_V Γ 4 wC g (fun z : Int32 × v_S => (some (.int z.1), z.2)) 25 [(0, .ref (v_E g 0)), (1, .int p1), (2, .int p2)] [] s (t_F_takes_25 fu p1 p2 s) := by
  unfold t_F_takes_25
  refine v_aload_n (pc := 25) X dX0_takes_25 0 rfl ?_
  refine v_get (pc := 26) (kind := 9) (v := .ref (v_E g 6)) X wC_n0 wC_l0 wC_c0 in_X0 (Nat.le_of_ble_eq_true rfl : 3 < 16) q602 rfl rfl dX0_takes_26 ?_
  refine v_iload_n (pc := 29) X dX0_takes_29 1 rfl ?_
  refine v_iald (pc := 30) X wC_n6 wC_l6 dX0_takes_30 ?_
  refine v_istore_nN (pc := 31) (lvf := fun x3_2 => [(3, .int x3_2), (0, .ref (v_E g 0)), (1, .int p1), (2, .int p2)]) X dX0_takes_31 rfl (Nat.le_of_ble_eq_true rfl) (fun _ => rfl) (fun x3_2 => ?_)
  refine v_aload_n (pc := 32) X dX0_takes_32 1 rfl ?_
  refine v_get (pc := 33) (kind := 9) (v := .ref (v_E g 6)) X wC_n0 wC_l0 wC_c0 in_X0 (Nat.le_of_ble_eq_true rfl : 3 < 16) q602 rfl rfl dX0_takes_33 ?_
  refine v_iload_n (pc := 36) X dX0_takes_36 2 rfl ?_
  refine v_iload_n (pc := 37) X dX0_takes_37 3 rfl ?_
  refine v_iast (pc := 38) X wC_n6 wC_l6 dX0_takes_38 (fun s_3 => ?_)
  refine v_iload_n (pc := 39) X dX0_takes_39 0 rfl ?_
  exact v_iret (pc := 40) X dX0_takes_40 rfl
theorem m_F_takes (l : Launch) (g : v_G) (fu : Nat) (p1 : Int32) (p2 : Int32) (s : v_S) : v_M l yX0_takes cX0_takes 4 (some .int) rm_F_takes wC g [.ref (v_E g 0), .int p1, .int p2] s (fun z : Int32 × v_S => (some (.int z.1), z.2)) (t_F_takes fu p1 p2 s) := by
  refine v_met (by decide +kernel) (Nat.le_of_ble_eq_true rfl) (fun Γ X => ?_)
  refine v_lv (lv' := [(0, .ref (v_E g 0)), (1, .int p1), (2, .int p2)]) rfl ?_
  unfold t_F_takes
  refine v_aload_n (pc := 0) X dX0_takes_0 0 rfl ?_
  refine v_iload_n (pc := 1) X dX0_takes_1 1 rfl ?_
  refine v_cGi (pc := 2) X (m_F_isFlood l g fu p1 _) (v_rc_n X wC_o0) (Or.inl q1085) hy_F_isFlood rfl rfl rfl rfl dX0_takes_2 (fun z_1 _ => ?_)
  refine v_if_eq (pc := 5) (tgt := 22) X dX0_takes_5 (by decide) (fun c5 => ?_) (fun c5 => ?_)
  · refine v_bipush (pc := 22) (v := -2) X dX0_takes_22 rfl ?_
    exact v_iret (pc := 24) X dX0_takes_24 rfl
  · refine v_iload_n (pc := 8) X dX0_takes_8 2 rfl ?_
    refine v_iconst (pc := 9) (v := -1) X dX0_takes_9 rfl ?_
    refine v_icmp_eq (pc := 10) (tgt := 25) X dX0_takes_10 (by decide) (fun c10 => ?_) (fun c10 => ?_)
    · exact w_F_takes_25 fu p1 p2 X  s
    · refine v_aload_n (pc := 13) X dX0_takes_13 0 rfl ?_
      refine v_iload_n (pc := 14) X dX0_takes_14 2 rfl ?_
      refine v_i2l (pc := 15) X dX0_takes_15 ?_
      refine v_cGi (pc := 16) X (m_F_isVillage l g fu (Int32.toInt64 p2) _) (v_rc_n X wC_o0) (Or.inl q1067) hy_F_isVillage rfl rfl rfl rfl dX0_takes_16 (fun z_4 _ => ?_)
      refine v_if_ne (pc := 19) (tgt := 25) X dX0_takes_19 (by decide) (fun c19 => ?_) (fun c19 => ?_)
      · exact w_F_takes_25 fu p1 p2 X  s
      · refine v_bipush (pc := 22) (v := -2) X dX0_takes_22 rfl ?_
        exact v_iret (pc := 24) X dX0_takes_24 rfl
/-! FloodLent.isWeek(J)Z -/
abbrev rm_F_isWeek : Room := { frames := 2, cells := 0, slots := 0, locals := 46 }
theorem hy_F_isWeek : v_yV yX0_isWeek cX0_isWeek 3 (some .boolean) 1 := ⟨q1095, qs27, q133, q1096, by decide +kernel⟩
def t_F_isWeek (fu : Nat) (p1 : Int64) (s : v_S) : Option Int32 :=
  v_b1 (s.2.2.1 0 1) fun (a_1 : Nat) => v_b1 (v_dI s a_1 4 5) fun (z_2 : Int32) => v_b1 (t_F_in fu p1 (0 : Int64) (Int32.toInt64 (z_2 - (1 : Int32))) s) fun (z_3 : Int32) => if z_3 = 0 ∨ z_3 = 1 then some z_3 else none
theorem m_F_isWeek (l : Launch) (g : v_G) (fu : Nat) (p1 : Int64) (s : v_S) : v_M l yX0_isWeek cX0_isWeek 3 (some .boolean) rm_F_isWeek wC g [.ref (v_E g 0), .long p1] s (fun z : Int32 => (some (.int z), s)) (t_F_isWeek fu p1 s) := by
  refine v_met (by decide +kernel) (Nat.le_of_ble_eq_true rfl) (fun Γ X => ?_)
  refine v_lv (lv' := [(0, .ref (v_E g 0)), (1, .long p1)]) rfl ?_
  unfold t_F_isWeek
  refine v_lload_n (pc := 0) X dX0_isWeek_0 1 rfl ?_
  refine v_lconst (pc := 1) (v := 0) X dX0_isWeek_1 rfl ?_
  refine v_aload_n (pc := 2) X dX0_isWeek_2 0 rfl ?_
  refine v_get (pc := 3) (kind := 2) (v := va_rf (s.2.2.1 0 1)) X wC_n0 wC_l0 wC_c0 in_X0 (Nat.le_of_ble_eq_true rfl : 1 < 16) q600 rfl rfl dX0_isWeek_3 ?_
  refine v_unq0 (pc := 6) (fun a_1 _ => ?_)
  refine v_dgetIN (pc := 6) X wC_c4 in_X2 (Nat.le_of_ble_eq_true rfl : 5 < 9) q439 dX0_isWeek_6 (fun z_2 => ?_)
  refine v_iconst (pc := 9) (v := 1) X dX0_isWeek_9 rfl ?_
  refine v_isub (pc := 10) X dX0_isWeek_10 ?_
  refine v_i2l (pc := 11) X dX0_isWeek_11 ?_
  refine v_cSi (pc := 12) X (m_F_in l g fu p1 (0 : Int64) (Int32.toInt64 (z_2 - (1 : Int32))) _) q174 hy_F_in rfl rfl rfl rfl dX0_isWeek_12 (fun z_3 _ => ?_)
  exact v_zretG (pc := 15) X dX0_isWeek_15 rfl
/-! FloodLent.told()LFloodLent$Year; -/
abbrev rm_F_told : Room := { frames := 7, cells := 0, slots := 0, locals := 153 }
theorem hy_F_told : v_yV yX0_told cX0_told 1 (some (.object "FloodLent$Year")) 0 := ⟨q1099, qs28, q133, q1100, by decide +kernel⟩
def t_F_told (fu : Nat)  (s : v_S) : Option v_S :=
  v_b1 (t_Y_begins fu (s.2.2.1 0 1) (6) (s.1 0 2) s) fun (s_1 : v_S) => v_b1 (t_Y_goes fu s_1) fun (s_2 : v_S) => some s_2
theorem m_F_told (l : Launch) (g : v_G) (fu : Nat)  (s : v_S) : v_M l yX0_told cX0_told 1 (some (.object "FloodLent$Year")) rm_F_told wC g [.ref (v_E g 0)] s (fun z : v_S => (some (.ref (v_E g 7)), z)) (t_F_told fu  s) := by
  refine v_met (by decide +kernel) (Nat.le_of_ble_eq_true rfl) (fun Γ X => ?_)
  refine v_lv (lv' := [(0, .ref (v_E g 0))]) rfl ?_
  unfold t_F_told
  refine v_aload_n (pc := 0) X dX0_told_0 0 rfl ?_
  refine v_get (pc := 1) (kind := 10) (v := .ref (v_E g 7)) X wC_n0 wC_l0 wC_c0 in_X0 (Nat.le_of_ble_eq_true rfl : 4 < 16) q603 rfl rfl dX0_told_1 ?_
  refine v_aload_n (pc := 4) X dX0_told_4 0 rfl ?_
  refine v_get (pc := 5) (kind := 2) (v := va_rf (s.2.2.1 0 1)) X wC_n0 wC_l0 wC_c0 in_X0 (Nat.le_of_ble_eq_true rfl : 1 < 16) q600 rfl rfl dX0_told_5 ?_
  refine v_aload_n (pc := 8) X dX0_told_8 0 rfl ?_
  refine v_get (pc := 9) (kind := 9) (v := .ref (v_E g 6)) X wC_n0 wC_l0 wC_c0 in_X0 (Nat.le_of_ble_eq_true rfl : 3 < 16) q602 rfl rfl dX0_told_9 ?_
  refine v_aload_n (pc := 12) X dX0_told_12 0 rfl ?_
  refine v_get (pc := 13) (kind := 0) (v := .int (s.1 0 2)) X wC_n0 wC_l0 wC_c0 in_X0 (Nat.le_of_ble_eq_true rfl : 2 < 16) q601 rfl rfl dX0_told_13 ?_
  refine v_cGs (pc := 16) X (m_Y_begins l g fu (s.2.2.1 0 1) (6) (s.1 0 2) _) (v_rc_n X wC_o7) (Or.inl q1101) hy_Y_begins rfl rfl rfl rfl dX0_told_16 (fun s_1 _ => ?_)
  refine v_aload_n (pc := 19) X dX0_told_19 0 rfl ?_
  refine v_get (pc := 20) (kind := 10) (v := .ref (v_E g 7)) X wC_n0 wC_l0 wC_c0 in_X0 (Nat.le_of_ble_eq_true rfl : 4 < 16) q603 rfl rfl dX0_told_20 ?_
  refine v_cGr (pc := 23) X (m_Y_goes l g fu _) (v_rc_n X wC_o7) (Or.inl q1106) hy_Y_goes rfl rfl rfl rfl dX0_told_23 (fun s_2 _ => ?_)
  exact v_aret (pc := 26) X dX0_told_26 rfl
/-! FloodLent.water(II)I -/
abbrev rm_F_water : Room := { frames := 8, cells := 0, slots := 0, locals := 173 }
theorem hy_F_water : v_yV yX0_water cX0_water 3 (some .int) 2 := ⟨q1090, q1091, q133, q1092, by decide +kernel⟩
def t_F_water (fu : Nat) (p1 : Int32) (p2 : Int32) (s : v_S) : Option (Int32 × v_S) :=
  v_b1 (t_F_isVillage fu (Int32.toInt64 p1) s) fun (z_1 : Int32) => if z_1 = 0 then (some ((-2 : Int32), s)) else (v_b1 (t_F_isWeek fu (Int32.toInt64 p2) s) fun (z_2 : Int32) => if z_2 = 0 then (some ((-2 : Int32), s)) else (v_b1 (t_F_told fu s) fun (s_3 : v_S) => v_g p1 6 <| v_b1 (v_il wC ((30 + Int32.toNatClampNeg p1))) fun (n_4 : Nat) => v_g p2 n_4 <| some (s_3.1 ((30 + Int32.toNatClampNeg p1)) (Int32.toNatClampNeg p2), s_3)))
theorem m_F_water (l : Launch) (g : v_G) (fu : Nat) (p1 : Int32) (p2 : Int32) (s : v_S) : v_M l yX0_water cX0_water 3 (some .int) rm_F_water wC g [.ref (v_E g 0), .int p1, .int p2] s (fun z : Int32 × v_S => (some (.int z.1), z.2)) (t_F_water fu p1 p2 s) := by
  refine v_met (by decide +kernel) (Nat.le_of_ble_eq_true rfl) (fun Γ X => ?_)
  refine v_lv (lv' := [(0, .ref (v_E g 0)), (1, .int p1), (2, .int p2)]) rfl ?_
  unfold t_F_water
  refine v_aload_n (pc := 0) X dX0_water_0 0 rfl ?_
  refine v_iload_n (pc := 1) X dX0_water_1 1 rfl ?_
  refine v_i2l (pc := 2) X dX0_water_2 ?_
  refine v_cGi (pc := 3) X (m_F_isVillage l g fu (Int32.toInt64 p1) _) (v_rc_n X wC_o0) (Or.inl q1067) hy_F_isVillage rfl rfl rfl rfl dX0_water_3 (fun z_1 _ => ?_)
  refine v_if_eq (pc := 6) (tgt := 32) X dX0_water_6 (by decide) (fun c6 => ?_) (fun c6 => ?_)
  · refine v_bipush (pc := 32) (v := -2) X dX0_water_32 rfl ?_
    exact v_iret (pc := 34) X dX0_water_34 rfl
  · refine v_aload_n (pc := 9) X dX0_water_9 0 rfl ?_
    refine v_iload_n (pc := 10) X dX0_water_10 2 rfl ?_
    refine v_i2l (pc := 11) X dX0_water_11 ?_
    refine v_cGi (pc := 12) X (m_F_isWeek l g fu (Int32.toInt64 p2) _) (v_rc_n X wC_o0) (Or.inl q1093) hy_F_isWeek rfl rfl rfl rfl dX0_water_12 (fun z_2 _ => ?_)
    refine v_if_eq (pc := 15) (tgt := 32) X dX0_water_15 (by decide) (fun c15 => ?_) (fun c15 => ?_)
    · refine v_bipush (pc := 32) (v := -2) X dX0_water_32 rfl ?_
      exact v_iret (pc := 34) X dX0_water_34 rfl
    · refine v_aload_n (pc := 18) X dX0_water_18 0 rfl ?_
      refine v_cGr (pc := 19) X (m_F_told l g fu _) (v_rc_n X wC_o0) (Or.inl q1097) hy_F_told rfl rfl rfl rfl dX0_water_19 (fun s_3 _ => ?_)
      refine v_getN (pc := 22) (kind := 32) (v := .ref (v_E g 29)) X wC_n7 wC_l7 wC_c2 in_X3 (Nat.le_of_ble_eq_true rfl : 0 < 23) q477 rfl rfl dX0_water_22 ?_
      refine v_iload_n (pc := 25) X dX0_water_25 1 rfl ?_
      refine v_aald (pc := 26) X wC_n29 wC_l29 rfl rfl dX0_water_26 ?_
      refine v_iload_n (pc := 27) X dX0_water_27 2 rfl ?_
      refine v_ialdS (pc := 28) X dX0_water_28 (fun n_4 => ?_)
      refine v_goto (pc := 29) (tgt := 34) X dX0_water_29 (by decide) ?_
      exact v_iret (pc := 34) X dX0_water_34 rfl
/-! FloodLent.flood(II)I -/
abbrev rm_F_flood : Room := { frames := 8, cells := 0, slots := 0, locals := 173 }
theorem hy_F_flood : v_yV yX0_flood cX0_flood 3 (some .int) 2 := ⟨q1158, q1159, q133, q1160, by decide +kernel⟩
def t_F_flood (fu : Nat) (p1 : Int32) (p2 : Int32) (s : v_S) : Option (Int32 × v_S) :=
  v_b1 (t_F_isFlood fu p1 s) fun (z_1 : Int32) => if z_1 = 0 then (some ((-2 : Int32), s)) else (v_b1 (t_F_in fu (Int32.toInt64 p2) (0 : Int64) (3 : Int64) s) fun (z_2 : Int32) => if z_2 = 0 then (some ((-2 : Int32), s)) else (v_b1 (t_F_told fu s) fun (s_3 : v_S) => if p2 = 0 then (v_g p1 3 <| some (s_3.1 38 (Int32.toNatClampNeg p1), s_3)) else (if p2 = (1 : Int32) then (v_g p1 3 <| some (s_3.1 39 (Int32.toNatClampNeg p1), s_3)) else (if p2 = (2 : Int32) then (v_g p1 3 <| some (s_3.1 40 (Int32.toNatClampNeg p1), s_3)) else (v_g p1 3 <| v_g p1 3 <| some ((s_3.1 39 (Int32.toNatClampNeg p1)) - (s_3.1 40 (Int32.toNatClampNeg p1)), s_3))))))
theorem m_F_flood (l : Launch) (g : v_G) (fu : Nat) (p1 : Int32) (p2 : Int32) (s : v_S) : v_M l yX0_flood cX0_flood 3 (some .int) rm_F_flood wC g [.ref (v_E g 0), .int p1, .int p2] s (fun z : Int32 × v_S => (some (.int z.1), z.2)) (t_F_flood fu p1 p2 s) := by
  refine v_met (by decide +kernel) (Nat.le_of_ble_eq_true rfl) (fun Γ X => ?_)
  refine v_lv (lv' := [(0, .ref (v_E g 0)), (1, .int p1), (2, .int p2)]) rfl ?_
  unfold t_F_flood
  refine v_aload_n (pc := 0) X dX0_flood_0 0 rfl ?_
  refine v_iload_n (pc := 1) X dX0_flood_1 1 rfl ?_
  refine v_cGi (pc := 2) X (m_F_isFlood l g fu p1 _) (v_rc_n X wC_o0) (Or.inl q1085) hy_F_isFlood rfl rfl rfl rfl dX0_flood_2 (fun z_1 _ => ?_)
  refine v_if_eq (pc := 5) (tgt := 20) X dX0_flood_5 (by decide) (fun c5 => ?_) (fun c5 => ?_)
  · refine v_bipush (pc := 20) (v := -2) X dX0_flood_20 rfl ?_
    exact v_iret (pc := 22) X dX0_flood_22 rfl
  · refine v_iload_n (pc := 8) X dX0_flood_8 2 rfl ?_
    refine v_i2l (pc := 9) X dX0_flood_9 ?_
    refine v_lconst (pc := 10) (v := 0) X dX0_flood_10 rfl ?_
    refine v_ldc2 (pc := 11) X q173 dX0_flood_11 ?_
    refine v_cSi (pc := 14) X (m_F_in l g fu (Int32.toInt64 p2) (0 : Int64) (3 : Int64) _) q174 hy_F_in rfl rfl rfl rfl dX0_flood_14 (fun z_2 _ => ?_)
    refine v_if_ne (pc := 17) (tgt := 23) X dX0_flood_17 (by decide) (fun c17 => ?_) (fun c17 => ?_)
    · refine v_aload_n (pc := 23) X dX0_flood_23 0 rfl ?_
      refine v_cGr (pc := 24) X (m_F_told l g fu _) (v_rc_n X wC_o0) (Or.inl q1097) hy_F_told rfl rfl rfl rfl dX0_flood_24 (fun s_3 _ => ?_)
      refine v_pop (pc := 27) X dX0_flood_27 rfl ?_
      refine v_iload_n (pc := 28) X dX0_flood_28 2 rfl ?_
      refine v_if_ne (pc := 29) (tgt := 44) X dX0_flood_29 (by decide) (fun c29 => ?_) (fun c29 => ?_)
      · refine v_iload_n (pc := 44) X dX0_flood_44 2 rfl ?_
        refine v_iconst (pc := 45) (v := 1) X dX0_flood_45 rfl ?_
        refine v_icmp_ne (pc := 46) (tgt := 61) X dX0_flood_46 (by decide) (fun c46 => ?_) (fun c46 => ?_)
        · refine v_iload_n (pc := 61) X dX0_flood_61 2 rfl ?_
          refine v_iconst (pc := 62) (v := 2) X dX0_flood_62 rfl ?_
          refine v_icmp_ne (pc := 63) (tgt := 78) X dX0_flood_63 (by decide) (fun c63 => ?_) (fun c63 => ?_)
          · refine v_aload_n (pc := 78) X dX0_flood_78 0 rfl ?_
            refine v_get (pc := 79) (kind := 10) (v := .ref (v_E g 7)) X wC_n0 wC_l0 wC_c0 in_X0 (Nat.le_of_ble_eq_true rfl : 4 < 16) q603 rfl rfl dX0_flood_79 ?_
            refine v_getN (pc := 82) (kind := 42) (v := .ref (v_E g 39)) X wC_n7 wC_l7 wC_c2 in_X3 (Nat.le_of_ble_eq_true rfl : 4 < 23) q484 rfl rfl dX0_flood_82 ?_
            refine v_iload_n (pc := 85) X dX0_flood_85 1 rfl ?_
            refine v_iald (pc := 86) X wC_n39 wC_l39 dX0_flood_86 ?_
            refine v_aload_n (pc := 87) X dX0_flood_87 0 rfl ?_
            refine v_get (pc := 88) (kind := 10) (v := .ref (v_E g 7)) X wC_n0 wC_l0 wC_c0 in_X0 (Nat.le_of_ble_eq_true rfl : 4 < 16) q603 rfl rfl dX0_flood_88 ?_
            refine v_getN (pc := 91) (kind := 43) (v := .ref (v_E g 40)) X wC_n7 wC_l7 wC_c2 in_X3 (Nat.le_of_ble_eq_true rfl : 5 < 23) q486 rfl rfl dX0_flood_91 ?_
            refine v_iload_n (pc := 94) X dX0_flood_94 1 rfl ?_
            refine v_iald (pc := 95) X wC_n40 wC_l40 dX0_flood_95 ?_
            refine v_isub (pc := 96) X dX0_flood_96 ?_
            exact v_iret (pc := 97) X dX0_flood_97 rfl
          · refine v_aload_n (pc := 66) X dX0_flood_66 0 rfl ?_
            refine v_get (pc := 67) (kind := 10) (v := .ref (v_E g 7)) X wC_n0 wC_l0 wC_c0 in_X0 (Nat.le_of_ble_eq_true rfl : 4 < 16) q603 rfl rfl dX0_flood_67 ?_
            refine v_getN (pc := 70) (kind := 43) (v := .ref (v_E g 40)) X wC_n7 wC_l7 wC_c2 in_X3 (Nat.le_of_ble_eq_true rfl : 5 < 23) q486 rfl rfl dX0_flood_70 ?_
            refine v_iload_n (pc := 73) X dX0_flood_73 1 rfl ?_
            refine v_iald (pc := 74) X wC_n40 wC_l40 dX0_flood_74 ?_
            refine v_goto (pc := 75) (tgt := 97) X dX0_flood_75 (by decide) ?_
            exact v_iret (pc := 97) X dX0_flood_97 rfl
        · refine v_aload_n (pc := 49) X dX0_flood_49 0 rfl ?_
          refine v_get (pc := 50) (kind := 10) (v := .ref (v_E g 7)) X wC_n0 wC_l0 wC_c0 in_X0 (Nat.le_of_ble_eq_true rfl : 4 < 16) q603 rfl rfl dX0_flood_50 ?_
          refine v_getN (pc := 53) (kind := 42) (v := .ref (v_E g 39)) X wC_n7 wC_l7 wC_c2 in_X3 (Nat.le_of_ble_eq_true rfl : 4 < 23) q484 rfl rfl dX0_flood_53 ?_
          refine v_iload_n (pc := 56) X dX0_flood_56 1 rfl ?_
          refine v_iald (pc := 57) X wC_n39 wC_l39 dX0_flood_57 ?_
          refine v_goto (pc := 58) (tgt := 97) X dX0_flood_58 (by decide) ?_
          exact v_iret (pc := 97) X dX0_flood_97 rfl
      · refine v_aload_n (pc := 32) X dX0_flood_32 0 rfl ?_
        refine v_get (pc := 33) (kind := 10) (v := .ref (v_E g 7)) X wC_n0 wC_l0 wC_c0 in_X0 (Nat.le_of_ble_eq_true rfl : 4 < 16) q603 rfl rfl dX0_flood_33 ?_
        refine v_getN (pc := 36) (kind := 41) (v := .ref (v_E g 38)) X wC_n7 wC_l7 wC_c2 in_X3 (Nat.le_of_ble_eq_true rfl : 3 < 23) q482 rfl rfl dX0_flood_36 ?_
        refine v_iload_n (pc := 39) X dX0_flood_39 1 rfl ?_
        refine v_iald (pc := 40) X wC_n38 wC_l38 dX0_flood_40 ?_
        refine v_goto (pc := 41) (tgt := 97) X dX0_flood_41 (by decide) ?_
        exact v_iret (pc := 97) X dX0_flood_97 rfl
    · refine v_bipush (pc := 20) (v := -2) X dX0_flood_20 rfl ?_
      exact v_iret (pc := 22) X dX0_flood_22 rfl
/-! FloodLent.loan(II)I -/
abbrev rm_F_loan : Room := { frames := 8, cells := 0, slots := 0, locals := 173 }
theorem hy_F_loan : v_yV yX0_loan cX0_loan 3 (some .int) 2 := ⟨q1162, q1163, q133, q1164, by decide +kernel⟩
def t_F_loan (fu : Nat) (p1 : Int32) (p2 : Int32) (s : v_S) : Option (Int32 × v_S) :=
  v_b1 (s.2.2.1 0 1) fun (a_1 : Nat) => v_b1 (v_dR s a_1 4 3) fun (e_2 : Option Nat) => v_b1 e_2 fun (a_3 : Nat) => if v_isc s (some a_3) 5 = true then v_b1 (t_L_size fu a_3 s) fun (z_4 : Int32) => v_b1 (t_F_in fu (Int32.toInt64 p1) (0 : Int64) (Int32.toInt64 (z_4 - (1 : Int32))) s) fun (z_5 : Int32) => (if z_5 = 0 then (some ((-2 : Int32), s)) else (v_b1 (t_F_in fu (Int32.toInt64 p2) (0 : Int64) (3 : Int64) s) fun (z_6 : Int32) => if z_6 = 0 then (some ((-2 : Int32), s)) else (v_b1 (t_F_told fu s) fun (s_7 : v_S) => if p2 = 0 then (v_g p1 8 <| some (s_7.1 41 (Int32.toNatClampNeg p1), s_7)) else (if p2 = (1 : Int32) then (v_g p1 8 <| some (s_7.1 42 (Int32.toNatClampNeg p1), s_7)) else (if p2 = (2 : Int32) then (v_g p1 8 <| some (s_7.1 43 (Int32.toNatClampNeg p1), s_7)) else (v_g p1 8 <| v_g p1 8 <| some ((s_7.1 42 (Int32.toNatClampNeg p1)) - (s_7.1 43 (Int32.toNatClampNeg p1)), s_7))))))) else none
theorem m_F_loan (l : Launch) (g : v_G) (fu : Nat) (p1 : Int32) (p2 : Int32) (s : v_S) : v_M l yX0_loan cX0_loan 3 (some .int) rm_F_loan wC g [.ref (v_E g 0), .int p1, .int p2] s (fun z : Int32 × v_S => (some (.int z.1), z.2)) (t_F_loan fu p1 p2 s) := by
  refine v_met (by decide +kernel) (Nat.le_of_ble_eq_true rfl) (fun Γ X => ?_)
  refine v_lv (lv' := [(0, .ref (v_E g 0)), (1, .int p1), (2, .int p2)]) rfl ?_
  unfold t_F_loan
  refine v_iload_n (pc := 0) X dX0_loan_0 1 rfl ?_
  refine v_i2l (pc := 1) X dX0_loan_1 ?_
  refine v_lconst (pc := 2) (v := 0) X dX0_loan_2 rfl ?_
  refine v_aload_n (pc := 3) X dX0_loan_3 0 rfl ?_
  refine v_get (pc := 4) (kind := 2) (v := va_rf (s.2.2.1 0 1)) X wC_n0 wC_l0 wC_c0 in_X0 (Nat.le_of_ble_eq_true rfl : 1 < 16) q600 rfl rfl dX0_loan_4 ?_
  refine v_unq0 (pc := 7) (fun a_1 _ => ?_)
  refine v_dgetRN (pc := 7) X wC_c4 in_X2 (Nat.le_of_ble_eq_true rfl : 3 < 9) q433 dX0_loan_7 (fun e_2 => ?_)
  refine v_unq0 (pc := 10) (fun a_3 _ => ?_)
  refine v_cFi (pc := 10) X (m_L_size l g fu a_3  _) wC_c5 q1076 hF_size rfl rfl rfl rfl dX0_loan_10 (fun z_4 _ => ?_)
  refine v_iconst (pc := 15) (v := 1) X dX0_loan_15 rfl ?_
  refine v_isub (pc := 16) X dX0_loan_16 ?_
  refine v_i2l (pc := 17) X dX0_loan_17 ?_
  refine v_cSi (pc := 18) X (m_F_in l g fu (Int32.toInt64 p1) (0 : Int64) (Int32.toInt64 (z_4 - (1 : Int32))) _) q174 hy_F_in rfl rfl rfl rfl dX0_loan_18 (fun z_5 _ => ?_)
  refine v_if_eq (pc := 21) (tgt := 36) X dX0_loan_21 (by decide) (fun c21 => ?_) (fun c21 => ?_)
  · refine v_bipush (pc := 36) (v := -2) X dX0_loan_36 rfl ?_
    exact v_iret (pc := 38) X dX0_loan_38 rfl
  · refine v_iload_n (pc := 24) X dX0_loan_24 2 rfl ?_
    refine v_i2l (pc := 25) X dX0_loan_25 ?_
    refine v_lconst (pc := 26) (v := 0) X dX0_loan_26 rfl ?_
    refine v_ldc2 (pc := 27) X q173 dX0_loan_27 ?_
    refine v_cSi (pc := 30) X (m_F_in l g fu (Int32.toInt64 p2) (0 : Int64) (3 : Int64) _) q174 hy_F_in rfl rfl rfl rfl dX0_loan_30 (fun z_6 _ => ?_)
    refine v_if_ne (pc := 33) (tgt := 39) X dX0_loan_33 (by decide) (fun c33 => ?_) (fun c33 => ?_)
    · refine v_aload_n (pc := 39) X dX0_loan_39 0 rfl ?_
      refine v_cGr (pc := 40) X (m_F_told l g fu _) (v_rc_n X wC_o0) (Or.inl q1097) hy_F_told rfl rfl rfl rfl dX0_loan_40 (fun s_7 _ => ?_)
      refine v_pop (pc := 43) X dX0_loan_43 rfl ?_
      refine v_iload_n (pc := 44) X dX0_loan_44 2 rfl ?_
      refine v_if_ne (pc := 45) (tgt := 60) X dX0_loan_45 (by decide) (fun c45 => ?_) (fun c45 => ?_)
      · refine v_iload_n (pc := 60) X dX0_loan_60 2 rfl ?_
        refine v_iconst (pc := 61) (v := 1) X dX0_loan_61 rfl ?_
        refine v_icmp_ne (pc := 62) (tgt := 77) X dX0_loan_62 (by decide) (fun c62 => ?_) (fun c62 => ?_)
        · refine v_iload_n (pc := 77) X dX0_loan_77 2 rfl ?_
          refine v_iconst (pc := 78) (v := 2) X dX0_loan_78 rfl ?_
          refine v_icmp_ne (pc := 79) (tgt := 94) X dX0_loan_79 (by decide) (fun c79 => ?_) (fun c79 => ?_)
          · refine v_aload_n (pc := 94) X dX0_loan_94 0 rfl ?_
            refine v_get (pc := 95) (kind := 10) (v := .ref (v_E g 7)) X wC_n0 wC_l0 wC_c0 in_X0 (Nat.le_of_ble_eq_true rfl : 4 < 16) q603 rfl rfl dX0_loan_95 ?_
            refine v_getN (pc := 98) (kind := 45) (v := .ref (v_E g 42)) X wC_n7 wC_l7 wC_c2 in_X3 (Nat.le_of_ble_eq_true rfl : 7 < 23) q490 rfl rfl dX0_loan_98 ?_
            refine v_iload_n (pc := 101) X dX0_loan_101 1 rfl ?_
            refine v_iald (pc := 102) X wC_n42 wC_l42 dX0_loan_102 ?_
            refine v_aload_n (pc := 103) X dX0_loan_103 0 rfl ?_
            refine v_get (pc := 104) (kind := 10) (v := .ref (v_E g 7)) X wC_n0 wC_l0 wC_c0 in_X0 (Nat.le_of_ble_eq_true rfl : 4 < 16) q603 rfl rfl dX0_loan_104 ?_
            refine v_getN (pc := 107) (kind := 46) (v := .ref (v_E g 43)) X wC_n7 wC_l7 wC_c2 in_X3 (Nat.le_of_ble_eq_true rfl : 8 < 23) q492 rfl rfl dX0_loan_107 ?_
            refine v_iload_n (pc := 110) X dX0_loan_110 1 rfl ?_
            refine v_iald (pc := 111) X wC_n43 wC_l43 dX0_loan_111 ?_
            refine v_isub (pc := 112) X dX0_loan_112 ?_
            exact v_iret (pc := 113) X dX0_loan_113 rfl
          · refine v_aload_n (pc := 82) X dX0_loan_82 0 rfl ?_
            refine v_get (pc := 83) (kind := 10) (v := .ref (v_E g 7)) X wC_n0 wC_l0 wC_c0 in_X0 (Nat.le_of_ble_eq_true rfl : 4 < 16) q603 rfl rfl dX0_loan_83 ?_
            refine v_getN (pc := 86) (kind := 46) (v := .ref (v_E g 43)) X wC_n7 wC_l7 wC_c2 in_X3 (Nat.le_of_ble_eq_true rfl : 8 < 23) q492 rfl rfl dX0_loan_86 ?_
            refine v_iload_n (pc := 89) X dX0_loan_89 1 rfl ?_
            refine v_iald (pc := 90) X wC_n43 wC_l43 dX0_loan_90 ?_
            refine v_goto (pc := 91) (tgt := 113) X dX0_loan_91 (by decide) ?_
            exact v_iret (pc := 113) X dX0_loan_113 rfl
        · refine v_aload_n (pc := 65) X dX0_loan_65 0 rfl ?_
          refine v_get (pc := 66) (kind := 10) (v := .ref (v_E g 7)) X wC_n0 wC_l0 wC_c0 in_X0 (Nat.le_of_ble_eq_true rfl : 4 < 16) q603 rfl rfl dX0_loan_66 ?_
          refine v_getN (pc := 69) (kind := 45) (v := .ref (v_E g 42)) X wC_n7 wC_l7 wC_c2 in_X3 (Nat.le_of_ble_eq_true rfl : 7 < 23) q490 rfl rfl dX0_loan_69 ?_
          refine v_iload_n (pc := 72) X dX0_loan_72 1 rfl ?_
          refine v_iald (pc := 73) X wC_n42 wC_l42 dX0_loan_73 ?_
          refine v_goto (pc := 74) (tgt := 113) X dX0_loan_74 (by decide) ?_
          exact v_iret (pc := 113) X dX0_loan_113 rfl
      · refine v_aload_n (pc := 48) X dX0_loan_48 0 rfl ?_
        refine v_get (pc := 49) (kind := 10) (v := .ref (v_E g 7)) X wC_n0 wC_l0 wC_c0 in_X0 (Nat.le_of_ble_eq_true rfl : 4 < 16) q603 rfl rfl dX0_loan_49 ?_
        refine v_getN (pc := 52) (kind := 44) (v := .ref (v_E g 41)) X wC_n7 wC_l7 wC_c2 in_X3 (Nat.le_of_ble_eq_true rfl : 6 < 23) q488 rfl rfl dX0_loan_52 ?_
        refine v_iload_n (pc := 55) X dX0_loan_55 1 rfl ?_
        refine v_iald (pc := 56) X wC_n41 wC_l41 dX0_loan_56 ?_
        refine v_goto (pc := 57) (tgt := 113) X dX0_loan_57 (by decide) ?_
        exact v_iret (pc := 113) X dX0_loan_113 rfl
    · refine v_bipush (pc := 36) (v := -2) X dX0_loan_36 rfl ?_
      exact v_iret (pc := 38) X dX0_loan_38 rfl
/-! FloodLent.crop(II)I -/
abbrev rm_F_crop : Room := { frames := 8, cells := 0, slots := 0, locals := 173 }
theorem hy_F_crop : v_yV yX0_crop cX0_crop 3 (some .int) 2 := ⟨q1166, q1167, q133, q1168, by decide +kernel⟩
def t_F_crop (fu : Nat) (p1 : Int32) (p2 : Int32) (s : v_S) : Option (Int32 × v_S) :=
  v_b1 (s.2.2.1 0 1) fun (a_1 : Nat) => v_b1 (v_dR s a_1 4 1) fun (e_2 : Option Nat) => v_b1 e_2 fun (a_3 : Nat) => if v_isc s (some a_3) 5 = true then v_b1 (t_L_size fu a_3 s) fun (z_4 : Int32) => v_b1 (t_F_in fu (Int32.toInt64 p1) (0 : Int64) (Int32.toInt64 (z_4 - (1 : Int32))) s) fun (z_5 : Int32) => (if z_5 = 0 then (some ((-2 : Int32), s)) else (v_b1 (t_F_in fu (Int32.toInt64 p2) (0 : Int64) (2 : Int64) s) fun (z_6 : Int32) => if z_6 = 0 then (some ((-2 : Int32), s)) else (v_b1 (t_F_told fu s) fun (s_7 : v_S) => if p2 = 0 then (v_g p1 8 <| some (s_7.1 44 (Int32.toNatClampNeg p1), s_7)) else (if p2 = (1 : Int32) then (v_g p1 8 <| some (s_7.1 45 (Int32.toNatClampNeg p1), s_7)) else (v_g p1 8 <| some (s_7.1 46 (Int32.toNatClampNeg p1), s_7)))))) else none
theorem m_F_crop (l : Launch) (g : v_G) (fu : Nat) (p1 : Int32) (p2 : Int32) (s : v_S) : v_M l yX0_crop cX0_crop 3 (some .int) rm_F_crop wC g [.ref (v_E g 0), .int p1, .int p2] s (fun z : Int32 × v_S => (some (.int z.1), z.2)) (t_F_crop fu p1 p2 s) := by
  refine v_met (by decide +kernel) (Nat.le_of_ble_eq_true rfl) (fun Γ X => ?_)
  refine v_lv (lv' := [(0, .ref (v_E g 0)), (1, .int p1), (2, .int p2)]) rfl ?_
  unfold t_F_crop
  refine v_iload_n (pc := 0) X dX0_crop_0 1 rfl ?_
  refine v_i2l (pc := 1) X dX0_crop_1 ?_
  refine v_lconst (pc := 2) (v := 0) X dX0_crop_2 rfl ?_
  refine v_aload_n (pc := 3) X dX0_crop_3 0 rfl ?_
  refine v_get (pc := 4) (kind := 2) (v := va_rf (s.2.2.1 0 1)) X wC_n0 wC_l0 wC_c0 in_X0 (Nat.le_of_ble_eq_true rfl : 1 < 16) q600 rfl rfl dX0_crop_4 ?_
  refine v_unq0 (pc := 7) (fun a_1 _ => ?_)
  refine v_dgetRN (pc := 7) X wC_c4 in_X2 (Nat.le_of_ble_eq_true rfl : 1 < 9) q425 dX0_crop_7 (fun e_2 => ?_)
  refine v_unq0 (pc := 10) (fun a_3 _ => ?_)
  refine v_cFi (pc := 10) X (m_L_size l g fu a_3  _) wC_c5 q1076 hF_size rfl rfl rfl rfl dX0_crop_10 (fun z_4 _ => ?_)
  refine v_iconst (pc := 15) (v := 1) X dX0_crop_15 rfl ?_
  refine v_isub (pc := 16) X dX0_crop_16 ?_
  refine v_i2l (pc := 17) X dX0_crop_17 ?_
  refine v_cSi (pc := 18) X (m_F_in l g fu (Int32.toInt64 p1) (0 : Int64) (Int32.toInt64 (z_4 - (1 : Int32))) _) q174 hy_F_in rfl rfl rfl rfl dX0_crop_18 (fun z_5 _ => ?_)
  refine v_if_eq (pc := 21) (tgt := 36) X dX0_crop_21 (by decide) (fun c21 => ?_) (fun c21 => ?_)
  · refine v_bipush (pc := 36) (v := -2) X dX0_crop_36 rfl ?_
    exact v_iret (pc := 38) X dX0_crop_38 rfl
  · refine v_iload_n (pc := 24) X dX0_crop_24 2 rfl ?_
    refine v_i2l (pc := 25) X dX0_crop_25 ?_
    refine v_lconst (pc := 26) (v := 0) X dX0_crop_26 rfl ?_
    refine v_ldc2 (pc := 27) X q1169 dX0_crop_27 ?_
    refine v_cSi (pc := 30) X (m_F_in l g fu (Int32.toInt64 p2) (0 : Int64) (2 : Int64) _) q174 hy_F_in rfl rfl rfl rfl dX0_crop_30 (fun z_6 _ => ?_)
    refine v_if_ne (pc := 33) (tgt := 39) X dX0_crop_33 (by decide) (fun c33 => ?_) (fun c33 => ?_)
    · refine v_aload_n (pc := 39) X dX0_crop_39 0 rfl ?_
      refine v_cGr (pc := 40) X (m_F_told l g fu _) (v_rc_n X wC_o0) (Or.inl q1097) hy_F_told rfl rfl rfl rfl dX0_crop_40 (fun s_7 _ => ?_)
      refine v_pop (pc := 43) X dX0_crop_43 rfl ?_
      refine v_iload_n (pc := 44) X dX0_crop_44 2 rfl ?_
      refine v_if_ne (pc := 45) (tgt := 60) X dX0_crop_45 (by decide) (fun c45 => ?_) (fun c45 => ?_)
      · refine v_iload_n (pc := 60) X dX0_crop_60 2 rfl ?_
        refine v_iconst (pc := 61) (v := 1) X dX0_crop_61 rfl ?_
        refine v_icmp_ne (pc := 62) (tgt := 77) X dX0_crop_62 (by decide) (fun c62 => ?_) (fun c62 => ?_)
        · refine v_aload_n (pc := 77) X dX0_crop_77 0 rfl ?_
          refine v_get (pc := 78) (kind := 10) (v := .ref (v_E g 7)) X wC_n0 wC_l0 wC_c0 in_X0 (Nat.le_of_ble_eq_true rfl : 4 < 16) q603 rfl rfl dX0_crop_78 ?_
          refine v_getN (pc := 81) (kind := 49) (v := .ref (v_E g 46)) X wC_n7 wC_l7 wC_c2 in_X3 (Nat.le_of_ble_eq_true rfl : 11 < 23) q498 rfl rfl dX0_crop_81 ?_
          refine v_iload_n (pc := 84) X dX0_crop_84 1 rfl ?_
          refine v_iald (pc := 85) X wC_n46 wC_l46 dX0_crop_85 ?_
          exact v_iret (pc := 86) X dX0_crop_86 rfl
        · refine v_aload_n (pc := 65) X dX0_crop_65 0 rfl ?_
          refine v_get (pc := 66) (kind := 10) (v := .ref (v_E g 7)) X wC_n0 wC_l0 wC_c0 in_X0 (Nat.le_of_ble_eq_true rfl : 4 < 16) q603 rfl rfl dX0_crop_66 ?_
          refine v_getN (pc := 69) (kind := 48) (v := .ref (v_E g 45)) X wC_n7 wC_l7 wC_c2 in_X3 (Nat.le_of_ble_eq_true rfl : 10 < 23) q496 rfl rfl dX0_crop_69 ?_
          refine v_iload_n (pc := 72) X dX0_crop_72 1 rfl ?_
          refine v_iald (pc := 73) X wC_n45 wC_l45 dX0_crop_73 ?_
          refine v_goto (pc := 74) (tgt := 86) X dX0_crop_74 (by decide) ?_
          exact v_iret (pc := 86) X dX0_crop_86 rfl
      · refine v_aload_n (pc := 48) X dX0_crop_48 0 rfl ?_
        refine v_get (pc := 49) (kind := 10) (v := .ref (v_E g 7)) X wC_n0 wC_l0 wC_c0 in_X0 (Nat.le_of_ble_eq_true rfl : 4 < 16) q603 rfl rfl dX0_crop_49 ?_
        refine v_getN (pc := 52) (kind := 47) (v := .ref (v_E g 44)) X wC_n7 wC_l7 wC_c2 in_X3 (Nat.le_of_ble_eq_true rfl : 9 < 23) q494 rfl rfl dX0_crop_52 ?_
        refine v_iload_n (pc := 55) X dX0_crop_55 1 rfl ?_
        refine v_iald (pc := 56) X wC_n44 wC_l44 dX0_crop_56 ?_
        refine v_goto (pc := 57) (tgt := 86) X dX0_crop_57 (by decide) ?_
        exact v_iret (pc := 86) X dX0_crop_86 rfl
    · refine v_bipush (pc := 36) (v := -2) X dX0_crop_36 rfl ?_
      exact v_iret (pc := 38) X dX0_crop_38 rfl
/-! FloodLent.together([I)I -/
abbrev rm_F_together : Room := { frames := 1, cells := 0, slots := 0, locals := 21 }
theorem hy_F_together : v_yS yX0_together cX0_together 6 (some .int) 1 := ⟨q1188, q133, q1189, by decide +kernel⟩
def t_F_together_10 (fu : Nat) (p0 : Nat) (s : v_S) (r10 : Int32 × Nat × Int32 × Int32 → Option Int32) (x1 : Int32) (x2 : Nat) (x3 : Int32) (x4 : Int32) : Option Int32 :=
if x3 ≤ x4 then (some x1) else (v_b1 (v_il wC x2) fun (n_2 : Nat) => v_g x4 n_2 <| v_n (s.1 x2 (Int32.toNatClampNeg x4)) fun (x5_3 : Int32) => v_n (x1 + x5_3) fun (x1_4 : Int32) => r10 (x1_4, x2, x3, x4 + (1 : Int32)))
def t_F_together_10B (fu : Nat) (p0 : Nat) (s : v_S) (r10 : Int32 × Nat × Int32 × Int32 → Option Int32) (a : Int32 × Nat × Int32 × Int32) : Option Int32 := t_F_together_10 fu p0 s r10 a.1 a.2.1 a.2.2.1 a.2.2.2
def t_F_together (fu : Nat) (p0 : Nat) (s : v_S) : Option Int32 :=
  v_b1 ((v_il wC p0).map Int32.ofNat) fun (z_1 : Int32) => v_loop (t_F_together_10B fu p0 s) fu ((0 : Int32), p0, z_1, (0 : Int32))
theorem w_F_together_10 {Γ : v_Ctx} {l : Launch} {g : v_G} (fu : Nat) (p0 : Nat) (s : v_S) (X : v_C Γ l rm_F_together cX0_together 6 RX0 (some .int) wC g) (r10 : Int32 × Nat × Int32 × Int32 → Option Int32) (h10 : ∀ (x1 : Int32) (x2 : Nat) (x3 : Int32) (x4 : Int32), v_V Γ 6 wC g (fun z : Int32 => (some (.int z), s)) 10 [(1, .int x1), (2, .ref (v_E g x2)), (3, .int x3), (4, .int x4)] [] s (r10 (x1, x2, x3, x4))) (x1 : Int32) (x2 : Nat) (x3 : Int32) (x4 : Int32) : v_V Γ 6 wC g (fun z : Int32 => (some (.int z), s)) 10 [(1, .int x1), (2, .ref (v_E g x2)), (3, .int x3), (4, .int x4)] [] s (t_F_together_10 fu p0 s r10 x1 x2 x3 x4) := by
  unfold t_F_together_10
  refine v_iload (pc := 10) X dX0_together_10 3 rfl ?_
  refine v_iload_n (pc := 12) X dX0_together_12 2 rfl ?_
  refine v_icmp_ge (pc := 13) (tgt := 33) X dX0_together_13 (by decide) (fun c13 => ?_) (fun c13 => ?_)
  · refine v_iload_n (pc := 33) X dX0_together_33 0 rfl ?_
    exact v_iret (pc := 34) X dX0_together_34 rfl
  · refine v_aload_n (pc := 16) X dX0_together_16 1 rfl ?_
    refine v_iload (pc := 17) X dX0_together_17 3 rfl ?_
    refine v_ialdS (pc := 19) X dX0_together_19 (fun n_2 => ?_)
    refine v_istoreN (pc := 20) (lvf := fun x5_3 => [(5, .int x5_3), (1, .int x1), (2, .ref (v_E g x2)), (3, .int x3), (4, .int x4)]) X dX0_together_20 (Nat.le_of_ble_eq_true rfl) (fun _ => rfl) (fun x5_3 => ?_)
    refine v_iload_n (pc := 22) X dX0_together_22 1 rfl ?_
    refine v_iload (pc := 23) X dX0_together_23 0 rfl ?_
    refine v_iadd (pc := 25) X dX0_together_25 ?_
    refine v_istore_nN (pc := 26) (lvf := fun x1_4 => [(1, .int x1_4), (5, .int x5_3), (2, .ref (v_E g x2)), (3, .int x3), (4, .int x4)]) X dX0_together_26 rfl (Nat.le_of_ble_eq_true rfl) (fun _ => rfl) (fun x1_4 => ?_)
    refine v_iinc (pc := 27) (v := x4 + (1 : Int32)) (lv' := [(4, .int (x4 + (1 : Int32))), (1, .int x1_4), (5, .int x5_3), (2, .ref (v_E g x2)), (3, .int x3)]) (k := 4) X dX0_together_27 rfl rfl (Nat.le_of_ble_eq_true rfl) rfl ?_
    refine v_goto (pc := 30) (tgt := 10) X dX0_together_30 (by decide) ?_
    refine v_sub [1, 3, 4, 0] rfl ?_
    exact h10 x1_4 x2 x3 (x4 + (1 : Int32))
theorem w_F_together_10L {Γ : v_Ctx} {l : Launch} {g : v_G} (fu : Nat) (p0 : Nat) (s : v_S) (X : v_C Γ l rm_F_together cX0_together 6 RX0 (some .int) wC g)  : ∀ (n : Nat), ∀ (x1 : Int32) (x2 : Nat) (x3 : Int32) (x4 : Int32), v_V Γ 6 wC g (fun z : Int32 => (some (.int z), s)) 10 [(1, .int x1), (2, .ref (v_E g x2)), (3, .int x3), (4, .int x4)] [] s (v_loop (t_F_together_10B fu p0 s) n (x1, x2, x3, x4)) := by
  intro n
  induction n with
  | zero => exact fun _ _ _ _ => v_none
  | succ n ih => exact fun x1 x2 x3 x4 => w_F_together_10 fu p0 s X  _ ih x1 x2 x3 x4
theorem m_F_together (l : Launch) (g : v_G) (fu : Nat) (p0 : Nat) (s : v_S) : v_M l yX0_together cX0_together 6 (some .int) rm_F_together wC g [.ref (v_E g p0)] s (fun z : Int32 => (some (.int z), s)) (t_F_together fu p0 s) := by
  refine v_met (by decide +kernel) (Nat.le_of_ble_eq_true rfl) (fun Γ X => ?_)
  refine v_lv (lv' := [(0, .ref (v_E g p0))]) rfl ?_
  unfold t_F_together
  refine v_iconst (pc := 0) (v := 0) X dX0_together_0 rfl ?_
  refine v_istore_n (pc := 1) (lv' := [(1, .int (0 : Int32)), (0, .ref (v_E g p0))]) X dX0_together_1 rfl (Nat.le_of_ble_eq_true rfl) rfl ?_
  refine v_aload_n (pc := 2) X dX0_together_2 1 rfl ?_
  refine v_astore_n (pc := 3) (lv' := [(2, .ref (v_E g p0)), (1, .int (0 : Int32)), (0, .ref (v_E g p0))]) X dX0_together_3 rfl (Nat.le_of_ble_eq_true rfl) rfl ?_
  refine v_aload_n (pc := 4) X dX0_together_4 0 rfl ?_
  refine v_alenS (pc := 5) X dX0_together_5 (fun z_1 => ?_)
  refine v_istore_n (pc := 6) (lv' := [(3, .int z_1), (2, .ref (v_E g p0)), (1, .int (0 : Int32)), (0, .ref (v_E g p0))]) X dX0_together_6 rfl (Nat.le_of_ble_eq_true rfl) rfl ?_
  refine v_iconst (pc := 7) (v := 0) X dX0_together_7 rfl ?_
  refine v_istore (pc := 8) (lv' := [(4, .int (0 : Int32)), (3, .int z_1), (2, .ref (v_E g p0)), (1, .int (0 : Int32)), (0, .ref (v_E g p0))]) X dX0_together_8 (Nat.le_of_ble_eq_true rfl) rfl ?_
  refine v_sub [3, 2, 1, 0] rfl ?_
  exact w_F_together_10L fu p0 s X  fu (0 : Int32) p0 z_1 (0 : Int32)
/-! FloodLent.waterAtEnd()I -/
abbrev rm_F_waterAtEnd : Room := { frames := 3, cells := 0, slots := 0, locals := 61 }
theorem hy_F_waterAtEnd : v_yV yX0_waterAtEnd cX0_waterAtEnd 3 (some .int) 0 := ⟨q1192, qs37, q133, q1193, by decide +kernel⟩
def t_F_waterAtEnd_4 (fu : Nat) (s : v_S) (r4 : Int32 × Int32 → Option Int32) (x1 : Int32) (x2 : Int32) : Option Int32 :=
v_b1 (t_F_villages fu s) fun (z_1 : Int32) => if z_1 ≤ x2 then (some x1) else (v_g x2 6 <| v_n (x1 + (s.1 36 (Int32.toNatClampNeg x2))) fun (x1_2 : Int32) => r4 (x1_2, x2 + (1 : Int32)))
def t_F_waterAtEnd_4B (fu : Nat) (s : v_S) (r4 : Int32 × Int32 → Option Int32) (a : Int32 × Int32) : Option Int32 := t_F_waterAtEnd_4 fu s r4 a.1 a.2
def t_F_waterAtEnd (fu : Nat)  (s : v_S) : Option Int32 :=
  v_loop (t_F_waterAtEnd_4B fu s) fu ((0 : Int32), (0 : Int32))
theorem w_F_waterAtEnd_4 {Γ : v_Ctx} {l : Launch} {g : v_G} (fu : Nat) (s : v_S) (X : v_C Γ l rm_F_waterAtEnd cX0_waterAtEnd 3 RX0 (some .int) wC g) (r4 : Int32 × Int32 → Option Int32) (h4 : ∀ (x1 : Int32) (x2 : Int32), v_V Γ 3 wC g (fun z : Int32 => (some (.int z), s)) 4 [(0, .ref (v_E g 0)), (1, .int x1), (2, .int x2)] [] s (r4 (x1, x2))) (x1 : Int32) (x2 : Int32) : v_V Γ 3 wC g (fun z : Int32 => (some (.int z), s)) 4 [(0, .ref (v_E g 0)), (1, .int x1), (2, .int x2)] [] s (t_F_waterAtEnd_4 fu s r4 x1 x2) := by
  unfold t_F_waterAtEnd_4
  refine v_iload_n (pc := 4) X dX0_waterAtEnd_4 2 rfl ?_
  refine v_aload_n (pc := 5) X dX0_waterAtEnd_5 0 rfl ?_
  refine v_cGi (pc := 6) X (m_F_villages l g fu _) (v_rc_n X wC_o0) (Or.inl q1071) hy_F_villages rfl rfl rfl rfl dX0_waterAtEnd_6 (fun z_1 _ => ?_)
  refine v_icmp_ge (pc := 9) (tgt := 30) X dX0_waterAtEnd_9 (by decide) (fun c9 => ?_) (fun c9 => ?_)
  · refine v_iload_n (pc := 30) X dX0_waterAtEnd_30 1 rfl ?_
    exact v_iret (pc := 31) X dX0_waterAtEnd_31 rfl
  · refine v_iload_n (pc := 12) X dX0_waterAtEnd_12 1 rfl ?_
    refine v_aload_n (pc := 13) X dX0_waterAtEnd_13 0 rfl ?_
    refine v_get (pc := 14) (kind := 10) (v := .ref (v_E g 7)) X wC_n0 wC_l0 wC_c0 in_X0 (Nat.le_of_ble_eq_true rfl : 4 < 16) q603 rfl rfl dX0_waterAtEnd_14 ?_
    refine v_getN (pc := 17) (kind := 39) (v := .ref (v_E g 36)) X wC_n7 wC_l7 wC_c2 in_X3 (Nat.le_of_ble_eq_true rfl : 1 < 23) q479 rfl rfl dX0_waterAtEnd_17 ?_
    refine v_iload_n (pc := 20) X dX0_waterAtEnd_20 2 rfl ?_
    refine v_iald (pc := 21) X wC_n36 wC_l36 dX0_waterAtEnd_21 ?_
    refine v_iadd (pc := 22) X dX0_waterAtEnd_22 ?_
    refine v_istore_nN (pc := 23) (lvf := fun x1_2 => [(1, .int x1_2), (0, .ref (v_E g 0)), (2, .int x2)]) X dX0_waterAtEnd_23 rfl (Nat.le_of_ble_eq_true rfl) (fun _ => rfl) (fun x1_2 => ?_)
    refine v_iinc (pc := 24) (v := x2 + (1 : Int32)) (lv' := [(2, .int (x2 + (1 : Int32))), (1, .int x1_2), (0, .ref (v_E g 0))]) (k := 2) X dX0_waterAtEnd_24 rfl rfl (Nat.le_of_ble_eq_true rfl) rfl ?_
    refine v_goto (pc := 27) (tgt := 4) X dX0_waterAtEnd_27 (by decide) ?_
    refine v_sub [2, 1, 0] rfl ?_
    exact h4 x1_2 (x2 + (1 : Int32))
theorem w_F_waterAtEnd_4L {Γ : v_Ctx} {l : Launch} {g : v_G} (fu : Nat) (s : v_S) (X : v_C Γ l rm_F_waterAtEnd cX0_waterAtEnd 3 RX0 (some .int) wC g)  : ∀ (n : Nat), ∀ (x1 : Int32) (x2 : Int32), v_V Γ 3 wC g (fun z : Int32 => (some (.int z), s)) 4 [(0, .ref (v_E g 0)), (1, .int x1), (2, .int x2)] [] s (v_loop (t_F_waterAtEnd_4B fu s) n (x1, x2)) := by
  intro n
  induction n with
  | zero => exact fun _ _ => v_none
  | succ n ih => exact fun x1 x2 => w_F_waterAtEnd_4 fu s X  _ ih x1 x2
theorem m_F_waterAtEnd (l : Launch) (g : v_G) (fu : Nat)  (s : v_S) : v_M l yX0_waterAtEnd cX0_waterAtEnd 3 (some .int) rm_F_waterAtEnd wC g [.ref (v_E g 0)] s (fun z : Int32 => (some (.int z), s)) (t_F_waterAtEnd fu  s) := by
  refine v_met (by decide +kernel) (Nat.le_of_ble_eq_true rfl) (fun Γ X => ?_)
  refine v_lv (lv' := [(0, .ref (v_E g 0))]) rfl ?_
  unfold t_F_waterAtEnd
  refine v_iconst (pc := 0) (v := 0) X dX0_waterAtEnd_0 rfl ?_
  refine v_istore_n (pc := 1) (lv' := [(1, .int (0 : Int32)), (0, .ref (v_E g 0))]) X dX0_waterAtEnd_1 rfl (Nat.le_of_ble_eq_true rfl) rfl ?_
  refine v_iconst (pc := 2) (v := 0) X dX0_waterAtEnd_2 rfl ?_
  refine v_istore_n (pc := 3) (lv' := [(2, .int (0 : Int32)), (1, .int (0 : Int32)), (0, .ref (v_E g 0))]) X dX0_waterAtEnd_3 rfl (Nat.le_of_ble_eq_true rfl) rfl ?_
  refine v_sub [2, 1, 0] rfl ?_
  exact w_F_waterAtEnd_4L fu s X  fu (0 : Int32) (0 : Int32)
/-! FloodLent.sum(I)I -/
abbrev rm_F_sum : Room := { frames := 8, cells := 0, slots := 0, locals := 173 }
theorem hy_F_sum : v_yV yX0_sum cX0_sum 2 (some .int) 1 := ⟨q1171, q1172, q133, q1173, by decide +kernel⟩
def t_F_sum (fu : Nat) (p1 : Int32) (s : v_S) : Option (Int32 × v_S) :=
  v_b1 (s.2.2.1 0 1) fun (a_1 : Nat) => if v_isc s (some a_1) 4 = true then v_b1 (t_Q_is fu a_1 s) fun (z_3 : Int32) => (if z_3 = 0 then (some ((-2 : Int32), s)) else (v_b1 (t_F_in fu (Int32.toInt64 p1) (0 : Int64) (8 : Int64) s) fun (z_4 : Int32) => if z_4 = 0 then (some ((-2 : Int32), s)) else (v_b1 (t_F_told fu s) fun (s_5 : v_S) => v_tw (p1) 0 7 (v_b1 (t_F_waterAtEnd fu s_5) fun (z_6 : Int32) => some (z_6, s_5)) (fun (j : Nat) => match j with | 0 => (v_b1 (t_Y_broughtInAll fu s_5) fun (z_7 : Int32) => some (z_7, s_5)) | 1 => (v_b1 (t_Y_shortOfFloods fu s_5) fun (z_8 : Int32) => some (z_8, s_5)) | 2 => (v_b1 (t_Y_shortOfLoans fu s_5) fun (z_9 : Int32) => some (z_9, s_5)) | 3 => (some (s_5.1 7 16, s_5)) | 4 => (some (s_5.1 7 17, s_5)) | 5 => (some (s_5.1 7 18, s_5)) | 6 => (v_b1 (t_F_together fu (38) s_5) fun (z_10 : Int32) => some (z_10, s_5)) | 7 => (v_b1 (t_F_together fu (40) s_5) fun (z_11 : Int32) => some (z_11, s_5)) | _ => none)))) else none
theorem m_F_sum (l : Launch) (g : v_G) (fu : Nat) (p1 : Int32) (s : v_S) : v_M l yX0_sum cX0_sum 2 (some .int) rm_F_sum wC g [.ref (v_E g 0), .int p1] s (fun z : Int32 × v_S => (some (.int z.1), z.2)) (t_F_sum fu p1 s) := by
  refine v_met (by decide +kernel) (Nat.le_of_ble_eq_true rfl) (fun Γ X => ?_)
  refine v_lv (lv' := [(0, .ref (v_E g 0)), (1, .int p1)]) rfl ?_
  unfold t_F_sum
  refine v_aload_n (pc := 0) X dX0_sum_0 0 rfl ?_
  refine v_get (pc := 1) (kind := 2) (v := va_rf (s.2.2.1 0 1)) X wC_n0 wC_l0 wC_c0 in_X0 (Nat.le_of_ble_eq_true rfl : 1 < 16) q600 rfl rfl dX0_sum_1 ?_
  refine v_unq0 (pc := 4) (fun a_1 _ => ?_)
  refine v_nzT (pc := 4) (fun h_2 => ?_)
  refine v_cGi (pc := 4) X (m_Q_is l g fu a_1 _) (v_rc_d X wC_c4 h_2) (Or.inl q1052) hy_Q_is rfl rfl rfl rfl dX0_sum_4 (fun z_3 _ => ?_)
  refine v_if_eq (pc := 7) (tgt := 22) X dX0_sum_7 (by decide) (fun c7 => ?_) (fun c7 => ?_)
  · refine v_bipush (pc := 22) (v := -2) X dX0_sum_22 rfl ?_
    exact v_iret (pc := 24) X dX0_sum_24 rfl
  · refine v_iload_n (pc := 10) X dX0_sum_10 1 rfl ?_
    refine v_i2l (pc := 11) X dX0_sum_11 ?_
    refine v_lconst (pc := 12) (v := 0) X dX0_sum_12 rfl ?_
    refine v_ldc2 (pc := 13) X q1174 dX0_sum_13 ?_
    refine v_cSi (pc := 16) X (m_F_in l g fu (Int32.toInt64 p1) (0 : Int64) (8 : Int64) _) q174 hy_F_in rfl rfl rfl rfl dX0_sum_16 (fun z_4 _ => ?_)
    refine v_if_ne (pc := 19) (tgt := 25) X dX0_sum_19 (by decide) (fun c19 => ?_) (fun c19 => ?_)
    · refine v_aload_n (pc := 25) X dX0_sum_25 0 rfl ?_
      refine v_cGr (pc := 26) X (m_F_told l g fu _) (v_rc_n X wC_o0) (Or.inl q1097) hy_F_told rfl rfl rfl rfl dX0_sum_26 (fun s_5 _ => ?_)
      refine v_pop (pc := 29) X dX0_sum_29 rfl ?_
      refine v_iload_n (pc := 30) X dX0_sum_30 1 rfl ?_
      refine v_tsw (pc := 31) (tgt := 146) [76, 84, 92, 100, 108, 116, 124, 135] X dX0_sum_31 (by decide) (by decide) (by decide) ?_ (fun j t hj => ?_)
      · refine v_aload_n (pc := 146) X dX0_sum_146 0 rfl ?_
        refine v_cGi (pc := 147) X (m_F_waterAtEnd l g fu _) (v_rc_n X wC_o0) (Or.inl q1190) hy_F_waterAtEnd rfl rfl rfl rfl dX0_sum_147 (fun z_6 _ => ?_)
        exact v_iret (pc := 150) X dX0_sum_150 rfl
      · match j, hj with
        | 0, hj =>
          cases hj
          refine v_aload_n (pc := 76) X dX0_sum_76 0 rfl ?_
          refine v_get (pc := 77) (kind := 10) (v := .ref (v_E g 7)) X wC_n0 wC_l0 wC_c0 in_X0 (Nat.le_of_ble_eq_true rfl : 4 < 16) q603 rfl rfl dX0_sum_77 ?_
          refine v_cGi (pc := 80) X (m_Y_broughtInAll l g fu _) (v_rc_n X wC_o7) (Or.inl q1175) hy_Y_broughtInAll rfl rfl rfl rfl dX0_sum_80 (fun z_7 _ => ?_)
          exact v_iret (pc := 83) X dX0_sum_83 rfl
        | 1, hj =>
          cases hj
          refine v_aload_n (pc := 84) X dX0_sum_84 0 rfl ?_
          refine v_get (pc := 85) (kind := 10) (v := .ref (v_E g 7)) X wC_n0 wC_l0 wC_c0 in_X0 (Nat.le_of_ble_eq_true rfl : 4 < 16) q603 rfl rfl dX0_sum_85 ?_
          refine v_cGi (pc := 88) X (m_Y_shortOfFloods l g fu _) (v_rc_n X wC_o7) (Or.inl q1179) hy_Y_shortOfFloods rfl rfl rfl rfl dX0_sum_88 (fun z_8 _ => ?_)
          exact v_iret (pc := 91) X dX0_sum_91 rfl
        | 2, hj =>
          cases hj
          refine v_aload_n (pc := 92) X dX0_sum_92 0 rfl ?_
          refine v_get (pc := 93) (kind := 10) (v := .ref (v_E g 7)) X wC_n0 wC_l0 wC_c0 in_X0 (Nat.le_of_ble_eq_true rfl : 4 < 16) q603 rfl rfl dX0_sum_93 ?_
          refine v_cGi (pc := 96) X (m_Y_shortOfLoans l g fu _) (v_rc_n X wC_o7) (Or.inl q1183) hy_Y_shortOfLoans rfl rfl rfl rfl dX0_sum_96 (fun z_9 _ => ?_)
          exact v_iret (pc := 99) X dX0_sum_99 rfl
        | 3, hj =>
          cases hj
          refine v_aload_n (pc := 100) X dX0_sum_100 0 rfl ?_
          refine v_get (pc := 101) (kind := 10) (v := .ref (v_E g 7)) X wC_n0 wC_l0 wC_c0 in_X0 (Nat.le_of_ble_eq_true rfl : 4 < 16) q603 rfl rfl dX0_sum_101 ?_
          refine v_getN (pc := 104) (kind := 0) (v := .int (s_5.1 7 16)) X wC_n7 wC_l7 wC_c2 in_X3 (Nat.le_of_ble_eq_true rfl : 16 < 23) q505 rfl rfl dX0_sum_104 ?_
          exact v_iret (pc := 107) X dX0_sum_107 rfl
        | 4, hj =>
          cases hj
          refine v_aload_n (pc := 108) X dX0_sum_108 0 rfl ?_
          refine v_get (pc := 109) (kind := 10) (v := .ref (v_E g 7)) X wC_n0 wC_l0 wC_c0 in_X0 (Nat.le_of_ble_eq_true rfl : 4 < 16) q603 rfl rfl dX0_sum_109 ?_
          refine v_getN (pc := 112) (kind := 0) (v := .int (s_5.1 7 17)) X wC_n7 wC_l7 wC_c2 in_X3 (Nat.le_of_ble_eq_true rfl : 17 < 23) q507 rfl rfl dX0_sum_112 ?_
          exact v_iret (pc := 115) X dX0_sum_115 rfl
        | 5, hj =>
          cases hj
          refine v_aload_n (pc := 116) X dX0_sum_116 0 rfl ?_
          refine v_get (pc := 117) (kind := 10) (v := .ref (v_E g 7)) X wC_n0 wC_l0 wC_c0 in_X0 (Nat.le_of_ble_eq_true rfl : 4 < 16) q603 rfl rfl dX0_sum_117 ?_
          refine v_getN (pc := 120) (kind := 0) (v := .int (s_5.1 7 18)) X wC_n7 wC_l7 wC_c2 in_X3 (Nat.le_of_ble_eq_true rfl : 18 < 23) q509 rfl rfl dX0_sum_120 ?_
          exact v_iret (pc := 123) X dX0_sum_123 rfl
        | 6, hj =>
          cases hj
          refine v_aload_n (pc := 124) X dX0_sum_124 0 rfl ?_
          refine v_get (pc := 125) (kind := 10) (v := .ref (v_E g 7)) X wC_n0 wC_l0 wC_c0 in_X0 (Nat.le_of_ble_eq_true rfl : 4 < 16) q603 rfl rfl dX0_sum_125 ?_
          refine v_getN (pc := 128) (kind := 41) (v := .ref (v_E g 38)) X wC_n7 wC_l7 wC_c2 in_X3 (Nat.le_of_ble_eq_true rfl : 3 < 23) q482 rfl rfl dX0_sum_128 ?_
          refine v_cSi (pc := 131) X (m_F_together l g fu (38) _) q1187 hy_F_together rfl rfl rfl rfl dX0_sum_131 (fun z_10 _ => ?_)
          exact v_iret (pc := 134) X dX0_sum_134 rfl
        | 7, hj =>
          cases hj
          refine v_aload_n (pc := 135) X dX0_sum_135 0 rfl ?_
          refine v_get (pc := 136) (kind := 10) (v := .ref (v_E g 7)) X wC_n0 wC_l0 wC_c0 in_X0 (Nat.le_of_ble_eq_true rfl : 4 < 16) q603 rfl rfl dX0_sum_136 ?_
          refine v_getN (pc := 139) (kind := 43) (v := .ref (v_E g 40)) X wC_n7 wC_l7 wC_c2 in_X3 (Nat.le_of_ble_eq_true rfl : 5 < 23) q486 rfl rfl dX0_sum_139 ?_
          refine v_cSi (pc := 142) X (m_F_together l g fu (40) _) q1187 hy_F_together rfl rfl rfl rfl dX0_sum_142 (fun z_11 _ => ?_)
          exact v_iret (pc := 145) X dX0_sum_145 rfl
        | j + 8, hj => simp at hj
    · refine v_bipush (pc := 22) (v := -2) X dX0_sum_22 rfl ?_
      exact v_iret (pc := 24) X dX0_sum_24 rfl
/-! FloodLent.first()I -/
abbrev rm_F_first : Room := { frames := 8, cells := 0, slots := 0, locals := 173 }
theorem hy_F_first : v_yV yX0_first cX0_first 1 (some .int) 0 := ⟨q1195, q1196, q133, q1197, by decide +kernel⟩
def t_F_first (fu : Nat)  (s : v_S) : Option (Int32 × v_S) :=
  v_b1 (s.2.2.1 0 1) fun (a_1 : Nat) => if v_isc s (some a_1) 4 = true then v_b1 (t_Q_is fu a_1 s) fun (z_3 : Int32) => (if z_3 = 0 then (some ((-2 : Int32), s)) else (v_b1 (t_F_told fu s) fun (s_4 : v_S) => some (s_4.1 7 19, s_4))) else none
theorem m_F_first (l : Launch) (g : v_G) (fu : Nat)  (s : v_S) : v_M l yX0_first cX0_first 1 (some .int) rm_F_first wC g [.ref (v_E g 0)] s (fun z : Int32 × v_S => (some (.int z.1), z.2)) (t_F_first fu  s) := by
  refine v_met (by decide +kernel) (Nat.le_of_ble_eq_true rfl) (fun Γ X => ?_)
  refine v_lv (lv' := [(0, .ref (v_E g 0))]) rfl ?_
  unfold t_F_first
  refine v_aload_n (pc := 0) X dX0_first_0 0 rfl ?_
  refine v_get (pc := 1) (kind := 2) (v := va_rf (s.2.2.1 0 1)) X wC_n0 wC_l0 wC_c0 in_X0 (Nat.le_of_ble_eq_true rfl : 1 < 16) q600 rfl rfl dX0_first_1 ?_
  refine v_unq0 (pc := 4) (fun a_1 _ => ?_)
  refine v_nzT (pc := 4) (fun h_2 => ?_)
  refine v_cGi (pc := 4) X (m_Q_is l g fu a_1 _) (v_rc_d X wC_c4 h_2) (Or.inl q1052) hy_Q_is rfl rfl rfl rfl dX0_first_4 (fun z_3 _ => ?_)
  refine v_if_eq (pc := 7) (tgt := 20) X dX0_first_7 (by decide) (fun c7 => ?_) (fun c7 => ?_)
  · refine v_bipush (pc := 20) (v := -2) X dX0_first_20 rfl ?_
    exact v_iret (pc := 22) X dX0_first_22 rfl
  · refine v_aload_n (pc := 10) X dX0_first_10 0 rfl ?_
    refine v_cGr (pc := 11) X (m_F_told l g fu _) (v_rc_n X wC_o0) (Or.inl q1097) hy_F_told rfl rfl rfl rfl dX0_first_11 (fun s_4 _ => ?_)
    refine v_getN (pc := 14) (kind := 0) (v := .int (s_4.1 7 19)) X wC_n7 wC_l7 wC_c2 in_X3 (Nat.le_of_ble_eq_true rfl : 19 < 23) q511 rfl rfl dX0_first_14 ?_
    refine v_goto (pc := 17) (tgt := 22) X dX0_first_17 (by decide) ?_
    exact v_iret (pc := 22) X dX0_first_22 rfl
/-! FloodLent.manyTakers()I -/
abbrev rm_F_manyTakers : Room := { frames := 3, cells := 0, slots := 0, locals := 61 }
theorem hy_F_manyTakers : v_yV yX0_manyTakers cX0_manyTakers 3 (some .int) 0 := ⟨q1208, qs39, q133, q1209, by decide +kernel⟩
def t_F_manyTakers_4 (fu : Nat) (s : v_S) (r4 : Int32 × Int32 → Option Int32) (x1 : Int32) (x2 : Int32) : Option Int32 :=
v_b1 (s.2.2.1 0 1) fun (a_1 : Nat) => v_b1 (v_dR s a_1 4 2) fun (e_2 : Option Nat) => v_b1 e_2 fun (a_3 : Nat) => if v_isc s (some a_3) 5 = true then v_b1 (t_L_size fu a_3 s) fun (z_4 : Int32) => (if z_4 ≤ x2 then (some x1) else (v_b1 (t_F_villages fu s) fun (z_5 : Int32) => v_n (x1 * (z_5 + (1 : Int32))) fun (x1_6 : Int32) => r4 (x1_6, x2 + (1 : Int32)))) else none
def t_F_manyTakers_4B (fu : Nat) (s : v_S) (r4 : Int32 × Int32 → Option Int32) (a : Int32 × Int32) : Option Int32 := t_F_manyTakers_4 fu s r4 a.1 a.2
def t_F_manyTakers (fu : Nat)  (s : v_S) : Option Int32 :=
  v_loop (t_F_manyTakers_4B fu s) fu ((1 : Int32), (0 : Int32))
theorem w_F_manyTakers_4 {Γ : v_Ctx} {l : Launch} {g : v_G} (fu : Nat) (s : v_S) (X : v_C Γ l rm_F_manyTakers cX0_manyTakers 3 RX0 (some .int) wC g) (r4 : Int32 × Int32 → Option Int32) (h4 : ∀ (x1 : Int32) (x2 : Int32), v_V Γ 3 wC g (fun z : Int32 => (some (.int z), s)) 4 [(0, .ref (v_E g 0)), (1, .int x1), (2, .int x2)] [] s (r4 (x1, x2))) (x1 : Int32) (x2 : Int32) : v_V Γ 3 wC g (fun z : Int32 => (some (.int z), s)) 4 [(0, .ref (v_E g 0)), (1, .int x1), (2, .int x2)] [] s (t_F_manyTakers_4 fu s r4 x1 x2) := by
  unfold t_F_manyTakers_4
  refine v_iload_n (pc := 4) X dX0_manyTakers_4 2 rfl ?_
  refine v_aload_n (pc := 5) X dX0_manyTakers_5 0 rfl ?_
  refine v_get (pc := 6) (kind := 2) (v := va_rf (s.2.2.1 0 1)) X wC_n0 wC_l0 wC_c0 in_X0 (Nat.le_of_ble_eq_true rfl : 1 < 16) q600 rfl rfl dX0_manyTakers_6 ?_
  refine v_unq0 (pc := 9) (fun a_1 _ => ?_)
  refine v_dgetRN (pc := 9) X wC_c4 in_X2 (Nat.le_of_ble_eq_true rfl : 2 < 9) q429 dX0_manyTakers_9 (fun e_2 => ?_)
  refine v_unq0 (pc := 12) (fun a_3 _ => ?_)
  refine v_cFi (pc := 12) X (m_L_size l g fu a_3  _) wC_c5 q1076 hF_size rfl rfl rfl rfl dX0_manyTakers_12 (fun z_4 _ => ?_)
  refine v_icmp_ge (pc := 17) (tgt := 35) X dX0_manyTakers_17 (by decide) (fun c17 => ?_) (fun c17 => ?_)
  · refine v_iload_n (pc := 35) X dX0_manyTakers_35 1 rfl ?_
    exact v_iret (pc := 36) X dX0_manyTakers_36 rfl
  · refine v_iload_n (pc := 20) X dX0_manyTakers_20 1 rfl ?_
    refine v_aload_n (pc := 21) X dX0_manyTakers_21 0 rfl ?_
    refine v_cGi (pc := 22) X (m_F_villages l g fu _) (v_rc_n X wC_o0) (Or.inl q1071) hy_F_villages rfl rfl rfl rfl dX0_manyTakers_22 (fun z_5 _ => ?_)
    refine v_iconst (pc := 25) (v := 1) X dX0_manyTakers_25 rfl ?_
    refine v_iadd (pc := 26) X dX0_manyTakers_26 ?_
    refine v_imul (pc := 27) X dX0_manyTakers_27 ?_
    refine v_istore_nN (pc := 28) (lvf := fun x1_6 => [(1, .int x1_6), (0, .ref (v_E g 0)), (2, .int x2)]) X dX0_manyTakers_28 rfl (Nat.le_of_ble_eq_true rfl) (fun _ => rfl) (fun x1_6 => ?_)
    refine v_iinc (pc := 29) (v := x2 + (1 : Int32)) (lv' := [(2, .int (x2 + (1 : Int32))), (1, .int x1_6), (0, .ref (v_E g 0))]) (k := 2) X dX0_manyTakers_29 rfl rfl (Nat.le_of_ble_eq_true rfl) rfl ?_
    refine v_goto (pc := 32) (tgt := 4) X dX0_manyTakers_32 (by decide) ?_
    refine v_sub [2, 1, 0] rfl ?_
    exact h4 x1_6 (x2 + (1 : Int32))
theorem w_F_manyTakers_4L {Γ : v_Ctx} {l : Launch} {g : v_G} (fu : Nat) (s : v_S) (X : v_C Γ l rm_F_manyTakers cX0_manyTakers 3 RX0 (some .int) wC g)  : ∀ (n : Nat), ∀ (x1 : Int32) (x2 : Int32), v_V Γ 3 wC g (fun z : Int32 => (some (.int z), s)) 4 [(0, .ref (v_E g 0)), (1, .int x1), (2, .int x2)] [] s (v_loop (t_F_manyTakers_4B fu s) n (x1, x2)) := by
  intro n
  induction n with
  | zero => exact fun _ _ => v_none
  | succ n ih => exact fun x1 x2 => w_F_manyTakers_4 fu s X  _ ih x1 x2
theorem m_F_manyTakers (l : Launch) (g : v_G) (fu : Nat)  (s : v_S) : v_M l yX0_manyTakers cX0_manyTakers 3 (some .int) rm_F_manyTakers wC g [.ref (v_E g 0)] s (fun z : Int32 => (some (.int z), s)) (t_F_manyTakers fu  s) := by
  refine v_met (by decide +kernel) (Nat.le_of_ble_eq_true rfl) (fun Γ X => ?_)
  refine v_lv (lv' := [(0, .ref (v_E g 0))]) rfl ?_
  unfold t_F_manyTakers
  refine v_iconst (pc := 0) (v := 1) X dX0_manyTakers_0 rfl ?_
  refine v_istore_n (pc := 1) (lv' := [(1, .int (1 : Int32)), (0, .ref (v_E g 0))]) X dX0_manyTakers_1 rfl (Nat.le_of_ble_eq_true rfl) rfl ?_
  refine v_iconst (pc := 2) (v := 0) X dX0_manyTakers_2 rfl ?_
  refine v_istore_n (pc := 3) (lv' := [(2, .int (0 : Int32)), (1, .int (1 : Int32)), (0, .ref (v_E g 0))]) X dX0_manyTakers_3 rfl (Nat.le_of_ble_eq_true rfl) rfl ?_
  refine v_sub [2, 1, 0] rfl ?_
  exact w_F_manyTakers_4L fu s X  fu (1 : Int32) (0 : Int32)
/-! FloodLent.lays(I)V -/
abbrev rm_F_lays : Room := { frames := 3, cells := 0, slots := 0, locals := 61 }
theorem hy_F_lays : v_yV yX0_lays cX0_lays 4 none 1 := ⟨q1216, qs41, q133, q1217, by decide +kernel⟩
def t_F_lays_25 (fu : Nat) (p1 : Int32) (r25 : Int32 × Int32 × v_S → Option v_S) (x2 : Int32) (x3 : Int32) (s : v_S) : Option v_S :=
if x3 < 0 then (some s) else (v_b1 (t_F_villages fu s) fun (z_7 : Int32) => if (z_7 + (1 : Int32)) = 0 then none else v_g x3 3 <| v_n (v_uI s 10 (Int32.toNatClampNeg x3) ((x2 - x2 / (z_7 + (1 : Int32)) * (z_7 + (1 : Int32))) - (1 : Int32))) fun (s_8 : v_S) => v_b1 (t_F_villages fu s_8) fun (z_9 : Int32) => if (z_9 + (1 : Int32)) = 0 then none else v_n (x2 / (z_9 + (1 : Int32))) fun (x2_10 : Int32) => r25 (x2_10, x3 + (-1 : Int32), s_8))
def t_F_lays_25B (fu : Nat) (p1 : Int32) (r25 : Int32 × Int32 × v_S → Option v_S) (a : Int32 × Int32 × v_S) : Option v_S := t_F_lays_25 fu p1 r25 a.1 a.2.1 a.2.2
def t_F_lays (fu : Nat) (p1 : Int32) (s : v_S) : Option v_S :=
  v_b1 (t_A_fill fu (10) (-1 : Int32) s) fun (s_1 : v_S) => v_b1 (s_1.2.2.1 0 1) fun (a_2 : Nat) => v_b1 (v_dR s_1 a_2 4 2) fun (e_3 : Option Nat) => v_b1 e_3 fun (a_4 : Nat) => if v_isc s_1 (some a_4) 5 = true then v_b1 (t_L_size fu a_4 s_1) fun (z_5 : Int32) => v_n (z_5 - (1 : Int32)) fun (x3_6 : Int32) => (v_loop (t_F_lays_25B fu p1) fu (p1, x3_6, s_1)) else none
theorem w_F_lays_25 {Γ : v_Ctx} {l : Launch} {g : v_G} (fu : Nat) (p1 : Int32) (X : v_C Γ l rm_F_lays cX0_lays 4 RX0 none wC g) (r25 : Int32 × Int32 × v_S → Option v_S) (h25 : ∀ (x2 : Int32) (x3 : Int32) (s : v_S), v_V Γ 4 wC g (fun z : v_S => ((none : Option Value), z)) 25 [(0, .ref (v_E g 0)), (2, .int x2), (3, .int x3)] [] s (r25 (x2, x3, s))) (x2 : Int32) (x3 : Int32) (s : v_S) : v_V Γ 4 wC g (fun z : v_S => ((none : Option Value), z)) 25 [(0, .ref (v_E g 0)), (2, .int x2), (3, .int x3)] [] s (t_F_lays_25 fu p1 r25 x2 x3 s) := by
  unfold t_F_lays_25
  refine v_iload_n (pc := 25) X dX0_lays_25 2 rfl ?_
  refine v_if_lt (pc := 26) (tgt := 60) X dX0_lays_26 (by decide) (fun c26 => ?_) (fun c26 => ?_)
  · exact v_vret (pc := 60) X dX0_lays_60 rfl
  · refine v_aload_n (pc := 29) X dX0_lays_29 0 rfl ?_
    refine v_get (pc := 30) (kind := 13) (v := .ref (v_E g 10)) X wC_n0 wC_l0 wC_c0 in_X0 (Nat.le_of_ble_eq_true rfl : 10 < 16) q609 rfl rfl dX0_lays_30 ?_
    refine v_iload_n (pc := 33) X dX0_lays_33 2 rfl ?_
    refine v_iload_n (pc := 34) X dX0_lays_34 1 rfl ?_
    refine v_aload_n (pc := 35) X dX0_lays_35 0 rfl ?_
    refine v_cGi (pc := 36) X (m_F_villages l g fu _) (v_rc_n X wC_o0) (Or.inl q1071) hy_F_villages rfl rfl rfl rfl dX0_lays_36 (fun z_7 _ => ?_)
    refine v_iconst (pc := 39) (v := 1) X dX0_lays_39 rfl ?_
    refine v_iadd (pc := 40) X dX0_lays_40 ?_
    refine v_irem (pc := 41) X dX0_lays_41 ?_
    refine v_iconst (pc := 42) (v := 1) X dX0_lays_42 rfl ?_
    refine v_isub (pc := 43) X dX0_lays_43 ?_
    refine v_iast (pc := 44) X wC_n10 wC_l10 dX0_lays_44 (fun s_8 => ?_)
    refine v_iload_n (pc := 45) X dX0_lays_45 1 rfl ?_
    refine v_aload_n (pc := 46) X dX0_lays_46 0 rfl ?_
    refine v_cGi (pc := 47) X (m_F_villages l g fu _) (v_rc_n X wC_o0) (Or.inl q1071) hy_F_villages rfl rfl rfl rfl dX0_lays_47 (fun z_9 _ => ?_)
    refine v_iconst (pc := 50) (v := 1) X dX0_lays_50 rfl ?_
    refine v_iadd (pc := 51) X dX0_lays_51 ?_
    refine v_idiv (pc := 52) X dX0_lays_52 ?_
    refine v_istore_nN (pc := 53) (lvf := fun x2_10 => [(2, .int x2_10), (0, .ref (v_E g 0)), (3, .int x3)]) X dX0_lays_53 rfl (Nat.le_of_ble_eq_true rfl) (fun _ => rfl) (fun x2_10 => ?_)
    refine v_iinc (pc := 54) (v := x3 + (-1 : Int32)) (lv' := [(3, .int (x3 + (-1 : Int32))), (2, .int x2_10), (0, .ref (v_E g 0))]) (k := 2) X dX0_lays_54 rfl rfl (Nat.le_of_ble_eq_true rfl) rfl ?_
    refine v_goto (pc := 57) (tgt := 25) X dX0_lays_57 (by decide) ?_
    refine v_sub [2, 1, 0] rfl ?_
    exact h25 x2_10 (x3 + (-1 : Int32)) s_8
theorem w_F_lays_25L {Γ : v_Ctx} {l : Launch} {g : v_G} (fu : Nat) (p1 : Int32) (X : v_C Γ l rm_F_lays cX0_lays 4 RX0 none wC g)  : ∀ (n : Nat), ∀ (x2 : Int32) (x3 : Int32) (s : v_S), v_V Γ 4 wC g (fun z : v_S => ((none : Option Value), z)) 25 [(0, .ref (v_E g 0)), (2, .int x2), (3, .int x3)] [] s (v_loop (t_F_lays_25B fu p1) n (x2, x3, s)) := by
  intro n
  induction n with
  | zero => exact fun _ _ _ => v_none
  | succ n ih => exact fun x2 x3 s => w_F_lays_25 fu p1 X  _ ih x2 x3 s
theorem m_F_lays (l : Launch) (g : v_G) (fu : Nat) (p1 : Int32) (s : v_S) : v_M l yX0_lays cX0_lays 4 none rm_F_lays wC g [.ref (v_E g 0), .int p1] s (fun z : v_S => ((none : Option Value), z)) (t_F_lays fu p1 s) := by
  refine v_met (by decide +kernel) (Nat.le_of_ble_eq_true rfl) (fun Γ X => ?_)
  refine v_lv (lv' := [(0, .ref (v_E g 0)), (1, .int p1)]) rfl ?_
  unfold t_F_lays
  refine v_aload_n (pc := 0) X dX0_lays_0 0 rfl ?_
  refine v_get (pc := 1) (kind := 13) (v := .ref (v_E g 10)) X wC_n0 wC_l0 wC_c0 in_X0 (Nat.le_of_ble_eq_true rfl : 10 < 16) q609 rfl rfl dX0_lays_1 ?_
  refine v_iconst (pc := 4) (v := -1) X dX0_lays_4 rfl ?_
  refine v_cSs (pc := 5) X (m_A_fill l g fu (10) (-1 : Int32) _) q1056 hy_A_fill rfl rfl rfl rfl dX0_lays_5 (fun s_1 _ => ?_)
  refine v_iload_n (pc := 8) X dX0_lays_8 1 rfl ?_
  refine v_istore_n (pc := 9) (lv' := [(2, .int p1), (0, .ref (v_E g 0)), (1, .int p1)]) X dX0_lays_9 rfl (Nat.le_of_ble_eq_true rfl) rfl ?_
  refine v_aload_n (pc := 10) X dX0_lays_10 1 rfl ?_
  refine v_get (pc := 11) (kind := 2) (v := va_rf (s_1.2.2.1 0 1)) X wC_n0 wC_l0 wC_c0 in_X0 (Nat.le_of_ble_eq_true rfl : 1 < 16) q600 rfl rfl dX0_lays_11 ?_
  refine v_unq0 (pc := 14) (fun a_2 _ => ?_)
  refine v_dgetRN (pc := 14) X wC_c4 in_X2 (Nat.le_of_ble_eq_true rfl : 2 < 9) q429 dX0_lays_14 (fun e_3 => ?_)
  refine v_unq0 (pc := 17) (fun a_4 _ => ?_)
  refine v_cFi (pc := 17) X (m_L_size l g fu a_4  _) wC_c5 q1076 hF_size rfl rfl rfl rfl dX0_lays_17 (fun z_5 _ => ?_)
  refine v_iconst (pc := 22) (v := 1) X dX0_lays_22 rfl ?_
  refine v_isub (pc := 23) X dX0_lays_23 ?_
  refine v_istore_nN (pc := 24) (lvf := fun x3_6 => [(3, .int x3_6), (2, .int p1), (0, .ref (v_E g 0)), (1, .int p1)]) X dX0_lays_24 rfl (Nat.le_of_ble_eq_true rfl) (fun _ => rfl) (fun x3_6 => ?_)
  refine v_sub [2, 1, 0] rfl ?_
  exact w_F_lays_25L fu p1 X  fu p1 x3_6 s_1
/-! FloodLent.by(I)LFloodLent$Year; -/
abbrev rm_F_by : Room := { frames := 7, cells := 0, slots := 0, locals := 153 }
theorem hy_F_by : v_yV yX0_by cX0_by 2 (some (.object "FloodLent$Year")) 1 := ⟨q1212, qs40, q133, q1213, by decide +kernel⟩
def t_F_by (fu : Nat) (p1 : Int32) (s : v_S) : Option v_S :=
  v_b1 (t_F_lays fu p1 s) fun (s_1 : v_S) => v_b1 (t_Y_begins fu (s_1.2.2.1 0 1) (10) (s_1.1 0 2) s_1) fun (s_2 : v_S) => v_b1 (t_Y_goes fu s_2) fun (s_3 : v_S) => some s_3
theorem m_F_by (l : Launch) (g : v_G) (fu : Nat) (p1 : Int32) (s : v_S) : v_M l yX0_by cX0_by 2 (some (.object "FloodLent$Year")) rm_F_by wC g [.ref (v_E g 0), .int p1] s (fun z : v_S => (some (.ref (v_E g 7)), z)) (t_F_by fu p1 s) := by
  refine v_met (by decide +kernel) (Nat.le_of_ble_eq_true rfl) (fun Γ X => ?_)
  refine v_lv (lv' := [(0, .ref (v_E g 0)), (1, .int p1)]) rfl ?_
  unfold t_F_by
  refine v_aload_n (pc := 0) X dX0_by_0 0 rfl ?_
  refine v_iload_n (pc := 1) X dX0_by_1 1 rfl ?_
  refine v_cGs (pc := 2) X (m_F_lays l g fu p1 _) (v_rc_n X wC_o0) (Or.inl q1214) hy_F_lays rfl rfl rfl rfl dX0_by_2 (fun s_1 _ => ?_)
  refine v_aload_n (pc := 5) X dX0_by_5 0 rfl ?_
  refine v_get (pc := 6) (kind := 10) (v := .ref (v_E g 7)) X wC_n0 wC_l0 wC_c0 in_X0 (Nat.le_of_ble_eq_true rfl : 4 < 16) q603 rfl rfl dX0_by_6 ?_
  refine v_aload_n (pc := 9) X dX0_by_9 0 rfl ?_
  refine v_get (pc := 10) (kind := 2) (v := va_rf (s_1.2.2.1 0 1)) X wC_n0 wC_l0 wC_c0 in_X0 (Nat.le_of_ble_eq_true rfl : 1 < 16) q600 rfl rfl dX0_by_10 ?_
  refine v_aload_n (pc := 13) X dX0_by_13 0 rfl ?_
  refine v_get (pc := 14) (kind := 13) (v := .ref (v_E g 10)) X wC_n0 wC_l0 wC_c0 in_X0 (Nat.le_of_ble_eq_true rfl : 10 < 16) q609 rfl rfl dX0_by_14 ?_
  refine v_aload_n (pc := 17) X dX0_by_17 0 rfl ?_
  refine v_get (pc := 18) (kind := 0) (v := .int (s_1.1 0 2)) X wC_n0 wC_l0 wC_c0 in_X0 (Nat.le_of_ble_eq_true rfl : 2 < 16) q601 rfl rfl dX0_by_18 ?_
  refine v_cGs (pc := 21) X (m_Y_begins l g fu (s_1.2.2.1 0 1) (10) (s_1.1 0 2) _) (v_rc_n X wC_o7) (Or.inl q1101) hy_Y_begins rfl rfl rfl rfl dX0_by_21 (fun s_2 _ => ?_)
  refine v_aload_n (pc := 24) X dX0_by_24 0 rfl ?_
  refine v_get (pc := 25) (kind := 10) (v := .ref (v_E g 7)) X wC_n0 wC_l0 wC_c0 in_X0 (Nat.le_of_ble_eq_true rfl : 4 < 16) q603 rfl rfl dX0_by_25 ?_
  refine v_cGr (pc := 28) X (m_Y_goes l g fu _) (v_rc_n X wC_o7) (Or.inl q1106) hy_Y_goes rfl rfl rfl rfl dX0_by_28 (fun s_3 _ => ?_)
  exact v_aret (pc := 31) X dX0_by_31 rfl
/-! FloodLent.bestOf()I -/
abbrev rm_F_bestOf : Room := { frames := 8, cells := 0, slots := 0, locals := 174 }
theorem hy_F_bestOf : v_yV yX0_bestOf cX0_bestOf 3 (some .int) 0 := ⟨q1204, qs38, q133, q1205, by decide +kernel⟩
def t_F_bestOf_9 (fu : Nat) (r9 : Int32 × Int32 × v_S → Option (Int32 × v_S)) (x1 : Int32) (x2 : Int32) (s : v_S) : Option (Int32 × v_S) :=
v_b1 (t_F_manyTakers fu s) fun (z_2 : Int32) => if z_2 ≤ x2 then (some (x1, s)) else (v_b1 (t_F_by fu x2 s) fun (s_3 : v_S) => v_b1 (t_Y_allShort fu s_3) fun (z_4 : Int32) => if (0 : Int32) < z_4 then (r9 (x1, x2 + (1 : Int32), s_3)) else (v_b1 (t_Y_broughtInAll fu s_3) fun (z_5 : Int32) => if s_3.1 0 11 < z_5 then (v_b1 (t_Y_broughtInAll fu s_3) fun (z_6 : Int32) => v_n (v_uI s_3 0 11 z_6) fun (s_7 : v_S) => r9 (x2, x2 + (1 : Int32), s_7)) else (r9 (x1, x2 + (1 : Int32), s_3))))
def t_F_bestOf_9B (fu : Nat) (r9 : Int32 × Int32 × v_S → Option (Int32 × v_S)) (a : Int32 × Int32 × v_S) : Option (Int32 × v_S) := t_F_bestOf_9 fu r9 a.1 a.2.1 a.2.2
def t_F_bestOf (fu : Nat)  (s : v_S) : Option (Int32 × v_S) :=
  v_n (v_uI s 0 11 (-1 : Int32)) fun (s_1 : v_S) => v_loop (t_F_bestOf_9B fu) fu ((-1 : Int32), (0 : Int32), s_1)
theorem w_F_bestOf_9 {Γ : v_Ctx} {l : Launch} {g : v_G} (fu : Nat) (X : v_C Γ l rm_F_bestOf cX0_bestOf 3 RX0 (some .int) wC g) (r9 : Int32 × Int32 × v_S → Option (Int32 × v_S)) (h9 : ∀ (x1 : Int32) (x2 : Int32) (s : v_S), v_V Γ 3 wC g (fun z : Int32 × v_S => (some (.int z.1), z.2)) 9 [(0, .ref (v_E g 0)), (1, .int x1), (2, .int x2)] [] s (r9 (x1, x2, s))) (x1 : Int32) (x2 : Int32) (s : v_S) : v_V Γ 3 wC g (fun z : Int32 × v_S => (some (.int z.1), z.2)) 9 [(0, .ref (v_E g 0)), (1, .int x1), (2, .int x2)] [] s (t_F_bestOf_9 fu r9 x1 x2 s) := by
  unfold t_F_bestOf_9
  refine v_iload_n (pc := 9) X dX0_bestOf_9 2 rfl ?_
  refine v_aload_n (pc := 10) X dX0_bestOf_10 0 rfl ?_
  refine v_cGi (pc := 11) X (m_F_manyTakers l g fu _) (v_rc_n X wC_o0) (Or.inl q1206) hy_F_manyTakers rfl rfl rfl rfl dX0_bestOf_11 (fun z_2 _ => ?_)
  refine v_icmp_ge (pc := 14) (tgt := 69) X dX0_bestOf_14 (by decide) (fun c14 => ?_) (fun c14 => ?_)
  · refine v_iload_n (pc := 69) X dX0_bestOf_69 1 rfl ?_
    exact v_iret (pc := 70) X dX0_bestOf_70 rfl
  · refine v_aload_n (pc := 17) X dX0_bestOf_17 0 rfl ?_
    refine v_iload_n (pc := 18) X dX0_bestOf_18 2 rfl ?_
    refine v_cGr (pc := 19) X (m_F_by l g fu x2 _) (v_rc_n X wC_o0) (Or.inl q1210) hy_F_by rfl rfl rfl rfl dX0_bestOf_19 (fun s_3 _ => ?_)
    refine v_pop (pc := 22) X dX0_bestOf_22 rfl ?_
    refine v_aload_n (pc := 23) X dX0_bestOf_23 0 rfl ?_
    refine v_get (pc := 24) (kind := 10) (v := .ref (v_E g 7)) X wC_n0 wC_l0 wC_c0 in_X0 (Nat.le_of_ble_eq_true rfl : 4 < 16) q603 rfl rfl dX0_bestOf_24 ?_
    refine v_cGi (pc := 27) X (m_Y_allShort l g fu _) (v_rc_n X wC_o7) (Or.inl q1218) hy_Y_allShort rfl rfl rfl rfl dX0_bestOf_27 (fun z_4 _ => ?_)
    refine v_if_gt (pc := 30) (tgt := 63) X dX0_bestOf_30 (by decide) (fun c30 => ?_) (fun c30 => ?_)
    · refine v_iinc (pc := 63) (v := x2 + (1 : Int32)) (lv' := [(2, .int (x2 + (1 : Int32))), (0, .ref (v_E g 0)), (1, .int x1)]) (k := 2) X dX0_bestOf_63 rfl rfl (Nat.le_of_ble_eq_true rfl) rfl ?_
      refine v_goto (pc := 66) (tgt := 9) X dX0_bestOf_66 (by decide) ?_
      refine v_sub [1, 2, 0] rfl ?_
      exact h9 x1 (x2 + (1 : Int32)) s_3
    · refine v_aload_n (pc := 33) X dX0_bestOf_33 0 rfl ?_
      refine v_get (pc := 34) (kind := 10) (v := .ref (v_E g 7)) X wC_n0 wC_l0 wC_c0 in_X0 (Nat.le_of_ble_eq_true rfl : 4 < 16) q603 rfl rfl dX0_bestOf_34 ?_
      refine v_cGi (pc := 37) X (m_Y_broughtInAll l g fu _) (v_rc_n X wC_o7) (Or.inl q1175) hy_Y_broughtInAll rfl rfl rfl rfl dX0_bestOf_37 (fun z_5 _ => ?_)
      refine v_aload_n (pc := 40) X dX0_bestOf_40 0 rfl ?_
      refine v_get (pc := 41) (kind := 0) (v := .int (s_3.1 0 11)) X wC_n0 wC_l0 wC_c0 in_X0 (Nat.le_of_ble_eq_true rfl : 11 < 16) q610 rfl rfl dX0_bestOf_41 ?_
      refine v_icmp_gt (pc := 44) (tgt := 50) X dX0_bestOf_44 (by decide) (fun c44 => ?_) (fun c44 => ?_)
      · refine v_iload_n (pc := 50) X dX0_bestOf_50 2 rfl ?_
        refine v_istore_n (pc := 51) (lv' := [(1, .int x2), (0, .ref (v_E g 0)), (2, .int x2)]) X dX0_bestOf_51 rfl (Nat.le_of_ble_eq_true rfl) rfl ?_
        refine v_aload_n (pc := 52) X dX0_bestOf_52 1 rfl ?_
        refine v_aload_n (pc := 53) X dX0_bestOf_53 1 rfl ?_
        refine v_get (pc := 54) (kind := 10) (v := .ref (v_E g 7)) X wC_n0 wC_l0 wC_c0 in_X0 (Nat.le_of_ble_eq_true rfl : 4 < 16) q603 rfl rfl dX0_bestOf_54 ?_
        refine v_cGi (pc := 57) X (m_Y_broughtInAll l g fu _) (v_rc_n X wC_o7) (Or.inl q1175) hy_Y_broughtInAll rfl rfl rfl rfl dX0_bestOf_57 (fun z_6 _ => ?_)
        refine v_putI (pc := 60) X wC_n0 wC_l0 wC_c0 in_X0 tyX0 tyX0_ok nmX0 (Nat.le_of_ble_eq_true rfl : 11 < 16) q610 rfl rfl rfl dX0_bestOf_60 (fun s_7 => ?_)
        refine v_iinc (pc := 63) (v := x2 + (1 : Int32)) (lv' := [(2, .int (x2 + (1 : Int32))), (1, .int x2), (0, .ref (v_E g 0))]) (k := 2) X dX0_bestOf_63 rfl rfl (Nat.le_of_ble_eq_true rfl) rfl ?_
        refine v_goto (pc := 66) (tgt := 9) X dX0_bestOf_66 (by decide) ?_
        refine v_sub [2, 1, 0] rfl ?_
        exact h9 x2 (x2 + (1 : Int32)) s_7
      · refine v_goto (pc := 47) (tgt := 63) X dX0_bestOf_47 (by decide) ?_
        refine v_iinc (pc := 63) (v := x2 + (1 : Int32)) (lv' := [(2, .int (x2 + (1 : Int32))), (0, .ref (v_E g 0)), (1, .int x1)]) (k := 2) X dX0_bestOf_63 rfl rfl (Nat.le_of_ble_eq_true rfl) rfl ?_
        refine v_goto (pc := 66) (tgt := 9) X dX0_bestOf_66 (by decide) ?_
        refine v_sub [1, 2, 0] rfl ?_
        exact h9 x1 (x2 + (1 : Int32)) s_3
theorem w_F_bestOf_9L {Γ : v_Ctx} {l : Launch} {g : v_G} (fu : Nat) (X : v_C Γ l rm_F_bestOf cX0_bestOf 3 RX0 (some .int) wC g)  : ∀ (n : Nat), ∀ (x1 : Int32) (x2 : Int32) (s : v_S), v_V Γ 3 wC g (fun z : Int32 × v_S => (some (.int z.1), z.2)) 9 [(0, .ref (v_E g 0)), (1, .int x1), (2, .int x2)] [] s (v_loop (t_F_bestOf_9B fu) n (x1, x2, s)) := by
  intro n
  induction n with
  | zero => exact fun _ _ _ => v_none
  | succ n ih => exact fun x1 x2 s => w_F_bestOf_9 fu X  _ ih x1 x2 s
theorem m_F_bestOf (l : Launch) (g : v_G) (fu : Nat)  (s : v_S) : v_M l yX0_bestOf cX0_bestOf 3 (some .int) rm_F_bestOf wC g [.ref (v_E g 0)] s (fun z : Int32 × v_S => (some (.int z.1), z.2)) (t_F_bestOf fu  s) := by
  refine v_met (by decide +kernel) (Nat.le_of_ble_eq_true rfl) (fun Γ X => ?_)
  refine v_lv (lv' := [(0, .ref (v_E g 0))]) rfl ?_
  unfold t_F_bestOf
  refine v_iconst (pc := 0) (v := -1) X dX0_bestOf_0 rfl ?_
  refine v_istore_n (pc := 1) (lv' := [(1, .int (-1 : Int32)), (0, .ref (v_E g 0))]) X dX0_bestOf_1 rfl (Nat.le_of_ble_eq_true rfl) rfl ?_
  refine v_aload_n (pc := 2) X dX0_bestOf_2 1 rfl ?_
  refine v_iconst (pc := 3) (v := -1) X dX0_bestOf_3 rfl ?_
  refine v_putI (pc := 4) X wC_n0 wC_l0 wC_c0 in_X0 tyX0 tyX0_ok nmX0 (Nat.le_of_ble_eq_true rfl : 11 < 16) q610 rfl rfl rfl dX0_bestOf_4 (fun s_1 => ?_)
  refine v_iconst (pc := 7) (v := 0) X dX0_bestOf_7 rfl ?_
  refine v_istore_n (pc := 8) (lv' := [(2, .int (0 : Int32)), (1, .int (-1 : Int32)), (0, .ref (v_E g 0))]) X dX0_bestOf_8 rfl (Nat.le_of_ble_eq_true rfl) rfl ?_
  refine v_sub [2, 1, 0] rfl ?_
  exact w_F_bestOf_9L fu X  fu (-1 : Int32) (0 : Int32) s_1
/-! FloodLent.best()I -/
abbrev rm_F_best : Room := { frames := 9, cells := 0, slots := 0, locals := 196 }
theorem hy_F_best : v_yV yX0_best cX0_best 1 (some .int) 0 := ⟨q1199, q1200, q133, q1201, by decide +kernel⟩
def t_F_best (fu : Nat)  (s : v_S) : Option (Int32 × v_S) :=
  v_b1 (s.2.2.1 0 1) fun (a_1 : Nat) => if v_isc s (some a_1) 4 = true then v_b1 (t_Q_is fu a_1 s) fun (z_3 : Int32) => (if z_3 = 0 then (some ((-2 : Int32), s)) else (v_b2 (t_F_bestOf fu s) fun (z_4 : Int32) (s_5 : v_S) => some (s_5.1 0 11, s_5))) else none
theorem m_F_best (l : Launch) (g : v_G) (fu : Nat)  (s : v_S) : v_M l yX0_best cX0_best 1 (some .int) rm_F_best wC g [.ref (v_E g 0)] s (fun z : Int32 × v_S => (some (.int z.1), z.2)) (t_F_best fu  s) := by
  refine v_met (by decide +kernel) (Nat.le_of_ble_eq_true rfl) (fun Γ X => ?_)
  refine v_lv (lv' := [(0, .ref (v_E g 0))]) rfl ?_
  unfold t_F_best
  refine v_aload_n (pc := 0) X dX0_best_0 0 rfl ?_
  refine v_get (pc := 1) (kind := 2) (v := va_rf (s.2.2.1 0 1)) X wC_n0 wC_l0 wC_c0 in_X0 (Nat.le_of_ble_eq_true rfl : 1 < 16) q600 rfl rfl dX0_best_1 ?_
  refine v_unq0 (pc := 4) (fun a_1 _ => ?_)
  refine v_nzT (pc := 4) (fun h_2 => ?_)
  refine v_cGi (pc := 4) X (m_Q_is l g fu a_1 _) (v_rc_d X wC_c4 h_2) (Or.inl q1052) hy_Q_is rfl rfl rfl rfl dX0_best_4 (fun z_3 _ => ?_)
  refine v_if_ne (pc := 7) (tgt := 13) X dX0_best_7 (by decide) (fun c7 => ?_) (fun c7 => ?_)
  · refine v_aload_n (pc := 13) X dX0_best_13 0 rfl ?_
    refine v_cGis (pc := 14) X (m_F_bestOf l g fu _) (v_rc_n X wC_o0) (Or.inl q1202) hy_F_bestOf rfl rfl rfl rfl dX0_best_14 (fun z_4 s_5 _ => ?_)
    refine v_pop (pc := 17) X dX0_best_17 rfl ?_
    refine v_aload_n (pc := 18) X dX0_best_18 0 rfl ?_
    refine v_get (pc := 19) (kind := 0) (v := .int (s_5.1 0 11)) X wC_n0 wC_l0 wC_c0 in_X0 (Nat.le_of_ble_eq_true rfl : 11 < 16) q610 rfl rfl dX0_best_19 ?_
    exact v_iret (pc := 22) X dX0_best_22 rfl
  · refine v_bipush (pc := 10) (v := -2) X dX0_best_10 rfl ?_
    exact v_iret (pc := 12) X dX0_best_12 rfl
/-! FloodLent.taker(I)I -/
abbrev rm_F_taker : Room := { frames := 9, cells := 0, slots := 0, locals := 196 }
theorem hy_F_taker : v_yV yX0_taker cX0_taker 3 (some .int) 1 := ⟨q1225, q1226, q133, q1227, by decide +kernel⟩
def t_F_taker (fu : Nat) (p1 : Int32) (s : v_S) : Option (Int32 × v_S) :=
  v_b1 (t_F_isFlood fu p1 s) fun (z_1 : Int32) => if z_1 = 0 then (some ((-2 : Int32), s)) else (v_b2 (t_F_bestOf fu s) fun (z_2 : Int32) (s_3 : v_S) => if z_2 = (-1 : Int32) then (some ((-1 : Int32), s_3)) else (v_b1 (t_F_lays fu z_2 s_3) fun (s_4 : v_S) => v_g p1 3 <| some (s_4.1 10 (Int32.toNatClampNeg p1), s_4)))
theorem m_F_taker (l : Launch) (g : v_G) (fu : Nat) (p1 : Int32) (s : v_S) : v_M l yX0_taker cX0_taker 3 (some .int) rm_F_taker wC g [.ref (v_E g 0), .int p1] s (fun z : Int32 × v_S => (some (.int z.1), z.2)) (t_F_taker fu p1 s) := by
  refine v_met (by decide +kernel) (Nat.le_of_ble_eq_true rfl) (fun Γ X => ?_)
  refine v_lv (lv' := [(0, .ref (v_E g 0)), (1, .int p1)]) rfl ?_
  unfold t_F_taker
  refine v_aload_n (pc := 0) X dX0_taker_0 0 rfl ?_
  refine v_iload_n (pc := 1) X dX0_taker_1 1 rfl ?_
  refine v_cGi (pc := 2) X (m_F_isFlood l g fu p1 _) (v_rc_n X wC_o0) (Or.inl q1085) hy_F_isFlood rfl rfl rfl rfl dX0_taker_2 (fun z_1 _ => ?_)
  refine v_if_ne (pc := 5) (tgt := 11) X dX0_taker_5 (by decide) (fun c5 => ?_) (fun c5 => ?_)
  · refine v_aload_n (pc := 11) X dX0_taker_11 0 rfl ?_
    refine v_cGis (pc := 12) X (m_F_bestOf l g fu _) (v_rc_n X wC_o0) (Or.inl q1202) hy_F_bestOf rfl rfl rfl rfl dX0_taker_12 (fun z_2 s_3 _ => ?_)
    refine v_istore_n (pc := 15) (lv' := [(2, .int z_2), (0, .ref (v_E g 0)), (1, .int p1)]) X dX0_taker_15 rfl (Nat.le_of_ble_eq_true rfl) rfl ?_
    refine v_iload_n (pc := 16) X dX0_taker_16 0 rfl ?_
    refine v_iconst (pc := 17) (v := -1) X dX0_taker_17 rfl ?_
    refine v_icmp_ne (pc := 18) (tgt := 23) X dX0_taker_18 (by decide) (fun c18 => ?_) (fun c18 => ?_)
    · refine v_aload_n (pc := 23) X dX0_taker_23 1 rfl ?_
      refine v_iload_n (pc := 24) X dX0_taker_24 0 rfl ?_
      refine v_cGs (pc := 25) X (m_F_lays l g fu z_2 _) (v_rc_n X wC_o0) (Or.inl q1214) hy_F_lays rfl rfl rfl rfl dX0_taker_25 (fun s_4 _ => ?_)
      refine v_aload_n (pc := 28) X dX0_taker_28 1 rfl ?_
      refine v_get (pc := 29) (kind := 13) (v := .ref (v_E g 10)) X wC_n0 wC_l0 wC_c0 in_X0 (Nat.le_of_ble_eq_true rfl : 10 < 16) q609 rfl rfl dX0_taker_29 ?_
      refine v_iload_n (pc := 32) X dX0_taker_32 2 rfl ?_
      refine v_iald (pc := 33) X wC_n10 wC_l10 dX0_taker_33 ?_
      exact v_iret (pc := 34) X dX0_taker_34 rfl
    · refine v_iconst (pc := 21) (v := -1) X dX0_taker_21 rfl ?_
      exact v_iret (pc := 22) X dX0_taker_22 rfl
  · refine v_bipush (pc := 8) (v := -2) X dX0_taker_8 rfl ?_
    exact v_iret (pc := 10) X dX0_taker_10 rfl
/-! FloodLent.safe()I -/
abbrev rm_F_safe : Room := { frames := 8, cells := 0, slots := 0, locals := 174 }
theorem hy_F_safe : v_yV yX0_safe cX0_safe 3 (some .int) 0 := ⟨q1229, q1230, q133, q1231, by decide +kernel⟩
def t_F_safe_17 (fu : Nat) (r17 : Int32 × Int32 × v_S → Option (Int32 × v_S)) (x1 : Int32) (x2 : Int32) (s : v_S) : Option (Int32 × v_S) :=
v_b1 (t_F_manyTakers fu s) fun (z_4 : Int32) => if z_4 ≤ x2 then (some (x1, s)) else (v_b1 (t_F_by fu x2 s) fun (s_5 : v_S) => v_b1 (t_Y_allShort fu s_5) fun (z_6 : Int32) => if z_6 = 0 then (v_n (x1 + (1 : Int32)) fun (x1_8 : Int32) => r17 (x1_8, x2 + (1 : Int32), s_5)) else (v_n (x1 + (0 : Int32)) fun (x1_7 : Int32) => r17 (x1_7, x2 + (1 : Int32), s_5)))
def t_F_safe_17B (fu : Nat) (r17 : Int32 × Int32 × v_S → Option (Int32 × v_S)) (a : Int32 × Int32 × v_S) : Option (Int32 × v_S) := t_F_safe_17 fu r17 a.1 a.2.1 a.2.2
def t_F_safe (fu : Nat)  (s : v_S) : Option (Int32 × v_S) :=
  v_b1 (s.2.2.1 0 1) fun (a_1 : Nat) => if v_isc s (some a_1) 4 = true then v_b1 (t_Q_is fu a_1 s) fun (z_3 : Int32) => (if z_3 = 0 then (some ((-2 : Int32), s)) else (v_loop (t_F_safe_17B fu) fu ((0 : Int32), (0 : Int32), s))) else none
theorem w_F_safe_17 {Γ : v_Ctx} {l : Launch} {g : v_G} (fu : Nat) (X : v_C Γ l rm_F_safe cX0_safe 3 RX0 (some .int) wC g) (r17 : Int32 × Int32 × v_S → Option (Int32 × v_S)) (h17 : ∀ (x1 : Int32) (x2 : Int32) (s : v_S), v_V Γ 3 wC g (fun z : Int32 × v_S => (some (.int z.1), z.2)) 17 [(0, .ref (v_E g 0)), (1, .int x1), (2, .int x2)] [] s (r17 (x1, x2, s))) (x1 : Int32) (x2 : Int32) (s : v_S) : v_V Γ 3 wC g (fun z : Int32 × v_S => (some (.int z.1), z.2)) 17 [(0, .ref (v_E g 0)), (1, .int x1), (2, .int x2)] [] s (t_F_safe_17 fu r17 x1 x2 s) := by
  unfold t_F_safe_17
  refine v_iload_n (pc := 17) X dX0_safe_17 2 rfl ?_
  refine v_aload_n (pc := 18) X dX0_safe_18 0 rfl ?_
  refine v_cGi (pc := 19) X (m_F_manyTakers l g fu _) (v_rc_n X wC_o0) (Or.inl q1206) hy_F_manyTakers rfl rfl rfl rfl dX0_safe_19 (fun z_4 _ => ?_)
  refine v_icmp_ge (pc := 22) (tgt := 50) X dX0_safe_22 (by decide) (fun c22 => ?_) (fun c22 => ?_)
  · refine v_iload_n (pc := 50) X dX0_safe_50 1 rfl ?_
    exact v_iret (pc := 51) X dX0_safe_51 rfl
  · refine v_iload_n (pc := 25) X dX0_safe_25 1 rfl ?_
    refine v_aload_n (pc := 26) X dX0_safe_26 0 rfl ?_
    refine v_iload_n (pc := 27) X dX0_safe_27 2 rfl ?_
    refine v_cGr (pc := 28) X (m_F_by l g fu x2 _) (v_rc_n X wC_o0) (Or.inl q1210) hy_F_by rfl rfl rfl rfl dX0_safe_28 (fun s_5 _ => ?_)
    refine v_cGi (pc := 31) X (m_Y_allShort l g fu _) (v_rc_n X wC_o7) (Or.inl q1218) hy_Y_allShort rfl rfl rfl rfl dX0_safe_31 (fun z_6 _ => ?_)
    refine v_if_ne (pc := 34) (tgt := 41) X dX0_safe_34 (by decide) (fun c34 => ?_) (fun c34 => ?_)
    · refine v_iconst (pc := 41) (v := 0) X dX0_safe_41 rfl ?_
      refine v_iadd (pc := 42) X dX0_safe_42 ?_
      refine v_istore_nN (pc := 43) (lvf := fun x1_7 => [(1, .int x1_7), (0, .ref (v_E g 0)), (2, .int x2)]) X dX0_safe_43 rfl (Nat.le_of_ble_eq_true rfl) (fun _ => rfl) (fun x1_7 => ?_)
      refine v_iinc (pc := 44) (v := x2 + (1 : Int32)) (lv' := [(2, .int (x2 + (1 : Int32))), (1, .int x1_7), (0, .ref (v_E g 0))]) (k := 2) X dX0_safe_44 rfl rfl (Nat.le_of_ble_eq_true rfl) rfl ?_
      refine v_goto (pc := 47) (tgt := 17) X dX0_safe_47 (by decide) ?_
      refine v_sub [2, 1, 0] rfl ?_
      exact h17 x1_7 (x2 + (1 : Int32)) s_5
    · refine v_iconst (pc := 37) (v := 1) X dX0_safe_37 rfl ?_
      refine v_goto (pc := 38) (tgt := 42) X dX0_safe_38 (by decide) ?_
      refine v_iadd (pc := 42) X dX0_safe_42 ?_
      refine v_istore_nN (pc := 43) (lvf := fun x1_8 => [(1, .int x1_8), (0, .ref (v_E g 0)), (2, .int x2)]) X dX0_safe_43 rfl (Nat.le_of_ble_eq_true rfl) (fun _ => rfl) (fun x1_8 => ?_)
      refine v_iinc (pc := 44) (v := x2 + (1 : Int32)) (lv' := [(2, .int (x2 + (1 : Int32))), (1, .int x1_8), (0, .ref (v_E g 0))]) (k := 2) X dX0_safe_44 rfl rfl (Nat.le_of_ble_eq_true rfl) rfl ?_
      refine v_goto (pc := 47) (tgt := 17) X dX0_safe_47 (by decide) ?_
      refine v_sub [2, 1, 0] rfl ?_
      exact h17 x1_8 (x2 + (1 : Int32)) s_5
theorem w_F_safe_17L {Γ : v_Ctx} {l : Launch} {g : v_G} (fu : Nat) (X : v_C Γ l rm_F_safe cX0_safe 3 RX0 (some .int) wC g)  : ∀ (n : Nat), ∀ (x1 : Int32) (x2 : Int32) (s : v_S), v_V Γ 3 wC g (fun z : Int32 × v_S => (some (.int z.1), z.2)) 17 [(0, .ref (v_E g 0)), (1, .int x1), (2, .int x2)] [] s (v_loop (t_F_safe_17B fu) n (x1, x2, s)) := by
  intro n
  induction n with
  | zero => exact fun _ _ _ => v_none
  | succ n ih => exact fun x1 x2 s => w_F_safe_17 fu X  _ ih x1 x2 s
theorem m_F_safe (l : Launch) (g : v_G) (fu : Nat)  (s : v_S) : v_M l yX0_safe cX0_safe 3 (some .int) rm_F_safe wC g [.ref (v_E g 0)] s (fun z : Int32 × v_S => (some (.int z.1), z.2)) (t_F_safe fu  s) := by
  refine v_met (by decide +kernel) (Nat.le_of_ble_eq_true rfl) (fun Γ X => ?_)
  refine v_lv (lv' := [(0, .ref (v_E g 0))]) rfl ?_
  unfold t_F_safe
  refine v_aload_n (pc := 0) X dX0_safe_0 0 rfl ?_
  refine v_get (pc := 1) (kind := 2) (v := va_rf (s.2.2.1 0 1)) X wC_n0 wC_l0 wC_c0 in_X0 (Nat.le_of_ble_eq_true rfl : 1 < 16) q600 rfl rfl dX0_safe_1 ?_
  refine v_unq0 (pc := 4) (fun a_1 _ => ?_)
  refine v_nzT (pc := 4) (fun h_2 => ?_)
  refine v_cGi (pc := 4) X (m_Q_is l g fu a_1 _) (v_rc_d X wC_c4 h_2) (Or.inl q1052) hy_Q_is rfl rfl rfl rfl dX0_safe_4 (fun z_3 _ => ?_)
  refine v_if_ne (pc := 7) (tgt := 13) X dX0_safe_7 (by decide) (fun c7 => ?_) (fun c7 => ?_)
  · refine v_iconst (pc := 13) (v := 0) X dX0_safe_13 rfl ?_
    refine v_istore_n (pc := 14) (lv' := [(1, .int (0 : Int32)), (0, .ref (v_E g 0))]) X dX0_safe_14 rfl (Nat.le_of_ble_eq_true rfl) rfl ?_
    refine v_iconst (pc := 15) (v := 0) X dX0_safe_15 rfl ?_
    refine v_istore_n (pc := 16) (lv' := [(2, .int (0 : Int32)), (1, .int (0 : Int32)), (0, .ref (v_E g 0))]) X dX0_safe_16 rfl (Nat.le_of_ble_eq_true rfl) rfl ?_
    refine v_sub [2, 1, 0] rfl ?_
    exact w_F_safe_17L fu X  fu (0 : Int32) (0 : Int32) s
  · refine v_bipush (pc := 10) (v := -2) X dX0_safe_10 rfl ?_
    exact v_iret (pc := 12) X dX0_safe_12 rfl
/-! FloodLent.hopeBy([I)J -/
abbrev rm_F_hopeBy : Room := { frames := 7, cells := 0, slots := 0, locals := 153 }
theorem hy_F_hopeBy : v_yV yX0_hopeBy cX0_hopeBy 9 (some .long) 1 := ⟨q1238, qs42, q133, q1239, by decide +kernel⟩
def t_F_hopeBy_110 (fu : Nat) (p1 : Nat) (r19 : Int64 × Int32 × Int32 × v_S → Option (Int64 × v_S)) (x2 : Int64) (x4 : Int32) (x5 : Int32) (x6 : Int64) (s : v_S) : Option (Int64 × v_S) :=
if lg_cmp x6 (0 : Int64) = 0 then (r19 (x2, x4, x5 + (1 : Int32), s)) else (v_b1 (t_Y_begins fu (s.2.2.1 0 1) p1 (s.1 0 2) s) fun (s_5 : v_S) => v_n (v_uI s_5 7 14 x5) fun (s_6 : v_S) => v_b1 (t_Y_goes fu s_6) fun (s_7 : v_S) => v_b1 (t_Y_broughtInAll fu s_7) fun (z_8 : Int32) => v_b1 (t_Y_allShort fu s_7) fun (z_9 : Int32) => v_n (x2 + (x6 * (Int32.toInt64 (z_8 - z_9)))) fun (x2_10 : Int64) => r19 (x2_10, x4, x5 + (1 : Int32), s_7))
def t_F_hopeBy_34 (fu : Nat) (p1 : Nat) (r19 : Int64 × Int32 × Int32 × v_S → Option (Int64 × v_S)) (r34 : Int64 × Int32 × Int32 × Int64 × Int32 × v_S → Option (Int64 × v_S)) (x2 : Int64) (x4 : Int32) (x5 : Int32) (x6 : Int64) (x8 : Int32) (s : v_S) : Option (Int64 × v_S) :=
if x4 ≤ x8 then (t_F_hopeBy_110 fu p1 r19 x2 x4 x5 x6 s) else (v_b1 (t_F_isOn fu x5 x8 s) fun (z_11 : Int32) => if z_11 = 0 then (v_b1 (s.2.2.1 0 1) fun (a_12 : Nat) => v_b1 (v_dR s a_12 4 2) fun (e_13 : Option Nat) => v_b1 e_13 fun (a_14 : Nat) => if v_isc s (some a_14) 5 = true then v_b1 (t_L_get fu a_14 x8 s) fun (e_15 : Option Nat) => if v_isc s e_15 8 = true then v_b1 e_15 fun (a_16 : Nat) => v_b1 (v_dI s a_16 8 5) fun (z_17 : Int32) => v_n (x6 * (Int32.toInt64 ((100 : Int32) - z_17))) fun (x6_18 : Int64) => (r34 (x2, x4, x5, x6_18, x8 + (1 : Int32), s)) else none else none) else (v_b1 (s.2.2.1 0 1) fun (a_19 : Nat) => v_b1 (v_dR s a_19 4 2) fun (e_20 : Option Nat) => v_b1 e_20 fun (a_21 : Nat) => if v_isc s (some a_21) 5 = true then v_b1 (t_L_get fu a_21 x8 s) fun (e_22 : Option Nat) => if v_isc s e_22 8 = true then v_b1 e_22 fun (a_23 : Nat) => v_b1 (v_dI s a_23 8 5) fun (z_24 : Int32) => v_n (x6 * (Int32.toInt64 z_24)) fun (x6_25 : Int64) => (r34 (x2, x4, x5, x6_25, x8 + (1 : Int32), s)) else none else none))
def t_F_hopeBy_34B (fu : Nat) (p1 : Nat) (r19 : Int64 × Int32 × Int32 × v_S → Option (Int64 × v_S)) (r34 : Int64 × Int32 × Int32 × Int64 × Int32 × v_S → Option (Int64 × v_S)) (a : Int64 × Int32 × Int32 × Int64 × Int32 × v_S) : Option (Int64 × v_S) := t_F_hopeBy_34 fu p1 r19 r34 a.1 a.2.1 a.2.2.1 a.2.2.2.1 a.2.2.2.2.1 a.2.2.2.2.2
def t_F_hopeBy_19 (fu : Nat) (p1 : Nat) (r19 : Int64 × Int32 × Int32 × v_S → Option (Int64 × v_S)) (x2 : Int64) (x4 : Int32) (x5 : Int32) (s : v_S) : Option (Int64 × v_S) :=
if (1 : Int32) <<< (x4 &&& 31) ≤ x5 then (some (x2, s)) else (v_loop (t_F_hopeBy_34B fu p1 r19) fu (x2, x4, x5, (1 : Int64), (0 : Int32), s))
def t_F_hopeBy_19B (fu : Nat) (p1 : Nat) (r19 : Int64 × Int32 × Int32 × v_S → Option (Int64 × v_S)) (a : Int64 × Int32 × Int32 × v_S) : Option (Int64 × v_S) := t_F_hopeBy_19 fu p1 r19 a.1 a.2.1 a.2.2.1 a.2.2.2
def t_F_hopeBy (fu : Nat) (p1 : Nat) (s : v_S) : Option (Int64 × v_S) :=
  v_b1 (s.2.2.1 0 1) fun (a_1 : Nat) => v_b1 (v_dR s a_1 4 2) fun (e_2 : Option Nat) => v_b1 e_2 fun (a_3 : Nat) => if v_isc s (some a_3) 5 = true then v_b1 (t_L_size fu a_3 s) fun (z_4 : Int32) => (v_loop (t_F_hopeBy_19B fu p1) fu ((0 : Int64), z_4, (0 : Int32), s)) else none
theorem w_F_hopeBy_110 {Γ : v_Ctx} {l : Launch} {g : v_G} (fu : Nat) (p1 : Nat) (X : v_C Γ l rm_F_hopeBy cX0_hopeBy 9 RX0 (some .long) wC g) (r19 : Int64 × Int32 × Int32 × v_S → Option (Int64 × v_S)) (h19 : ∀ (x2 : Int64) (x4 : Int32) (x5 : Int32) (s : v_S), v_V Γ 9 wC g (fun z : Int64 × v_S => (some (.long z.1), z.2)) 19 [(0, .ref (v_E g 0)), (1, .ref (v_E g p1)), (2, .long x2), (4, .int x4), (5, .int x5)] [] s (r19 (x2, x4, x5, s))) (x2 : Int64) (x4 : Int32) (x5 : Int32) (x6 : Int64) (s : v_S) : v_V Γ 9 wC g (fun z : Int64 × v_S => (some (.long z.1), z.2)) 110 [(0, .ref (v_E g 0)), (1, .ref (v_E g p1)), (2, .long x2), (4, .int x4), (5, .int x5), (6, .long x6)] [] s (t_F_hopeBy_110 fu p1 r19 x2 x4 x5 x6 s) := by
  unfold t_F_hopeBy_110
  refine v_lload (pc := 110) X dX0_hopeBy_110 5 rfl ?_
  refine v_lconst (pc := 112) (v := 0) X dX0_hopeBy_112 rfl ?_
  refine v_lcmp (pc := 113) X dX0_hopeBy_113 ?_
  refine v_if_ne (pc := 114) (tgt := 120) X dX0_hopeBy_114 (by decide) (fun c114 => ?_) (fun c114 => ?_)
  · refine v_aload_n (pc := 120) X dX0_hopeBy_120 0 rfl ?_
    refine v_get (pc := 121) (kind := 10) (v := .ref (v_E g 7)) X wC_n0 wC_l0 wC_c0 in_X0 (Nat.le_of_ble_eq_true rfl : 4 < 16) q603 rfl rfl dX0_hopeBy_121 ?_
    refine v_aload_n (pc := 124) X dX0_hopeBy_124 0 rfl ?_
    refine v_get (pc := 125) (kind := 2) (v := va_rf (s.2.2.1 0 1)) X wC_n0 wC_l0 wC_c0 in_X0 (Nat.le_of_ble_eq_true rfl : 1 < 16) q600 rfl rfl dX0_hopeBy_125 ?_
    refine v_aload_n (pc := 128) X dX0_hopeBy_128 1 rfl ?_
    refine v_aload_n (pc := 129) X dX0_hopeBy_129 0 rfl ?_
    refine v_get (pc := 130) (kind := 0) (v := .int (s.1 0 2)) X wC_n0 wC_l0 wC_c0 in_X0 (Nat.le_of_ble_eq_true rfl : 2 < 16) q601 rfl rfl dX0_hopeBy_130 ?_
    refine v_cGs (pc := 133) X (m_Y_begins l g fu (s.2.2.1 0 1) p1 (s.1 0 2) _) (v_rc_n X wC_o7) (Or.inl q1101) hy_Y_begins rfl rfl rfl rfl dX0_hopeBy_133 (fun s_5 _ => ?_)
    refine v_aload_n (pc := 136) X dX0_hopeBy_136 0 rfl ?_
    refine v_get (pc := 137) (kind := 10) (v := .ref (v_E g 7)) X wC_n0 wC_l0 wC_c0 in_X0 (Nat.le_of_ble_eq_true rfl : 4 < 16) q603 rfl rfl dX0_hopeBy_137 ?_
    refine v_iload (pc := 140) X dX0_hopeBy_140 4 rfl ?_
    refine v_putIN (pc := 142) X wC_n7 wC_l7 wC_c2 in_X3 tyX3 tyX3_ok nmX3 (Nat.le_of_ble_eq_true rfl : 14 < 23) q502 rfl rfl rfl dX0_hopeBy_142 (fun s_6 => ?_)
    refine v_aload_n (pc := 145) X dX0_hopeBy_145 0 rfl ?_
    refine v_get (pc := 146) (kind := 10) (v := .ref (v_E g 7)) X wC_n0 wC_l0 wC_c0 in_X0 (Nat.le_of_ble_eq_true rfl : 4 < 16) q603 rfl rfl dX0_hopeBy_146 ?_
    refine v_cGr (pc := 149) X (m_Y_goes l g fu _) (v_rc_n X wC_o7) (Or.inl q1106) hy_Y_goes rfl rfl rfl rfl dX0_hopeBy_149 (fun s_7 _ => ?_)
    refine v_pop (pc := 152) X dX0_hopeBy_152 rfl ?_
    refine v_lload_n (pc := 153) X dX0_hopeBy_153 2 rfl ?_
    refine v_lload (pc := 154) X dX0_hopeBy_154 5 rfl ?_
    refine v_aload_n (pc := 156) X dX0_hopeBy_156 0 rfl ?_
    refine v_get (pc := 157) (kind := 10) (v := .ref (v_E g 7)) X wC_n0 wC_l0 wC_c0 in_X0 (Nat.le_of_ble_eq_true rfl : 4 < 16) q603 rfl rfl dX0_hopeBy_157 ?_
    refine v_cGi (pc := 160) X (m_Y_broughtInAll l g fu _) (v_rc_n X wC_o7) (Or.inl q1175) hy_Y_broughtInAll rfl rfl rfl rfl dX0_hopeBy_160 (fun z_8 _ => ?_)
    refine v_aload_n (pc := 163) X dX0_hopeBy_163 0 rfl ?_
    refine v_get (pc := 164) (kind := 10) (v := .ref (v_E g 7)) X wC_n0 wC_l0 wC_c0 in_X0 (Nat.le_of_ble_eq_true rfl : 4 < 16) q603 rfl rfl dX0_hopeBy_164 ?_
    refine v_cGi (pc := 167) X (m_Y_allShort l g fu _) (v_rc_n X wC_o7) (Or.inl q1218) hy_Y_allShort rfl rfl rfl rfl dX0_hopeBy_167 (fun z_9 _ => ?_)
    refine v_isub (pc := 170) X dX0_hopeBy_170 ?_
    refine v_i2l (pc := 171) X dX0_hopeBy_171 ?_
    refine v_lmul (pc := 172) X dX0_hopeBy_172 ?_
    refine v_ladd (pc := 173) X dX0_hopeBy_173 ?_
    refine v_lstore_nN (pc := 174) (lvf := fun x2_10 => [(2, .long x2_10), (0, .ref (v_E g 0)), (1, .ref (v_E g p1)), (4, .int x4), (5, .int x5), (6, .long x6)]) X dX0_hopeBy_174 rfl (Nat.le_of_ble_eq_true rfl) (fun _ => rfl) (fun x2_10 => ?_)
    refine v_iinc (pc := 175) (v := x5 + (1 : Int32)) (lv' := [(5, .int (x5 + (1 : Int32))), (2, .long x2_10), (0, .ref (v_E g 0)), (1, .ref (v_E g p1)), (4, .int x4), (6, .long x6)]) (k := 4) X dX0_hopeBy_175 rfl rfl (Nat.le_of_ble_eq_true rfl) rfl ?_
    refine v_goto (pc := 178) (tgt := 19) X dX0_hopeBy_178 (by decide) ?_
    refine v_sub [2, 3, 1, 4, 0] rfl ?_
    exact h19 x2_10 x4 (x5 + (1 : Int32)) s_7
  · refine v_goto (pc := 117) (tgt := 175) X dX0_hopeBy_117 (by decide) ?_
    refine v_iinc (pc := 175) (v := x5 + (1 : Int32)) (lv' := [(5, .int (x5 + (1 : Int32))), (0, .ref (v_E g 0)), (1, .ref (v_E g p1)), (2, .long x2), (4, .int x4), (6, .long x6)]) (k := 4) X dX0_hopeBy_175 rfl rfl (Nat.le_of_ble_eq_true rfl) rfl ?_
    refine v_goto (pc := 178) (tgt := 19) X dX0_hopeBy_178 (by decide) ?_
    refine v_sub [1, 2, 3, 4, 0] rfl ?_
    exact h19 x2 x4 (x5 + (1 : Int32)) s
theorem w_F_hopeBy_34 {Γ : v_Ctx} {l : Launch} {g : v_G} (fu : Nat) (p1 : Nat) (X : v_C Γ l rm_F_hopeBy cX0_hopeBy 9 RX0 (some .long) wC g) (r19 : Int64 × Int32 × Int32 × v_S → Option (Int64 × v_S)) (h19 : ∀ (x2 : Int64) (x4 : Int32) (x5 : Int32) (s : v_S), v_V Γ 9 wC g (fun z : Int64 × v_S => (some (.long z.1), z.2)) 19 [(0, .ref (v_E g 0)), (1, .ref (v_E g p1)), (2, .long x2), (4, .int x4), (5, .int x5)] [] s (r19 (x2, x4, x5, s))) (r34 : Int64 × Int32 × Int32 × Int64 × Int32 × v_S → Option (Int64 × v_S)) (h34 : ∀ (x2 : Int64) (x4 : Int32) (x5 : Int32) (x6 : Int64) (x8 : Int32) (s : v_S), v_V Γ 9 wC g (fun z : Int64 × v_S => (some (.long z.1), z.2)) 34 [(0, .ref (v_E g 0)), (1, .ref (v_E g p1)), (2, .long x2), (4, .int x4), (5, .int x5), (6, .long x6), (8, .int x8)] [] s (r34 (x2, x4, x5, x6, x8, s))) (x2 : Int64) (x4 : Int32) (x5 : Int32) (x6 : Int64) (x8 : Int32) (s : v_S) : v_V Γ 9 wC g (fun z : Int64 × v_S => (some (.long z.1), z.2)) 34 [(0, .ref (v_E g 0)), (1, .ref (v_E g p1)), (2, .long x2), (4, .int x4), (5, .int x5), (6, .long x6), (8, .int x8)] [] s (t_F_hopeBy_34 fu p1 r19 r34 x2 x4 x5 x6 x8 s) := by
  unfold t_F_hopeBy_34
  refine v_iload (pc := 34) X dX0_hopeBy_34 6 rfl ?_
  refine v_iload (pc := 36) X dX0_hopeBy_36 3 rfl ?_
  refine v_icmp_ge (pc := 38) (tgt := 110) X dX0_hopeBy_38 (by decide) (fun c38 => ?_) (fun c38 => ?_)
  · refine v_sub [0, 1, 2, 3, 4, 5] rfl ?_
    exact w_F_hopeBy_110 fu p1 X r19 h19 x2 x4 x5 x6 s
  · refine v_lload (pc := 41) X dX0_hopeBy_41 5 rfl ?_
    refine v_iload (pc := 43) X dX0_hopeBy_43 4 rfl ?_
    refine v_iload (pc := 45) X dX0_hopeBy_45 6 rfl ?_
    refine v_cSi (pc := 47) X (m_F_isOn l g fu x5 x8 _) q1240 hy_F_isOn rfl rfl rfl rfl dX0_hopeBy_47 (fun z_11 _ => ?_)
    refine v_if_eq (pc := 50) (tgt := 77) X dX0_hopeBy_50 (by decide) (fun c50 => ?_) (fun c50 => ?_)
    · refine v_bipush (pc := 77) (v := 100) X dX0_hopeBy_77 rfl ?_
      refine v_aload_n (pc := 79) X dX0_hopeBy_79 0 rfl ?_
      refine v_get (pc := 80) (kind := 2) (v := va_rf (s.2.2.1 0 1)) X wC_n0 wC_l0 wC_c0 in_X0 (Nat.le_of_ble_eq_true rfl : 1 < 16) q600 rfl rfl dX0_hopeBy_80 ?_
      refine v_unq0 (pc := 83) (fun a_12 _ => ?_)
      refine v_dgetRN (pc := 83) X wC_c4 in_X2 (Nat.le_of_ble_eq_true rfl : 2 < 9) q429 dX0_hopeBy_83 (fun e_13 => ?_)
      refine v_iload (pc := 86) X dX0_hopeBy_86 6 rfl ?_
      refine v_unq1 (pc := 88) (fun a_14 _ => ?_)
      refine v_cFq (pc := 88) X (m_L_get l g fu a_14 x8 _) wC_c5 q1079 hF_get rfl rfl rfl rfl dX0_hopeBy_88 (fun e_15 _ => ?_)
      refine v_castq (pc := 93) X wC_c8 q1241 dX0_hopeBy_93 ?_
      refine v_unq0 (pc := 96) (fun a_16 _ => ?_)
      refine v_dgetIN (pc := 96) X wC_c8 in_X10 (Nat.le_of_ble_eq_true rfl : 5 < 6) q1009 dX0_hopeBy_96 (fun z_17 => ?_)
      refine v_isub (pc := 99) X dX0_hopeBy_99 ?_
      refine v_i2l (pc := 100) X dX0_hopeBy_100 ?_
      refine v_lmul (pc := 101) X dX0_hopeBy_101 ?_
      refine v_lstoreN (pc := 102) (lvf := fun x6_18 => [(6, .long x6_18), (0, .ref (v_E g 0)), (1, .ref (v_E g p1)), (2, .long x2), (4, .int x4), (5, .int x5), (8, .int x8)]) X dX0_hopeBy_102 (Nat.le_of_ble_eq_true rfl) (fun _ => rfl) (fun x6_18 => ?_)
      refine v_iinc (pc := 104) (v := x8 + (1 : Int32)) (lv' := [(8, .int (x8 + (1 : Int32))), (6, .long x6_18), (0, .ref (v_E g 0)), (1, .ref (v_E g p1)), (2, .long x2), (4, .int x4), (5, .int x5)]) (k := 6) X dX0_hopeBy_104 rfl rfl (Nat.le_of_ble_eq_true rfl) rfl ?_
      refine v_goto (pc := 107) (tgt := 34) X dX0_hopeBy_107 (by decide) ?_
      refine v_sub [2, 3, 4, 5, 6, 1, 0] rfl ?_
      exact h34 x2 x4 x5 x6_18 (x8 + (1 : Int32)) s
    · refine v_aload_n (pc := 53) X dX0_hopeBy_53 0 rfl ?_
      refine v_get (pc := 54) (kind := 2) (v := va_rf (s.2.2.1 0 1)) X wC_n0 wC_l0 wC_c0 in_X0 (Nat.le_of_ble_eq_true rfl : 1 < 16) q600 rfl rfl dX0_hopeBy_54 ?_
      refine v_unq0 (pc := 57) (fun a_19 _ => ?_)
      refine v_dgetRN (pc := 57) X wC_c4 in_X2 (Nat.le_of_ble_eq_true rfl : 2 < 9) q429 dX0_hopeBy_57 (fun e_20 => ?_)
      refine v_iload (pc := 60) X dX0_hopeBy_60 6 rfl ?_
      refine v_unq1 (pc := 62) (fun a_21 _ => ?_)
      refine v_cFq (pc := 62) X (m_L_get l g fu a_21 x8 _) wC_c5 q1079 hF_get rfl rfl rfl rfl dX0_hopeBy_62 (fun e_22 _ => ?_)
      refine v_castq (pc := 67) X wC_c8 q1241 dX0_hopeBy_67 ?_
      refine v_unq0 (pc := 70) (fun a_23 _ => ?_)
      refine v_dgetIN (pc := 70) X wC_c8 in_X10 (Nat.le_of_ble_eq_true rfl : 5 < 6) q1009 dX0_hopeBy_70 (fun z_24 => ?_)
      refine v_i2l (pc := 73) X dX0_hopeBy_73 ?_
      refine v_goto (pc := 74) (tgt := 101) X dX0_hopeBy_74 (by decide) ?_
      refine v_lmul (pc := 101) X dX0_hopeBy_101 ?_
      refine v_lstoreN (pc := 102) (lvf := fun x6_25 => [(6, .long x6_25), (0, .ref (v_E g 0)), (1, .ref (v_E g p1)), (2, .long x2), (4, .int x4), (5, .int x5), (8, .int x8)]) X dX0_hopeBy_102 (Nat.le_of_ble_eq_true rfl) (fun _ => rfl) (fun x6_25 => ?_)
      refine v_iinc (pc := 104) (v := x8 + (1 : Int32)) (lv' := [(8, .int (x8 + (1 : Int32))), (6, .long x6_25), (0, .ref (v_E g 0)), (1, .ref (v_E g p1)), (2, .long x2), (4, .int x4), (5, .int x5)]) (k := 6) X dX0_hopeBy_104 rfl rfl (Nat.le_of_ble_eq_true rfl) rfl ?_
      refine v_goto (pc := 107) (tgt := 34) X dX0_hopeBy_107 (by decide) ?_
      refine v_sub [2, 3, 4, 5, 6, 1, 0] rfl ?_
      exact h34 x2 x4 x5 x6_25 (x8 + (1 : Int32)) s
theorem w_F_hopeBy_34L {Γ : v_Ctx} {l : Launch} {g : v_G} (fu : Nat) (p1 : Nat) (X : v_C Γ l rm_F_hopeBy cX0_hopeBy 9 RX0 (some .long) wC g) (r19 : Int64 × Int32 × Int32 × v_S → Option (Int64 × v_S)) (h19 : ∀ (x2 : Int64) (x4 : Int32) (x5 : Int32) (s : v_S), v_V Γ 9 wC g (fun z : Int64 × v_S => (some (.long z.1), z.2)) 19 [(0, .ref (v_E g 0)), (1, .ref (v_E g p1)), (2, .long x2), (4, .int x4), (5, .int x5)] [] s (r19 (x2, x4, x5, s))) : ∀ (n : Nat), ∀ (x2 : Int64) (x4 : Int32) (x5 : Int32) (x6 : Int64) (x8 : Int32) (s : v_S), v_V Γ 9 wC g (fun z : Int64 × v_S => (some (.long z.1), z.2)) 34 [(0, .ref (v_E g 0)), (1, .ref (v_E g p1)), (2, .long x2), (4, .int x4), (5, .int x5), (6, .long x6), (8, .int x8)] [] s (v_loop (t_F_hopeBy_34B fu p1 r19) n (x2, x4, x5, x6, x8, s)) := by
  intro n
  induction n with
  | zero => exact fun _ _ _ _ _ _ => v_none
  | succ n ih => exact fun x2 x4 x5 x6 x8 s => w_F_hopeBy_34 fu p1 X r19 h19 _ ih x2 x4 x5 x6 x8 s
theorem w_F_hopeBy_19 {Γ : v_Ctx} {l : Launch} {g : v_G} (fu : Nat) (p1 : Nat) (X : v_C Γ l rm_F_hopeBy cX0_hopeBy 9 RX0 (some .long) wC g) (r19 : Int64 × Int32 × Int32 × v_S → Option (Int64 × v_S)) (h19 : ∀ (x2 : Int64) (x4 : Int32) (x5 : Int32) (s : v_S), v_V Γ 9 wC g (fun z : Int64 × v_S => (some (.long z.1), z.2)) 19 [(0, .ref (v_E g 0)), (1, .ref (v_E g p1)), (2, .long x2), (4, .int x4), (5, .int x5)] [] s (r19 (x2, x4, x5, s))) (x2 : Int64) (x4 : Int32) (x5 : Int32) (s : v_S) : v_V Γ 9 wC g (fun z : Int64 × v_S => (some (.long z.1), z.2)) 19 [(0, .ref (v_E g 0)), (1, .ref (v_E g p1)), (2, .long x2), (4, .int x4), (5, .int x5)] [] s (t_F_hopeBy_19 fu p1 r19 x2 x4 x5 s) := by
  unfold t_F_hopeBy_19
  refine v_iload (pc := 19) X dX0_hopeBy_19 4 rfl ?_
  refine v_iconst (pc := 21) (v := 1) X dX0_hopeBy_21 rfl ?_
  refine v_iload (pc := 22) X dX0_hopeBy_22 3 rfl ?_
  refine v_ishl (pc := 24) X dX0_hopeBy_24 ?_
  refine v_icmp_ge (pc := 25) (tgt := 181) X dX0_hopeBy_25 (by decide) (fun c25 => ?_) (fun c25 => ?_)
  · refine v_lload_n (pc := 181) X dX0_hopeBy_181 2 rfl ?_
    exact v_lret (pc := 182) X dX0_hopeBy_182 rfl
  · refine v_lconst (pc := 28) (v := 1) X dX0_hopeBy_28 rfl ?_
    refine v_lstore (pc := 29) (lv' := [(6, .long (1 : Int64)), (0, .ref (v_E g 0)), (1, .ref (v_E g p1)), (2, .long x2), (4, .int x4), (5, .int x5)]) X dX0_hopeBy_29 (Nat.le_of_ble_eq_true rfl) rfl ?_
    refine v_iconst (pc := 31) (v := 0) X dX0_hopeBy_31 rfl ?_
    refine v_istore (pc := 32) (lv' := [(8, .int (0 : Int32)), (6, .long (1 : Int64)), (0, .ref (v_E g 0)), (1, .ref (v_E g p1)), (2, .long x2), (4, .int x4), (5, .int x5)]) X dX0_hopeBy_32 (Nat.le_of_ble_eq_true rfl) rfl ?_
    refine v_sub [2, 3, 4, 5, 6, 1, 0] rfl ?_
    exact w_F_hopeBy_34L fu p1 X r19 h19 fu x2 x4 x5 (1 : Int64) (0 : Int32) s
theorem w_F_hopeBy_19L {Γ : v_Ctx} {l : Launch} {g : v_G} (fu : Nat) (p1 : Nat) (X : v_C Γ l rm_F_hopeBy cX0_hopeBy 9 RX0 (some .long) wC g)  : ∀ (n : Nat), ∀ (x2 : Int64) (x4 : Int32) (x5 : Int32) (s : v_S), v_V Γ 9 wC g (fun z : Int64 × v_S => (some (.long z.1), z.2)) 19 [(0, .ref (v_E g 0)), (1, .ref (v_E g p1)), (2, .long x2), (4, .int x4), (5, .int x5)] [] s (v_loop (t_F_hopeBy_19B fu p1) n (x2, x4, x5, s)) := by
  intro n
  induction n with
  | zero => exact fun _ _ _ _ => v_none
  | succ n ih => exact fun x2 x4 x5 s => w_F_hopeBy_19 fu p1 X  _ ih x2 x4 x5 s
theorem m_F_hopeBy (l : Launch) (g : v_G) (fu : Nat) (p1 : Nat) (s : v_S) : v_M l yX0_hopeBy cX0_hopeBy 9 (some .long) rm_F_hopeBy wC g [.ref (v_E g 0), .ref (v_E g p1)] s (fun z : Int64 × v_S => (some (.long z.1), z.2)) (t_F_hopeBy fu p1 s) := by
  refine v_met (by decide +kernel) (Nat.le_of_ble_eq_true rfl) (fun Γ X => ?_)
  refine v_lv (lv' := [(0, .ref (v_E g 0)), (1, .ref (v_E g p1))]) rfl ?_
  unfold t_F_hopeBy
  refine v_lconst (pc := 0) (v := 0) X dX0_hopeBy_0 rfl ?_
  refine v_lstore_n (pc := 1) (lv' := [(2, .long (0 : Int64)), (0, .ref (v_E g 0)), (1, .ref (v_E g p1))]) X dX0_hopeBy_1 rfl (Nat.le_of_ble_eq_true rfl) rfl ?_
  refine v_aload_n (pc := 2) X dX0_hopeBy_2 1 rfl ?_
  refine v_get (pc := 3) (kind := 2) (v := va_rf (s.2.2.1 0 1)) X wC_n0 wC_l0 wC_c0 in_X0 (Nat.le_of_ble_eq_true rfl : 1 < 16) q600 rfl rfl dX0_hopeBy_3 ?_
  refine v_unq0 (pc := 6) (fun a_1 _ => ?_)
  refine v_dgetRN (pc := 6) X wC_c4 in_X2 (Nat.le_of_ble_eq_true rfl : 2 < 9) q429 dX0_hopeBy_6 (fun e_2 => ?_)
  refine v_unq0 (pc := 9) (fun a_3 _ => ?_)
  refine v_cFi (pc := 9) X (m_L_size l g fu a_3  _) wC_c5 q1076 hF_size rfl rfl rfl rfl dX0_hopeBy_9 (fun z_4 _ => ?_)
  refine v_istore (pc := 14) (lv' := [(4, .int z_4), (2, .long (0 : Int64)), (0, .ref (v_E g 0)), (1, .ref (v_E g p1))]) X dX0_hopeBy_14 (Nat.le_of_ble_eq_true rfl) rfl ?_
  refine v_iconst (pc := 16) (v := 0) X dX0_hopeBy_16 rfl ?_
  refine v_istore (pc := 17) (lv' := [(5, .int (0 : Int32)), (4, .int z_4), (2, .long (0 : Int64)), (0, .ref (v_E g 0)), (1, .ref (v_E g p1))]) X dX0_hopeBy_17 (Nat.le_of_ble_eq_true rfl) rfl ?_
  refine v_sub [3, 4, 2, 1, 0] rfl ?_
  exact w_F_hopeBy_19L fu p1 X  fu (0 : Int64) z_4 (0 : Int32) s
/-! FloodLent.common(JJ)J -/
abbrev rmr_F_common (d : Nat) : Room := { frames := 1 + d, cells := 0, slots := 0, locals := 21 + d * 40 }
abbrev rm_F_common : Room := { frames := 65, cells := 0, slots := 0, locals := 2581 }
theorem hy_F_common : v_yS yX0_common cX0_common 4 (some .long) 2 := ⟨q1251, q133, q1252, by decide +kernel⟩
def t_F_common_b (fu : Nat) (rf : Int64 → Int64 → v_S → Option Int64) (p0 : Int64) (p2 : Int64) (s : v_S) : Option Int64 :=
  if lg_cmp p2 (0 : Int64) = 0 then (some p0) else (if p2 = 0 then none else v_b1 (rf p2 (p0 - p0 / p2 * p2) s) fun (z_1 : Int64) => some z_1)
def t_F_common_r (fu : Nat) : Nat → Int64 → Int64 → v_S → Option Int64
  | 0 => fun _ _ _ => none
  | d + 1 => fun p0 p2 s => t_F_common_b fu (t_F_common_r fu d) p0 p2 s
theorem m_F_common_b (l : Launch) (g : v_G) (fu : Nat) (rf : Int64 → Int64 → v_S → Option Int64) (p0 : Int64) (p2 : Int64) (s : v_S) (d : Nat) (hrf : ∀ (p0 : Int64) (p2 : Int64) (s : v_S), v_M l yX0_common cX0_common 4 (some .long) (rmr_F_common d) wC g [.long p0, .long p2] s (fun z : Int64 => (some (.long z), s)) (rf p0 p2 s)) : v_M l yX0_common cX0_common 4 (some .long) (rmr_F_common (d + 1)) wC g [.long p0, .long p2] s (fun z : Int64 => (some (.long z), s)) (t_F_common_b fu rf p0 p2 s) := by
  refine v_met (by decide +kernel) (Nat.le_of_ble_eq_true rfl) (fun Γ X => ?_)
  refine v_lv (lv' := [(0, .long p0), (2, .long p2)]) rfl ?_
  unfold t_F_common_b
  refine v_lload_n (pc := 0) X dX0_common_0 1 rfl ?_
  refine v_lconst (pc := 1) (v := 0) X dX0_common_1 rfl ?_
  refine v_lcmp (pc := 2) X dX0_common_2 ?_
  refine v_if_ne (pc := 3) (tgt := 10) X dX0_common_3 (by decide) (fun c3 => ?_) (fun c3 => ?_)
  · refine v_lload_n (pc := 10) X dX0_common_10 1 rfl ?_
    refine v_lload_n (pc := 11) X dX0_common_11 0 rfl ?_
    refine v_lload_n (pc := 12) X dX0_common_12 1 rfl ?_
    refine v_lrem (pc := 13) X dX0_common_13 ?_
    refine v_cSl (pc := 14) X (hrf p2 (p0 - p0 / p2 * p2) _) q1250 hy_F_common rfl (v_rm_self d rfl) rfl rfl dX0_common_14 (fun z_1 _ => ?_)
    exact v_lret (pc := 17) X dX0_common_17 rfl
  · refine v_lload_n (pc := 6) X dX0_common_6 0 rfl ?_
    refine v_goto (pc := 7) (tgt := 17) X dX0_common_7 (by decide) ?_
    exact v_lret (pc := 17) X dX0_common_17 rfl
theorem m_F_common_r (l : Launch) (g : v_G) (fu : Nat) : ∀ (d : Nat) (p0 : Int64) (p2 : Int64) (s : v_S), v_M l yX0_common cX0_common 4 (some .long) (rmr_F_common d) wC g [.long p0, .long p2] s (fun z : Int64 => (some (.long z), s)) (t_F_common_r fu d p0 p2 s) := by
  intro d
  induction d with
  | zero => exact fun _ _ _ x hx => by cases hx
  | succ d ih => exact fun p0 p2 s => m_F_common_b l g fu (t_F_common_r fu d) p0 p2 s d ih
def t_F_common (fu : Nat) (p0 : Int64) (p2 : Int64) (s : v_S) : Option Int64 := t_F_common_r fu 64 p0 p2 s
theorem m_F_common (l : Launch) (g : v_G) (fu : Nat) (p0 : Int64) (p2 : Int64) (s : v_S) : v_M l yX0_common cX0_common 4 (some .long) rm_F_common wC g [.long p0, .long p2] s (fun z : Int64 => (some (.long z), s)) (t_F_common fu p0 p2 s) := m_F_common_r l g fu 64 p0 p2 s
/-! FloodLent.told(JI)J -/
abbrev rm_F_told_2 : Room := { frames := 66, cells := 0, slots := 0, locals := 2604 }
theorem hy_F_told_2 : v_yV yX0_told_2 cX0_told_2 7 (some .long) 2 := ⟨q1244, qs43, q133, q1245, by decide +kernel⟩
def t_F_told_2_47 (fu : Nat) (p1 : Int64) (p3 : Int32) (s : v_S) (x4 : Int64) (y0 : Int64) : Option Int64 :=
v_b1 (t_F_common fu (if 0 < p1 then p1 else -p1) x4 s) fun (z_5 : Int64) => if z_5 = 0 then none else some (y0 / z_5)
def t_F_told_2_37 (fu : Nat) (p1 : Int64) (p3 : Int32) (s : v_S) (x4 : Int64) : Option Int64 :=
if p3 = 0 then (t_F_told_2_47 fu p1 p3 s x4 p1) else (t_F_told_2_47 fu p1 p3 s x4 x4)
def t_F_told_2_6 (fu : Nat) (p1 : Int64) (p3 : Int32) (s : v_S) (r6 : Int64 × Int32 → Option Int64) (x4 : Int64) (x6 : Int32) : Option Int64 :=
v_b1 (s.2.2.1 0 1) fun (a_1 : Nat) => v_b1 (v_dR s a_1 4 2) fun (e_2 : Option Nat) => v_b1 e_2 fun (a_3 : Nat) => if v_isc s (some a_3) 5 = true then v_b1 (t_L_size fu a_3 s) fun (z_4 : Int32) => (if z_4 ≤ x6 then (t_F_told_2_37 fu p1 p3 s x4) else (v_n (x4 * (100 : Int64)) fun (x4_6 : Int64) => r6 (x4_6, x6 + (1 : Int32)))) else none
def t_F_told_2_6B (fu : Nat) (p1 : Int64) (p3 : Int32) (s : v_S) (r6 : Int64 × Int32 → Option Int64) (a : Int64 × Int32) : Option Int64 := t_F_told_2_6 fu p1 p3 s r6 a.1 a.2
def t_F_told_2 (fu : Nat) (p1 : Int64) (p3 : Int32) (s : v_S) : Option Int64 :=
  v_loop (t_F_told_2_6B fu p1 p3 s) fu ((1 : Int64), (0 : Int32))
theorem w_F_told_2_47 {Γ : v_Ctx} {l : Launch} {g : v_G} (fu : Nat) (p1 : Int64) (p3 : Int32) (s : v_S) (X : v_C Γ l rm_F_told_2 cX0_told_2 7 RX0 (some .long) wC g)  (x4 : Int64) (y0 : Int64) : v_V Γ 7 wC g (fun z : Int64 => (some (.long z), s)) 47 [(1, .long p1), (4, .long x4)] [.long y0] s (t_F_told_2_47 fu p1 p3 s x4 y0) := by
  unfold t_F_told_2_47
  refine v_lload_n (pc := 47) X dX0_told_2_47 0 rfl ?_
  refine v_mabsL (pc := 48) X q1247 q1248 q143 q1249 rfl dX0_told_2_48 ?_
  refine v_lload (pc := 51) X dX0_told_2_51 1 rfl ?_
  refine v_cSl (pc := 53) X (m_F_common l g fu (if 0 < p1 then p1 else -p1) x4 _) q1250 hy_F_common rfl rfl rfl rfl dX0_told_2_53 (fun z_5 _ => ?_)
  refine v_ldiv (pc := 56) X dX0_told_2_56 ?_
  exact v_lret (pc := 57) X dX0_told_2_57 rfl
theorem w_F_told_2_37 {Γ : v_Ctx} {l : Launch} {g : v_G} (fu : Nat) (p1 : Int64) (p3 : Int32) (s : v_S) (X : v_C Γ l rm_F_told_2 cX0_told_2 7 RX0 (some .long) wC g)  (x4 : Int64) : v_V Γ 7 wC g (fun z : Int64 => (some (.long z), s)) 37 [(1, .long p1), (3, .int p3), (4, .long x4)] [] s (t_F_told_2_37 fu p1 p3 s x4) := by
  unfold t_F_told_2_37
  refine v_iload_n (pc := 37) X dX0_told_2_37 1 rfl ?_
  refine v_if_ne (pc := 38) (tgt := 45) X dX0_told_2_38 (by decide) (fun c38 => ?_) (fun c38 => ?_)
  · refine v_lload (pc := 45) X dX0_told_2_45 2 rfl ?_
    refine v_sub [0, 2] rfl ?_
    exact w_F_told_2_47 fu p1 p3 s X  x4 x4
  · refine v_lload_n (pc := 41) X dX0_told_2_41 0 rfl ?_
    refine v_goto (pc := 42) (tgt := 47) X dX0_told_2_42 (by decide) ?_
    refine v_sub [0, 2] rfl ?_
    exact w_F_told_2_47 fu p1 p3 s X  x4 p1
theorem w_F_told_2_6 {Γ : v_Ctx} {l : Launch} {g : v_G} (fu : Nat) (p1 : Int64) (p3 : Int32) (s : v_S) (X : v_C Γ l rm_F_told_2 cX0_told_2 7 RX0 (some .long) wC g) (r6 : Int64 × Int32 → Option Int64) (h6 : ∀ (x4 : Int64) (x6 : Int32), v_V Γ 7 wC g (fun z : Int64 => (some (.long z), s)) 6 [(0, .ref (v_E g 0)), (1, .long p1), (3, .int p3), (4, .long x4), (6, .int x6)] [] s (r6 (x4, x6))) (x4 : Int64) (x6 : Int32) : v_V Γ 7 wC g (fun z : Int64 => (some (.long z), s)) 6 [(0, .ref (v_E g 0)), (1, .long p1), (3, .int p3), (4, .long x4), (6, .int x6)] [] s (t_F_told_2_6 fu p1 p3 s r6 x4 x6) := by
  unfold t_F_told_2_6
  refine v_iload (pc := 6) X dX0_told_2_6 4 rfl ?_
  refine v_aload_n (pc := 8) X dX0_told_2_8 0 rfl ?_
  refine v_get (pc := 9) (kind := 2) (v := va_rf (s.2.2.1 0 1)) X wC_n0 wC_l0 wC_c0 in_X0 (Nat.le_of_ble_eq_true rfl : 1 < 16) q600 rfl rfl dX0_told_2_9 ?_
  refine v_unq0 (pc := 12) (fun a_1 _ => ?_)
  refine v_dgetRN (pc := 12) X wC_c4 in_X2 (Nat.le_of_ble_eq_true rfl : 2 < 9) q429 dX0_told_2_12 (fun e_2 => ?_)
  refine v_unq0 (pc := 15) (fun a_3 _ => ?_)
  refine v_cFi (pc := 15) X (m_L_size l g fu a_3  _) wC_c5 q1076 hF_size rfl rfl rfl rfl dX0_told_2_15 (fun z_4 _ => ?_)
  refine v_icmp_ge (pc := 20) (tgt := 37) X dX0_told_2_20 (by decide) (fun c20 => ?_) (fun c20 => ?_)
  · refine v_sub [1, 2, 3] rfl ?_
    exact w_F_told_2_37 fu p1 p3 s X  x4
  · refine v_lload (pc := 23) X dX0_told_2_23 3 rfl ?_
    refine v_ldc2 (pc := 25) X q1246 dX0_told_2_25 ?_
    refine v_lmul (pc := 28) X dX0_told_2_28 ?_
    refine v_lstoreN (pc := 29) (lvf := fun x4_6 => [(4, .long x4_6), (0, .ref (v_E g 0)), (1, .long p1), (3, .int p3), (6, .int x6)]) X dX0_told_2_29 (Nat.le_of_ble_eq_true rfl) (fun _ => rfl) (fun x4_6 => ?_)
    refine v_iinc (pc := 31) (v := x6 + (1 : Int32)) (lv' := [(6, .int (x6 + (1 : Int32))), (4, .long x4_6), (0, .ref (v_E g 0)), (1, .long p1), (3, .int p3)]) (k := 4) X dX0_told_2_31 rfl rfl (Nat.le_of_ble_eq_true rfl) rfl ?_
    refine v_goto (pc := 34) (tgt := 6) X dX0_told_2_34 (by decide) ?_
    refine v_sub [2, 3, 4, 1, 0] rfl ?_
    exact h6 x4_6 (x6 + (1 : Int32))
theorem w_F_told_2_6L {Γ : v_Ctx} {l : Launch} {g : v_G} (fu : Nat) (p1 : Int64) (p3 : Int32) (s : v_S) (X : v_C Γ l rm_F_told_2 cX0_told_2 7 RX0 (some .long) wC g)  : ∀ (n : Nat), ∀ (x4 : Int64) (x6 : Int32), v_V Γ 7 wC g (fun z : Int64 => (some (.long z), s)) 6 [(0, .ref (v_E g 0)), (1, .long p1), (3, .int p3), (4, .long x4), (6, .int x6)] [] s (v_loop (t_F_told_2_6B fu p1 p3 s) n (x4, x6)) := by
  intro n
  induction n with
  | zero => exact fun _ _ => v_none
  | succ n ih => exact fun x4 x6 => w_F_told_2_6 fu p1 p3 s X  _ ih x4 x6
theorem m_F_told_2 (l : Launch) (g : v_G) (fu : Nat) (p1 : Int64) (p3 : Int32) (s : v_S) : v_M l yX0_told_2 cX0_told_2 7 (some .long) rm_F_told_2 wC g [.ref (v_E g 0), .long p1, .int p3] s (fun z : Int64 => (some (.long z), s)) (t_F_told_2 fu p1 p3 s) := by
  refine v_met (by decide +kernel) (Nat.le_of_ble_eq_true rfl) (fun Γ X => ?_)
  refine v_lv (lv' := [(0, .ref (v_E g 0)), (1, .long p1), (3, .int p3)]) rfl ?_
  unfold t_F_told_2
  refine v_lconst (pc := 0) (v := 1) X dX0_told_2_0 rfl ?_
  refine v_lstore (pc := 1) (lv' := [(4, .long (1 : Int64)), (0, .ref (v_E g 0)), (1, .long p1), (3, .int p3)]) X dX0_told_2_1 (Nat.le_of_ble_eq_true rfl) rfl ?_
  refine v_iconst (pc := 3) (v := 0) X dX0_told_2_3 rfl ?_
  refine v_istore (pc := 4) (lv' := [(6, .int (0 : Int32)), (4, .long (1 : Int64)), (0, .ref (v_E g 0)), (1, .long p1), (3, .int p3)]) X dX0_told_2_4 (Nat.le_of_ble_eq_true rfl) rfl ?_
  refine v_sub [2, 3, 4, 1, 0] rfl ?_
  exact w_F_told_2_6L fu p1 p3 s X  fu (1 : Int64) (0 : Int32)
/-! FloodLent.hope(I)J -/
abbrev rm_F_hope : Room := { frames := 67, cells := 0, slots := 0, locals := 2630 }
theorem hy_F_hope : v_yV yX0_hope cX0_hope 2 (some .long) 1 := ⟨q1233, q1234, q133, q1235, by decide +kernel⟩
def t_F_hope (fu : Nat) (p1 : Int32) (s : v_S) : Option (Int64 × v_S) :=
  v_b1 (s.2.2.1 0 1) fun (a_1 : Nat) => if v_isc s (some a_1) 4 = true then v_b1 (t_Q_is fu a_1 s) fun (z_3 : Int32) => (if z_3 = 0 then (some ((-2 : Int64), s)) else (v_b1 (t_F_in fu (Int32.toInt64 p1) (0 : Int64) (1 : Int64) s) fun (z_4 : Int32) => if z_4 = 0 then (some ((-2 : Int64), s)) else (v_b2 (t_F_hopeBy fu (6) s) fun (z_5 : Int64) (s_6 : v_S) => v_b1 (t_F_told_2 fu z_5 p1 s_6) fun (z_7 : Int64) => some (z_7, s_6)))) else none
theorem m_F_hope (l : Launch) (g : v_G) (fu : Nat) (p1 : Int32) (s : v_S) : v_M l yX0_hope cX0_hope 2 (some .long) rm_F_hope wC g [.ref (v_E g 0), .int p1] s (fun z : Int64 × v_S => (some (.long z.1), z.2)) (t_F_hope fu p1 s) := by
  refine v_met (by decide +kernel) (Nat.le_of_ble_eq_true rfl) (fun Γ X => ?_)
  refine v_lv (lv' := [(0, .ref (v_E g 0)), (1, .int p1)]) rfl ?_
  unfold t_F_hope
  refine v_aload_n (pc := 0) X dX0_hope_0 0 rfl ?_
  refine v_get (pc := 1) (kind := 2) (v := va_rf (s.2.2.1 0 1)) X wC_n0 wC_l0 wC_c0 in_X0 (Nat.le_of_ble_eq_true rfl : 1 < 16) q600 rfl rfl dX0_hope_1 ?_
  refine v_unq0 (pc := 4) (fun a_1 _ => ?_)
  refine v_nzT (pc := 4) (fun h_2 => ?_)
  refine v_cGi (pc := 4) X (m_Q_is l g fu a_1 _) (v_rc_d X wC_c4 h_2) (Or.inl q1052) hy_Q_is rfl rfl rfl rfl dX0_hope_4 (fun z_3 _ => ?_)
  refine v_if_eq (pc := 7) (tgt := 36) X dX0_hope_7 (by decide) (fun c7 => ?_) (fun c7 => ?_)
  · refine v_ldc2 (pc := 36) X q1253 dX0_hope_36 ?_
    exact v_lret (pc := 39) X dX0_hope_39 rfl
  · refine v_iload_n (pc := 10) X dX0_hope_10 1 rfl ?_
    refine v_i2l (pc := 11) X dX0_hope_11 ?_
    refine v_lconst (pc := 12) (v := 0) X dX0_hope_12 rfl ?_
    refine v_lconst (pc := 13) (v := 1) X dX0_hope_13 rfl ?_
    refine v_cSi (pc := 14) X (m_F_in l g fu (Int32.toInt64 p1) (0 : Int64) (1 : Int64) _) q174 hy_F_in rfl rfl rfl rfl dX0_hope_14 (fun z_4 _ => ?_)
    refine v_if_eq (pc := 17) (tgt := 36) X dX0_hope_17 (by decide) (fun c17 => ?_) (fun c17 => ?_)
    · refine v_ldc2 (pc := 36) X q1253 dX0_hope_36 ?_
      exact v_lret (pc := 39) X dX0_hope_39 rfl
    · refine v_aload_n (pc := 20) X dX0_hope_20 0 rfl ?_
      refine v_aload_n (pc := 21) X dX0_hope_21 0 rfl ?_
      refine v_aload_n (pc := 22) X dX0_hope_22 0 rfl ?_
      refine v_get (pc := 23) (kind := 9) (v := .ref (v_E g 6)) X wC_n0 wC_l0 wC_c0 in_X0 (Nat.le_of_ble_eq_true rfl : 3 < 16) q602 rfl rfl dX0_hope_23 ?_
      refine v_cGls (pc := 26) X (m_F_hopeBy l g fu (6) _) (v_rc_n X wC_o0) (Or.inl q1236) hy_F_hopeBy rfl rfl rfl rfl dX0_hope_26 (fun z_5 s_6 _ => ?_)
      refine v_iload_n (pc := 29) X dX0_hope_29 1 rfl ?_
      refine v_cGl (pc := 30) X (m_F_told_2 l g fu z_5 p1 _) (v_rc_n X wC_o0) (Or.inl q1242) hy_F_told_2 rfl rfl rfl rfl dX0_hope_30 (fun z_7 _ => ?_)
      refine v_goto (pc := 33) (tgt := 39) X dX0_hope_33 (by decide) ?_
      exact v_lret (pc := 39) X dX0_hope_39 rfl
/-! FloodLent.wisestOf()I -/
abbrev rm_F_wisestOf : Room := { frames := 8, cells := 0, slots := 0, locals := 181 }
theorem hy_F_wisestOf : v_yV yX0_wisestOf cX0_wisestOf 5 (some .int) 0 := ⟨q1260, qs44, q133, q1261, by decide +kernel⟩
def t_F_wisestOf_43 (fu : Nat) (r4 : Int32 × Int32 × v_S → Option (Int32 × v_S)) (x2 : Int32) (x3 : Int64) (s : v_S) : Option (Int32 × v_S) :=
v_n (v_uL s 0 12 x3) fun (s_5 : v_S) => r4 (x2, x2 + (1 : Int32), s_5)
def t_F_wisestOf_4 (fu : Nat) (r4 : Int32 × Int32 × v_S → Option (Int32 × v_S)) (x1 : Int32) (x2 : Int32) (s : v_S) : Option (Int32 × v_S) :=
v_b1 (t_F_manyTakers fu s) fun (z_1 : Int32) => if z_1 ≤ x2 then (some (x1, s)) else (v_b1 (t_F_lays fu x2 s) fun (s_2 : v_S) => v_b2 (t_F_hopeBy fu (10) s_2) fun (z_3 : Int64) (s_4 : v_S) => if x1 = (-1 : Int32) then (t_F_wisestOf_43 fu r4 x2 z_3 s_4) else (if (0 : Int32) < lg_cmp z_3 (s_4.2.1 0 12) then (t_F_wisestOf_43 fu r4 x2 z_3 s_4) else (r4 (x1, x2 + (1 : Int32), s_4))))
def t_F_wisestOf_4B (fu : Nat) (r4 : Int32 × Int32 × v_S → Option (Int32 × v_S)) (a : Int32 × Int32 × v_S) : Option (Int32 × v_S) := t_F_wisestOf_4 fu r4 a.1 a.2.1 a.2.2
def t_F_wisestOf (fu : Nat)  (s : v_S) : Option (Int32 × v_S) :=
  v_loop (t_F_wisestOf_4B fu) fu ((-1 : Int32), (0 : Int32), s)
theorem w_F_wisestOf_43 {Γ : v_Ctx} {l : Launch} {g : v_G} (fu : Nat) (X : v_C Γ l rm_F_wisestOf cX0_wisestOf 5 RX0 (some .int) wC g) (r4 : Int32 × Int32 × v_S → Option (Int32 × v_S)) (h4 : ∀ (x1 : Int32) (x2 : Int32) (s : v_S), v_V Γ 5 wC g (fun z : Int32 × v_S => (some (.int z.1), z.2)) 4 [(0, .ref (v_E g 0)), (1, .int x1), (2, .int x2)] [] s (r4 (x1, x2, s))) (x2 : Int32) (x3 : Int64) (s : v_S) : v_V Γ 5 wC g (fun z : Int32 × v_S => (some (.int z.1), z.2)) 43 [(0, .ref (v_E g 0)), (2, .int x2), (3, .long x3)] [] s (t_F_wisestOf_43 fu r4 x2 x3 s) := by
  unfold t_F_wisestOf_43
  refine v_iload_n (pc := 43) X dX0_wisestOf_43 1 rfl ?_
  refine v_istore_n (pc := 44) (lv' := [(1, .int x2), (0, .ref (v_E g 0)), (2, .int x2), (3, .long x3)]) X dX0_wisestOf_44 rfl (Nat.le_of_ble_eq_true rfl) rfl ?_
  refine v_aload_n (pc := 45) X dX0_wisestOf_45 1 rfl ?_
  refine v_lload_n (pc := 46) X dX0_wisestOf_46 3 rfl ?_
  refine v_putL (pc := 47) X wC_n0 wC_l0 wC_c0 in_X0 tyX0 tyX0_ok nmX0 (Nat.le_of_ble_eq_true rfl : 12 < 16) q611 rfl rfl rfl dX0_wisestOf_47 (fun s_5 => ?_)
  refine v_iinc (pc := 50) (v := x2 + (1 : Int32)) (lv' := [(2, .int (x2 + (1 : Int32))), (1, .int x2), (0, .ref (v_E g 0)), (3, .long x3)]) (k := 2) X dX0_wisestOf_50 rfl rfl (Nat.le_of_ble_eq_true rfl) rfl ?_
  refine v_goto (pc := 53) (tgt := 4) X dX0_wisestOf_53 (by decide) ?_
  refine v_sub [2, 1, 0] rfl ?_
  exact h4 x2 (x2 + (1 : Int32)) s_5
theorem w_F_wisestOf_4 {Γ : v_Ctx} {l : Launch} {g : v_G} (fu : Nat) (X : v_C Γ l rm_F_wisestOf cX0_wisestOf 5 RX0 (some .int) wC g) (r4 : Int32 × Int32 × v_S → Option (Int32 × v_S)) (h4 : ∀ (x1 : Int32) (x2 : Int32) (s : v_S), v_V Γ 5 wC g (fun z : Int32 × v_S => (some (.int z.1), z.2)) 4 [(0, .ref (v_E g 0)), (1, .int x1), (2, .int x2)] [] s (r4 (x1, x2, s))) (x1 : Int32) (x2 : Int32) (s : v_S) : v_V Γ 5 wC g (fun z : Int32 × v_S => (some (.int z.1), z.2)) 4 [(0, .ref (v_E g 0)), (1, .int x1), (2, .int x2)] [] s (t_F_wisestOf_4 fu r4 x1 x2 s) := by
  unfold t_F_wisestOf_4
  refine v_iload_n (pc := 4) X dX0_wisestOf_4 2 rfl ?_
  refine v_aload_n (pc := 5) X dX0_wisestOf_5 0 rfl ?_
  refine v_cGi (pc := 6) X (m_F_manyTakers l g fu _) (v_rc_n X wC_o0) (Or.inl q1206) hy_F_manyTakers rfl rfl rfl rfl dX0_wisestOf_6 (fun z_1 _ => ?_)
  refine v_icmp_ge (pc := 9) (tgt := 56) X dX0_wisestOf_9 (by decide) (fun c9 => ?_) (fun c9 => ?_)
  · refine v_iload_n (pc := 56) X dX0_wisestOf_56 1 rfl ?_
    exact v_iret (pc := 57) X dX0_wisestOf_57 rfl
  · refine v_aload_n (pc := 12) X dX0_wisestOf_12 0 rfl ?_
    refine v_iload_n (pc := 13) X dX0_wisestOf_13 2 rfl ?_
    refine v_cGs (pc := 14) X (m_F_lays l g fu x2 _) (v_rc_n X wC_o0) (Or.inl q1214) hy_F_lays rfl rfl rfl rfl dX0_wisestOf_14 (fun s_2 _ => ?_)
    refine v_aload_n (pc := 17) X dX0_wisestOf_17 0 rfl ?_
    refine v_aload_n (pc := 18) X dX0_wisestOf_18 0 rfl ?_
    refine v_get (pc := 19) (kind := 13) (v := .ref (v_E g 10)) X wC_n0 wC_l0 wC_c0 in_X0 (Nat.le_of_ble_eq_true rfl : 10 < 16) q609 rfl rfl dX0_wisestOf_19 ?_
    refine v_cGls (pc := 22) X (m_F_hopeBy l g fu (10) _) (v_rc_n X wC_o0) (Or.inl q1236) hy_F_hopeBy rfl rfl rfl rfl dX0_wisestOf_22 (fun z_3 s_4 _ => ?_)
    refine v_lstore_n (pc := 25) (lv' := [(3, .long z_3), (0, .ref (v_E g 0)), (1, .int x1), (2, .int x2)]) X dX0_wisestOf_25 rfl (Nat.le_of_ble_eq_true rfl) rfl ?_
    refine v_iload_n (pc := 26) X dX0_wisestOf_26 2 rfl ?_
    refine v_iconst (pc := 27) (v := -1) X dX0_wisestOf_27 rfl ?_
    refine v_icmp_eq (pc := 28) (tgt := 43) X dX0_wisestOf_28 (by decide) (fun c28 => ?_) (fun c28 => ?_)
    · refine v_sub [1, 3, 0] rfl ?_
      exact w_F_wisestOf_43 fu X r4 h4 x2 z_3 s_4
    · refine v_lload_n (pc := 31) X dX0_wisestOf_31 0 rfl ?_
      refine v_aload_n (pc := 32) X dX0_wisestOf_32 1 rfl ?_
      refine v_get (pc := 33) (kind := 1) (v := .long (s_4.2.1 0 12)) X wC_n0 wC_l0 wC_c0 in_X0 (Nat.le_of_ble_eq_true rfl : 12 < 16) q611 rfl rfl dX0_wisestOf_33 ?_
      refine v_lcmp (pc := 36) X dX0_wisestOf_36 ?_
      refine v_if_gt (pc := 37) (tgt := 43) X dX0_wisestOf_37 (by decide) (fun c37 => ?_) (fun c37 => ?_)
      · refine v_sub [1, 3, 0] rfl ?_
        exact w_F_wisestOf_43 fu X r4 h4 x2 z_3 s_4
      · refine v_goto (pc := 40) (tgt := 50) X dX0_wisestOf_40 (by decide) ?_
        refine v_iinc (pc := 50) (v := x2 + (1 : Int32)) (lv' := [(2, .int (x2 + (1 : Int32))), (3, .long z_3), (0, .ref (v_E g 0)), (1, .int x1)]) (k := 3) X dX0_wisestOf_50 rfl rfl (Nat.le_of_ble_eq_true rfl) rfl ?_
        refine v_goto (pc := 53) (tgt := 4) X dX0_wisestOf_53 (by decide) ?_
        refine v_sub [2, 3, 0] rfl ?_
        exact h4 x1 (x2 + (1 : Int32)) s_4
theorem w_F_wisestOf_4L {Γ : v_Ctx} {l : Launch} {g : v_G} (fu : Nat) (X : v_C Γ l rm_F_wisestOf cX0_wisestOf 5 RX0 (some .int) wC g)  : ∀ (n : Nat), ∀ (x1 : Int32) (x2 : Int32) (s : v_S), v_V Γ 5 wC g (fun z : Int32 × v_S => (some (.int z.1), z.2)) 4 [(0, .ref (v_E g 0)), (1, .int x1), (2, .int x2)] [] s (v_loop (t_F_wisestOf_4B fu) n (x1, x2, s)) := by
  intro n
  induction n with
  | zero => exact fun _ _ _ => v_none
  | succ n ih => exact fun x1 x2 s => w_F_wisestOf_4 fu X  _ ih x1 x2 s
theorem m_F_wisestOf (l : Launch) (g : v_G) (fu : Nat)  (s : v_S) : v_M l yX0_wisestOf cX0_wisestOf 5 (some .int) rm_F_wisestOf wC g [.ref (v_E g 0)] s (fun z : Int32 × v_S => (some (.int z.1), z.2)) (t_F_wisestOf fu  s) := by
  refine v_met (by decide +kernel) (Nat.le_of_ble_eq_true rfl) (fun Γ X => ?_)
  refine v_lv (lv' := [(0, .ref (v_E g 0))]) rfl ?_
  unfold t_F_wisestOf
  refine v_iconst (pc := 0) (v := -1) X dX0_wisestOf_0 rfl ?_
  refine v_istore_n (pc := 1) (lv' := [(1, .int (-1 : Int32)), (0, .ref (v_E g 0))]) X dX0_wisestOf_1 rfl (Nat.le_of_ble_eq_true rfl) rfl ?_
  refine v_iconst (pc := 2) (v := 0) X dX0_wisestOf_2 rfl ?_
  refine v_istore_n (pc := 3) (lv' := [(2, .int (0 : Int32)), (1, .int (-1 : Int32)), (0, .ref (v_E g 0))]) X dX0_wisestOf_3 rfl (Nat.le_of_ble_eq_true rfl) rfl ?_
  refine v_sub [2, 1, 0] rfl ?_
  exact w_F_wisestOf_4L fu X  fu (-1 : Int32) (0 : Int32) s
/-! FloodLent.wise(I)I -/
abbrev rm_F_wise : Room := { frames := 9, cells := 0, slots := 0, locals := 205 }
theorem hy_F_wise : v_yV yX0_wise cX0_wise 2 (some .int) 1 := ⟨q1255, q1256, q133, q1257, by decide +kernel⟩
def t_F_wise (fu : Nat) (p1 : Int32) (s : v_S) : Option (Int32 × v_S) :=
  v_b1 (t_F_isFlood fu p1 s) fun (z_1 : Int32) => if z_1 = 0 then (some ((-2 : Int32), s)) else (v_b2 (t_F_wisestOf fu s) fun (z_2 : Int32) (s_3 : v_S) => v_b1 (t_F_lays fu z_2 s_3) fun (s_4 : v_S) => v_g p1 3 <| some (s_4.1 10 (Int32.toNatClampNeg p1), s_4))
theorem m_F_wise (l : Launch) (g : v_G) (fu : Nat) (p1 : Int32) (s : v_S) : v_M l yX0_wise cX0_wise 2 (some .int) rm_F_wise wC g [.ref (v_E g 0), .int p1] s (fun z : Int32 × v_S => (some (.int z.1), z.2)) (t_F_wise fu p1 s) := by
  refine v_met (by decide +kernel) (Nat.le_of_ble_eq_true rfl) (fun Γ X => ?_)
  refine v_lv (lv' := [(0, .ref (v_E g 0)), (1, .int p1)]) rfl ?_
  unfold t_F_wise
  refine v_aload_n (pc := 0) X dX0_wise_0 0 rfl ?_
  refine v_iload_n (pc := 1) X dX0_wise_1 1 rfl ?_
  refine v_cGi (pc := 2) X (m_F_isFlood l g fu p1 _) (v_rc_n X wC_o0) (Or.inl q1085) hy_F_isFlood rfl rfl rfl rfl dX0_wise_2 (fun z_1 _ => ?_)
  refine v_if_ne (pc := 5) (tgt := 11) X dX0_wise_5 (by decide) (fun c5 => ?_) (fun c5 => ?_)
  · refine v_aload_n (pc := 11) X dX0_wise_11 0 rfl ?_
    refine v_aload_n (pc := 12) X dX0_wise_12 0 rfl ?_
    refine v_cGis (pc := 13) X (m_F_wisestOf l g fu _) (v_rc_n X wC_o0) (Or.inl q1258) hy_F_wisestOf rfl rfl rfl rfl dX0_wise_13 (fun z_2 s_3 _ => ?_)
    refine v_cGs (pc := 16) X (m_F_lays l g fu z_2 _) (v_rc_n X wC_o0) (Or.inl q1214) hy_F_lays rfl rfl rfl rfl dX0_wise_16 (fun s_4 _ => ?_)
    refine v_aload_n (pc := 19) X dX0_wise_19 0 rfl ?_
    refine v_get (pc := 20) (kind := 13) (v := .ref (v_E g 10)) X wC_n0 wC_l0 wC_c0 in_X0 (Nat.le_of_ble_eq_true rfl : 10 < 16) q609 rfl rfl dX0_wise_20 ?_
    refine v_iload_n (pc := 23) X dX0_wise_23 1 rfl ?_
    refine v_iald (pc := 24) X wC_n10 wC_l10 dX0_wise_24 ?_
    exact v_iret (pc := 25) X dX0_wise_25 rfl
  · refine v_bipush (pc := 8) (v := -2) X dX0_wise_8 rfl ?_
    exact v_iret (pc := 10) X dX0_wise_10 rfl
/-! FloodLent.wisest(I)J -/
abbrev rm_F_wisest : Room := { frames := 67, cells := 0, slots := 0, locals := 2630 }
theorem hy_F_wisest : v_yV yX0_wisest cX0_wisest 2 (some .long) 1 := ⟨q1263, q1264, q133, q1265, by decide +kernel⟩
def t_F_wisest (fu : Nat) (p1 : Int32) (s : v_S) : Option (Int64 × v_S) :=
  v_b1 (s.2.2.1 0 1) fun (a_1 : Nat) => if v_isc s (some a_1) 4 = true then v_b1 (t_Q_is fu a_1 s) fun (z_3 : Int32) => (if z_3 = 0 then (some ((-2 : Int64), s)) else (v_b1 (t_F_in fu (Int32.toInt64 p1) (0 : Int64) (1 : Int64) s) fun (z_4 : Int32) => if z_4 = 0 then (some ((-2 : Int64), s)) else (v_b2 (t_F_wisestOf fu s) fun (z_5 : Int32) (s_6 : v_S) => v_b1 (t_F_told_2 fu (s_6.2.1 0 12) p1 s_6) fun (z_7 : Int64) => some (z_7, s_6)))) else none
theorem m_F_wisest (l : Launch) (g : v_G) (fu : Nat) (p1 : Int32) (s : v_S) : v_M l yX0_wisest cX0_wisest 2 (some .long) rm_F_wisest wC g [.ref (v_E g 0), .int p1] s (fun z : Int64 × v_S => (some (.long z.1), z.2)) (t_F_wisest fu p1 s) := by
  refine v_met (by decide +kernel) (Nat.le_of_ble_eq_true rfl) (fun Γ X => ?_)
  refine v_lv (lv' := [(0, .ref (v_E g 0)), (1, .int p1)]) rfl ?_
  unfold t_F_wisest
  refine v_aload_n (pc := 0) X dX0_wisest_0 0 rfl ?_
  refine v_get (pc := 1) (kind := 2) (v := va_rf (s.2.2.1 0 1)) X wC_n0 wC_l0 wC_c0 in_X0 (Nat.le_of_ble_eq_true rfl : 1 < 16) q600 rfl rfl dX0_wisest_1 ?_
  refine v_unq0 (pc := 4) (fun a_1 _ => ?_)
  refine v_nzT (pc := 4) (fun h_2 => ?_)
  refine v_cGi (pc := 4) X (m_Q_is l g fu a_1 _) (v_rc_d X wC_c4 h_2) (Or.inl q1052) hy_Q_is rfl rfl rfl rfl dX0_wisest_4 (fun z_3 _ => ?_)
  refine v_if_eq (pc := 7) (tgt := 20) X dX0_wisest_7 (by decide) (fun c7 => ?_) (fun c7 => ?_)
  · refine v_ldc2 (pc := 20) X q1253 dX0_wisest_20 ?_
    exact v_lret (pc := 23) X dX0_wisest_23 rfl
  · refine v_iload_n (pc := 10) X dX0_wisest_10 1 rfl ?_
    refine v_i2l (pc := 11) X dX0_wisest_11 ?_
    refine v_lconst (pc := 12) (v := 0) X dX0_wisest_12 rfl ?_
    refine v_lconst (pc := 13) (v := 1) X dX0_wisest_13 rfl ?_
    refine v_cSi (pc := 14) X (m_F_in l g fu (Int32.toInt64 p1) (0 : Int64) (1 : Int64) _) q174 hy_F_in rfl rfl rfl rfl dX0_wisest_14 (fun z_4 _ => ?_)
    refine v_if_ne (pc := 17) (tgt := 24) X dX0_wisest_17 (by decide) (fun c17 => ?_) (fun c17 => ?_)
    · refine v_aload_n (pc := 24) X dX0_wisest_24 0 rfl ?_
      refine v_cGis (pc := 25) X (m_F_wisestOf l g fu _) (v_rc_n X wC_o0) (Or.inl q1258) hy_F_wisestOf rfl rfl rfl rfl dX0_wisest_25 (fun z_5 s_6 _ => ?_)
      refine v_pop (pc := 28) X dX0_wisest_28 rfl ?_
      refine v_aload_n (pc := 29) X dX0_wisest_29 0 rfl ?_
      refine v_aload_n (pc := 30) X dX0_wisest_30 0 rfl ?_
      refine v_get (pc := 31) (kind := 1) (v := .long (s_6.2.1 0 12)) X wC_n0 wC_l0 wC_c0 in_X0 (Nat.le_of_ble_eq_true rfl : 12 < 16) q611 rfl rfl dX0_wisest_31 ?_
      refine v_iload_n (pc := 34) X dX0_wisest_34 1 rfl ?_
      refine v_cGl (pc := 35) X (m_F_told_2 l g fu (s_6.2.1 0 12) p1 _) (v_rc_n X wC_o0) (Or.inl q1242) hy_F_told_2 rfl rfl rfl rfl dX0_wisest_35 (fun z_7 _ => ?_)
      exact v_lret (pc := 38) X dX0_wisest_38 rfl
    · refine v_ldc2 (pc := 20) X q1253 dX0_wisest_20 ?_
      exact v_lret (pc := 23) X dX0_wisest_23 rfl
/-! FloodLent$Slot.many()I -/
abbrev rm_S_many : Room := { frames := 1, cells := 0, slots := 0, locals := 21 }
theorem hy_S_many : v_yV yX1_many cX1_many 1 (some .int) 0 := ⟨q1275, q1276, q134, q1277, by decide +kernel⟩
def t_S_many (fu : Nat) (c0 : Nat) (s : v_S) : Option Int32 :=
  if v_ok wC c0 1 [2] = true then v_b1 (v_inst s (s.2.2.1 c0 0) 1) fun (z_2 : Int32) => (if z_2 = 0 then (if v_ok wC c0 1 [2] = true then v_b1 (v_inst s (s.2.2.1 c0 0) 4) fun (z_4 : Int32) => (if z_4 = 0 then (if v_ok wC c0 1 [2] = true then v_b1 (v_inst s (s.2.2.1 c0 0) 0) fun (z_6 : Int32) => (if z_6 = 0 then (if v_ok wC c0 1 [2] = true then if v_isa s (s.2.2.1 c0 0) 3 = true then v_b1 (s.2.2.1 c0 0) fun (a_8 : Nat) => v_b1 (v_dlen s a_8) fun (z_9 : Int32) => (some z_9) else none else none) else (if v_ok wC c0 1 [2] = true then if v_isa s (s.2.2.1 c0 0) 0 = true then v_b1 (s.2.2.1 c0 0) fun (a_11 : Nat) => v_b1 (v_dlen s a_11) fun (z_12 : Int32) => (some z_12) else none else none)) else none) else (if v_ok wC c0 1 [2] = true then if v_isa s (s.2.2.1 c0 0) 4 = true then v_b1 (s.2.2.1 c0 0) fun (a_14 : Nat) => v_b1 (v_dlen s a_14) fun (z_15 : Int32) => (some z_15) else none else none)) else none) else (if v_ok wC c0 1 [2] = true then if v_isa s (s.2.2.1 c0 0) 1 = true then v_b1 (s.2.2.1 c0 0) fun (a_17 : Nat) => v_b1 (v_dlen s a_17) fun (z_18 : Int32) => (some z_18) else none else none)) else none
theorem m_S_many (l : Launch) (g : v_G) (fu : Nat) (c0 : Nat) (s : v_S) : v_M l yX1_many cX1_many 1 (some .int) rm_S_many wC g [.ref (v_E g c0)] s (fun z : Int32 => (some (.int z), s)) (t_S_many fu c0 s) := by
  refine v_met (by decide +kernel) (Nat.le_of_ble_eq_true rfl) (fun Γ X => ?_)
  refine v_lv (lv' := [(0, .ref (v_E g c0))]) rfl ?_
  unfold t_S_many
  refine v_aload_n (pc := 0) X dX1_many_0 0 rfl ?_
  refine v_nzT (pc := 1) (fun h_1 => ?_)
  refine v_get (pc := 1) (kind := 2) (v := va_rf (s.2.2.1 c0 0)) X (v_ok_n h_1) (v_ok_l h_1) wC_c1 in_X1 (Nat.le_of_ble_eq_true rfl : 0 < 1) q379 rfl rfl dX1_many_1 ?_
  refine v_insta (pc := 4) X (by decide) (rfl : v_anm 1 = "[B") q329 dX1_many_4 (fun z_2 => ?_)
  refine v_if_eq (pc := 7) (tgt := 19) X dX1_many_7 (by decide) (fun c7 => ?_) (fun c7 => ?_)
  · refine v_aload_n (pc := 19) X dX1_many_19 0 rfl ?_
    refine v_nzT (pc := 20) (fun h_3 => ?_)
    refine v_get (pc := 20) (kind := 2) (v := va_rf (s.2.2.1 c0 0)) X (v_ok_n h_3) (v_ok_l h_3) wC_c1 in_X1 (Nat.le_of_ble_eq_true rfl : 0 < 1) q379 rfl rfl dX1_many_20 ?_
    refine v_insta (pc := 23) X (by decide) (rfl : v_anm 4 = "[S") q330 dX1_many_23 (fun z_4 => ?_)
    refine v_if_eq (pc := 26) (tgt := 38) X dX1_many_26 (by decide) (fun c26 => ?_) (fun c26 => ?_)
    · refine v_aload_n (pc := 38) X dX1_many_38 0 rfl ?_
      refine v_nzT (pc := 39) (fun h_5 => ?_)
      refine v_get (pc := 39) (kind := 2) (v := va_rf (s.2.2.1 c0 0)) X (v_ok_n h_5) (v_ok_l h_5) wC_c1 in_X1 (Nat.le_of_ble_eq_true rfl : 0 < 1) q379 rfl rfl dX1_many_39 ?_
      refine v_insta (pc := 42) X (by decide) (rfl : v_anm 0 = "[I") q349 dX1_many_42 (fun z_6 => ?_)
      refine v_if_eq (pc := 45) (tgt := 59) X dX1_many_45 (by decide) (fun c45 => ?_) (fun c45 => ?_)
      · refine v_aload_n (pc := 59) X dX1_many_59 0 rfl ?_
        refine v_nzT (pc := 60) (fun h_7 => ?_)
        refine v_get (pc := 60) (kind := 2) (v := va_rf (s.2.2.1 c0 0)) X (v_ok_n h_7) (v_ok_l h_7) wC_c1 in_X1 (Nat.le_of_ble_eq_true rfl : 0 < 1) q379 rfl rfl dX1_many_60 ?_
        refine v_casta (pc := 63) X (by decide) (rfl : v_anm 3 = "[J") q350 dX1_many_63 ?_
        refine v_unq0 (pc := 66) (fun a_8 _ => ?_)
        refine v_dalen (pc := 66) X dX1_many_66 (fun z_9 => ?_)
        exact v_iret (pc := 67) X dX1_many_67 rfl
      · refine v_aload_n (pc := 48) X dX1_many_48 0 rfl ?_
        refine v_nzT (pc := 49) (fun h_10 => ?_)
        refine v_get (pc := 49) (kind := 2) (v := va_rf (s.2.2.1 c0 0)) X (v_ok_n h_10) (v_ok_l h_10) wC_c1 in_X1 (Nat.le_of_ble_eq_true rfl : 0 < 1) q379 rfl rfl dX1_many_49 ?_
        refine v_casta (pc := 52) X (by decide) (rfl : v_anm 0 = "[I") q349 dX1_many_52 ?_
        refine v_unq0 (pc := 55) (fun a_11 _ => ?_)
        refine v_dalen (pc := 55) X dX1_many_55 (fun z_12 => ?_)
        refine v_goto (pc := 56) (tgt := 67) X dX1_many_56 (by decide) ?_
        exact v_iret (pc := 67) X dX1_many_67 rfl
    · refine v_aload_n (pc := 29) X dX1_many_29 0 rfl ?_
      refine v_nzT (pc := 30) (fun h_13 => ?_)
      refine v_get (pc := 30) (kind := 2) (v := va_rf (s.2.2.1 c0 0)) X (v_ok_n h_13) (v_ok_l h_13) wC_c1 in_X1 (Nat.le_of_ble_eq_true rfl : 0 < 1) q379 rfl rfl dX1_many_30 ?_
      refine v_casta (pc := 33) X (by decide) (rfl : v_anm 4 = "[S") q330 dX1_many_33 ?_
      refine v_unq0 (pc := 36) (fun a_14 _ => ?_)
      refine v_dalen (pc := 36) X dX1_many_36 (fun z_15 => ?_)
      exact v_iret (pc := 37) X dX1_many_37 rfl
  · refine v_aload_n (pc := 10) X dX1_many_10 0 rfl ?_
    refine v_nzT (pc := 11) (fun h_16 => ?_)
    refine v_get (pc := 11) (kind := 2) (v := va_rf (s.2.2.1 c0 0)) X (v_ok_n h_16) (v_ok_l h_16) wC_c1 in_X1 (Nat.le_of_ble_eq_true rfl : 0 < 1) q379 rfl rfl dX1_many_11 ?_
    refine v_casta (pc := 14) X (by decide) (rfl : v_anm 1 = "[B") q329 dX1_many_14 ?_
    refine v_unq0 (pc := 17) (fun a_17 _ => ?_)
    refine v_dalen (pc := 17) X dX1_many_17 (fun z_18 => ?_)
    exact v_iret (pc := 18) X dX1_many_18 rfl
/-! FloodLent$Slot.number(I)J -/
abbrev rm_S_number : Room := { frames := 1, cells := 0, slots := 0, locals := 21 }
theorem hy_S_number : v_yV yX1_number cX1_number 2 (some .long) 1 := ⟨q1279, q1280, q134, q1281, by decide +kernel⟩
def t_S_number (fu : Nat) (c0 : Nat) (p1 : Int32) (s : v_S) : Option Int64 :=
  if v_ok wC c0 1 [2] = true then v_b1 (v_inst s (s.2.2.1 c0 0) 1) fun (z_2 : Int32) => (if z_2 = 0 then (if v_ok wC c0 1 [2] = true then v_b1 (v_inst s (s.2.2.1 c0 0) 4) fun (z_4 : Int32) => (if z_4 = 0 then (if v_ok wC c0 1 [2] = true then v_b1 (v_inst s (s.2.2.1 c0 0) 0) fun (z_6 : Int32) => (if z_6 = 0 then (if v_ok wC c0 1 [2] = true then if v_isa s (s.2.2.1 c0 0) 3 = true then v_b1 (s.2.2.1 c0 0) fun (a_8 : Nat) => v_b2 (v_dl s a_8 3) fun (n_9 : Nat) (f_10 : Nat → Int64) => v_g p1 n_9 <| (some (f_10 (Int32.toNatClampNeg p1))) else none else none) else (if v_ok wC c0 1 [2] = true then if v_isa s (s.2.2.1 c0 0) 0 = true then v_b1 (s.2.2.1 c0 0) fun (a_12 : Nat) => v_b2 (v_da s a_12 0) fun (n_13 : Nat) (f_14 : Nat → Int32) => v_g p1 n_13 <| (some (Int32.toInt64 (f_14 (Int32.toNatClampNeg p1)))) else none else none)) else none) else (if v_ok wC c0 1 [2] = true then if v_isa s (s.2.2.1 c0 0) 4 = true then v_b1 (s.2.2.1 c0 0) fun (a_16 : Nat) => v_b2 (v_da s a_16 4) fun (n_17 : Nat) (f_18 : Nat → Int32) => v_g p1 n_17 <| (some (Int32.toInt64 (f_18 (Int32.toNatClampNeg p1)))) else none else none)) else none) else (if v_ok wC c0 1 [2] = true then if v_isa s (s.2.2.1 c0 0) 1 = true then v_b1 (s.2.2.1 c0 0) fun (a_20 : Nat) => v_b2 (v_da s a_20 1) fun (n_21 : Nat) (f_22 : Nat → Int32) => v_g p1 n_21 <| (some (Int32.toInt64 (f_22 (Int32.toNatClampNeg p1)))) else none else none)) else none
theorem m_S_number (l : Launch) (g : v_G) (fu : Nat) (c0 : Nat) (p1 : Int32) (s : v_S) : v_M l yX1_number cX1_number 2 (some .long) rm_S_number wC g [.ref (v_E g c0), .int p1] s (fun z : Int64 => (some (.long z), s)) (t_S_number fu c0 p1 s) := by
  refine v_met (by decide +kernel) (Nat.le_of_ble_eq_true rfl) (fun Γ X => ?_)
  refine v_lv (lv' := [(0, .ref (v_E g c0)), (1, .int p1)]) rfl ?_
  unfold t_S_number
  refine v_aload_n (pc := 0) X dX1_number_0 0 rfl ?_
  refine v_nzT (pc := 1) (fun h_1 => ?_)
  refine v_get (pc := 1) (kind := 2) (v := va_rf (s.2.2.1 c0 0)) X (v_ok_n h_1) (v_ok_l h_1) wC_c1 in_X1 (Nat.le_of_ble_eq_true rfl : 0 < 1) q379 rfl rfl dX1_number_1 ?_
  refine v_insta (pc := 4) X (by decide) (rfl : v_anm 1 = "[B") q329 dX1_number_4 (fun z_2 => ?_)
  refine v_if_eq (pc := 7) (tgt := 21) X dX1_number_7 (by decide) (fun c7 => ?_) (fun c7 => ?_)
  · refine v_aload_n (pc := 21) X dX1_number_21 0 rfl ?_
    refine v_nzT (pc := 22) (fun h_3 => ?_)
    refine v_get (pc := 22) (kind := 2) (v := va_rf (s.2.2.1 c0 0)) X (v_ok_n h_3) (v_ok_l h_3) wC_c1 in_X1 (Nat.le_of_ble_eq_true rfl : 0 < 1) q379 rfl rfl dX1_number_22 ?_
    refine v_insta (pc := 25) X (by decide) (rfl : v_anm 4 = "[S") q330 dX1_number_25 (fun z_4 => ?_)
    refine v_if_eq (pc := 28) (tgt := 42) X dX1_number_28 (by decide) (fun c28 => ?_) (fun c28 => ?_)
    · refine v_aload_n (pc := 42) X dX1_number_42 0 rfl ?_
      refine v_nzT (pc := 43) (fun h_5 => ?_)
      refine v_get (pc := 43) (kind := 2) (v := va_rf (s.2.2.1 c0 0)) X (v_ok_n h_5) (v_ok_l h_5) wC_c1 in_X1 (Nat.le_of_ble_eq_true rfl : 0 < 1) q379 rfl rfl dX1_number_43 ?_
      refine v_insta (pc := 46) X (by decide) (rfl : v_anm 0 = "[I") q349 dX1_number_46 (fun z_6 => ?_)
      refine v_if_eq (pc := 49) (tgt := 65) X dX1_number_49 (by decide) (fun c49 => ?_) (fun c49 => ?_)
      · refine v_aload_n (pc := 65) X dX1_number_65 0 rfl ?_
        refine v_nzT (pc := 66) (fun h_7 => ?_)
        refine v_get (pc := 66) (kind := 2) (v := va_rf (s.2.2.1 c0 0)) X (v_ok_n h_7) (v_ok_l h_7) wC_c1 in_X1 (Nat.le_of_ble_eq_true rfl : 0 < 1) q379 rfl rfl dX1_number_66 ?_
        refine v_casta (pc := 69) X (by decide) (rfl : v_anm 3 = "[J") q350 dX1_number_69 ?_
        refine v_iload_n (pc := 72) X dX1_number_72 1 rfl ?_
        refine v_unq1 (pc := 73) (fun a_8 _ => ?_)
        refine v_dlald (pc := 73) X dX1_number_73 (fun n_9 f_10 => ?_)
        exact v_lret (pc := 74) X dX1_number_74 rfl
      · refine v_aload_n (pc := 52) X dX1_number_52 0 rfl ?_
        refine v_nzT (pc := 53) (fun h_11 => ?_)
        refine v_get (pc := 53) (kind := 2) (v := va_rf (s.2.2.1 c0 0)) X (v_ok_n h_11) (v_ok_l h_11) wC_c1 in_X1 (Nat.le_of_ble_eq_true rfl : 0 < 1) q379 rfl rfl dX1_number_53 ?_
        refine v_casta (pc := 56) X (by decide) (rfl : v_anm 0 = "[I") q349 dX1_number_56 ?_
        refine v_iload_n (pc := 59) X dX1_number_59 1 rfl ?_
        refine v_unq1 (pc := 60) (fun a_12 _ => ?_)
        refine v_diald (pc := 60) X dX1_number_60 (fun n_13 f_14 => ?_)
        refine v_i2l (pc := 61) X dX1_number_61 ?_
        refine v_goto (pc := 62) (tgt := 74) X dX1_number_62 (by decide) ?_
        exact v_lret (pc := 74) X dX1_number_74 rfl
    · refine v_aload_n (pc := 31) X dX1_number_31 0 rfl ?_
      refine v_nzT (pc := 32) (fun h_15 => ?_)
      refine v_get (pc := 32) (kind := 2) (v := va_rf (s.2.2.1 c0 0)) X (v_ok_n h_15) (v_ok_l h_15) wC_c1 in_X1 (Nat.le_of_ble_eq_true rfl : 0 < 1) q379 rfl rfl dX1_number_32 ?_
      refine v_casta (pc := 35) X (by decide) (rfl : v_anm 4 = "[S") q330 dX1_number_35 ?_
      refine v_iload_n (pc := 38) X dX1_number_38 1 rfl ?_
      refine v_unq1 (pc := 39) (fun a_16 _ => ?_)
      refine v_dsald (pc := 39) X dX1_number_39 (fun n_17 f_18 => ?_)
      refine v_i2l (pc := 40) X dX1_number_40 ?_
      exact v_lret (pc := 41) X dX1_number_41 rfl
  · refine v_aload_n (pc := 10) X dX1_number_10 0 rfl ?_
    refine v_nzT (pc := 11) (fun h_19 => ?_)
    refine v_get (pc := 11) (kind := 2) (v := va_rf (s.2.2.1 c0 0)) X (v_ok_n h_19) (v_ok_l h_19) wC_c1 in_X1 (Nat.le_of_ble_eq_true rfl : 0 < 1) q379 rfl rfl dX1_number_11 ?_
    refine v_casta (pc := 14) X (by decide) (rfl : v_anm 1 = "[B") q329 dX1_number_14 ?_
    refine v_iload_n (pc := 17) X dX1_number_17 1 rfl ?_
    refine v_unq1 (pc := 18) (fun a_20 _ => ?_)
    refine v_dbald (pc := 18) X dX1_number_18 (fun n_21 f_22 => ?_)
    refine v_i2l (pc := 19) X dX1_number_19 ?_
    exact v_lret (pc := 20) X dX1_number_20 rfl
/-! FloodLent.whyNot(I)I -/
abbrev rm_F_whyNot : Room := { frames := 4, cells := 0, slots := 0, locals := 83 }
theorem hy_F_whyNot : v_yV yX0_whyNot cX0_whyNot 4 (some .int) 1 := ⟨q1272, qs45, q133, q1273, by decide +kernel⟩
def t_F_whyNot_51 (fu : Nat) (p1 : Int32) (s : v_S) (r51 : Nat × Int32 → Option Int32) (x2 : Nat) (x3 : Int32) : Option Int32 :=
if v_ok wC x2 1 [2] = true then v_b1 (t_S_many fu x2 s) fun (z_9 : Int32) => (if z_9 ≤ x3 then (some (0 : Int32)) else (if v_ok wC x2 1 [2] = true then v_b1 (t_S_number fu x2 x3 s) fun (z_11 : Int64) => v_b1 (t_F_isVillage fu z_11 s) fun (z_12 : Int32) => (if z_12 = 0 then (some (-2 : Int32)) else (if v_ok wC x2 1 [2] = true then v_b1 (t_S_number fu x2 (x3 + (1 : Int32)) s) fun (z_14 : Int64) => v_b1 (t_F_isWeek fu z_14 s) fun (z_15 : Int32) => (if z_15 = 0 then (some (-2 : Int32)) else (r51 (x2, x3 + (3 : Int32)))) else none)) else none)) else none
def t_F_whyNot_51B (fu : Nat) (p1 : Int32) (s : v_S) (r51 : Nat × Int32 → Option Int32) (a : Nat × Int32) : Option Int32 := t_F_whyNot_51 fu p1 s r51 a.1 a.2
def t_F_whyNot (fu : Nat) (p1 : Int32) (s : v_S) : Option Int32 :=
  v_b1 (t_F_isSlot fu p1 s) fun (z_1 : Int32) => if z_1 = 0 then (some (-2 : Int32)) else (v_b1 (s.2.2.1 0 1) fun (a_2 : Nat) => if v_isc s (some a_2) 4 = true then v_b1 (t_Q_is fu a_2 s) fun (z_4 : Int32) => (if z_4 = 0 then (some (-2 : Int32)) else (v_g p1 4 <| if v_ok wC ((2 + Int32.toNatClampNeg p1)) 1 [2] = true then (if s.2.2.1 ((2 + Int32.toNatClampNeg p1)) 0 = none then (some (-6 : Int32)) else (if v_ok wC ((2 + Int32.toNatClampNeg p1)) 1 [2] = true then v_b1 (t_S_many fu ((2 + Int32.toNatClampNeg p1)) s) fun (z_7 : Int32) => (if z_7 - z_7 / (3 : Int32) * (3 : Int32) = 0 then (v_loop (t_F_whyNot_51B fu p1 s) fu ((2 + Int32.toNatClampNeg p1), (0 : Int32))) else (some (-2 : Int32))) else none)) else none)) else none)
theorem w_F_whyNot_51 {Γ : v_Ctx} {l : Launch} {g : v_G} (fu : Nat) (p1 : Int32) (s : v_S) (X : v_C Γ l rm_F_whyNot cX0_whyNot 4 RX0 (some .int) wC g) (r51 : Nat × Int32 → Option Int32) (h51 : ∀ (x2 : Nat) (x3 : Int32), v_V Γ 4 wC g (fun z : Int32 => (some (.int z), s)) 51 [(0, .ref (v_E g 0)), (2, .ref (v_E g x2)), (3, .int x3)] [] s (r51 (x2, x3))) (x2 : Nat) (x3 : Int32) : v_V Γ 4 wC g (fun z : Int32 => (some (.int z), s)) 51 [(0, .ref (v_E g 0)), (2, .ref (v_E g x2)), (3, .int x3)] [] s (t_F_whyNot_51 fu p1 s r51 x2 x3) := by
  unfold t_F_whyNot_51
  refine v_iload_n (pc := 51) X dX0_whyNot_51 2 rfl ?_
  refine v_aload_n (pc := 52) X dX0_whyNot_52 1 rfl ?_
  refine v_nzT (pc := 53) (fun h_8 => ?_)
  refine v_cGi (pc := 53) X (m_S_many l g fu x2 _) (v_rc_n X (v_ok_o wC_c1 h_8)) (Or.inl q1274) hy_S_many rfl rfl rfl rfl dX0_whyNot_53 (fun z_9 _ => ?_)
  refine v_icmp_ge (pc := 56) (tgt := 94) X dX0_whyNot_56 (by decide) (fun c56 => ?_) (fun c56 => ?_)
  · refine v_iconst (pc := 94) (v := 0) X dX0_whyNot_94 rfl ?_
    exact v_iret (pc := 95) X dX0_whyNot_95 rfl
  · refine v_aload_n (pc := 59) X dX0_whyNot_59 0 rfl ?_
    refine v_aload_n (pc := 60) X dX0_whyNot_60 1 rfl ?_
    refine v_iload_n (pc := 61) X dX0_whyNot_61 2 rfl ?_
    refine v_nzT (pc := 62) (fun h_10 => ?_)
    refine v_cGl (pc := 62) X (m_S_number l g fu x2 x3 _) (v_rc_n X (v_ok_o wC_c1 h_10)) (Or.inl q1278) hy_S_number rfl rfl rfl rfl dX0_whyNot_62 (fun z_11 _ => ?_)
    refine v_cGi (pc := 65) X (m_F_isVillage l g fu z_11 _) (v_rc_n X wC_o0) (Or.inl q1067) hy_F_isVillage rfl rfl rfl rfl dX0_whyNot_65 (fun z_12 _ => ?_)
    refine v_if_eq (pc := 68) (tgt := 85) X dX0_whyNot_68 (by decide) (fun c68 => ?_) (fun c68 => ?_)
    · refine v_bipush (pc := 85) (v := -2) X dX0_whyNot_85 rfl ?_
      exact v_iret (pc := 87) X dX0_whyNot_87 rfl
    · refine v_aload_n (pc := 71) X dX0_whyNot_71 0 rfl ?_
      refine v_aload_n (pc := 72) X dX0_whyNot_72 1 rfl ?_
      refine v_iload_n (pc := 73) X dX0_whyNot_73 2 rfl ?_
      refine v_iconst (pc := 74) (v := 1) X dX0_whyNot_74 rfl ?_
      refine v_iadd (pc := 75) X dX0_whyNot_75 ?_
      refine v_nzT (pc := 76) (fun h_13 => ?_)
      refine v_cGl (pc := 76) X (m_S_number l g fu x2 (x3 + (1 : Int32)) _) (v_rc_n X (v_ok_o wC_c1 h_13)) (Or.inl q1278) hy_S_number rfl rfl rfl rfl dX0_whyNot_76 (fun z_14 _ => ?_)
      refine v_cGi (pc := 79) X (m_F_isWeek l g fu z_14 _) (v_rc_n X wC_o0) (Or.inl q1093) hy_F_isWeek rfl rfl rfl rfl dX0_whyNot_79 (fun z_15 _ => ?_)
      refine v_if_ne (pc := 82) (tgt := 88) X dX0_whyNot_82 (by decide) (fun c82 => ?_) (fun c82 => ?_)
      · refine v_iinc (pc := 88) (v := x3 + (3 : Int32)) (lv' := [(3, .int (x3 + (3 : Int32))), (0, .ref (v_E g 0)), (2, .ref (v_E g x2))]) (k := 2) X dX0_whyNot_88 rfl rfl (Nat.le_of_ble_eq_true rfl) rfl ?_
        refine v_goto (pc := 91) (tgt := 51) X dX0_whyNot_91 (by decide) ?_
        refine v_sub [1, 2, 0] rfl ?_
        exact h51 x2 (x3 + (3 : Int32))
      · refine v_bipush (pc := 85) (v := -2) X dX0_whyNot_85 rfl ?_
        exact v_iret (pc := 87) X dX0_whyNot_87 rfl
theorem w_F_whyNot_51L {Γ : v_Ctx} {l : Launch} {g : v_G} (fu : Nat) (p1 : Int32) (s : v_S) (X : v_C Γ l rm_F_whyNot cX0_whyNot 4 RX0 (some .int) wC g)  : ∀ (n : Nat), ∀ (x2 : Nat) (x3 : Int32), v_V Γ 4 wC g (fun z : Int32 => (some (.int z), s)) 51 [(0, .ref (v_E g 0)), (2, .ref (v_E g x2)), (3, .int x3)] [] s (v_loop (t_F_whyNot_51B fu p1 s) n (x2, x3)) := by
  intro n
  induction n with
  | zero => exact fun _ _ => v_none
  | succ n ih => exact fun x2 x3 => w_F_whyNot_51 fu p1 s X  _ ih x2 x3
theorem m_F_whyNot (l : Launch) (g : v_G) (fu : Nat) (p1 : Int32) (s : v_S) : v_M l yX0_whyNot cX0_whyNot 4 (some .int) rm_F_whyNot wC g [.ref (v_E g 0), .int p1] s (fun z : Int32 => (some (.int z), s)) (t_F_whyNot fu p1 s) := by
  refine v_met (by decide +kernel) (Nat.le_of_ble_eq_true rfl) (fun Γ X => ?_)
  refine v_lv (lv' := [(0, .ref (v_E g 0)), (1, .int p1)]) rfl ?_
  unfold t_F_whyNot
  refine v_iload_n (pc := 0) X dX0_whyNot_0 1 rfl ?_
  refine v_cSi (pc := 1) X (m_F_isSlot l g fu p1 _) q170 hy_F_isSlot rfl rfl rfl rfl dX0_whyNot_1 (fun z_1 _ => ?_)
  refine v_if_eq (pc := 4) (tgt := 17) X dX0_whyNot_4 (by decide) (fun c4 => ?_) (fun c4 => ?_)
  · refine v_bipush (pc := 17) (v := -2) X dX0_whyNot_17 rfl ?_
    exact v_iret (pc := 19) X dX0_whyNot_19 rfl
  · refine v_aload_n (pc := 7) X dX0_whyNot_7 0 rfl ?_
    refine v_get (pc := 8) (kind := 2) (v := va_rf (s.2.2.1 0 1)) X wC_n0 wC_l0 wC_c0 in_X0 (Nat.le_of_ble_eq_true rfl : 1 < 16) q600 rfl rfl dX0_whyNot_8 ?_
    refine v_unq0 (pc := 11) (fun a_2 _ => ?_)
    refine v_nzT (pc := 11) (fun h_3 => ?_)
    refine v_cGi (pc := 11) X (m_Q_is l g fu a_2 _) (v_rc_d X wC_c4 h_3) (Or.inl q1052) hy_Q_is rfl rfl rfl rfl dX0_whyNot_11 (fun z_4 _ => ?_)
    refine v_if_ne (pc := 14) (tgt := 20) X dX0_whyNot_14 (by decide) (fun c14 => ?_) (fun c14 => ?_)
    · refine v_aload_n (pc := 20) X dX0_whyNot_20 0 rfl ?_
      refine v_get (pc := 21) (kind := 4) (v := .ref (v_E g 1)) X wC_n0 wC_l0 wC_c0 in_X0 (Nat.le_of_ble_eq_true rfl : 0 < 16) q599 rfl rfl dX0_whyNot_21 ?_
      refine v_iload_n (pc := 24) X dX0_whyNot_24 1 rfl ?_
      refine v_aald (pc := 25) X wC_n1 wC_l1 rfl rfl dX0_whyNot_25 ?_
      refine v_astore_n (pc := 26) (lv' := [(2, .ref (v_E g (2 + Int32.toNatClampNeg p1))), (0, .ref (v_E g 0)), (1, .int p1)]) X dX0_whyNot_26 rfl (Nat.le_of_ble_eq_true rfl) rfl ?_
      refine v_aload_n (pc := 27) X dX0_whyNot_27 0 rfl ?_
      refine v_nzT (pc := 28) (fun h_5 => ?_)
      refine v_getN (pc := 28) (kind := 2) (v := va_rf (s.2.2.1 ((2 + Int32.toNatClampNeg p1)) 0)) X (v_ok_n h_5) (v_ok_l h_5) wC_c1 in_X1 (Nat.le_of_ble_eq_true rfl : 0 < 1) q380 rfl rfl dX0_whyNot_28 ?_
      refine v_ifnn (pc := 31) (tgt := 37) X dX0_whyNot_31 (by decide) (fun c31 => ?_) (fun c31 => ?_)
      · refine v_aload_n (pc := 37) X dX0_whyNot_37 0 rfl ?_
        refine v_nzT (pc := 38) (fun h_6 => ?_)
        refine v_cGi (pc := 38) X (m_S_many l g fu ((2 + Int32.toNatClampNeg p1)) _) (v_rc_n X (v_ok_o wC_c1 h_6)) (Or.inl q1274) hy_S_many rfl rfl rfl rfl dX0_whyNot_38 (fun z_7 _ => ?_)
        refine v_iconst (pc := 41) (v := 3) X dX0_whyNot_41 rfl ?_
        refine v_iremC (pc := 42) X (by decide) dX0_whyNot_42 ?_
        refine v_if_eq (pc := 43) (tgt := 49) X dX0_whyNot_43 (by decide) (fun c43 => ?_) (fun c43 => ?_)
        · refine v_iconst (pc := 49) (v := 0) X dX0_whyNot_49 rfl ?_
          refine v_istore_n (pc := 50) (lv' := [(3, .int (0 : Int32)), (2, .ref (v_E g (2 + Int32.toNatClampNeg p1))), (0, .ref (v_E g 0)), (1, .int p1)]) X dX0_whyNot_50 rfl (Nat.le_of_ble_eq_true rfl) rfl ?_
          refine v_sub [2, 1, 0] rfl ?_
          exact w_F_whyNot_51L fu p1 s X  fu ((2 + Int32.toNatClampNeg p1)) (0 : Int32)
        · refine v_bipush (pc := 46) (v := -2) X dX0_whyNot_46 rfl ?_
          exact v_iret (pc := 48) X dX0_whyNot_48 rfl
      · refine v_bipush (pc := 34) (v := -6) X dX0_whyNot_34 rfl ?_
        exact v_iret (pc := 36) X dX0_whyNot_36 rfl
    · refine v_bipush (pc := 17) (v := -2) X dX0_whyNot_17 rfl ?_
      exact v_iret (pc := 19) X dX0_whyNot_19 rfl
/-! FloodLent.agrees(LFloodLent$Slot;I)Z -/
abbrev rm_F_agrees : Room := { frames := 2, cells := 0, slots := 0, locals := 42 }
theorem hy_F_agrees : v_yV yX0_agrees cX0_agrees 4 (some .boolean) 2 := ⟨q1288, qs47, q133, q1289, by decide +kernel⟩
def t_F_agrees_2 (fu : Nat) (p1 : Nat) (p2 : Int32) (s : v_S) (r2 : Int32 → Option Int32) (x3 : Int32) : Option Int32 :=
if v_ok wC p1 1 [2] = true then v_b1 (t_S_many fu p1 s) fun (z_2 : Int32) => (if z_2 ≤ (3 : Int32) * x3 then (some (1 : Int32)) else (if x3 = p2 then (r2 (x3 + (1 : Int32))) else (if v_ok wC p1 1 [2] = true then v_b1 (t_S_number fu p1 ((3 : Int32) * x3) s) fun (z_4 : Int64) => v_g (Int64.toInt32 z_4) 6 <| if v_ok wC p1 1 [2] = true then v_b1 (t_S_number fu p1 (((3 : Int32) * x3) + (1 : Int32)) s) fun (z_6 : Int64) => v_b1 (v_il wC ((30 + Int32.toNatClampNeg (Int64.toInt32 z_4)))) fun (n_7 : Nat) => v_g (Int64.toInt32 z_6) n_7 <| if v_ok wC p1 1 [2] = true then v_b1 (t_S_number fu p1 (((3 : Int32) * x3) + (2 : Int32)) s) fun (z_9 : Int64) => (if lg_cmp (Int32.toInt64 (s.1 ((30 + Int32.toNatClampNeg (Int64.toInt32 z_4))) (Int32.toNatClampNeg (Int64.toInt32 z_6)))) z_9 = 0 then (r2 (x3 + (1 : Int32))) else (some (0 : Int32))) else none else none else none))) else none
def t_F_agrees_2B (fu : Nat) (p1 : Nat) (p2 : Int32) (s : v_S) (r2 : Int32 → Option Int32) (a : Int32) : Option Int32 := t_F_agrees_2 fu p1 p2 s r2 a
def t_F_agrees (fu : Nat) (p1 : Nat) (p2 : Int32) (s : v_S) : Option Int32 :=
  v_loop (t_F_agrees_2B fu p1 p2 s) fu (0 : Int32)
theorem w_F_agrees_2 {Γ : v_Ctx} {l : Launch} {g : v_G} (fu : Nat) (p1 : Nat) (p2 : Int32) (s : v_S) (X : v_C Γ l rm_F_agrees cX0_agrees 4 RX0 (some .boolean) wC g) (r2 : Int32 → Option Int32) (h2 : ∀ (x3 : Int32), v_V Γ 4 wC g (fun z : Int32 => (some (.int z), s)) 2 [(0, .ref (v_E g 0)), (1, .ref (v_E g p1)), (2, .int p2), (3, .int x3)] [] s (r2 x3)) (x3 : Int32) : v_V Γ 4 wC g (fun z : Int32 => (some (.int z), s)) 2 [(0, .ref (v_E g 0)), (1, .ref (v_E g p1)), (2, .int p2), (3, .int x3)] [] s (t_F_agrees_2 fu p1 p2 s r2 x3) := by
  unfold t_F_agrees_2
  refine v_iconst (pc := 2) (v := 3) X dX0_agrees_2 rfl ?_
  refine v_iload_n (pc := 3) X dX0_agrees_3 3 rfl ?_
  refine v_imul (pc := 4) X dX0_agrees_4 ?_
  refine v_aload_n (pc := 5) X dX0_agrees_5 1 rfl ?_
  refine v_nzT (pc := 6) (fun h_1 => ?_)
  refine v_cGi (pc := 6) X (m_S_many l g fu p1 _) (v_rc_n X (v_ok_o wC_c1 h_1)) (Or.inl q1274) hy_S_many rfl rfl rfl rfl dX0_agrees_6 (fun z_2 _ => ?_)
  refine v_icmp_ge (pc := 9) (tgt := 66) X dX0_agrees_9 (by decide) (fun c9 => ?_) (fun c9 => ?_)
  · refine v_iconst (pc := 66) (v := 1) X dX0_agrees_66 rfl ?_
    exact v_zret (pc := 67) X dX0_agrees_67 rfl rfl
  · refine v_iload_n (pc := 12) X dX0_agrees_12 3 rfl ?_
    refine v_iload_n (pc := 13) X dX0_agrees_13 2 rfl ?_
    refine v_icmp_eq (pc := 14) (tgt := 60) X dX0_agrees_14 (by decide) (fun c14 => ?_) (fun c14 => ?_)
    · refine v_iinc (pc := 60) (v := x3 + (1 : Int32)) (lv' := [(3, .int (x3 + (1 : Int32))), (0, .ref (v_E g 0)), (1, .ref (v_E g p1)), (2, .int p2)]) (k := 3) X dX0_agrees_60 rfl rfl (Nat.le_of_ble_eq_true rfl) rfl ?_
      refine v_goto (pc := 63) (tgt := 2) X dX0_agrees_63 (by decide) ?_
      refine v_sub [1, 2, 3, 0] rfl ?_
      exact h2 (x3 + (1 : Int32))
    · refine v_aload_n (pc := 17) X dX0_agrees_17 0 rfl ?_
      refine v_get (pc := 18) (kind := 10) (v := .ref (v_E g 7)) X wC_n0 wC_l0 wC_c0 in_X0 (Nat.le_of_ble_eq_true rfl : 4 < 16) q603 rfl rfl dX0_agrees_18 ?_
      refine v_getN (pc := 21) (kind := 32) (v := .ref (v_E g 29)) X wC_n7 wC_l7 wC_c2 in_X3 (Nat.le_of_ble_eq_true rfl : 0 < 23) q477 rfl rfl dX0_agrees_21 ?_
      refine v_aload_n (pc := 24) X dX0_agrees_24 1 rfl ?_
      refine v_iconst (pc := 25) (v := 3) X dX0_agrees_25 rfl ?_
      refine v_iload_n (pc := 26) X dX0_agrees_26 3 rfl ?_
      refine v_imul (pc := 27) X dX0_agrees_27 ?_
      refine v_nzT (pc := 28) (fun h_3 => ?_)
      refine v_cGl (pc := 28) X (m_S_number l g fu p1 ((3 : Int32) * x3) _) (v_rc_n X (v_ok_o wC_c1 h_3)) (Or.inl q1278) hy_S_number rfl rfl rfl rfl dX0_agrees_28 (fun z_4 _ => ?_)
      refine v_l2i (pc := 31) X dX0_agrees_31 ?_
      refine v_aald (pc := 32) X wC_n29 wC_l29 rfl rfl dX0_agrees_32 ?_
      refine v_aload_n (pc := 33) X dX0_agrees_33 1 rfl ?_
      refine v_iconst (pc := 34) (v := 3) X dX0_agrees_34 rfl ?_
      refine v_iload_n (pc := 35) X dX0_agrees_35 3 rfl ?_
      refine v_imul (pc := 36) X dX0_agrees_36 ?_
      refine v_iconst (pc := 37) (v := 1) X dX0_agrees_37 rfl ?_
      refine v_iadd (pc := 38) X dX0_agrees_38 ?_
      refine v_nzT (pc := 39) (fun h_5 => ?_)
      refine v_cGl (pc := 39) X (m_S_number l g fu p1 (((3 : Int32) * x3) + (1 : Int32)) _) (v_rc_n X (v_ok_o wC_c1 h_5)) (Or.inl q1278) hy_S_number rfl rfl rfl rfl dX0_agrees_39 (fun z_6 _ => ?_)
      refine v_l2i (pc := 42) X dX0_agrees_42 ?_
      refine v_ialdS (pc := 43) X dX0_agrees_43 (fun n_7 => ?_)
      refine v_i2l (pc := 44) X dX0_agrees_44 ?_
      refine v_aload_n (pc := 45) X dX0_agrees_45 1 rfl ?_
      refine v_iconst (pc := 46) (v := 3) X dX0_agrees_46 rfl ?_
      refine v_iload_n (pc := 47) X dX0_agrees_47 3 rfl ?_
      refine v_imul (pc := 48) X dX0_agrees_48 ?_
      refine v_iconst (pc := 49) (v := 2) X dX0_agrees_49 rfl ?_
      refine v_iadd (pc := 50) X dX0_agrees_50 ?_
      refine v_nzT (pc := 51) (fun h_8 => ?_)
      refine v_cGl (pc := 51) X (m_S_number l g fu p1 (((3 : Int32) * x3) + (2 : Int32)) _) (v_rc_n X (v_ok_o wC_c1 h_8)) (Or.inl q1278) hy_S_number rfl rfl rfl rfl dX0_agrees_51 (fun z_9 _ => ?_)
      refine v_lcmp (pc := 54) X dX0_agrees_54 ?_
      refine v_if_eq (pc := 55) (tgt := 60) X dX0_agrees_55 (by decide) (fun c55 => ?_) (fun c55 => ?_)
      · refine v_iinc (pc := 60) (v := x3 + (1 : Int32)) (lv' := [(3, .int (x3 + (1 : Int32))), (0, .ref (v_E g 0)), (1, .ref (v_E g p1)), (2, .int p2)]) (k := 3) X dX0_agrees_60 rfl rfl (Nat.le_of_ble_eq_true rfl) rfl ?_
        refine v_goto (pc := 63) (tgt := 2) X dX0_agrees_63 (by decide) ?_
        refine v_sub [1, 2, 3, 0] rfl ?_
        exact h2 (x3 + (1 : Int32))
      · refine v_iconst (pc := 58) (v := 0) X dX0_agrees_58 rfl ?_
        exact v_zret (pc := 59) X dX0_agrees_59 rfl rfl
theorem w_F_agrees_2L {Γ : v_Ctx} {l : Launch} {g : v_G} (fu : Nat) (p1 : Nat) (p2 : Int32) (s : v_S) (X : v_C Γ l rm_F_agrees cX0_agrees 4 RX0 (some .boolean) wC g)  : ∀ (n : Nat), ∀ (x3 : Int32), v_V Γ 4 wC g (fun z : Int32 => (some (.int z), s)) 2 [(0, .ref (v_E g 0)), (1, .ref (v_E g p1)), (2, .int p2), (3, .int x3)] [] s (v_loop (t_F_agrees_2B fu p1 p2 s) n x3) := by
  intro n
  induction n with
  | zero => exact fun _ => v_none
  | succ n ih => exact fun x3 => w_F_agrees_2 fu p1 p2 s X  _ ih x3
theorem m_F_agrees (l : Launch) (g : v_G) (fu : Nat) (p1 : Nat) (p2 : Int32) (s : v_S) : v_M l yX0_agrees cX0_agrees 4 (some .boolean) rm_F_agrees wC g [.ref (v_E g 0), .ref (v_E g p1), .int p2] s (fun z : Int32 => (some (.int z), s)) (t_F_agrees fu p1 p2 s) := by
  refine v_met (by decide +kernel) (Nat.le_of_ble_eq_true rfl) (fun Γ X => ?_)
  refine v_lv (lv' := [(0, .ref (v_E g 0)), (1, .ref (v_E g p1)), (2, .int p2)]) rfl ?_
  unfold t_F_agrees
  refine v_iconst (pc := 0) (v := 0) X dX0_agrees_0 rfl ?_
  refine v_istore_n (pc := 1) (lv' := [(3, .int (0 : Int32)), (0, .ref (v_E g 0)), (1, .ref (v_E g p1)), (2, .int p2)]) X dX0_agrees_1 rfl (Nat.le_of_ble_eq_true rfl) rfl ?_
  refine v_sub [1, 2, 3, 0] rfl ?_
  exact w_F_agrees_2L fu p1 p2 s X  fu (0 : Int32)
/-! FloodLent.agreeing(LFloodLent$Slot;I)I -/
abbrev rm_F_agreeing : Room := { frames := 8, cells := 0, slots := 0, locals := 174 }
theorem hy_F_agreeing : v_yV yX0_agreeing cX0_agreeing 5 (some .int) 2 := ⟨q1284, qs46, q133, q1285, by decide +kernel⟩
def t_F_agreeing_5 (fu : Nat) (p1 : Nat) (p2 : Int32) (r5 : Int32 × Int32 × v_S → Option (Int32 × v_S)) (x3 : Int32) (x4 : Int32) (s : v_S) : Option (Int32 × v_S) :=
v_b1 (t_F_manyTakers fu s) fun (z_1 : Int32) => if z_1 ≤ x4 then (some (x3, s)) else (v_b1 (t_F_by fu x4 s) fun (s_2 : v_S) => v_b1 (t_F_agrees fu p1 p2 s_2) fun (z_3 : Int32) => if z_3 = 0 then (v_n (x3 + (0 : Int32)) fun (x3_4 : Int32) => r5 (x3_4, x4 + (1 : Int32), s_2)) else (v_n (x3 + (1 : Int32)) fun (x3_5 : Int32) => r5 (x3_5, x4 + (1 : Int32), s_2)))
def t_F_agreeing_5B (fu : Nat) (p1 : Nat) (p2 : Int32) (r5 : Int32 × Int32 × v_S → Option (Int32 × v_S)) (a : Int32 × Int32 × v_S) : Option (Int32 × v_S) := t_F_agreeing_5 fu p1 p2 r5 a.1 a.2.1 a.2.2
def t_F_agreeing (fu : Nat) (p1 : Nat) (p2 : Int32) (s : v_S) : Option (Int32 × v_S) :=
  v_loop (t_F_agreeing_5B fu p1 p2) fu ((0 : Int32), (0 : Int32), s)
theorem w_F_agreeing_5 {Γ : v_Ctx} {l : Launch} {g : v_G} (fu : Nat) (p1 : Nat) (p2 : Int32) (X : v_C Γ l rm_F_agreeing cX0_agreeing 5 RX0 (some .int) wC g) (r5 : Int32 × Int32 × v_S → Option (Int32 × v_S)) (h5 : ∀ (x3 : Int32) (x4 : Int32) (s : v_S), v_V Γ 5 wC g (fun z : Int32 × v_S => (some (.int z.1), z.2)) 5 [(0, .ref (v_E g 0)), (1, .ref (v_E g p1)), (2, .int p2), (3, .int x3), (4, .int x4)] [] s (r5 (x3, x4, s))) (x3 : Int32) (x4 : Int32) (s : v_S) : v_V Γ 5 wC g (fun z : Int32 × v_S => (some (.int z.1), z.2)) 5 [(0, .ref (v_E g 0)), (1, .ref (v_E g p1)), (2, .int p2), (3, .int x3), (4, .int x4)] [] s (t_F_agreeing_5 fu p1 p2 r5 x3 x4 s) := by
  unfold t_F_agreeing_5
  refine v_iload (pc := 5) X dX0_agreeing_5 4 rfl ?_
  refine v_aload_n (pc := 7) X dX0_agreeing_7 0 rfl ?_
  refine v_cGi (pc := 8) X (m_F_manyTakers l g fu _) (v_rc_n X wC_o0) (Or.inl q1206) hy_F_manyTakers rfl rfl rfl rfl dX0_agreeing_8 (fun z_1 _ => ?_)
  refine v_icmp_ge (pc := 11) (tgt := 44) X dX0_agreeing_11 (by decide) (fun c11 => ?_) (fun c11 => ?_)
  · refine v_iload_n (pc := 44) X dX0_agreeing_44 3 rfl ?_
    exact v_iret (pc := 45) X dX0_agreeing_45 rfl
  · refine v_aload_n (pc := 14) X dX0_agreeing_14 0 rfl ?_
    refine v_iload (pc := 15) X dX0_agreeing_15 4 rfl ?_
    refine v_cGr (pc := 17) X (m_F_by l g fu x4 _) (v_rc_n X wC_o0) (Or.inl q1210) hy_F_by rfl rfl rfl rfl dX0_agreeing_17 (fun s_2 _ => ?_)
    refine v_pop (pc := 20) X dX0_agreeing_20 rfl ?_
    refine v_iload_n (pc := 21) X dX0_agreeing_21 3 rfl ?_
    refine v_aload_n (pc := 22) X dX0_agreeing_22 0 rfl ?_
    refine v_aload_n (pc := 23) X dX0_agreeing_23 1 rfl ?_
    refine v_iload_n (pc := 24) X dX0_agreeing_24 2 rfl ?_
    refine v_cGi (pc := 25) X (m_F_agrees l g fu p1 p2 _) (v_rc_n X wC_o0) (Or.inl q1286) hy_F_agrees rfl rfl rfl rfl dX0_agreeing_25 (fun z_3 _ => ?_)
    refine v_if_eq (pc := 28) (tgt := 35) X dX0_agreeing_28 (by decide) (fun c28 => ?_) (fun c28 => ?_)
    · refine v_iconst (pc := 35) (v := 0) X dX0_agreeing_35 rfl ?_
      refine v_iadd (pc := 36) X dX0_agreeing_36 ?_
      refine v_istore_nN (pc := 37) (lvf := fun x3_4 => [(3, .int x3_4), (0, .ref (v_E g 0)), (1, .ref (v_E g p1)), (2, .int p2), (4, .int x4)]) X dX0_agreeing_37 rfl (Nat.le_of_ble_eq_true rfl) (fun _ => rfl) (fun x3_4 => ?_)
      refine v_iinc (pc := 38) (v := x4 + (1 : Int32)) (lv' := [(4, .int (x4 + (1 : Int32))), (3, .int x3_4), (0, .ref (v_E g 0)), (1, .ref (v_E g p1)), (2, .int p2)]) (k := 4) X dX0_agreeing_38 rfl rfl (Nat.le_of_ble_eq_true rfl) rfl ?_
      refine v_goto (pc := 41) (tgt := 5) X dX0_agreeing_41 (by decide) ?_
      refine v_sub [2, 3, 4, 1, 0] rfl ?_
      exact h5 x3_4 (x4 + (1 : Int32)) s_2
    · refine v_iconst (pc := 31) (v := 1) X dX0_agreeing_31 rfl ?_
      refine v_goto (pc := 32) (tgt := 36) X dX0_agreeing_32 (by decide) ?_
      refine v_iadd (pc := 36) X dX0_agreeing_36 ?_
      refine v_istore_nN (pc := 37) (lvf := fun x3_5 => [(3, .int x3_5), (0, .ref (v_E g 0)), (1, .ref (v_E g p1)), (2, .int p2), (4, .int x4)]) X dX0_agreeing_37 rfl (Nat.le_of_ble_eq_true rfl) (fun _ => rfl) (fun x3_5 => ?_)
      refine v_iinc (pc := 38) (v := x4 + (1 : Int32)) (lv' := [(4, .int (x4 + (1 : Int32))), (3, .int x3_5), (0, .ref (v_E g 0)), (1, .ref (v_E g p1)), (2, .int p2)]) (k := 4) X dX0_agreeing_38 rfl rfl (Nat.le_of_ble_eq_true rfl) rfl ?_
      refine v_goto (pc := 41) (tgt := 5) X dX0_agreeing_41 (by decide) ?_
      refine v_sub [2, 3, 4, 1, 0] rfl ?_
      exact h5 x3_5 (x4 + (1 : Int32)) s_2
theorem w_F_agreeing_5L {Γ : v_Ctx} {l : Launch} {g : v_G} (fu : Nat) (p1 : Nat) (p2 : Int32) (X : v_C Γ l rm_F_agreeing cX0_agreeing 5 RX0 (some .int) wC g)  : ∀ (n : Nat), ∀ (x3 : Int32) (x4 : Int32) (s : v_S), v_V Γ 5 wC g (fun z : Int32 × v_S => (some (.int z.1), z.2)) 5 [(0, .ref (v_E g 0)), (1, .ref (v_E g p1)), (2, .int p2), (3, .int x3), (4, .int x4)] [] s (v_loop (t_F_agreeing_5B fu p1 p2) n (x3, x4, s)) := by
  intro n
  induction n with
  | zero => exact fun _ _ _ => v_none
  | succ n ih => exact fun x3 x4 s => w_F_agreeing_5 fu p1 p2 X  _ ih x3 x4 s
theorem m_F_agreeing (l : Launch) (g : v_G) (fu : Nat) (p1 : Nat) (p2 : Int32) (s : v_S) : v_M l yX0_agreeing cX0_agreeing 5 (some .int) rm_F_agreeing wC g [.ref (v_E g 0), .ref (v_E g p1), .int p2] s (fun z : Int32 × v_S => (some (.int z.1), z.2)) (t_F_agreeing fu p1 p2 s) := by
  refine v_met (by decide +kernel) (Nat.le_of_ble_eq_true rfl) (fun Γ X => ?_)
  refine v_lv (lv' := [(0, .ref (v_E g 0)), (1, .ref (v_E g p1)), (2, .int p2)]) rfl ?_
  unfold t_F_agreeing
  refine v_iconst (pc := 0) (v := 0) X dX0_agreeing_0 rfl ?_
  refine v_istore_n (pc := 1) (lv' := [(3, .int (0 : Int32)), (0, .ref (v_E g 0)), (1, .ref (v_E g p1)), (2, .int p2)]) X dX0_agreeing_1 rfl (Nat.le_of_ble_eq_true rfl) rfl ?_
  refine v_iconst (pc := 2) (v := 0) X dX0_agreeing_2 rfl ?_
  refine v_istore (pc := 3) (lv' := [(4, .int (0 : Int32)), (3, .int (0 : Int32)), (0, .ref (v_E g 0)), (1, .ref (v_E g p1)), (2, .int p2)]) X dX0_agreeing_3 (Nat.le_of_ble_eq_true rfl) rfl ?_
  refine v_sub [2, 3, 4, 1, 0] rfl ?_
  exact w_F_agreeing_5L fu p1 p2 X  fu (0 : Int32) (0 : Int32) s
/-! FloodLent.agree(I)I -/
abbrev rm_F_agree : Room := { frames := 9, cells := 0, slots := 0, locals := 198 }
theorem hy_F_agree : v_yV yX0_agree cX0_agree 3 (some .int) 1 := ⟨q1267, q1268, q133, q1269, by decide +kernel⟩
def t_F_agree (fu : Nat) (p1 : Int32) (s : v_S) : Option (Int32 × v_S) :=
  v_b1 (t_F_whyNot fu p1 s) fun (z_1 : Int32) => if z_1 = 0 then (v_g p1 4 <| v_b2 (t_F_agreeing fu ((2 + Int32.toNatClampNeg p1)) (-1 : Int32) s) fun (z_2 : Int32) (s_3 : v_S) => some (z_2, s_3)) else (some (z_1, s))
theorem m_F_agree (l : Launch) (g : v_G) (fu : Nat) (p1 : Int32) (s : v_S) : v_M l yX0_agree cX0_agree 3 (some .int) rm_F_agree wC g [.ref (v_E g 0), .int p1] s (fun z : Int32 × v_S => (some (.int z.1), z.2)) (t_F_agree fu p1 s) := by
  refine v_met (by decide +kernel) (Nat.le_of_ble_eq_true rfl) (fun Γ X => ?_)
  refine v_lv (lv' := [(0, .ref (v_E g 0)), (1, .int p1)]) rfl ?_
  unfold t_F_agree
  refine v_aload_n (pc := 0) X dX0_agree_0 0 rfl ?_
  refine v_iload_n (pc := 1) X dX0_agree_1 1 rfl ?_
  refine v_cGi (pc := 2) X (m_F_whyNot l g fu p1 _) (v_rc_n X wC_o0) (Or.inl q1270) hy_F_whyNot rfl rfl rfl rfl dX0_agree_2 (fun z_1 _ => ?_)
  refine v_istore_n (pc := 5) (lv' := [(2, .int z_1), (0, .ref (v_E g 0)), (1, .int p1)]) X dX0_agree_5 rfl (Nat.le_of_ble_eq_true rfl) rfl ?_
  refine v_iload_n (pc := 6) X dX0_agree_6 0 rfl ?_
  refine v_if_eq (pc := 7) (tgt := 14) X dX0_agree_7 (by decide) (fun c7 => ?_) (fun c7 => ?_)
  · refine v_aload_n (pc := 14) X dX0_agree_14 1 rfl ?_
    refine v_aload_n (pc := 15) X dX0_agree_15 1 rfl ?_
    refine v_get (pc := 16) (kind := 4) (v := .ref (v_E g 1)) X wC_n0 wC_l0 wC_c0 in_X0 (Nat.le_of_ble_eq_true rfl : 0 < 16) q599 rfl rfl dX0_agree_16 ?_
    refine v_iload_n (pc := 19) X dX0_agree_19 2 rfl ?_
    refine v_aald (pc := 20) X wC_n1 wC_l1 rfl rfl dX0_agree_20 ?_
    refine v_iconst (pc := 21) (v := -1) X dX0_agree_21 rfl ?_
    refine v_cGis (pc := 22) X (m_F_agreeing l g fu ((2 + Int32.toNatClampNeg p1)) (-1 : Int32) _) (v_rc_n X wC_o0) (Or.inl q1282) hy_F_agreeing rfl rfl rfl rfl dX0_agree_22 (fun z_2 s_3 _ => ?_)
    exact v_iret (pc := 25) X dX0_agree_25 rfl
  · refine v_iload_n (pc := 10) X dX0_agree_10 0 rfl ?_
    refine v_goto (pc := 11) (tgt := 25) X dX0_agree_11 (by decide) ?_
    exact v_iret (pc := 25) X dX0_agree_25 rfl
/-! FloodLent.who(II)I -/
abbrev rm_F_who : Room := { frames := 8, cells := 0, slots := 0, locals := 174 }
theorem hy_F_who : v_yV yX0_who cX0_who 7 (some .int) 2 := ⟨q1291, q1292, q133, q1293, by decide +kernel⟩
def t_F_who_85 (fu : Nat) (p1 : Int32) (p2 : Int32) (r31 : Int32 × Int32 × v_S → Option (Int32 × v_S)) (x4 : Int32) (x5 : Int32) (y0 : Int32) (s : v_S) : Option (Int32 × v_S) :=
if x4 = (-1 : Int32) then (r31 (y0, x5 + (1 : Int32), s)) else (if x4 = y0 then (r31 (y0, x5 + (1 : Int32), s)) else (some ((-1 : Int32), s)))
def t_F_who_31 (fu : Nat) (p1 : Int32) (p2 : Int32) (r31 : Int32 × Int32 × v_S → Option (Int32 × v_S)) (x4 : Int32) (x5 : Int32) (s : v_S) : Option (Int32 × v_S) :=
v_b1 (t_F_manyTakers fu s) fun (z_2 : Int32) => if z_2 ≤ x5 then (some (x4, s)) else (v_b1 (t_F_by fu x5 s) fun (s_3 : v_S) => v_g p1 4 <| v_b1 (t_F_agrees fu ((2 + Int32.toNatClampNeg p1)) (-1 : Int32) s_3) fun (z_4 : Int32) => if z_4 = 0 then (r31 (x4, x5 + (1 : Int32), s_3)) else (v_g p2 3 <| if s_3.1 10 (Int32.toNatClampNeg p2) = (-1 : Int32) then (t_F_who_85 fu p1 p2 r31 x4 x5 (9 : Int32) s_3) else (v_g p2 3 <| t_F_who_85 fu p1 p2 r31 x4 x5 (s_3.1 10 (Int32.toNatClampNeg p2)) s_3)))
def t_F_who_31B (fu : Nat) (p1 : Int32) (p2 : Int32) (r31 : Int32 × Int32 × v_S → Option (Int32 × v_S)) (a : Int32 × Int32 × v_S) : Option (Int32 × v_S) := t_F_who_31 fu p1 p2 r31 a.1 a.2.1 a.2.2
def t_F_who_18 (fu : Nat) (p1 : Int32) (p2 : Int32) (y0 : Int32) (s : v_S) : Option (Int32 × v_S) :=
if y0 = 0 then (v_loop (t_F_who_31B fu p1 p2) fu ((-1 : Int32), (0 : Int32), s)) else (some (y0, s))
def t_F_who (fu : Nat) (p1 : Int32) (p2 : Int32) (s : v_S) : Option (Int32 × v_S) :=
  v_b1 (t_F_isFlood fu p2 s) fun (z_1 : Int32) => if z_1 = 0 then (t_F_who_18 fu p1 p2 (-2 : Int32) s) else (v_b1 (t_F_whyNot fu p1 s) fun (z_5 : Int32) => t_F_who_18 fu p1 p2 z_5 s)
theorem w_F_who_85 {Γ : v_Ctx} {l : Launch} {g : v_G} (fu : Nat) (p1 : Int32) (p2 : Int32) (X : v_C Γ l rm_F_who cX0_who 7 RX0 (some .int) wC g) (r31 : Int32 × Int32 × v_S → Option (Int32 × v_S)) (h31 : ∀ (x4 : Int32) (x5 : Int32) (s : v_S), v_V Γ 7 wC g (fun z : Int32 × v_S => (some (.int z.1), z.2)) 31 [(0, .ref (v_E g 0)), (1, .int p1), (2, .int p2), (4, .int x4), (5, .int x5)] [] s (r31 (x4, x5, s))) (x4 : Int32) (x5 : Int32) (y0 : Int32) (s : v_S) : v_V Γ 7 wC g (fun z : Int32 × v_S => (some (.int z.1), z.2)) 85 [(0, .ref (v_E g 0)), (1, .int p1), (2, .int p2), (4, .int x4), (5, .int x5)] [.int y0] s (t_F_who_85 fu p1 p2 r31 x4 x5 y0 s) := by
  unfold t_F_who_85
  refine v_istore (pc := 85) (lv' := [(6, .int y0), (0, .ref (v_E g 0)), (1, .int p1), (2, .int p2), (4, .int x4), (5, .int x5)]) X dX0_who_85 (Nat.le_of_ble_eq_true rfl) rfl ?_
  refine v_iload (pc := 87) X dX0_who_87 4 rfl ?_
  refine v_iconst (pc := 89) (v := -1) X dX0_who_89 rfl ?_
  refine v_icmp_eq (pc := 90) (tgt := 102) X dX0_who_90 (by decide) (fun c90 => ?_) (fun c90 => ?_)
  · refine v_iload (pc := 102) X dX0_who_102 0 rfl ?_
    refine v_istore (pc := 104) (lv' := [(4, .int y0), (6, .int y0), (0, .ref (v_E g 0)), (1, .int p1), (2, .int p2), (5, .int x5)]) X dX0_who_104 (Nat.le_of_ble_eq_true rfl) rfl ?_
    refine v_iinc (pc := 106) (v := x5 + (1 : Int32)) (lv' := [(5, .int (x5 + (1 : Int32))), (4, .int y0), (6, .int y0), (0, .ref (v_E g 0)), (1, .int p1), (2, .int p2)]) (k := 5) X dX0_who_106 rfl rfl (Nat.le_of_ble_eq_true rfl) rfl ?_
    refine v_goto (pc := 109) (tgt := 31) X dX0_who_109 (by decide) ?_
    refine v_sub [3, 4, 5, 1, 0] rfl ?_
    exact h31 y0 (x5 + (1 : Int32)) s
  · refine v_iload (pc := 93) X dX0_who_93 4 rfl ?_
    refine v_iload (pc := 95) X dX0_who_95 0 rfl ?_
    refine v_icmp_eq (pc := 97) (tgt := 102) X dX0_who_97 (by decide) (fun c97 => ?_) (fun c97 => ?_)
    · refine v_iload (pc := 102) X dX0_who_102 0 rfl ?_
      refine v_istore (pc := 104) (lv' := [(4, .int y0), (6, .int y0), (0, .ref (v_E g 0)), (1, .int p1), (2, .int p2), (5, .int x5)]) X dX0_who_104 (Nat.le_of_ble_eq_true rfl) rfl ?_
      refine v_iinc (pc := 106) (v := x5 + (1 : Int32)) (lv' := [(5, .int (x5 + (1 : Int32))), (4, .int y0), (6, .int y0), (0, .ref (v_E g 0)), (1, .int p1), (2, .int p2)]) (k := 5) X dX0_who_106 rfl rfl (Nat.le_of_ble_eq_true rfl) rfl ?_
      refine v_goto (pc := 109) (tgt := 31) X dX0_who_109 (by decide) ?_
      refine v_sub [3, 4, 5, 1, 0] rfl ?_
      exact h31 y0 (x5 + (1 : Int32)) s
    · refine v_iconst (pc := 100) (v := -1) X dX0_who_100 rfl ?_
      exact v_iret (pc := 101) X dX0_who_101 rfl
theorem w_F_who_31 {Γ : v_Ctx} {l : Launch} {g : v_G} (fu : Nat) (p1 : Int32) (p2 : Int32) (X : v_C Γ l rm_F_who cX0_who 7 RX0 (some .int) wC g) (r31 : Int32 × Int32 × v_S → Option (Int32 × v_S)) (h31 : ∀ (x4 : Int32) (x5 : Int32) (s : v_S), v_V Γ 7 wC g (fun z : Int32 × v_S => (some (.int z.1), z.2)) 31 [(0, .ref (v_E g 0)), (1, .int p1), (2, .int p2), (4, .int x4), (5, .int x5)] [] s (r31 (x4, x5, s))) (x4 : Int32) (x5 : Int32) (s : v_S) : v_V Γ 7 wC g (fun z : Int32 × v_S => (some (.int z.1), z.2)) 31 [(0, .ref (v_E g 0)), (1, .int p1), (2, .int p2), (4, .int x4), (5, .int x5)] [] s (t_F_who_31 fu p1 p2 r31 x4 x5 s) := by
  unfold t_F_who_31
  refine v_iload (pc := 31) X dX0_who_31 4 rfl ?_
  refine v_aload_n (pc := 33) X dX0_who_33 0 rfl ?_
  refine v_cGi (pc := 34) X (m_F_manyTakers l g fu _) (v_rc_n X wC_o0) (Or.inl q1206) hy_F_manyTakers rfl rfl rfl rfl dX0_who_34 (fun z_2 _ => ?_)
  refine v_icmp_ge (pc := 37) (tgt := 112) X dX0_who_37 (by decide) (fun c37 => ?_) (fun c37 => ?_)
  · refine v_iload (pc := 112) X dX0_who_112 3 rfl ?_
    exact v_iret (pc := 114) X dX0_who_114 rfl
  · refine v_aload_n (pc := 40) X dX0_who_40 0 rfl ?_
    refine v_iload (pc := 41) X dX0_who_41 4 rfl ?_
    refine v_cGr (pc := 43) X (m_F_by l g fu x5 _) (v_rc_n X wC_o0) (Or.inl q1210) hy_F_by rfl rfl rfl rfl dX0_who_43 (fun s_3 _ => ?_)
    refine v_pop (pc := 46) X dX0_who_46 rfl ?_
    refine v_aload_n (pc := 47) X dX0_who_47 0 rfl ?_
    refine v_aload_n (pc := 48) X dX0_who_48 0 rfl ?_
    refine v_get (pc := 49) (kind := 4) (v := .ref (v_E g 1)) X wC_n0 wC_l0 wC_c0 in_X0 (Nat.le_of_ble_eq_true rfl : 0 < 16) q599 rfl rfl dX0_who_49 ?_
    refine v_iload_n (pc := 52) X dX0_who_52 1 rfl ?_
    refine v_aald (pc := 53) X wC_n1 wC_l1 rfl rfl dX0_who_53 ?_
    refine v_iconst (pc := 54) (v := -1) X dX0_who_54 rfl ?_
    refine v_cGi (pc := 55) X (m_F_agrees l g fu ((2 + Int32.toNatClampNeg p1)) (-1 : Int32) _) (v_rc_n X wC_o0) (Or.inl q1286) hy_F_agrees rfl rfl rfl rfl dX0_who_55 (fun z_4 _ => ?_)
    refine v_if_ne (pc := 58) (tgt := 64) X dX0_who_58 (by decide) (fun c58 => ?_) (fun c58 => ?_)
    · refine v_aload_n (pc := 64) X dX0_who_64 0 rfl ?_
      refine v_get (pc := 65) (kind := 13) (v := .ref (v_E g 10)) X wC_n0 wC_l0 wC_c0 in_X0 (Nat.le_of_ble_eq_true rfl : 10 < 16) q609 rfl rfl dX0_who_65 ?_
      refine v_iload_n (pc := 68) X dX0_who_68 2 rfl ?_
      refine v_iald (pc := 69) X wC_n10 wC_l10 dX0_who_69 ?_
      refine v_iconst (pc := 70) (v := -1) X dX0_who_70 rfl ?_
      refine v_icmp_ne (pc := 71) (tgt := 79) X dX0_who_71 (by decide) (fun c71 => ?_) (fun c71 => ?_)
      · refine v_aload_n (pc := 79) X dX0_who_79 0 rfl ?_
        refine v_get (pc := 80) (kind := 13) (v := .ref (v_E g 10)) X wC_n0 wC_l0 wC_c0 in_X0 (Nat.le_of_ble_eq_true rfl : 10 < 16) q609 rfl rfl dX0_who_80 ?_
        refine v_iload_n (pc := 83) X dX0_who_83 2 rfl ?_
        refine v_iald (pc := 84) X wC_n10 wC_l10 dX0_who_84 ?_
        exact w_F_who_85 fu p1 p2 X r31 h31 x4 x5 (s_3.1 10 (Int32.toNatClampNeg p2)) s_3
      · refine v_bipush (pc := 74) (v := 9) X dX0_who_74 rfl ?_
        refine v_goto (pc := 76) (tgt := 85) X dX0_who_76 (by decide) ?_
        exact w_F_who_85 fu p1 p2 X r31 h31 x4 x5 (9 : Int32) s_3
    · refine v_goto (pc := 61) (tgt := 106) X dX0_who_61 (by decide) ?_
      refine v_iinc (pc := 106) (v := x5 + (1 : Int32)) (lv' := [(5, .int (x5 + (1 : Int32))), (0, .ref (v_E g 0)), (1, .int p1), (2, .int p2), (4, .int x4)]) (k := 4) X dX0_who_106 rfl rfl (Nat.le_of_ble_eq_true rfl) rfl ?_
      refine v_goto (pc := 109) (tgt := 31) X dX0_who_109 (by decide) ?_
      refine v_sub [1, 2, 3, 4, 0] rfl ?_
      exact h31 x4 (x5 + (1 : Int32)) s_3
theorem w_F_who_31L {Γ : v_Ctx} {l : Launch} {g : v_G} (fu : Nat) (p1 : Int32) (p2 : Int32) (X : v_C Γ l rm_F_who cX0_who 7 RX0 (some .int) wC g)  : ∀ (n : Nat), ∀ (x4 : Int32) (x5 : Int32) (s : v_S), v_V Γ 7 wC g (fun z : Int32 × v_S => (some (.int z.1), z.2)) 31 [(0, .ref (v_E g 0)), (1, .int p1), (2, .int p2), (4, .int x4), (5, .int x5)] [] s (v_loop (t_F_who_31B fu p1 p2) n (x4, x5, s)) := by
  intro n
  induction n with
  | zero => exact fun _ _ _ => v_none
  | succ n ih => exact fun x4 x5 s => w_F_who_31 fu p1 p2 X  _ ih x4 x5 s
theorem w_F_who_18 {Γ : v_Ctx} {l : Launch} {g : v_G} (fu : Nat) (p1 : Int32) (p2 : Int32) (X : v_C Γ l rm_F_who cX0_who 7 RX0 (some .int) wC g)  (y0 : Int32) (s : v_S) : v_V Γ 7 wC g (fun z : Int32 × v_S => (some (.int z.1), z.2)) 18 [(0, .ref (v_E g 0)), (1, .int p1), (2, .int p2)] [.int y0] s (t_F_who_18 fu p1 p2 y0 s) := by
  unfold t_F_who_18
  refine v_istore_n (pc := 18) (lv' := [(3, .int y0), (0, .ref (v_E g 0)), (1, .int p1), (2, .int p2)]) X dX0_who_18 rfl (Nat.le_of_ble_eq_true rfl) rfl ?_
  refine v_iload_n (pc := 19) X dX0_who_19 0 rfl ?_
  refine v_if_eq (pc := 20) (tgt := 25) X dX0_who_20 (by decide) (fun c20 => ?_) (fun c20 => ?_)
  · refine v_iconst (pc := 25) (v := -1) X dX0_who_25 rfl ?_
    refine v_istore (pc := 26) (lv' := [(4, .int (-1 : Int32)), (3, .int y0), (0, .ref (v_E g 0)), (1, .int p1), (2, .int p2)]) X dX0_who_26 (Nat.le_of_ble_eq_true rfl) rfl ?_
    refine v_iconst (pc := 28) (v := 0) X dX0_who_28 rfl ?_
    refine v_istore (pc := 29) (lv' := [(5, .int (0 : Int32)), (4, .int (-1 : Int32)), (3, .int y0), (0, .ref (v_E g 0)), (1, .int p1), (2, .int p2)]) X dX0_who_29 (Nat.le_of_ble_eq_true rfl) rfl ?_
    refine v_sub [3, 4, 5, 1, 0] rfl ?_
    exact w_F_who_31L fu p1 p2 X  fu (-1 : Int32) (0 : Int32) s
  · refine v_iload_n (pc := 23) X dX0_who_23 0 rfl ?_
    exact v_iret (pc := 24) X dX0_who_24 rfl
theorem m_F_who (l : Launch) (g : v_G) (fu : Nat) (p1 : Int32) (p2 : Int32) (s : v_S) : v_M l yX0_who cX0_who 7 (some .int) rm_F_who wC g [.ref (v_E g 0), .int p1, .int p2] s (fun z : Int32 × v_S => (some (.int z.1), z.2)) (t_F_who fu p1 p2 s) := by
  refine v_met (by decide +kernel) (Nat.le_of_ble_eq_true rfl) (fun Γ X => ?_)
  refine v_lv (lv' := [(0, .ref (v_E g 0)), (1, .int p1), (2, .int p2)]) rfl ?_
  unfold t_F_who
  refine v_aload_n (pc := 0) X dX0_who_0 0 rfl ?_
  refine v_iload_n (pc := 1) X dX0_who_1 2 rfl ?_
  refine v_cGi (pc := 2) X (m_F_isFlood l g fu p2 _) (v_rc_n X wC_o0) (Or.inl q1085) hy_F_isFlood rfl rfl rfl rfl dX0_who_2 (fun z_1 _ => ?_)
  refine v_if_eq (pc := 5) (tgt := 16) X dX0_who_5 (by decide) (fun c5 => ?_) (fun c5 => ?_)
  · refine v_bipush (pc := 16) (v := -2) X dX0_who_16 rfl ?_
    exact w_F_who_18 fu p1 p2 X  (-2 : Int32) s
  · refine v_aload_n (pc := 8) X dX0_who_8 0 rfl ?_
    refine v_iload_n (pc := 9) X dX0_who_9 1 rfl ?_
    refine v_cGi (pc := 10) X (m_F_whyNot l g fu p1 _) (v_rc_n X wC_o0) (Or.inl q1270) hy_F_whyNot rfl rfl rfl rfl dX0_who_10 (fun z_5 _ => ?_)
    refine v_goto (pc := 13) (tgt := 18) X dX0_who_13 (by decide) ?_
    exact w_F_who_18 fu p1 p2 X  z_5 s
/-! FloodLent.sure(III)I -/
abbrev rm_F_sure : Room := { frames := 8, cells := 0, slots := 0, locals := 174 }
theorem hy_F_sure : v_yV yX0_sure cX0_sure 7 (some .int) 3 := ⟨q1295, q1296, q133, q1297, by decide +kernel⟩
def t_F_sure_101 (fu : Nat) (p1 : Int32) (p2 : Int32) (p3 : Int32) (r44 : Int32 × Int32 × v_S → Option (Int32 × v_S)) (x6 : Int32) (s : v_S) : Option (Int32 × v_S) :=
v_g p2 6 <| v_b1 (v_il wC ((30 + Int32.toNatClampNeg p2))) fun (n_5 : Nat) => v_g p3 n_5 <| v_n (s.1 ((30 + Int32.toNatClampNeg p2)) (Int32.toNatClampNeg p3)) fun (x5_6 : Int32) => r44 (x5_6, x6 + (1 : Int32), s)
def t_F_sure_44 (fu : Nat) (p1 : Int32) (p2 : Int32) (p3 : Int32) (r44 : Int32 × Int32 × v_S → Option (Int32 × v_S)) (x5 : Int32) (x6 : Int32) (s : v_S) : Option (Int32 × v_S) :=
v_b1 (t_F_manyTakers fu s) fun (z_2 : Int32) => if z_2 ≤ x6 then (some (x5, s)) else (v_b1 (t_F_by fu x6 s) fun (s_3 : v_S) => v_g p1 4 <| v_b1 (t_F_agrees fu ((2 + Int32.toNatClampNeg p1)) (-1 : Int32) s_3) fun (z_4 : Int32) => if z_4 = 0 then (r44 (x5, x6 + (1 : Int32), s_3)) else (if x5 = (-1 : Int32) then (t_F_sure_101 fu p1 p2 p3 r44 x6 s_3) else (v_g p2 6 <| v_b1 (v_il wC ((30 + Int32.toNatClampNeg p2))) fun (n_7 : Nat) => v_g p3 n_7 <| if x5 = s_3.1 ((30 + Int32.toNatClampNeg p2)) (Int32.toNatClampNeg p3) then (t_F_sure_101 fu p1 p2 p3 r44 x6 s_3) else (some ((-1 : Int32), s_3)))))
def t_F_sure_44B (fu : Nat) (p1 : Int32) (p2 : Int32) (p3 : Int32) (r44 : Int32 × Int32 × v_S → Option (Int32 × v_S)) (a : Int32 × Int32 × v_S) : Option (Int32 × v_S) := t_F_sure_44 fu p1 p2 p3 r44 a.1 a.2.1 a.2.2
def t_F_sure_28 (fu : Nat) (p1 : Int32) (p2 : Int32) (p3 : Int32) (y0 : Int32) (s : v_S) : Option (Int32 × v_S) :=
if y0 = 0 then (v_loop (t_F_sure_44B fu p1 p2 p3) fu ((-1 : Int32), (0 : Int32), s)) else (some (y0, s))
def t_F_sure_26 (fu : Nat) (p1 : Int32) (p2 : Int32) (p3 : Int32) (s : v_S) : Option (Int32 × v_S) :=
t_F_sure_28 fu p1 p2 p3 (-2 : Int32) s
def t_F_sure (fu : Nat) (p1 : Int32) (p2 : Int32) (p3 : Int32) (s : v_S) : Option (Int32 × v_S) :=
  v_b1 (t_F_isVillage fu (Int32.toInt64 p2) s) fun (z_1 : Int32) => if z_1 = 0 then (t_F_sure_26 fu p1 p2 p3 s) else (v_b1 (t_F_isWeek fu (Int32.toInt64 p3) s) fun (z_8 : Int32) => if z_8 = 0 then (t_F_sure_26 fu p1 p2 p3 s) else (v_b1 (t_F_whyNot fu p1 s) fun (z_9 : Int32) => t_F_sure_28 fu p1 p2 p3 z_9 s))
theorem w_F_sure_101 {Γ : v_Ctx} {l : Launch} {g : v_G} (fu : Nat) (p1 : Int32) (p2 : Int32) (p3 : Int32) (X : v_C Γ l rm_F_sure cX0_sure 7 RX0 (some .int) wC g) (r44 : Int32 × Int32 × v_S → Option (Int32 × v_S)) (h44 : ∀ (x5 : Int32) (x6 : Int32) (s : v_S), v_V Γ 7 wC g (fun z : Int32 × v_S => (some (.int z.1), z.2)) 44 [(0, .ref (v_E g 0)), (1, .int p1), (2, .int p2), (3, .int p3), (5, .int x5), (6, .int x6)] [] s (r44 (x5, x6, s))) (x6 : Int32) (s : v_S) : v_V Γ 7 wC g (fun z : Int32 × v_S => (some (.int z.1), z.2)) 101 [(0, .ref (v_E g 0)), (1, .int p1), (2, .int p2), (3, .int p3), (6, .int x6)] [] s (t_F_sure_101 fu p1 p2 p3 r44 x6 s) := by
  unfold t_F_sure_101
  refine v_aload_n (pc := 101) X dX0_sure_101 0 rfl ?_
  refine v_get (pc := 102) (kind := 10) (v := .ref (v_E g 7)) X wC_n0 wC_l0 wC_c0 in_X0 (Nat.le_of_ble_eq_true rfl : 4 < 16) q603 rfl rfl dX0_sure_102 ?_
  refine v_getN (pc := 105) (kind := 32) (v := .ref (v_E g 29)) X wC_n7 wC_l7 wC_c2 in_X3 (Nat.le_of_ble_eq_true rfl : 0 < 23) q477 rfl rfl dX0_sure_105 ?_
  refine v_iload_n (pc := 108) X dX0_sure_108 2 rfl ?_
  refine v_aald (pc := 109) X wC_n29 wC_l29 rfl rfl dX0_sure_109 ?_
  refine v_iload_n (pc := 110) X dX0_sure_110 3 rfl ?_
  refine v_ialdS (pc := 111) X dX0_sure_111 (fun n_5 => ?_)
  refine v_istoreN (pc := 112) (lvf := fun x5_6 => [(5, .int x5_6), (0, .ref (v_E g 0)), (1, .int p1), (2, .int p2), (3, .int p3), (6, .int x6)]) X dX0_sure_112 (Nat.le_of_ble_eq_true rfl) (fun _ => rfl) (fun x5_6 => ?_)
  refine v_iinc (pc := 114) (v := x6 + (1 : Int32)) (lv' := [(6, .int (x6 + (1 : Int32))), (5, .int x5_6), (0, .ref (v_E g 0)), (1, .int p1), (2, .int p2), (3, .int p3)]) (k := 5) X dX0_sure_114 rfl rfl (Nat.le_of_ble_eq_true rfl) rfl ?_
  refine v_goto (pc := 117) (tgt := 44) X dX0_sure_117 (by decide) ?_
  refine v_sub [2, 3, 4, 5, 1, 0] rfl ?_
  exact h44 x5_6 (x6 + (1 : Int32)) s
theorem w_F_sure_44 {Γ : v_Ctx} {l : Launch} {g : v_G} (fu : Nat) (p1 : Int32) (p2 : Int32) (p3 : Int32) (X : v_C Γ l rm_F_sure cX0_sure 7 RX0 (some .int) wC g) (r44 : Int32 × Int32 × v_S → Option (Int32 × v_S)) (h44 : ∀ (x5 : Int32) (x6 : Int32) (s : v_S), v_V Γ 7 wC g (fun z : Int32 × v_S => (some (.int z.1), z.2)) 44 [(0, .ref (v_E g 0)), (1, .int p1), (2, .int p2), (3, .int p3), (5, .int x5), (6, .int x6)] [] s (r44 (x5, x6, s))) (x5 : Int32) (x6 : Int32) (s : v_S) : v_V Γ 7 wC g (fun z : Int32 × v_S => (some (.int z.1), z.2)) 44 [(0, .ref (v_E g 0)), (1, .int p1), (2, .int p2), (3, .int p3), (5, .int x5), (6, .int x6)] [] s (t_F_sure_44 fu p1 p2 p3 r44 x5 x6 s) := by
  unfold t_F_sure_44
  refine v_iload (pc := 44) X dX0_sure_44 5 rfl ?_
  refine v_aload_n (pc := 46) X dX0_sure_46 0 rfl ?_
  refine v_cGi (pc := 47) X (m_F_manyTakers l g fu _) (v_rc_n X wC_o0) (Or.inl q1206) hy_F_manyTakers rfl rfl rfl rfl dX0_sure_47 (fun z_2 _ => ?_)
  refine v_icmp_ge (pc := 50) (tgt := 120) X dX0_sure_50 (by decide) (fun c50 => ?_) (fun c50 => ?_)
  · refine v_iload (pc := 120) X dX0_sure_120 4 rfl ?_
    exact v_iret (pc := 122) X dX0_sure_122 rfl
  · refine v_aload_n (pc := 53) X dX0_sure_53 0 rfl ?_
    refine v_iload (pc := 54) X dX0_sure_54 5 rfl ?_
    refine v_cGr (pc := 56) X (m_F_by l g fu x6 _) (v_rc_n X wC_o0) (Or.inl q1210) hy_F_by rfl rfl rfl rfl dX0_sure_56 (fun s_3 _ => ?_)
    refine v_pop (pc := 59) X dX0_sure_59 rfl ?_
    refine v_aload_n (pc := 60) X dX0_sure_60 0 rfl ?_
    refine v_aload_n (pc := 61) X dX0_sure_61 0 rfl ?_
    refine v_get (pc := 62) (kind := 4) (v := .ref (v_E g 1)) X wC_n0 wC_l0 wC_c0 in_X0 (Nat.le_of_ble_eq_true rfl : 0 < 16) q599 rfl rfl dX0_sure_62 ?_
    refine v_iload_n (pc := 65) X dX0_sure_65 1 rfl ?_
    refine v_aald (pc := 66) X wC_n1 wC_l1 rfl rfl dX0_sure_66 ?_
    refine v_iconst (pc := 67) (v := -1) X dX0_sure_67 rfl ?_
    refine v_cGi (pc := 68) X (m_F_agrees l g fu ((2 + Int32.toNatClampNeg p1)) (-1 : Int32) _) (v_rc_n X wC_o0) (Or.inl q1286) hy_F_agrees rfl rfl rfl rfl dX0_sure_68 (fun z_4 _ => ?_)
    refine v_if_ne (pc := 71) (tgt := 77) X dX0_sure_71 (by decide) (fun c71 => ?_) (fun c71 => ?_)
    · refine v_iload (pc := 77) X dX0_sure_77 4 rfl ?_
      refine v_iconst (pc := 79) (v := -1) X dX0_sure_79 rfl ?_
      refine v_icmp_eq (pc := 80) (tgt := 101) X dX0_sure_80 (by decide) (fun c80 => ?_) (fun c80 => ?_)
      · refine v_sub [0, 1, 2, 3, 5] rfl ?_
        exact w_F_sure_101 fu p1 p2 p3 X r44 h44 x6 s_3
      · refine v_iload (pc := 83) X dX0_sure_83 4 rfl ?_
        refine v_aload_n (pc := 85) X dX0_sure_85 0 rfl ?_
        refine v_get (pc := 86) (kind := 10) (v := .ref (v_E g 7)) X wC_n0 wC_l0 wC_c0 in_X0 (Nat.le_of_ble_eq_true rfl : 4 < 16) q603 rfl rfl dX0_sure_86 ?_
        refine v_getN (pc := 89) (kind := 32) (v := .ref (v_E g 29)) X wC_n7 wC_l7 wC_c2 in_X3 (Nat.le_of_ble_eq_true rfl : 0 < 23) q477 rfl rfl dX0_sure_89 ?_
        refine v_iload_n (pc := 92) X dX0_sure_92 2 rfl ?_
        refine v_aald (pc := 93) X wC_n29 wC_l29 rfl rfl dX0_sure_93 ?_
        refine v_iload_n (pc := 94) X dX0_sure_94 3 rfl ?_
        refine v_ialdS (pc := 95) X dX0_sure_95 (fun n_7 => ?_)
        refine v_icmp_eq (pc := 96) (tgt := 101) X dX0_sure_96 (by decide) (fun c96 => ?_) (fun c96 => ?_)
        · refine v_sub [0, 1, 2, 3, 5] rfl ?_
          exact w_F_sure_101 fu p1 p2 p3 X r44 h44 x6 s_3
        · refine v_iconst (pc := 99) (v := -1) X dX0_sure_99 rfl ?_
          exact v_iret (pc := 100) X dX0_sure_100 rfl
    · refine v_goto (pc := 74) (tgt := 114) X dX0_sure_74 (by decide) ?_
      refine v_iinc (pc := 114) (v := x6 + (1 : Int32)) (lv' := [(6, .int (x6 + (1 : Int32))), (0, .ref (v_E g 0)), (1, .int p1), (2, .int p2), (3, .int p3), (5, .int x5)]) (k := 5) X dX0_sure_114 rfl rfl (Nat.le_of_ble_eq_true rfl) rfl ?_
      refine v_goto (pc := 117) (tgt := 44) X dX0_sure_117 (by decide) ?_
      refine v_sub [1, 2, 3, 4, 5, 0] rfl ?_
      exact h44 x5 (x6 + (1 : Int32)) s_3
theorem w_F_sure_44L {Γ : v_Ctx} {l : Launch} {g : v_G} (fu : Nat) (p1 : Int32) (p2 : Int32) (p3 : Int32) (X : v_C Γ l rm_F_sure cX0_sure 7 RX0 (some .int) wC g)  : ∀ (n : Nat), ∀ (x5 : Int32) (x6 : Int32) (s : v_S), v_V Γ 7 wC g (fun z : Int32 × v_S => (some (.int z.1), z.2)) 44 [(0, .ref (v_E g 0)), (1, .int p1), (2, .int p2), (3, .int p3), (5, .int x5), (6, .int x6)] [] s (v_loop (t_F_sure_44B fu p1 p2 p3) n (x5, x6, s)) := by
  intro n
  induction n with
  | zero => exact fun _ _ _ => v_none
  | succ n ih => exact fun x5 x6 s => w_F_sure_44 fu p1 p2 p3 X  _ ih x5 x6 s
theorem w_F_sure_28 {Γ : v_Ctx} {l : Launch} {g : v_G} (fu : Nat) (p1 : Int32) (p2 : Int32) (p3 : Int32) (X : v_C Γ l rm_F_sure cX0_sure 7 RX0 (some .int) wC g)  (y0 : Int32) (s : v_S) : v_V Γ 7 wC g (fun z : Int32 × v_S => (some (.int z.1), z.2)) 28 [(0, .ref (v_E g 0)), (1, .int p1), (2, .int p2), (3, .int p3)] [.int y0] s (t_F_sure_28 fu p1 p2 p3 y0 s) := by
  unfold t_F_sure_28
  refine v_istore (pc := 28) (lv' := [(4, .int y0), (0, .ref (v_E g 0)), (1, .int p1), (2, .int p2), (3, .int p3)]) X dX0_sure_28 (Nat.le_of_ble_eq_true rfl) rfl ?_
  refine v_iload (pc := 30) X dX0_sure_30 0 rfl ?_
  refine v_if_eq (pc := 32) (tgt := 38) X dX0_sure_32 (by decide) (fun c32 => ?_) (fun c32 => ?_)
  · refine v_iconst (pc := 38) (v := -1) X dX0_sure_38 rfl ?_
    refine v_istore (pc := 39) (lv' := [(5, .int (-1 : Int32)), (4, .int y0), (0, .ref (v_E g 0)), (1, .int p1), (2, .int p2), (3, .int p3)]) X dX0_sure_39 (Nat.le_of_ble_eq_true rfl) rfl ?_
    refine v_iconst (pc := 41) (v := 0) X dX0_sure_41 rfl ?_
    refine v_istore (pc := 42) (lv' := [(6, .int (0 : Int32)), (5, .int (-1 : Int32)), (4, .int y0), (0, .ref (v_E g 0)), (1, .int p1), (2, .int p2), (3, .int p3)]) X dX0_sure_42 (Nat.le_of_ble_eq_true rfl) rfl ?_
    refine v_sub [3, 4, 5, 6, 1, 0] rfl ?_
    exact w_F_sure_44L fu p1 p2 p3 X  fu (-1 : Int32) (0 : Int32) s
  · refine v_iload (pc := 35) X dX0_sure_35 0 rfl ?_
    exact v_iret (pc := 37) X dX0_sure_37 rfl
theorem w_F_sure_26 {Γ : v_Ctx} {l : Launch} {g : v_G} (fu : Nat) (p1 : Int32) (p2 : Int32) (p3 : Int32) (X : v_C Γ l rm_F_sure cX0_sure 7 RX0 (some .int) wC g)  (s : v_S) : v_V Γ 7 wC g (fun z : Int32 × v_S => (some (.int z.1), z.2)) 26 [(0, .ref (v_E g 0)), (1, .int p1), (2, .int p2), (3, .int p3)] [] s (t_F_sure_26 fu p1 p2 p3 s) := by
  unfold t_F_sure_26
  refine v_bipush (pc := 26) (v := -2) X dX0_sure_26 rfl ?_
  exact w_F_sure_28 fu p1 p2 p3 X  (-2 : Int32) s
theorem m_F_sure (l : Launch) (g : v_G) (fu : Nat) (p1 : Int32) (p2 : Int32) (p3 : Int32) (s : v_S) : v_M l yX0_sure cX0_sure 7 (some .int) rm_F_sure wC g [.ref (v_E g 0), .int p1, .int p2, .int p3] s (fun z : Int32 × v_S => (some (.int z.1), z.2)) (t_F_sure fu p1 p2 p3 s) := by
  refine v_met (by decide +kernel) (Nat.le_of_ble_eq_true rfl) (fun Γ X => ?_)
  refine v_lv (lv' := [(0, .ref (v_E g 0)), (1, .int p1), (2, .int p2), (3, .int p3)]) rfl ?_
  unfold t_F_sure
  refine v_aload_n (pc := 0) X dX0_sure_0 0 rfl ?_
  refine v_iload_n (pc := 1) X dX0_sure_1 2 rfl ?_
  refine v_i2l (pc := 2) X dX0_sure_2 ?_
  refine v_cGi (pc := 3) X (m_F_isVillage l g fu (Int32.toInt64 p2) _) (v_rc_n X wC_o0) (Or.inl q1067) hy_F_isVillage rfl rfl rfl rfl dX0_sure_3 (fun z_1 _ => ?_)
  refine v_if_eq (pc := 6) (tgt := 26) X dX0_sure_6 (by decide) (fun c6 => ?_) (fun c6 => ?_)
  · exact w_F_sure_26 fu p1 p2 p3 X  s
  · refine v_aload_n (pc := 9) X dX0_sure_9 0 rfl ?_
    refine v_iload_n (pc := 10) X dX0_sure_10 3 rfl ?_
    refine v_i2l (pc := 11) X dX0_sure_11 ?_
    refine v_cGi (pc := 12) X (m_F_isWeek l g fu (Int32.toInt64 p3) _) (v_rc_n X wC_o0) (Or.inl q1093) hy_F_isWeek rfl rfl rfl rfl dX0_sure_12 (fun z_8 _ => ?_)
    refine v_if_eq (pc := 15) (tgt := 26) X dX0_sure_15 (by decide) (fun c15 => ?_) (fun c15 => ?_)
    · exact w_F_sure_26 fu p1 p2 p3 X  s
    · refine v_aload_n (pc := 18) X dX0_sure_18 0 rfl ?_
      refine v_iload_n (pc := 19) X dX0_sure_19 1 rfl ?_
      refine v_cGi (pc := 20) X (m_F_whyNot l g fu p1 _) (v_rc_n X wC_o0) (Or.inl q1270) hy_F_whyNot rfl rfl rfl rfl dX0_sure_20 (fun z_9 _ => ?_)
      refine v_goto (pc := 23) (tgt := 28) X dX0_sure_23 (by decide) ?_
      exact w_F_sure_28 fu p1 p2 p3 X  z_9 s
/-! FloodLent.needed(I)I -/
abbrev rm_F_needed : Room := { frames := 9, cells := 0, slots := 0, locals := 198 }
theorem hy_F_needed : v_yV yX0_needed cX0_needed 5 (some .int) 1 := ⟨q1299, q1300, q133, q1301, by decide +kernel⟩
def t_F_needed_27 (fu : Nat) (p1 : Int32) (r27 : Int32 × Int32 × v_S → Option (Int32 × v_S)) (x3 : Int32) (x4 : Int32) (s : v_S) : Option (Int32 × v_S) :=
v_g p1 4 <| if v_ok wC ((2 + Int32.toNatClampNeg p1)) 1 [2] = true then v_b1 (t_S_many fu ((2 + Int32.toNatClampNeg p1)) s) fun (z_5 : Int32) => (if z_5 ≤ (3 : Int32) * x4 then (some ((-1 : Int32), s)) else (v_g p1 4 <| v_b2 (t_F_agreeing fu ((2 + Int32.toNatClampNeg p1)) x4 s) fun (z_6 : Int32) (s_7 : v_S) => if z_6 ≤ x3 then (r27 (x3, x4 + (1 : Int32), s_7)) else (some (x4, s_7)))) else none
def t_F_needed_27B (fu : Nat) (p1 : Int32) (r27 : Int32 × Int32 × v_S → Option (Int32 × v_S)) (a : Int32 × Int32 × v_S) : Option (Int32 × v_S) := t_F_needed_27 fu p1 r27 a.1 a.2.1 a.2.2
def t_F_needed (fu : Nat) (p1 : Int32) (s : v_S) : Option (Int32 × v_S) :=
  v_b1 (t_F_whyNot fu p1 s) fun (z_1 : Int32) => if z_1 = 0 then (v_g p1 4 <| v_b2 (t_F_agreeing fu ((2 + Int32.toNatClampNeg p1)) (-1 : Int32) s) fun (z_2 : Int32) (s_3 : v_S) => v_loop (t_F_needed_27B fu p1) fu (z_2, (0 : Int32), s_3)) else (some (z_1, s))
theorem w_F_needed_27 {Γ : v_Ctx} {l : Launch} {g : v_G} (fu : Nat) (p1 : Int32) (X : v_C Γ l rm_F_needed cX0_needed 5 RX0 (some .int) wC g) (r27 : Int32 × Int32 × v_S → Option (Int32 × v_S)) (h27 : ∀ (x3 : Int32) (x4 : Int32) (s : v_S), v_V Γ 5 wC g (fun z : Int32 × v_S => (some (.int z.1), z.2)) 27 [(0, .ref (v_E g 0)), (1, .int p1), (3, .int x3), (4, .int x4)] [] s (r27 (x3, x4, s))) (x3 : Int32) (x4 : Int32) (s : v_S) : v_V Γ 5 wC g (fun z : Int32 × v_S => (some (.int z.1), z.2)) 27 [(0, .ref (v_E g 0)), (1, .int p1), (3, .int x3), (4, .int x4)] [] s (t_F_needed_27 fu p1 r27 x3 x4 s) := by
  unfold t_F_needed_27
  refine v_iconst (pc := 27) (v := 3) X dX0_needed_27 rfl ?_
  refine v_iload (pc := 28) X dX0_needed_28 3 rfl ?_
  refine v_imul (pc := 30) X dX0_needed_30 ?_
  refine v_aload_n (pc := 31) X dX0_needed_31 0 rfl ?_
  refine v_get (pc := 32) (kind := 4) (v := .ref (v_E g 1)) X wC_n0 wC_l0 wC_c0 in_X0 (Nat.le_of_ble_eq_true rfl : 0 < 16) q599 rfl rfl dX0_needed_32 ?_
  refine v_iload_n (pc := 35) X dX0_needed_35 1 rfl ?_
  refine v_aald (pc := 36) X wC_n1 wC_l1 rfl rfl dX0_needed_36 ?_
  refine v_nzT (pc := 37) (fun h_4 => ?_)
  refine v_cGi (pc := 37) X (m_S_many l g fu ((2 + Int32.toNatClampNeg p1)) _) (v_rc_n X (v_ok_o wC_c1 h_4)) (Or.inl q1274) hy_S_many rfl rfl rfl rfl dX0_needed_37 (fun z_5 _ => ?_)
  refine v_icmp_ge (pc := 40) (tgt := 68) X dX0_needed_40 (by decide) (fun c40 => ?_) (fun c40 => ?_)
  · refine v_iconst (pc := 68) (v := -1) X dX0_needed_68 rfl ?_
    exact v_iret (pc := 69) X dX0_needed_69 rfl
  · refine v_aload_n (pc := 43) X dX0_needed_43 0 rfl ?_
    refine v_aload_n (pc := 44) X dX0_needed_44 0 rfl ?_
    refine v_get (pc := 45) (kind := 4) (v := .ref (v_E g 1)) X wC_n0 wC_l0 wC_c0 in_X0 (Nat.le_of_ble_eq_true rfl : 0 < 16) q599 rfl rfl dX0_needed_45 ?_
    refine v_iload_n (pc := 48) X dX0_needed_48 1 rfl ?_
    refine v_aald (pc := 49) X wC_n1 wC_l1 rfl rfl dX0_needed_49 ?_
    refine v_iload (pc := 50) X dX0_needed_50 3 rfl ?_
    refine v_cGis (pc := 52) X (m_F_agreeing l g fu ((2 + Int32.toNatClampNeg p1)) x4 _) (v_rc_n X wC_o0) (Or.inl q1282) hy_F_agreeing rfl rfl rfl rfl dX0_needed_52 (fun z_6 s_7 _ => ?_)
    refine v_iload_n (pc := 55) X dX0_needed_55 2 rfl ?_
    refine v_icmp_le (pc := 56) (tgt := 62) X dX0_needed_56 (by decide) (fun c56 => ?_) (fun c56 => ?_)
    · refine v_iinc (pc := 62) (v := x4 + (1 : Int32)) (lv' := [(4, .int (x4 + (1 : Int32))), (0, .ref (v_E g 0)), (1, .int p1), (3, .int x3)]) (k := 3) X dX0_needed_62 rfl rfl (Nat.le_of_ble_eq_true rfl) rfl ?_
      refine v_goto (pc := 65) (tgt := 27) X dX0_needed_65 (by decide) ?_
      refine v_sub [1, 2, 3, 0] rfl ?_
      exact h27 x3 (x4 + (1 : Int32)) s_7
    · refine v_iload (pc := 59) X dX0_needed_59 3 rfl ?_
      exact v_iret (pc := 61) X dX0_needed_61 rfl
theorem w_F_needed_27L {Γ : v_Ctx} {l : Launch} {g : v_G} (fu : Nat) (p1 : Int32) (X : v_C Γ l rm_F_needed cX0_needed 5 RX0 (some .int) wC g)  : ∀ (n : Nat), ∀ (x3 : Int32) (x4 : Int32) (s : v_S), v_V Γ 5 wC g (fun z : Int32 × v_S => (some (.int z.1), z.2)) 27 [(0, .ref (v_E g 0)), (1, .int p1), (3, .int x3), (4, .int x4)] [] s (v_loop (t_F_needed_27B fu p1) n (x3, x4, s)) := by
  intro n
  induction n with
  | zero => exact fun _ _ _ => v_none
  | succ n ih => exact fun x3 x4 s => w_F_needed_27 fu p1 X  _ ih x3 x4 s
theorem m_F_needed (l : Launch) (g : v_G) (fu : Nat) (p1 : Int32) (s : v_S) : v_M l yX0_needed cX0_needed 5 (some .int) rm_F_needed wC g [.ref (v_E g 0), .int p1] s (fun z : Int32 × v_S => (some (.int z.1), z.2)) (t_F_needed fu p1 s) := by
  refine v_met (by decide +kernel) (Nat.le_of_ble_eq_true rfl) (fun Γ X => ?_)
  refine v_lv (lv' := [(0, .ref (v_E g 0)), (1, .int p1)]) rfl ?_
  unfold t_F_needed
  refine v_aload_n (pc := 0) X dX0_needed_0 0 rfl ?_
  refine v_iload_n (pc := 1) X dX0_needed_1 1 rfl ?_
  refine v_cGi (pc := 2) X (m_F_whyNot l g fu p1 _) (v_rc_n X wC_o0) (Or.inl q1270) hy_F_whyNot rfl rfl rfl rfl dX0_needed_2 (fun z_1 _ => ?_)
  refine v_istore_n (pc := 5) (lv' := [(2, .int z_1), (0, .ref (v_E g 0)), (1, .int p1)]) X dX0_needed_5 rfl (Nat.le_of_ble_eq_true rfl) rfl ?_
  refine v_iload_n (pc := 6) X dX0_needed_6 0 rfl ?_
  refine v_if_eq (pc := 7) (tgt := 12) X dX0_needed_7 (by decide) (fun c7 => ?_) (fun c7 => ?_)
  · refine v_aload_n (pc := 12) X dX0_needed_12 1 rfl ?_
    refine v_aload_n (pc := 13) X dX0_needed_13 1 rfl ?_
    refine v_get (pc := 14) (kind := 4) (v := .ref (v_E g 1)) X wC_n0 wC_l0 wC_c0 in_X0 (Nat.le_of_ble_eq_true rfl : 0 < 16) q599 rfl rfl dX0_needed_14 ?_
    refine v_iload_n (pc := 17) X dX0_needed_17 2 rfl ?_
    refine v_aald (pc := 18) X wC_n1 wC_l1 rfl rfl dX0_needed_18 ?_
    refine v_iconst (pc := 19) (v := -1) X dX0_needed_19 rfl ?_
    refine v_cGis (pc := 20) X (m_F_agreeing l g fu ((2 + Int32.toNatClampNeg p1)) (-1 : Int32) _) (v_rc_n X wC_o0) (Or.inl q1282) hy_F_agreeing rfl rfl rfl rfl dX0_needed_20 (fun z_2 s_3 _ => ?_)
    refine v_istore_n (pc := 23) (lv' := [(3, .int z_2), (2, .int z_1), (0, .ref (v_E g 0)), (1, .int p1)]) X dX0_needed_23 rfl (Nat.le_of_ble_eq_true rfl) rfl ?_
    refine v_iconst (pc := 24) (v := 0) X dX0_needed_24 rfl ?_
    refine v_istore (pc := 25) (lv' := [(4, .int (0 : Int32)), (3, .int z_2), (2, .int z_1), (0, .ref (v_E g 0)), (1, .int p1)]) X dX0_needed_25 (Nat.le_of_ble_eq_true rfl) rfl ?_
    refine v_sub [3, 4, 1, 0] rfl ?_
    exact w_F_needed_27L fu p1 X  fu z_2 (0 : Int32) s_3
  · refine v_iload_n (pc := 10) X dX0_needed_10 0 rfl ?_
    exact v_iret (pc := 11) X dX0_needed_11 rfl
/-! FloodLent.fair(I)I -/
abbrev rm_F_fair : Room := { frames := 7, cells := 0, slots := 0, locals := 153 }
theorem hy_F_fair : v_yV yX0_fair cX0_fair 4 (some .int) 1 := ⟨q1303, q1304, q133, q1305, by decide +kernel⟩
def t_F_fair_14 (fu : Nat) (p1 : Int32) (r14 : Int32 × v_S → Option (Int32 × v_S)) (x2 : Int32) (s : v_S) : Option (Int32 × v_S) :=
if (100 : Int32) < x2 then (some ((-1 : Int32), s)) else (v_b1 (t_Y_begins fu (s.2.2.1 0 1) (6) x2 s) fun (s_2 : v_S) => v_b1 (t_Y_goes fu s_2) fun (s_3 : v_S) => v_b1 (t_Y_has fu p1 s_3) fun (z_4 : Int32) => v_b1 (t_Y_begins fu (s_3.2.2.1 0 1) (6) x2 s_3) fun (s_5 : v_S) => v_n (v_uI s_5 7 20 p1) fun (s_6 : v_S) => v_b1 (t_Y_goes fu s_6) fun (s_7 : v_S) => v_b1 (t_Y_has fu p1 s_7) fun (z_8 : Int32) => if z_4 < z_8 then (r14 (x2 + (1 : Int32), s_7)) else (some (x2, s_7)))
def t_F_fair_14B (fu : Nat) (p1 : Int32) (r14 : Int32 × v_S → Option (Int32 × v_S)) (a : Int32 × v_S) : Option (Int32 × v_S) := t_F_fair_14 fu p1 r14 a.1 a.2
def t_F_fair (fu : Nat) (p1 : Int32) (s : v_S) : Option (Int32 × v_S) :=
  v_b1 (t_F_isVillage fu (Int32.toInt64 p1) s) fun (z_1 : Int32) => if z_1 = 0 then (some ((-2 : Int32), s)) else (v_loop (t_F_fair_14B fu p1) fu ((0 : Int32), s))
theorem w_F_fair_14 {Γ : v_Ctx} {l : Launch} {g : v_G} (fu : Nat) (p1 : Int32) (X : v_C Γ l rm_F_fair cX0_fair 4 RX0 (some .int) wC g) (r14 : Int32 × v_S → Option (Int32 × v_S)) (h14 : ∀ (x2 : Int32) (s : v_S), v_V Γ 4 wC g (fun z : Int32 × v_S => (some (.int z.1), z.2)) 14 [(0, .ref (v_E g 0)), (1, .int p1), (2, .int x2)] [] s (r14 (x2, s))) (x2 : Int32) (s : v_S) : v_V Γ 4 wC g (fun z : Int32 × v_S => (some (.int z.1), z.2)) 14 [(0, .ref (v_E g 0)), (1, .int p1), (2, .int x2)] [] s (t_F_fair_14 fu p1 r14 x2 s) := by
  unfold t_F_fair_14
  refine v_iload_n (pc := 14) X dX0_fair_14 2 rfl ?_
  refine v_bipush (pc := 15) (v := 100) X dX0_fair_15 rfl ?_
  refine v_icmp_gt (pc := 17) (tgt := 95) X dX0_fair_17 (by decide) (fun c17 => ?_) (fun c17 => ?_)
  · refine v_iconst (pc := 95) (v := -1) X dX0_fair_95 rfl ?_
    exact v_iret (pc := 96) X dX0_fair_96 rfl
  · refine v_aload_n (pc := 20) X dX0_fair_20 0 rfl ?_
    refine v_get (pc := 21) (kind := 10) (v := .ref (v_E g 7)) X wC_n0 wC_l0 wC_c0 in_X0 (Nat.le_of_ble_eq_true rfl : 4 < 16) q603 rfl rfl dX0_fair_21 ?_
    refine v_aload_n (pc := 24) X dX0_fair_24 0 rfl ?_
    refine v_get (pc := 25) (kind := 2) (v := va_rf (s.2.2.1 0 1)) X wC_n0 wC_l0 wC_c0 in_X0 (Nat.le_of_ble_eq_true rfl : 1 < 16) q600 rfl rfl dX0_fair_25 ?_
    refine v_aload_n (pc := 28) X dX0_fair_28 0 rfl ?_
    refine v_get (pc := 29) (kind := 9) (v := .ref (v_E g 6)) X wC_n0 wC_l0 wC_c0 in_X0 (Nat.le_of_ble_eq_true rfl : 3 < 16) q602 rfl rfl dX0_fair_29 ?_
    refine v_iload_n (pc := 32) X dX0_fair_32 2 rfl ?_
    refine v_cGs (pc := 33) X (m_Y_begins l g fu (s.2.2.1 0 1) (6) x2 _) (v_rc_n X wC_o7) (Or.inl q1101) hy_Y_begins rfl rfl rfl rfl dX0_fair_33 (fun s_2 _ => ?_)
    refine v_aload_n (pc := 36) X dX0_fair_36 0 rfl ?_
    refine v_get (pc := 37) (kind := 10) (v := .ref (v_E g 7)) X wC_n0 wC_l0 wC_c0 in_X0 (Nat.le_of_ble_eq_true rfl : 4 < 16) q603 rfl rfl dX0_fair_37 ?_
    refine v_cGr (pc := 40) X (m_Y_goes l g fu _) (v_rc_n X wC_o7) (Or.inl q1106) hy_Y_goes rfl rfl rfl rfl dX0_fair_40 (fun s_3 _ => ?_)
    refine v_iload_n (pc := 43) X dX0_fair_43 1 rfl ?_
    refine v_cGi (pc := 44) X (m_Y_has l g fu p1 _) (v_rc_n X wC_o7) (Or.inl q1306) hy_Y_has rfl rfl rfl rfl dX0_fair_44 (fun z_4 _ => ?_)
    refine v_istore_n (pc := 47) (lv' := [(3, .int z_4), (0, .ref (v_E g 0)), (1, .int p1), (2, .int x2)]) X dX0_fair_47 rfl (Nat.le_of_ble_eq_true rfl) rfl ?_
    refine v_aload_n (pc := 48) X dX0_fair_48 1 rfl ?_
    refine v_get (pc := 49) (kind := 10) (v := .ref (v_E g 7)) X wC_n0 wC_l0 wC_c0 in_X0 (Nat.le_of_ble_eq_true rfl : 4 < 16) q603 rfl rfl dX0_fair_49 ?_
    refine v_aload_n (pc := 52) X dX0_fair_52 1 rfl ?_
    refine v_get (pc := 53) (kind := 2) (v := va_rf (s_3.2.2.1 0 1)) X wC_n0 wC_l0 wC_c0 in_X0 (Nat.le_of_ble_eq_true rfl : 1 < 16) q600 rfl rfl dX0_fair_53 ?_
    refine v_aload_n (pc := 56) X dX0_fair_56 1 rfl ?_
    refine v_get (pc := 57) (kind := 9) (v := .ref (v_E g 6)) X wC_n0 wC_l0 wC_c0 in_X0 (Nat.le_of_ble_eq_true rfl : 3 < 16) q602 rfl rfl dX0_fair_57 ?_
    refine v_iload_n (pc := 60) X dX0_fair_60 3 rfl ?_
    refine v_cGs (pc := 61) X (m_Y_begins l g fu (s_3.2.2.1 0 1) (6) x2 _) (v_rc_n X wC_o7) (Or.inl q1101) hy_Y_begins rfl rfl rfl rfl dX0_fair_61 (fun s_5 _ => ?_)
    refine v_aload_n (pc := 64) X dX0_fair_64 1 rfl ?_
    refine v_get (pc := 65) (kind := 10) (v := .ref (v_E g 7)) X wC_n0 wC_l0 wC_c0 in_X0 (Nat.le_of_ble_eq_true rfl : 4 < 16) q603 rfl rfl dX0_fair_65 ?_
    refine v_iload_n (pc := 68) X dX0_fair_68 2 rfl ?_
    refine v_putIN (pc := 69) X wC_n7 wC_l7 wC_c2 in_X3 tyX3 tyX3_ok nmX3 (Nat.le_of_ble_eq_true rfl : 20 < 23) q513 rfl rfl rfl dX0_fair_69 (fun s_6 => ?_)
    refine v_iload_n (pc := 72) X dX0_fair_72 0 rfl ?_
    refine v_aload_n (pc := 73) X dX0_fair_73 1 rfl ?_
    refine v_get (pc := 74) (kind := 10) (v := .ref (v_E g 7)) X wC_n0 wC_l0 wC_c0 in_X0 (Nat.le_of_ble_eq_true rfl : 4 < 16) q603 rfl rfl dX0_fair_74 ?_
    refine v_cGr (pc := 77) X (m_Y_goes l g fu _) (v_rc_n X wC_o7) (Or.inl q1106) hy_Y_goes rfl rfl rfl rfl dX0_fair_77 (fun s_7 _ => ?_)
    refine v_iload_n (pc := 80) X dX0_fair_80 2 rfl ?_
    refine v_cGi (pc := 81) X (m_Y_has l g fu p1 _) (v_rc_n X wC_o7) (Or.inl q1306) hy_Y_has rfl rfl rfl rfl dX0_fair_81 (fun z_8 _ => ?_)
    refine v_icmp_lt (pc := 84) (tgt := 89) X dX0_fair_84 (by decide) (fun c84 => ?_) (fun c84 => ?_)
    · refine v_iinc (pc := 89) (v := x2 + (1 : Int32)) (lv' := [(2, .int (x2 + (1 : Int32))), (3, .int z_4), (0, .ref (v_E g 0)), (1, .int p1)]) (k := 3) X dX0_fair_89 rfl rfl (Nat.le_of_ble_eq_true rfl) rfl ?_
      refine v_goto (pc := 92) (tgt := 14) X dX0_fair_92 (by decide) ?_
      refine v_sub [2, 3, 0] rfl ?_
      exact h14 (x2 + (1 : Int32)) s_7
    · refine v_iload_n (pc := 87) X dX0_fair_87 3 rfl ?_
      exact v_iret (pc := 88) X dX0_fair_88 rfl
theorem w_F_fair_14L {Γ : v_Ctx} {l : Launch} {g : v_G} (fu : Nat) (p1 : Int32) (X : v_C Γ l rm_F_fair cX0_fair 4 RX0 (some .int) wC g)  : ∀ (n : Nat), ∀ (x2 : Int32) (s : v_S), v_V Γ 4 wC g (fun z : Int32 × v_S => (some (.int z.1), z.2)) 14 [(0, .ref (v_E g 0)), (1, .int p1), (2, .int x2)] [] s (v_loop (t_F_fair_14B fu p1) n (x2, s)) := by
  intro n
  induction n with
  | zero => exact fun _ _ => v_none
  | succ n ih => exact fun x2 s => w_F_fair_14 fu p1 X  _ ih x2 s
theorem m_F_fair (l : Launch) (g : v_G) (fu : Nat) (p1 : Int32) (s : v_S) : v_M l yX0_fair cX0_fair 4 (some .int) rm_F_fair wC g [.ref (v_E g 0), .int p1] s (fun z : Int32 × v_S => (some (.int z.1), z.2)) (t_F_fair fu p1 s) := by
  refine v_met (by decide +kernel) (Nat.le_of_ble_eq_true rfl) (fun Γ X => ?_)
  refine v_lv (lv' := [(0, .ref (v_E g 0)), (1, .int p1)]) rfl ?_
  unfold t_F_fair
  refine v_aload_n (pc := 0) X dX0_fair_0 0 rfl ?_
  refine v_iload_n (pc := 1) X dX0_fair_1 1 rfl ?_
  refine v_i2l (pc := 2) X dX0_fair_2 ?_
  refine v_cGi (pc := 3) X (m_F_isVillage l g fu (Int32.toInt64 p1) _) (v_rc_n X wC_o0) (Or.inl q1067) hy_F_isVillage rfl rfl rfl rfl dX0_fair_3 (fun z_1 _ => ?_)
  refine v_if_ne (pc := 6) (tgt := 12) X dX0_fair_6 (by decide) (fun c6 => ?_) (fun c6 => ?_)
  · refine v_iconst (pc := 12) (v := 0) X dX0_fair_12 rfl ?_
    refine v_istore_n (pc := 13) (lv' := [(2, .int (0 : Int32)), (0, .ref (v_E g 0)), (1, .int p1)]) X dX0_fair_13 rfl (Nat.le_of_ble_eq_true rfl) rfl ?_
    refine v_sub [1, 2, 0] rfl ?_
    exact w_F_fair_14L fu p1 X  fu (0 : Int32) s
  · refine v_bipush (pc := 9) (v := -2) X dX0_fair_9 rfl ?_
    exact v_iret (pc := 11) X dX0_fair_11 rfl
/-! FloodLent.more(I)I -/
abbrev rm_F_more : Room := { frames := 2, cells := 0, slots := 0, locals := 46 }
theorem hy_F_more : v_yV yX0_more cX0_more 3 (some .int) 1 := ⟨q1311, q1312, q133, q1313, by decide +kernel⟩
def t_F_more (fu : Nat) (p1 : Int32) (s : v_S) : Option (Int32 × v_S) :=
  v_b1 (s.2.2.1 0 1) fun (a_1 : Nat) => if v_isc s (some a_1) 4 = true then v_b1 (t_Q_is fu a_1 s) fun (z_3 : Int32) => (if z_3 = 0 then (some ((-2 : Int32), s)) else (v_b1 (t_F_in fu (Int32.toInt64 p1) (0 : Int64) (100 : Int64) s) fun (z_4 : Int32) => if z_4 = 0 then (some ((-2 : Int32), s)) else (v_n (s.1 0 2) fun (x2_5 : Int32) => v_n (v_uI s 0 2 p1) fun (s_6 : v_S) => some (x2_5, s_6)))) else none
theorem m_F_more (l : Launch) (g : v_G) (fu : Nat) (p1 : Int32) (s : v_S) : v_M l yX0_more cX0_more 3 (some .int) rm_F_more wC g [.ref (v_E g 0), .int p1] s (fun z : Int32 × v_S => (some (.int z.1), z.2)) (t_F_more fu p1 s) := by
  refine v_met (by decide +kernel) (Nat.le_of_ble_eq_true rfl) (fun Γ X => ?_)
  refine v_lv (lv' := [(0, .ref (v_E g 0)), (1, .int p1)]) rfl ?_
  unfold t_F_more
  refine v_aload_n (pc := 0) X dX0_more_0 0 rfl ?_
  refine v_get (pc := 1) (kind := 2) (v := va_rf (s.2.2.1 0 1)) X wC_n0 wC_l0 wC_c0 in_X0 (Nat.le_of_ble_eq_true rfl : 1 < 16) q600 rfl rfl dX0_more_1 ?_
  refine v_unq0 (pc := 4) (fun a_1 _ => ?_)
  refine v_nzT (pc := 4) (fun h_2 => ?_)
  refine v_cGi (pc := 4) X (m_Q_is l g fu a_1 _) (v_rc_d X wC_c4 h_2) (Or.inl q1052) hy_Q_is rfl rfl rfl rfl dX0_more_4 (fun z_3 _ => ?_)
  refine v_if_eq (pc := 7) (tgt := 22) X dX0_more_7 (by decide) (fun c7 => ?_) (fun c7 => ?_)
  · refine v_bipush (pc := 22) (v := -2) X dX0_more_22 rfl ?_
    exact v_iret (pc := 24) X dX0_more_24 rfl
  · refine v_iload_n (pc := 10) X dX0_more_10 1 rfl ?_
    refine v_i2l (pc := 11) X dX0_more_11 ?_
    refine v_lconst (pc := 12) (v := 0) X dX0_more_12 rfl ?_
    refine v_ldc2 (pc := 13) X q1246 dX0_more_13 ?_
    refine v_cSi (pc := 16) X (m_F_in l g fu (Int32.toInt64 p1) (0 : Int64) (100 : Int64) _) q174 hy_F_in rfl rfl rfl rfl dX0_more_16 (fun z_4 _ => ?_)
    refine v_if_ne (pc := 19) (tgt := 25) X dX0_more_19 (by decide) (fun c19 => ?_) (fun c19 => ?_)
    · refine v_aload_n (pc := 25) X dX0_more_25 0 rfl ?_
      refine v_get (pc := 26) (kind := 0) (v := .int (s.1 0 2)) X wC_n0 wC_l0 wC_c0 in_X0 (Nat.le_of_ble_eq_true rfl : 2 < 16) q601 rfl rfl dX0_more_26 ?_
      refine v_istore_nN (pc := 29) (lvf := fun x2_5 => [(2, .int x2_5), (0, .ref (v_E g 0)), (1, .int p1)]) X dX0_more_29 rfl (Nat.le_of_ble_eq_true rfl) (fun _ => rfl) (fun x2_5 => ?_)
      refine v_aload_n (pc := 30) X dX0_more_30 1 rfl ?_
      refine v_iload_n (pc := 31) X dX0_more_31 2 rfl ?_
      refine v_putI (pc := 32) X wC_n0 wC_l0 wC_c0 in_X0 tyX0 tyX0_ok nmX0 (Nat.le_of_ble_eq_true rfl : 2 < 16) q601 rfl rfl rfl dX0_more_32 (fun s_6 => ?_)
      refine v_iload_n (pc := 35) X dX0_more_35 0 rfl ?_
      exact v_iret (pc := 36) X dX0_more_36 rfl
    · refine v_bipush (pc := 22) (v := -2) X dX0_more_22 rfl ?_
      exact v_iret (pc := 24) X dX0_more_24 rfl
/-! FloodLent.areTwo(II)Z -/
abbrev rm_F_areTwo : Room := { frames := 4, cells := 0, slots := 0, locals := 83 }
theorem hy_F_areTwo : v_yV yX0_areTwo cX0_areTwo 3 (some .boolean) 2 := ⟨q1320, qs48, q133, q1321, by decide +kernel⟩
def t_F_areTwo (fu : Nat) (p1 : Int32) (p2 : Int32) (s : v_S) : Option Int32 :=
  v_b1 (t_F_isVillage fu (Int32.toInt64 p1) s) fun (z_1 : Int32) => if z_1 = 0 then (some (0 : Int32)) else (v_b1 (t_F_isVillage fu (Int32.toInt64 p2) s) fun (z_2 : Int32) => if z_2 = 0 then (some (0 : Int32)) else (if p1 = p2 then (some (0 : Int32)) else (some (1 : Int32))))
theorem m_F_areTwo (l : Launch) (g : v_G) (fu : Nat) (p1 : Int32) (p2 : Int32) (s : v_S) : v_M l yX0_areTwo cX0_areTwo 3 (some .boolean) rm_F_areTwo wC g [.ref (v_E g 0), .int p1, .int p2] s (fun z : Int32 => (some (.int z), s)) (t_F_areTwo fu p1 p2 s) := by
  refine v_met (by decide +kernel) (Nat.le_of_ble_eq_true rfl) (fun Γ X => ?_)
  refine v_lv (lv' := [(0, .ref (v_E g 0)), (1, .int p1), (2, .int p2)]) rfl ?_
  unfold t_F_areTwo
  refine v_aload_n (pc := 0) X dX0_areTwo_0 0 rfl ?_
  refine v_iload_n (pc := 1) X dX0_areTwo_1 1 rfl ?_
  refine v_i2l (pc := 2) X dX0_areTwo_2 ?_
  refine v_cGi (pc := 3) X (m_F_isVillage l g fu (Int32.toInt64 p1) _) (v_rc_n X wC_o0) (Or.inl q1067) hy_F_isVillage rfl rfl rfl rfl dX0_areTwo_3 (fun z_1 _ => ?_)
  refine v_if_eq (pc := 6) (tgt := 27) X dX0_areTwo_6 (by decide) (fun c6 => ?_) (fun c6 => ?_)
  · refine v_iconst (pc := 27) (v := 0) X dX0_areTwo_27 rfl ?_
    exact v_zret (pc := 28) X dX0_areTwo_28 rfl rfl
  · refine v_aload_n (pc := 9) X dX0_areTwo_9 0 rfl ?_
    refine v_iload_n (pc := 10) X dX0_areTwo_10 2 rfl ?_
    refine v_i2l (pc := 11) X dX0_areTwo_11 ?_
    refine v_cGi (pc := 12) X (m_F_isVillage l g fu (Int32.toInt64 p2) _) (v_rc_n X wC_o0) (Or.inl q1067) hy_F_isVillage rfl rfl rfl rfl dX0_areTwo_12 (fun z_2 _ => ?_)
    refine v_if_eq (pc := 15) (tgt := 27) X dX0_areTwo_15 (by decide) (fun c15 => ?_) (fun c15 => ?_)
    · refine v_iconst (pc := 27) (v := 0) X dX0_areTwo_27 rfl ?_
      exact v_zret (pc := 28) X dX0_areTwo_28 rfl rfl
    · refine v_iload_n (pc := 18) X dX0_areTwo_18 1 rfl ?_
      refine v_iload_n (pc := 19) X dX0_areTwo_19 2 rfl ?_
      refine v_icmp_eq (pc := 20) (tgt := 27) X dX0_areTwo_20 (by decide) (fun c20 => ?_) (fun c20 => ?_)
      · refine v_iconst (pc := 27) (v := 0) X dX0_areTwo_27 rfl ?_
        exact v_zret (pc := 28) X dX0_areTwo_28 rfl rfl
      · refine v_iconst (pc := 23) (v := 1) X dX0_areTwo_23 rfl ?_
        refine v_goto (pc := 24) (tgt := 28) X dX0_areTwo_24 (by decide) ?_
        exact v_zret (pc := 28) X dX0_areTwo_28 rfl rfl
/-! FloodLent.owing()V -/
abbrev rm_F_owing : Room := { frames := 8, cells := 0, slots := 0, locals := 173 }
theorem hy_F_owing : v_yV yX0_owing cX0_owing 1 none 0 := ⟨q1324, qs49, q133, q1325, by decide +kernel⟩
def t_F_owing (fu : Nat)  (s : v_S) : Option v_S :=
  v_b1 (t_F_told fu s) fun (s_1 : v_S) => v_b1 (t_Y_debts fu s_1) fun (s_2 : v_S) => some s_2
theorem m_F_owing (l : Launch) (g : v_G) (fu : Nat)  (s : v_S) : v_M l yX0_owing cX0_owing 1 none rm_F_owing wC g [.ref (v_E g 0)] s (fun z : v_S => ((none : Option Value), z)) (t_F_owing fu  s) := by
  refine v_met (by decide +kernel) (Nat.le_of_ble_eq_true rfl) (fun Γ X => ?_)
  refine v_lv (lv' := [(0, .ref (v_E g 0))]) rfl ?_
  unfold t_F_owing
  refine v_aload_n (pc := 0) X dX0_owing_0 0 rfl ?_
  refine v_cGr (pc := 1) X (m_F_told l g fu _) (v_rc_n X wC_o0) (Or.inl q1097) hy_F_told rfl rfl rfl rfl dX0_owing_1 (fun s_1 _ => ?_)
  refine v_aload_n (pc := 4) X dX0_owing_4 0 rfl ?_
  refine v_get (pc := 5) (kind := 14) (v := .ref (v_E g 11)) X wC_n0 wC_l0 wC_c0 in_X0 (Nat.le_of_ble_eq_true rfl : 13 < 16) q613 rfl rfl dX0_owing_5 ?_
  refine v_cGs (pc := 8) X (m_Y_debts l g fu _) (v_rc_n X wC_o7) (Or.inl q1326) hy_Y_debts rfl rfl rfl rfl dX0_owing_8 (fun s_2 _ => ?_)
  exact v_vret (pc := 11) X dX0_owing_11 rfl
/-! FloodLent.owes(II)I -/
abbrev rm_F_owes : Room := { frames := 9, cells := 0, slots := 0, locals := 193 }
theorem hy_F_owes : v_yV yX0_owes cX0_owes 3 (some .int) 2 := ⟨q1315, q1316, q133, q1317, by decide +kernel⟩
def t_F_owes (fu : Nat) (p1 : Int32) (p2 : Int32) (s : v_S) : Option (Int32 × v_S) :=
  v_b1 (t_F_areTwo fu p1 p2 s) fun (z_1 : Int32) => if z_1 = 0 then (some ((-2 : Int32), s)) else (v_b1 (t_F_owing fu s) fun (s_2 : v_S) => v_g p1 6 <| v_b1 (v_il wC ((12 + Int32.toNatClampNeg p1))) fun (n_3 : Nat) => v_g p2 n_3 <| some (s_2.1 ((12 + Int32.toNatClampNeg p1)) (Int32.toNatClampNeg p2), s_2))
theorem m_F_owes (l : Launch) (g : v_G) (fu : Nat) (p1 : Int32) (p2 : Int32) (s : v_S) : v_M l yX0_owes cX0_owes 3 (some .int) rm_F_owes wC g [.ref (v_E g 0), .int p1, .int p2] s (fun z : Int32 × v_S => (some (.int z.1), z.2)) (t_F_owes fu p1 p2 s) := by
  refine v_met (by decide +kernel) (Nat.le_of_ble_eq_true rfl) (fun Γ X => ?_)
  refine v_lv (lv' := [(0, .ref (v_E g 0)), (1, .int p1), (2, .int p2)]) rfl ?_
  unfold t_F_owes
  refine v_aload_n (pc := 0) X dX0_owes_0 0 rfl ?_
  refine v_iload_n (pc := 1) X dX0_owes_1 1 rfl ?_
  refine v_iload_n (pc := 2) X dX0_owes_2 2 rfl ?_
  refine v_cGi (pc := 3) X (m_F_areTwo l g fu p1 p2 _) (v_rc_n X wC_o0) (Or.inl q1318) hy_F_areTwo rfl rfl rfl rfl dX0_owes_3 (fun z_1 _ => ?_)
  refine v_if_ne (pc := 6) (tgt := 12) X dX0_owes_6 (by decide) (fun c6 => ?_) (fun c6 => ?_)
  · refine v_aload_n (pc := 12) X dX0_owes_12 0 rfl ?_
    refine v_cGs (pc := 13) X (m_F_owing l g fu _) (v_rc_n X wC_o0) (Or.inl q1322) hy_F_owing rfl rfl rfl rfl dX0_owes_13 (fun s_2 _ => ?_)
    refine v_aload_n (pc := 16) X dX0_owes_16 0 rfl ?_
    refine v_get (pc := 17) (kind := 14) (v := .ref (v_E g 11)) X wC_n0 wC_l0 wC_c0 in_X0 (Nat.le_of_ble_eq_true rfl : 13 < 16) q613 rfl rfl dX0_owes_17 ?_
    refine v_iload_n (pc := 20) X dX0_owes_20 1 rfl ?_
    refine v_aald (pc := 21) X wC_n11 wC_l11 rfl rfl dX0_owes_21 ?_
    refine v_iload_n (pc := 22) X dX0_owes_22 2 rfl ?_
    refine v_ialdS (pc := 23) X dX0_owes_23 (fun n_3 => ?_)
    exact v_iret (pc := 24) X dX0_owes_24 rfl
  · refine v_bipush (pc := 9) (v := -2) X dX0_owes_9 rfl ?_
    exact v_iret (pc := 11) X dX0_owes_11 rfl
/-! FloodLent.clears()V -/
abbrev rm_F_clears : Room := { frames := 14, cells := 0, slots := 0, locals := 609 }
theorem hy_F_clears : v_yV yX0_clears cX0_clears 1 none 0 := ⟨q1336, qs50, q133, q1337, by decide +kernel⟩
def t_F_clears (fu : Nat)  (s : v_S) : Option v_S :=
  v_b1 (t_F_owing fu s) fun (s_1 : v_S) => v_b1 (t_G_clears fu s_1) fun (s_2 : v_S) => some s_2
theorem m_F_clears (l : Launch) (g : v_G) (fu : Nat)  (s : v_S) : v_M l yX0_clears cX0_clears 1 none rm_F_clears wC g [.ref (v_E g 0)] s (fun z : v_S => ((none : Option Value), z)) (t_F_clears fu  s) := by
  refine v_met (by decide +kernel) (Nat.le_of_ble_eq_true rfl) (fun Γ X => ?_)
  refine v_lv (lv' := [(0, .ref (v_E g 0))]) rfl ?_
  unfold t_F_clears
  refine v_aload_n (pc := 0) X dX0_clears_0 0 rfl ?_
  refine v_cGs (pc := 1) X (m_F_owing l g fu _) (v_rc_n X wC_o0) (Or.inl q1322) hy_F_owing rfl rfl rfl rfl dX0_clears_1 (fun s_1 _ => ?_)
  refine v_aload_n (pc := 4) X dX0_clears_4 0 rfl ?_
  refine v_get (pc := 5) (kind := 28) (v := .ref (v_E g 25)) X wC_n0 wC_l0 wC_c0 in_X0 (Nat.le_of_ble_eq_true rfl : 15 < 16) q615 rfl rfl dX0_clears_5 ?_
  refine v_cGs (pc := 8) X (m_G_clears l g fu _) (v_rc_n X wC_o25) (Or.inl q1338) hy_G_clears rfl rfl rfl rfl dX0_clears_8 (fun s_2 _ => ?_)
  exact v_vret (pc := 11) X dX0_clears_11 rfl
/-! FloodLent.rings(I)I -/
abbrev rm_F_rings : Room := { frames := 15, cells := 0, slots := 0, locals := 629 }
theorem hy_F_rings : v_yV yX0_rings cX0_rings 2 (some .int) 1 := ⟨q1331, q1332, q133, q1333, by decide +kernel⟩
def t_F_rings (fu : Nat) (p1 : Int32) (s : v_S) : Option (Int32 × v_S) :=
  v_b1 (s.2.2.1 0 1) fun (a_1 : Nat) => if v_isc s (some a_1) 4 = true then v_b1 (t_Q_is fu a_1 s) fun (z_3 : Int32) => (if z_3 = 0 then (some ((-2 : Int32), s)) else (v_b1 (t_F_in fu (Int32.toInt64 p1) (0 : Int64) (1 : Int64) s) fun (z_4 : Int32) => if z_4 = 0 then (some ((-2 : Int32), s)) else (v_b1 (t_F_clears fu s) fun (s_5 : v_S) => if p1 = 0 then (some (s_5.1 25 4, s_5)) else (some (s_5.1 25 5, s_5))))) else none
theorem m_F_rings (l : Launch) (g : v_G) (fu : Nat) (p1 : Int32) (s : v_S) : v_M l yX0_rings cX0_rings 2 (some .int) rm_F_rings wC g [.ref (v_E g 0), .int p1] s (fun z : Int32 × v_S => (some (.int z.1), z.2)) (t_F_rings fu p1 s) := by
  refine v_met (by decide +kernel) (Nat.le_of_ble_eq_true rfl) (fun Γ X => ?_)
  refine v_lv (lv' := [(0, .ref (v_E g 0)), (1, .int p1)]) rfl ?_
  unfold t_F_rings
  refine v_aload_n (pc := 0) X dX0_rings_0 0 rfl ?_
  refine v_get (pc := 1) (kind := 2) (v := va_rf (s.2.2.1 0 1)) X wC_n0 wC_l0 wC_c0 in_X0 (Nat.le_of_ble_eq_true rfl : 1 < 16) q600 rfl rfl dX0_rings_1 ?_
  refine v_unq0 (pc := 4) (fun a_1 _ => ?_)
  refine v_nzT (pc := 4) (fun h_2 => ?_)
  refine v_cGi (pc := 4) X (m_Q_is l g fu a_1 _) (v_rc_d X wC_c4 h_2) (Or.inl q1052) hy_Q_is rfl rfl rfl rfl dX0_rings_4 (fun z_3 _ => ?_)
  refine v_if_eq (pc := 7) (tgt := 20) X dX0_rings_7 (by decide) (fun c7 => ?_) (fun c7 => ?_)
  · refine v_bipush (pc := 20) (v := -2) X dX0_rings_20 rfl ?_
    exact v_iret (pc := 22) X dX0_rings_22 rfl
  · refine v_iload_n (pc := 10) X dX0_rings_10 1 rfl ?_
    refine v_i2l (pc := 11) X dX0_rings_11 ?_
    refine v_lconst (pc := 12) (v := 0) X dX0_rings_12 rfl ?_
    refine v_lconst (pc := 13) (v := 1) X dX0_rings_13 rfl ?_
    refine v_cSi (pc := 14) X (m_F_in l g fu (Int32.toInt64 p1) (0 : Int64) (1 : Int64) _) q174 hy_F_in rfl rfl rfl rfl dX0_rings_14 (fun z_4 _ => ?_)
    refine v_if_ne (pc := 17) (tgt := 23) X dX0_rings_17 (by decide) (fun c17 => ?_) (fun c17 => ?_)
    · refine v_aload_n (pc := 23) X dX0_rings_23 0 rfl ?_
      refine v_cGs (pc := 24) X (m_F_clears l g fu _) (v_rc_n X wC_o0) (Or.inl q1334) hy_F_clears rfl rfl rfl rfl dX0_rings_24 (fun s_5 _ => ?_)
      refine v_iload_n (pc := 27) X dX0_rings_27 1 rfl ?_
      refine v_if_ne (pc := 28) (tgt := 41) X dX0_rings_28 (by decide) (fun c28 => ?_) (fun c28 => ?_)
      · refine v_aload_n (pc := 41) X dX0_rings_41 0 rfl ?_
        refine v_get (pc := 42) (kind := 28) (v := .ref (v_E g 25)) X wC_n0 wC_l0 wC_c0 in_X0 (Nat.le_of_ble_eq_true rfl : 15 < 16) q615 rfl rfl dX0_rings_42 ?_
        refine v_getN (pc := 45) (kind := 0) (v := .int (s_5.1 25 5)) X wC_n25 wC_l25 wC_c3 in_X4 (Nat.le_of_ble_eq_true rfl : 5 < 7) q582 rfl rfl dX0_rings_45 ?_
        exact v_iret (pc := 48) X dX0_rings_48 rfl
      · refine v_aload_n (pc := 31) X dX0_rings_31 0 rfl ?_
        refine v_get (pc := 32) (kind := 28) (v := .ref (v_E g 25)) X wC_n0 wC_l0 wC_c0 in_X0 (Nat.le_of_ble_eq_true rfl : 15 < 16) q615 rfl rfl dX0_rings_32 ?_
        refine v_getN (pc := 35) (kind := 0) (v := .int (s_5.1 25 4)) X wC_n25 wC_l25 wC_c3 in_X4 (Nat.le_of_ble_eq_true rfl : 4 < 7) q580 rfl rfl dX0_rings_35 ?_
        refine v_goto (pc := 38) (tgt := 48) X dX0_rings_38 (by decide) ?_
        exact v_iret (pc := 48) X dX0_rings_48 rfl
    · refine v_bipush (pc := 20) (v := -2) X dX0_rings_20 rfl ?_
      exact v_iret (pc := 22) X dX0_rings_22 rfl
/-! FloodLent.ring(I)I -/
abbrev rm_F_ring : Room := { frames := 15, cells := 0, slots := 0, locals := 629 }
theorem hy_F_ring : v_yV yX0_ring cX0_ring 2 (some .int) 1 := ⟨q1356, q1357, q133, q1358, by decide +kernel⟩
def t_F_ring (fu : Nat) (p1 : Int32) (s : v_S) : Option (Int32 × v_S) :=
  v_b1 (s.2.2.1 0 1) fun (a_1 : Nat) => if v_isc s (some a_1) 4 = true then v_b1 (t_Q_is fu a_1 s) fun (z_3 : Int32) => (if z_3 = 0 then (some ((-2 : Int32), s)) else (v_b1 (t_F_clears fu s) fun (s_4 : v_S) => v_b1 (t_F_in fu (Int32.toInt64 p1) (0 : Int64) (Int32.toInt64 ((s_4.1 25 4) - (1 : Int32))) s_4) fun (z_5 : Int32) => if z_5 = 0 then (some ((-1 : Int32), s_4)) else (v_g p1 99 <| some (s_4.1 28 (Int32.toNatClampNeg p1), s_4)))) else none
theorem m_F_ring (l : Launch) (g : v_G) (fu : Nat) (p1 : Int32) (s : v_S) : v_M l yX0_ring cX0_ring 2 (some .int) rm_F_ring wC g [.ref (v_E g 0), .int p1] s (fun z : Int32 × v_S => (some (.int z.1), z.2)) (t_F_ring fu p1 s) := by
  refine v_met (by decide +kernel) (Nat.le_of_ble_eq_true rfl) (fun Γ X => ?_)
  refine v_lv (lv' := [(0, .ref (v_E g 0)), (1, .int p1)]) rfl ?_
  unfold t_F_ring
  refine v_aload_n (pc := 0) X dX0_ring_0 0 rfl ?_
  refine v_get (pc := 1) (kind := 2) (v := va_rf (s.2.2.1 0 1)) X wC_n0 wC_l0 wC_c0 in_X0 (Nat.le_of_ble_eq_true rfl : 1 < 16) q600 rfl rfl dX0_ring_1 ?_
  refine v_unq0 (pc := 4) (fun a_1 _ => ?_)
  refine v_nzT (pc := 4) (fun h_2 => ?_)
  refine v_cGi (pc := 4) X (m_Q_is l g fu a_1 _) (v_rc_d X wC_c4 h_2) (Or.inl q1052) hy_Q_is rfl rfl rfl rfl dX0_ring_4 (fun z_3 _ => ?_)
  refine v_if_ne (pc := 7) (tgt := 13) X dX0_ring_7 (by decide) (fun c7 => ?_) (fun c7 => ?_)
  · refine v_aload_n (pc := 13) X dX0_ring_13 0 rfl ?_
    refine v_cGs (pc := 14) X (m_F_clears l g fu _) (v_rc_n X wC_o0) (Or.inl q1334) hy_F_clears rfl rfl rfl rfl dX0_ring_14 (fun s_4 _ => ?_)
    refine v_iload_n (pc := 17) X dX0_ring_17 1 rfl ?_
    refine v_i2l (pc := 18) X dX0_ring_18 ?_
    refine v_lconst (pc := 19) (v := 0) X dX0_ring_19 rfl ?_
    refine v_aload_n (pc := 20) X dX0_ring_20 0 rfl ?_
    refine v_get (pc := 21) (kind := 28) (v := .ref (v_E g 25)) X wC_n0 wC_l0 wC_c0 in_X0 (Nat.le_of_ble_eq_true rfl : 15 < 16) q615 rfl rfl dX0_ring_21 ?_
    refine v_getN (pc := 24) (kind := 0) (v := .int (s_4.1 25 4)) X wC_n25 wC_l25 wC_c3 in_X4 (Nat.le_of_ble_eq_true rfl : 4 < 7) q580 rfl rfl dX0_ring_24 ?_
    refine v_iconst (pc := 27) (v := 1) X dX0_ring_27 rfl ?_
    refine v_isub (pc := 28) X dX0_ring_28 ?_
    refine v_i2l (pc := 29) X dX0_ring_29 ?_
    refine v_cSi (pc := 30) X (m_F_in l g fu (Int32.toInt64 p1) (0 : Int64) (Int32.toInt64 ((s_4.1 25 4) - (1 : Int32))) _) q174 hy_F_in rfl rfl rfl rfl dX0_ring_30 (fun z_5 _ => ?_)
    refine v_if_eq (pc := 33) (tgt := 48) X dX0_ring_33 (by decide) (fun c33 => ?_) (fun c33 => ?_)
    · refine v_iconst (pc := 48) (v := -1) X dX0_ring_48 rfl ?_
      exact v_iret (pc := 49) X dX0_ring_49 rfl
    · refine v_aload_n (pc := 36) X dX0_ring_36 0 rfl ?_
      refine v_get (pc := 37) (kind := 28) (v := .ref (v_E g 25)) X wC_n0 wC_l0 wC_c0 in_X0 (Nat.le_of_ble_eq_true rfl : 15 < 16) q615 rfl rfl dX0_ring_37 ?_
      refine v_getN (pc := 40) (kind := 31) (v := .ref (v_E g 28)) X wC_n25 wC_l25 wC_c3 in_X4 (Nat.le_of_ble_eq_true rfl : 2 < 7) q577 rfl rfl dX0_ring_40 ?_
      refine v_iload_n (pc := 43) X dX0_ring_43 1 rfl ?_
      refine v_iald (pc := 44) X wC_n28 wC_l28 dX0_ring_44 ?_
      refine v_goto (pc := 45) (tgt := 49) X dX0_ring_45 (by decide) ?_
      exact v_iret (pc := 49) X dX0_ring_49 rfl
  · refine v_bipush (pc := 10) (v := -2) X dX0_ring_10 rfl ?_
    exact v_iret (pc := 12) X dX0_ring_12 rfl
/-! FloodLent.left(II)I -/
abbrev rm_F_left : Room := { frames := 15, cells := 0, slots := 0, locals := 629 }
theorem hy_F_left : v_yV yX0_left cX0_left 3 (some .int) 2 := ⟨q1360, q1361, q133, q1362, by decide +kernel⟩
def t_F_left (fu : Nat) (p1 : Int32) (p2 : Int32) (s : v_S) : Option (Int32 × v_S) :=
  v_b1 (t_F_areTwo fu p1 p2 s) fun (z_1 : Int32) => if z_1 = 0 then (some ((-2 : Int32), s)) else (v_b1 (t_F_clears fu s) fun (s_2 : v_S) => v_g p1 6 <| v_b1 (v_il wC ((12 + Int32.toNatClampNeg p1))) fun (n_3 : Nat) => v_g p2 n_3 <| some (s_2.1 ((12 + Int32.toNatClampNeg p1)) (Int32.toNatClampNeg p2), s_2))
theorem m_F_left (l : Launch) (g : v_G) (fu : Nat) (p1 : Int32) (p2 : Int32) (s : v_S) : v_M l yX0_left cX0_left 3 (some .int) rm_F_left wC g [.ref (v_E g 0), .int p1, .int p2] s (fun z : Int32 × v_S => (some (.int z.1), z.2)) (t_F_left fu p1 p2 s) := by
  refine v_met (by decide +kernel) (Nat.le_of_ble_eq_true rfl) (fun Γ X => ?_)
  refine v_lv (lv' := [(0, .ref (v_E g 0)), (1, .int p1), (2, .int p2)]) rfl ?_
  unfold t_F_left
  refine v_aload_n (pc := 0) X dX0_left_0 0 rfl ?_
  refine v_iload_n (pc := 1) X dX0_left_1 1 rfl ?_
  refine v_iload_n (pc := 2) X dX0_left_2 2 rfl ?_
  refine v_cGi (pc := 3) X (m_F_areTwo l g fu p1 p2 _) (v_rc_n X wC_o0) (Or.inl q1318) hy_F_areTwo rfl rfl rfl rfl dX0_left_3 (fun z_1 _ => ?_)
  refine v_if_ne (pc := 6) (tgt := 12) X dX0_left_6 (by decide) (fun c6 => ?_) (fun c6 => ?_)
  · refine v_aload_n (pc := 12) X dX0_left_12 0 rfl ?_
    refine v_cGs (pc := 13) X (m_F_clears l g fu _) (v_rc_n X wC_o0) (Or.inl q1334) hy_F_clears rfl rfl rfl rfl dX0_left_13 (fun s_2 _ => ?_)
    refine v_aload_n (pc := 16) X dX0_left_16 0 rfl ?_
    refine v_get (pc := 17) (kind := 14) (v := .ref (v_E g 11)) X wC_n0 wC_l0 wC_c0 in_X0 (Nat.le_of_ble_eq_true rfl : 13 < 16) q613 rfl rfl dX0_left_17 ?_
    refine v_iload_n (pc := 20) X dX0_left_20 1 rfl ?_
    refine v_aald (pc := 21) X wC_n11 wC_l11 rfl rfl dX0_left_21 ?_
    refine v_iload_n (pc := 22) X dX0_left_22 2 rfl ?_
    refine v_ialdS (pc := 23) X dX0_left_23 (fun n_3 => ?_)
    exact v_iret (pc := 24) X dX0_left_24 rfl
  · refine v_bipush (pc := 9) (v := -2) X dX0_left_9 rfl ?_
    exact v_iret (pc := 11) X dX0_left_11 rfl
/-! FloodLent.nextPaid(III)I -/
abbrev rm_F_nextPaid : Room := { frames := 3, cells := 0, slots := 0, locals := 61 }
theorem hy_F_nextPaid : v_yV yX0_nextPaid cX0_nextPaid 6 (some .int) 3 := ⟨q1373, qs54, q133, q1374, by decide +kernel⟩
def t_F_nextPaid_6 (fu : Nat) (p1 : Int32) (p2 : Int32) (p3 : Int32) (s : v_S) (r6 : Int32 × Int32 → Option Int32) (x4 : Int32) (x5 : Int32) : Option Int32 :=
v_b1 (t_F_villages fu s) fun (z_1 : Int32) => if z_1 ≤ x5 then (some x4) else (v_b1 (t_F_isOn fu p3 x5 s) fun (z_2 : Int32) => if z_2 = 0 then (v_g p2 6 <| v_b1 (v_il wC ((12 + Int32.toNatClampNeg p2))) fun (n_3 : Nat) => v_g x5 n_3 <| if s.1 ((12 + Int32.toNatClampNeg p2)) (Int32.toNatClampNeg x5) = 0 then (r6 (x4, x5 + (1 : Int32))) else (if x4 = (-1 : Int32) then (r6 (x5, x5 + (1 : Int32))) else (if p1 = (1 : Int32) then (v_g p2 6 <| v_b1 (v_il wC ((12 + Int32.toNatClampNeg p2))) fun (n_4 : Nat) => v_g x5 n_4 <| v_g p2 6 <| v_b1 (v_il wC ((12 + Int32.toNatClampNeg p2))) fun (n_5 : Nat) => v_g x4 n_5 <| if s.1 ((12 + Int32.toNatClampNeg p2)) (Int32.toNatClampNeg x4) ≤ s.1 ((12 + Int32.toNatClampNeg p2)) (Int32.toNatClampNeg x5) then (r6 (x4, x5 + (1 : Int32))) else (r6 (x5, x5 + (1 : Int32)))) else (r6 (x4, x5 + (1 : Int32)))))) else (r6 (x4, x5 + (1 : Int32))))
def t_F_nextPaid_6B (fu : Nat) (p1 : Int32) (p2 : Int32) (p3 : Int32) (s : v_S) (r6 : Int32 × Int32 → Option Int32) (a : Int32 × Int32) : Option Int32 := t_F_nextPaid_6 fu p1 p2 p3 s r6 a.1 a.2
def t_F_nextPaid (fu : Nat) (p1 : Int32) (p2 : Int32) (p3 : Int32) (s : v_S) : Option Int32 :=
  v_loop (t_F_nextPaid_6B fu p1 p2 p3 s) fu ((-1 : Int32), (0 : Int32))
theorem w_F_nextPaid_6 {Γ : v_Ctx} {l : Launch} {g : v_G} (fu : Nat) (p1 : Int32) (p2 : Int32) (p3 : Int32) (s : v_S) (X : v_C Γ l rm_F_nextPaid cX0_nextPaid 6 RX0 (some .int) wC g) (r6 : Int32 × Int32 → Option Int32) (h6 : ∀ (x4 : Int32) (x5 : Int32), v_V Γ 6 wC g (fun z : Int32 => (some (.int z), s)) 6 [(0, .ref (v_E g 0)), (1, .int p1), (2, .int p2), (3, .int p3), (4, .int x4), (5, .int x5)] [] s (r6 (x4, x5))) (x4 : Int32) (x5 : Int32) : v_V Γ 6 wC g (fun z : Int32 => (some (.int z), s)) 6 [(0, .ref (v_E g 0)), (1, .int p1), (2, .int p2), (3, .int p3), (4, .int x4), (5, .int x5)] [] s (t_F_nextPaid_6 fu p1 p2 p3 s r6 x4 x5) := by
  unfold t_F_nextPaid_6
  refine v_iload (pc := 6) X dX0_nextPaid_6 5 rfl ?_
  refine v_aload_n (pc := 8) X dX0_nextPaid_8 0 rfl ?_
  refine v_cGi (pc := 9) X (m_F_villages l g fu _) (v_rc_n X wC_o0) (Or.inl q1071) hy_F_villages rfl rfl rfl rfl dX0_nextPaid_9 (fun z_1 _ => ?_)
  refine v_icmp_ge (pc := 12) (tgt := 81) X dX0_nextPaid_12 (by decide) (fun c12 => ?_) (fun c12 => ?_)
  · refine v_iload (pc := 81) X dX0_nextPaid_81 4 rfl ?_
    exact v_iret (pc := 83) X dX0_nextPaid_83 rfl
  · refine v_iload_n (pc := 15) X dX0_nextPaid_15 3 rfl ?_
    refine v_iload (pc := 16) X dX0_nextPaid_16 5 rfl ?_
    refine v_cSi (pc := 18) X (m_F_isOn l g fu p3 x5 _) q1240 hy_F_isOn rfl rfl rfl rfl dX0_nextPaid_18 (fun z_2 _ => ?_)
    refine v_if_ne (pc := 21) (tgt := 75) X dX0_nextPaid_21 (by decide) (fun c21 => ?_) (fun c21 => ?_)
    · refine v_iinc (pc := 75) (v := x5 + (1 : Int32)) (lv' := [(5, .int (x5 + (1 : Int32))), (0, .ref (v_E g 0)), (1, .int p1), (2, .int p2), (3, .int p3), (4, .int x4)]) (k := 5) X dX0_nextPaid_75 rfl rfl (Nat.le_of_ble_eq_true rfl) rfl ?_
      refine v_goto (pc := 78) (tgt := 6) X dX0_nextPaid_78 (by decide) ?_
      refine v_sub [1, 2, 3, 4, 5, 0] rfl ?_
      exact h6 x4 (x5 + (1 : Int32))
    · refine v_aload_n (pc := 24) X dX0_nextPaid_24 0 rfl ?_
      refine v_get (pc := 25) (kind := 14) (v := .ref (v_E g 11)) X wC_n0 wC_l0 wC_c0 in_X0 (Nat.le_of_ble_eq_true rfl : 13 < 16) q613 rfl rfl dX0_nextPaid_25 ?_
      refine v_iload_n (pc := 28) X dX0_nextPaid_28 2 rfl ?_
      refine v_aald (pc := 29) X wC_n11 wC_l11 rfl rfl dX0_nextPaid_29 ?_
      refine v_iload (pc := 30) X dX0_nextPaid_30 5 rfl ?_
      refine v_ialdS (pc := 32) X dX0_nextPaid_32 (fun n_3 => ?_)
      refine v_if_ne (pc := 33) (tgt := 39) X dX0_nextPaid_33 (by decide) (fun c33 => ?_) (fun c33 => ?_)
      · refine v_iload (pc := 39) X dX0_nextPaid_39 4 rfl ?_
        refine v_iconst (pc := 41) (v := -1) X dX0_nextPaid_41 rfl ?_
        refine v_icmp_eq (pc := 42) (tgt := 71) X dX0_nextPaid_42 (by decide) (fun c42 => ?_) (fun c42 => ?_)
        · refine v_iload (pc := 71) X dX0_nextPaid_71 5 rfl ?_
          refine v_istore (pc := 73) (lv' := [(4, .int x5), (0, .ref (v_E g 0)), (1, .int p1), (2, .int p2), (3, .int p3), (5, .int x5)]) X dX0_nextPaid_73 (Nat.le_of_ble_eq_true rfl) rfl ?_
          refine v_iinc (pc := 75) (v := x5 + (1 : Int32)) (lv' := [(5, .int (x5 + (1 : Int32))), (4, .int x5), (0, .ref (v_E g 0)), (1, .int p1), (2, .int p2), (3, .int p3)]) (k := 5) X dX0_nextPaid_75 rfl rfl (Nat.le_of_ble_eq_true rfl) rfl ?_
          refine v_goto (pc := 78) (tgt := 6) X dX0_nextPaid_78 (by decide) ?_
          refine v_sub [2, 3, 4, 5, 1, 0] rfl ?_
          exact h6 x5 (x5 + (1 : Int32))
        · refine v_iload_n (pc := 45) X dX0_nextPaid_45 1 rfl ?_
          refine v_iconst (pc := 46) (v := 1) X dX0_nextPaid_46 rfl ?_
          refine v_icmp_ne (pc := 47) (tgt := 75) X dX0_nextPaid_47 (by decide) (fun c47 => ?_) (fun c47 => ?_)
          · refine v_iinc (pc := 75) (v := x5 + (1 : Int32)) (lv' := [(5, .int (x5 + (1 : Int32))), (0, .ref (v_E g 0)), (1, .int p1), (2, .int p2), (3, .int p3), (4, .int x4)]) (k := 5) X dX0_nextPaid_75 rfl rfl (Nat.le_of_ble_eq_true rfl) rfl ?_
            refine v_goto (pc := 78) (tgt := 6) X dX0_nextPaid_78 (by decide) ?_
            refine v_sub [1, 2, 3, 4, 5, 0] rfl ?_
            exact h6 x4 (x5 + (1 : Int32))
          · refine v_aload_n (pc := 50) X dX0_nextPaid_50 0 rfl ?_
            refine v_get (pc := 51) (kind := 14) (v := .ref (v_E g 11)) X wC_n0 wC_l0 wC_c0 in_X0 (Nat.le_of_ble_eq_true rfl : 13 < 16) q613 rfl rfl dX0_nextPaid_51 ?_
            refine v_iload_n (pc := 54) X dX0_nextPaid_54 2 rfl ?_
            refine v_aald (pc := 55) X wC_n11 wC_l11 rfl rfl dX0_nextPaid_55 ?_
            refine v_iload (pc := 56) X dX0_nextPaid_56 5 rfl ?_
            refine v_ialdS (pc := 58) X dX0_nextPaid_58 (fun n_4 => ?_)
            refine v_aload_n (pc := 59) X dX0_nextPaid_59 0 rfl ?_
            refine v_get (pc := 60) (kind := 14) (v := .ref (v_E g 11)) X wC_n0 wC_l0 wC_c0 in_X0 (Nat.le_of_ble_eq_true rfl : 13 < 16) q613 rfl rfl dX0_nextPaid_60 ?_
            refine v_iload_n (pc := 63) X dX0_nextPaid_63 2 rfl ?_
            refine v_aald (pc := 64) X wC_n11 wC_l11 rfl rfl dX0_nextPaid_64 ?_
            refine v_iload (pc := 65) X dX0_nextPaid_65 4 rfl ?_
            refine v_ialdS (pc := 67) X dX0_nextPaid_67 (fun n_5 => ?_)
            refine v_icmp_ge (pc := 68) (tgt := 75) X dX0_nextPaid_68 (by decide) (fun c68 => ?_) (fun c68 => ?_)
            · refine v_iinc (pc := 75) (v := x5 + (1 : Int32)) (lv' := [(5, .int (x5 + (1 : Int32))), (0, .ref (v_E g 0)), (1, .int p1), (2, .int p2), (3, .int p3), (4, .int x4)]) (k := 5) X dX0_nextPaid_75 rfl rfl (Nat.le_of_ble_eq_true rfl) rfl ?_
              refine v_goto (pc := 78) (tgt := 6) X dX0_nextPaid_78 (by decide) ?_
              refine v_sub [1, 2, 3, 4, 5, 0] rfl ?_
              exact h6 x4 (x5 + (1 : Int32))
            · refine v_iload (pc := 71) X dX0_nextPaid_71 5 rfl ?_
              refine v_istore (pc := 73) (lv' := [(4, .int x5), (0, .ref (v_E g 0)), (1, .int p1), (2, .int p2), (3, .int p3), (5, .int x5)]) X dX0_nextPaid_73 (Nat.le_of_ble_eq_true rfl) rfl ?_
              refine v_iinc (pc := 75) (v := x5 + (1 : Int32)) (lv' := [(5, .int (x5 + (1 : Int32))), (4, .int x5), (0, .ref (v_E g 0)), (1, .int p1), (2, .int p2), (3, .int p3)]) (k := 5) X dX0_nextPaid_75 rfl rfl (Nat.le_of_ble_eq_true rfl) rfl ?_
              refine v_goto (pc := 78) (tgt := 6) X dX0_nextPaid_78 (by decide) ?_
              refine v_sub [2, 3, 4, 5, 1, 0] rfl ?_
              exact h6 x5 (x5 + (1 : Int32))
      · refine v_goto (pc := 36) (tgt := 75) X dX0_nextPaid_36 (by decide) ?_
        refine v_iinc (pc := 75) (v := x5 + (1 : Int32)) (lv' := [(5, .int (x5 + (1 : Int32))), (0, .ref (v_E g 0)), (1, .int p1), (2, .int p2), (3, .int p3), (4, .int x4)]) (k := 5) X dX0_nextPaid_75 rfl rfl (Nat.le_of_ble_eq_true rfl) rfl ?_
        refine v_goto (pc := 78) (tgt := 6) X dX0_nextPaid_78 (by decide) ?_
        refine v_sub [1, 2, 3, 4, 5, 0] rfl ?_
        exact h6 x4 (x5 + (1 : Int32))
theorem w_F_nextPaid_6L {Γ : v_Ctx} {l : Launch} {g : v_G} (fu : Nat) (p1 : Int32) (p2 : Int32) (p3 : Int32) (s : v_S) (X : v_C Γ l rm_F_nextPaid cX0_nextPaid 6 RX0 (some .int) wC g)  : ∀ (n : Nat), ∀ (x4 : Int32) (x5 : Int32), v_V Γ 6 wC g (fun z : Int32 => (some (.int z), s)) 6 [(0, .ref (v_E g 0)), (1, .int p1), (2, .int p2), (3, .int p3), (4, .int x4), (5, .int x5)] [] s (v_loop (t_F_nextPaid_6B fu p1 p2 p3 s) n (x4, x5)) := by
  intro n
  induction n with
  | zero => exact fun _ _ => v_none
  | succ n ih => exact fun x4 x5 => w_F_nextPaid_6 fu p1 p2 p3 s X  _ ih x4 x5
theorem m_F_nextPaid (l : Launch) (g : v_G) (fu : Nat) (p1 : Int32) (p2 : Int32) (p3 : Int32) (s : v_S) : v_M l yX0_nextPaid cX0_nextPaid 6 (some .int) rm_F_nextPaid wC g [.ref (v_E g 0), .int p1, .int p2, .int p3] s (fun z : Int32 => (some (.int z), s)) (t_F_nextPaid fu p1 p2 p3 s) := by
  refine v_met (by decide +kernel) (Nat.le_of_ble_eq_true rfl) (fun Γ X => ?_)
  refine v_lv (lv' := [(0, .ref (v_E g 0)), (1, .int p1), (2, .int p2), (3, .int p3)]) rfl ?_
  unfold t_F_nextPaid
  refine v_iconst (pc := 0) (v := -1) X dX0_nextPaid_0 rfl ?_
  refine v_istore (pc := 1) (lv' := [(4, .int (-1 : Int32)), (0, .ref (v_E g 0)), (1, .int p1), (2, .int p2), (3, .int p3)]) X dX0_nextPaid_1 (Nat.le_of_ble_eq_true rfl) rfl ?_
  refine v_iconst (pc := 3) (v := 0) X dX0_nextPaid_3 rfl ?_
  refine v_istore (pc := 4) (lv' := [(5, .int (0 : Int32)), (4, .int (-1 : Int32)), (0, .ref (v_E g 0)), (1, .int p1), (2, .int p2), (3, .int p3)]) X dX0_nextPaid_4 (Nat.le_of_ble_eq_true rfl) rfl ?_
  refine v_sub [2, 3, 4, 5, 1, 0] rfl ?_
  exact w_F_nextPaid_6L fu p1 p2 p3 s X  fu (-1 : Int32) (0 : Int32)
/-! FloodLent.strikes(I)V -/
abbrev rm_F_strikes : Room := { frames := 9, cells := 0, slots := 0, locals := 193 }
theorem hy_F_strikes : v_yV yX0_strikes cX0_strikes 7 none 1 := ⟨q1369, qs53, q133, q1370, by decide +kernel⟩
def t_F_strikes_142 (fu : Nat) (p1 : Int32) (r6 : Int32 × v_S → Option v_S) (r58 : Int32 × Int32 × Int32 × Int32 × Int32 × v_S → Option v_S) (x2 : Int32) (x3 : Int32) (x4 : Int32) (x5 : Int32) (x6 : Int32) (y0 : Int32) (y1 : Int32) (y2 : Nat) (s : v_S) : Option v_S :=
v_b1 (v_il wC y2) fun (n_9 : Nat) => v_g y1 n_9 <| v_n (v_uI s y2 (Int32.toNatClampNeg y1) y0) fun (s_10 : v_S) => v_g x2 6 <| v_b1 (v_il wC ((19 + Int32.toNatClampNeg x2))) fun (n_11 : Nat) => v_g x6 n_11 <| v_n (x3 - (s_10.1 ((19 + Int32.toNatClampNeg x2)) (Int32.toNatClampNeg x6))) fun (x3_12 : Int32) => v_b1 (t_F_nextPaid fu p1 x2 x5 s_10) fun (z_13 : Int32) => r58 (x2, x3_12, x4, x5, z_13, s_10)
def t_F_strikes_129 (fu : Nat) (p1 : Int32) (r6 : Int32 × v_S → Option v_S) (r58 : Int32 × Int32 × Int32 × Int32 × Int32 × v_S → Option v_S) (x2 : Int32) (x3 : Int32) (x4 : Int32) (x5 : Int32) (x6 : Int32) (y0 : Int32) (y1 : Nat) (s : v_S) : Option v_S :=
v_g x2 6 <| v_b1 (v_il wC ((12 + Int32.toNatClampNeg x2))) fun (n_8 : Nat) => v_g x6 n_8 <| t_F_strikes_142 fu p1 r6 r58 x2 x3 x4 x5 x6 (if (s.1 ((12 + Int32.toNatClampNeg x2)) (Int32.toNatClampNeg x6)) < x3 then s.1 ((12 + Int32.toNatClampNeg x2)) (Int32.toNatClampNeg x6) else x3) y0 y1 s
def t_F_strikes_58 (fu : Nat) (p1 : Int32) (r6 : Int32 × v_S → Option v_S) (r58 : Int32 × Int32 × Int32 × Int32 × Int32 × v_S → Option v_S) (x2 : Int32) (x3 : Int32) (x4 : Int32) (x5 : Int32) (x6 : Int32) (s : v_S) : Option v_S :=
if x6 = (-1 : Int32) then (r6 (x2 + (1 : Int32), s)) else (v_n (x5 ||| ((1 : Int32) <<< (x6 &&& 31))) fun (x5_7 : Int32) => v_g x2 6 <| if p1 = (2 : Int32) then (v_g x2 6 <| if x4 ≤ s.1 36 (Int32.toNatClampNeg x2) then (t_F_strikes_129 fu p1 r6 r58 x2 x3 x4 x5_7 x6 x6 ((19 + Int32.toNatClampNeg x2)) s) else (v_g x2 6 <| v_b1 (v_il wC ((12 + Int32.toNatClampNeg x2))) fun (n_14 : Nat) => v_g x6 n_14 <| v_g x2 6 <| if (Int32.toInt64 x4) = 0 then none else t_F_strikes_142 fu p1 r6 r58 x2 x3 x4 x5_7 x6 (Int64.toInt32 (((Int32.toInt64 (s.1 ((12 + Int32.toNatClampNeg x2)) (Int32.toNatClampNeg x6))) * (Int32.toInt64 (s.1 36 (Int32.toNatClampNeg x2)))) / (Int32.toInt64 x4))) x6 ((19 + Int32.toNatClampNeg x2)) s)) else (t_F_strikes_129 fu p1 r6 r58 x2 x3 x4 x5_7 x6 x6 ((19 + Int32.toNatClampNeg x2)) s))
def t_F_strikes_58B (fu : Nat) (p1 : Int32) (r6 : Int32 × v_S → Option v_S) (r58 : Int32 × Int32 × Int32 × Int32 × Int32 × v_S → Option v_S) (a : Int32 × Int32 × Int32 × Int32 × Int32 × v_S) : Option v_S := t_F_strikes_58 fu p1 r6 r58 a.1 a.2.1 a.2.2.1 a.2.2.2.1 a.2.2.2.2.1 a.2.2.2.2.2
def t_F_strikes_6 (fu : Nat) (p1 : Int32) (r6 : Int32 × v_S → Option v_S) (x2 : Int32) (s : v_S) : Option v_S :=
v_b1 (t_F_villages fu s) fun (z_2 : Int32) => if z_2 ≤ x2 then (some s) else (v_g x2 6 <| v_n (s.1 36 (Int32.toNatClampNeg x2)) fun (x3_3 : Int32) => v_g x2 6 <| v_b1 (t_F_together fu ((12 + Int32.toNatClampNeg x2)) s) fun (z_4 : Int32) => v_g x2 6 <| v_b1 (t_A_fill fu ((19 + Int32.toNatClampNeg x2)) (0 : Int32) s) fun (s_5 : v_S) => v_b1 (t_F_nextPaid fu p1 x2 (0 : Int32) s_5) fun (z_6 : Int32) => v_loop (t_F_strikes_58B fu p1 r6) fu (x2, x3_3, z_4, (0 : Int32), z_6, s_5))
def t_F_strikes_6B (fu : Nat) (p1 : Int32) (r6 : Int32 × v_S → Option v_S) (a : Int32 × v_S) : Option v_S := t_F_strikes_6 fu p1 r6 a.1 a.2
def t_F_strikes (fu : Nat) (p1 : Int32) (s : v_S) : Option v_S :=
  v_b1 (t_F_owing fu s) fun (s_1 : v_S) => v_loop (t_F_strikes_6B fu p1) fu ((0 : Int32), s_1)
theorem w_F_strikes_142 {Γ : v_Ctx} {l : Launch} {g : v_G} (fu : Nat) (p1 : Int32) (X : v_C Γ l rm_F_strikes cX0_strikes 7 RX0 none wC g) (r6 : Int32 × v_S → Option v_S) (h6 : ∀ (x2 : Int32) (s : v_S), v_V Γ 7 wC g (fun z : v_S => ((none : Option Value), z)) 6 [(0, .ref (v_E g 0)), (1, .int p1), (2, .int x2)] [] s (r6 (x2, s))) (r58 : Int32 × Int32 × Int32 × Int32 × Int32 × v_S → Option v_S) (h58 : ∀ (x2 : Int32) (x3 : Int32) (x4 : Int32) (x5 : Int32) (x6 : Int32) (s : v_S), v_V Γ 7 wC g (fun z : v_S => ((none : Option Value), z)) 58 [(0, .ref (v_E g 0)), (1, .int p1), (2, .int x2), (3, .int x3), (4, .int x4), (5, .int x5), (6, .int x6)] [] s (r58 (x2, x3, x4, x5, x6, s))) (x2 : Int32) (x3 : Int32) (x4 : Int32) (x5 : Int32) (x6 : Int32) (y0 : Int32) (y1 : Int32) (y2 : Nat) (s : v_S) : v_V Γ 7 wC g (fun z : v_S => ((none : Option Value), z)) 142 [(0, .ref (v_E g 0)), (1, .int p1), (2, .int x2), (3, .int x3), (4, .int x4), (5, .int x5), (6, .int x6)] [.int y0, .int y1, .ref (v_E g y2)] s (t_F_strikes_142 fu p1 r6 r58 x2 x3 x4 x5 x6 y0 y1 y2 s) := by
  unfold t_F_strikes_142
  refine v_iastS (pc := 142) X dX0_strikes_142 (fun n_9 s_10 => ?_)
  refine v_iload_n (pc := 143) X dX0_strikes_143 3 rfl ?_
  refine v_aload_n (pc := 144) X dX0_strikes_144 0 rfl ?_
  refine v_get (pc := 145) (kind := 21) (v := .ref (v_E g 18)) X wC_n0 wC_l0 wC_c0 in_X0 (Nat.le_of_ble_eq_true rfl : 14 < 16) q614 rfl rfl dX0_strikes_145 ?_
  refine v_iload_n (pc := 148) X dX0_strikes_148 2 rfl ?_
  refine v_aald (pc := 149) X wC_n18 wC_l18 rfl rfl dX0_strikes_149 ?_
  refine v_iload (pc := 150) X dX0_strikes_150 6 rfl ?_
  refine v_ialdS (pc := 152) X dX0_strikes_152 (fun n_11 => ?_)
  refine v_isub (pc := 153) X dX0_strikes_153 ?_
  refine v_istore_nN (pc := 154) (lvf := fun x3_12 => [(3, .int x3_12), (0, .ref (v_E g 0)), (1, .int p1), (2, .int x2), (4, .int x4), (5, .int x5), (6, .int x6)]) X dX0_strikes_154 rfl (Nat.le_of_ble_eq_true rfl) (fun _ => rfl) (fun x3_12 => ?_)
  refine v_aload_n (pc := 155) X dX0_strikes_155 1 rfl ?_
  refine v_iload_n (pc := 156) X dX0_strikes_156 2 rfl ?_
  refine v_iload_n (pc := 157) X dX0_strikes_157 3 rfl ?_
  refine v_iload (pc := 158) X dX0_strikes_158 5 rfl ?_
  refine v_cGi (pc := 160) X (m_F_nextPaid l g fu p1 x2 x5 _) (v_rc_n X wC_o0) (Or.inl q1371) hy_F_nextPaid rfl rfl rfl rfl dX0_strikes_160 (fun z_13 _ => ?_)
  refine v_istore (pc := 163) (lv' := [(6, .int z_13), (3, .int x3_12), (0, .ref (v_E g 0)), (1, .int p1), (2, .int x2), (4, .int x4), (5, .int x5)]) X dX0_strikes_163 (Nat.le_of_ble_eq_true rfl) rfl ?_
  refine v_goto (pc := 165) (tgt := 58) X dX0_strikes_165 (by decide) ?_
  refine v_sub [2, 3, 4, 1, 5, 6, 0] rfl ?_
  exact h58 x2 x3_12 x4 x5 z_13 s_10
theorem w_F_strikes_129 {Γ : v_Ctx} {l : Launch} {g : v_G} (fu : Nat) (p1 : Int32) (X : v_C Γ l rm_F_strikes cX0_strikes 7 RX0 none wC g) (r6 : Int32 × v_S → Option v_S) (h6 : ∀ (x2 : Int32) (s : v_S), v_V Γ 7 wC g (fun z : v_S => ((none : Option Value), z)) 6 [(0, .ref (v_E g 0)), (1, .int p1), (2, .int x2)] [] s (r6 (x2, s))) (r58 : Int32 × Int32 × Int32 × Int32 × Int32 × v_S → Option v_S) (h58 : ∀ (x2 : Int32) (x3 : Int32) (x4 : Int32) (x5 : Int32) (x6 : Int32) (s : v_S), v_V Γ 7 wC g (fun z : v_S => ((none : Option Value), z)) 58 [(0, .ref (v_E g 0)), (1, .int p1), (2, .int x2), (3, .int x3), (4, .int x4), (5, .int x5), (6, .int x6)] [] s (r58 (x2, x3, x4, x5, x6, s))) (x2 : Int32) (x3 : Int32) (x4 : Int32) (x5 : Int32) (x6 : Int32) (y0 : Int32) (y1 : Nat) (s : v_S) : v_V Γ 7 wC g (fun z : v_S => ((none : Option Value), z)) 129 [(0, .ref (v_E g 0)), (1, .int p1), (2, .int x2), (3, .int x3), (4, .int x4), (5, .int x5), (6, .int x6)] [.int y0, .ref (v_E g y1)] s (t_F_strikes_129 fu p1 r6 r58 x2 x3 x4 x5 x6 y0 y1 s) := by
  unfold t_F_strikes_129
  refine v_iload_n (pc := 129) X dX0_strikes_129 3 rfl ?_
  refine v_aload_n (pc := 130) X dX0_strikes_130 0 rfl ?_
  refine v_get (pc := 131) (kind := 14) (v := .ref (v_E g 11)) X wC_n0 wC_l0 wC_c0 in_X0 (Nat.le_of_ble_eq_true rfl : 13 < 16) q613 rfl rfl dX0_strikes_131 ?_
  refine v_iload_n (pc := 134) X dX0_strikes_134 2 rfl ?_
  refine v_aald (pc := 135) X wC_n11 wC_l11 rfl rfl dX0_strikes_135 ?_
  refine v_iload (pc := 136) X dX0_strikes_136 6 rfl ?_
  refine v_ialdS (pc := 138) X dX0_strikes_138 (fun n_8 => ?_)
  refine v_mmin (pc := 139) X q1375 q681 q143 q682 rfl dX0_strikes_139 ?_
  exact w_F_strikes_142 fu p1 X r6 h6 r58 h58 x2 x3 x4 x5 x6 (if (s.1 ((12 + Int32.toNatClampNeg x2)) (Int32.toNatClampNeg x6)) < x3 then s.1 ((12 + Int32.toNatClampNeg x2)) (Int32.toNatClampNeg x6) else x3) y0 y1 s
theorem w_F_strikes_58 {Γ : v_Ctx} {l : Launch} {g : v_G} (fu : Nat) (p1 : Int32) (X : v_C Γ l rm_F_strikes cX0_strikes 7 RX0 none wC g) (r6 : Int32 × v_S → Option v_S) (h6 : ∀ (x2 : Int32) (s : v_S), v_V Γ 7 wC g (fun z : v_S => ((none : Option Value), z)) 6 [(0, .ref (v_E g 0)), (1, .int p1), (2, .int x2)] [] s (r6 (x2, s))) (r58 : Int32 × Int32 × Int32 × Int32 × Int32 × v_S → Option v_S) (h58 : ∀ (x2 : Int32) (x3 : Int32) (x4 : Int32) (x5 : Int32) (x6 : Int32) (s : v_S), v_V Γ 7 wC g (fun z : v_S => ((none : Option Value), z)) 58 [(0, .ref (v_E g 0)), (1, .int p1), (2, .int x2), (3, .int x3), (4, .int x4), (5, .int x5), (6, .int x6)] [] s (r58 (x2, x3, x4, x5, x6, s))) (x2 : Int32) (x3 : Int32) (x4 : Int32) (x5 : Int32) (x6 : Int32) (s : v_S) : v_V Γ 7 wC g (fun z : v_S => ((none : Option Value), z)) 58 [(0, .ref (v_E g 0)), (1, .int p1), (2, .int x2), (3, .int x3), (4, .int x4), (5, .int x5), (6, .int x6)] [] s (t_F_strikes_58 fu p1 r6 r58 x2 x3 x4 x5 x6 s) := by
  unfold t_F_strikes_58
  refine v_iload (pc := 58) X dX0_strikes_58 6 rfl ?_
  refine v_iconst (pc := 60) (v := -1) X dX0_strikes_60 rfl ?_
  refine v_icmp_eq (pc := 61) (tgt := 168) X dX0_strikes_61 (by decide) (fun c61 => ?_) (fun c61 => ?_)
  · refine v_iinc (pc := 168) (v := x2 + (1 : Int32)) (lv' := [(2, .int (x2 + (1 : Int32))), (0, .ref (v_E g 0)), (1, .int p1), (3, .int x3), (4, .int x4), (5, .int x5), (6, .int x6)]) (k := 2) X dX0_strikes_168 rfl rfl (Nat.le_of_ble_eq_true rfl) rfl ?_
    refine v_goto (pc := 171) (tgt := 6) X dX0_strikes_171 (by decide) ?_
    refine v_sub [1, 2, 0] rfl ?_
    exact h6 (x2 + (1 : Int32)) s
  · refine v_iload (pc := 64) X dX0_strikes_64 5 rfl ?_
    refine v_iconst (pc := 66) (v := 1) X dX0_strikes_66 rfl ?_
    refine v_iload (pc := 67) X dX0_strikes_67 6 rfl ?_
    refine v_ishl (pc := 69) X dX0_strikes_69 ?_
    refine v_ior (pc := 70) X dX0_strikes_70 ?_
    refine v_istoreN (pc := 71) (lvf := fun x5_7 => [(5, .int x5_7), (0, .ref (v_E g 0)), (1, .int p1), (2, .int x2), (3, .int x3), (4, .int x4), (6, .int x6)]) X dX0_strikes_71 (Nat.le_of_ble_eq_true rfl) (fun _ => rfl) (fun x5_7 => ?_)
    refine v_aload_n (pc := 73) X dX0_strikes_73 1 rfl ?_
    refine v_get (pc := 74) (kind := 21) (v := .ref (v_E g 18)) X wC_n0 wC_l0 wC_c0 in_X0 (Nat.le_of_ble_eq_true rfl : 14 < 16) q614 rfl rfl dX0_strikes_74 ?_
    refine v_iload_n (pc := 77) X dX0_strikes_77 3 rfl ?_
    refine v_aald (pc := 78) X wC_n18 wC_l18 rfl rfl dX0_strikes_78 ?_
    refine v_iload (pc := 79) X dX0_strikes_79 6 rfl ?_
    refine v_iload_n (pc := 81) X dX0_strikes_81 2 rfl ?_
    refine v_iconst (pc := 82) (v := 2) X dX0_strikes_82 rfl ?_
    refine v_icmp_ne (pc := 83) (tgt := 129) X dX0_strikes_83 (by decide) (fun c83 => ?_) (fun c83 => ?_)
    · refine v_sub [1, 2, 3, 4, 5, 0, 6] rfl ?_
      exact w_F_strikes_129 fu p1 X r6 h6 r58 h58 x2 x3 x4 x5_7 x6 x6 ((19 + Int32.toNatClampNeg x2)) s
    · refine v_aload_n (pc := 86) X dX0_strikes_86 1 rfl ?_
      refine v_get (pc := 87) (kind := 10) (v := .ref (v_E g 7)) X wC_n0 wC_l0 wC_c0 in_X0 (Nat.le_of_ble_eq_true rfl : 4 < 16) q603 rfl rfl dX0_strikes_87 ?_
      refine v_getN (pc := 90) (kind := 39) (v := .ref (v_E g 36)) X wC_n7 wC_l7 wC_c2 in_X3 (Nat.le_of_ble_eq_true rfl : 1 < 23) q479 rfl rfl dX0_strikes_90 ?_
      refine v_iload_n (pc := 93) X dX0_strikes_93 3 rfl ?_
      refine v_iald (pc := 94) X wC_n36 wC_l36 dX0_strikes_94 ?_
      refine v_iload (pc := 95) X dX0_strikes_95 5 rfl ?_
      refine v_icmp_ge (pc := 97) (tgt := 129) X dX0_strikes_97 (by decide) (fun c97 => ?_) (fun c97 => ?_)
      · refine v_sub [1, 2, 3, 4, 5, 0, 6] rfl ?_
        exact w_F_strikes_129 fu p1 X r6 h6 r58 h58 x2 x3 x4 x5_7 x6 x6 ((19 + Int32.toNatClampNeg x2)) s
      · refine v_aload_n (pc := 100) X dX0_strikes_100 1 rfl ?_
        refine v_get (pc := 101) (kind := 14) (v := .ref (v_E g 11)) X wC_n0 wC_l0 wC_c0 in_X0 (Nat.le_of_ble_eq_true rfl : 13 < 16) q613 rfl rfl dX0_strikes_101 ?_
        refine v_iload_n (pc := 104) X dX0_strikes_104 3 rfl ?_
        refine v_aald (pc := 105) X wC_n11 wC_l11 rfl rfl dX0_strikes_105 ?_
        refine v_iload (pc := 106) X dX0_strikes_106 6 rfl ?_
        refine v_ialdS (pc := 108) X dX0_strikes_108 (fun n_14 => ?_)
        refine v_i2l (pc := 109) X dX0_strikes_109 ?_
        refine v_aload_n (pc := 110) X dX0_strikes_110 1 rfl ?_
        refine v_get (pc := 111) (kind := 10) (v := .ref (v_E g 7)) X wC_n0 wC_l0 wC_c0 in_X0 (Nat.le_of_ble_eq_true rfl : 4 < 16) q603 rfl rfl dX0_strikes_111 ?_
        refine v_getN (pc := 114) (kind := 39) (v := .ref (v_E g 36)) X wC_n7 wC_l7 wC_c2 in_X3 (Nat.le_of_ble_eq_true rfl : 1 < 23) q479 rfl rfl dX0_strikes_114 ?_
        refine v_iload_n (pc := 117) X dX0_strikes_117 3 rfl ?_
        refine v_iald (pc := 118) X wC_n36 wC_l36 dX0_strikes_118 ?_
        refine v_i2l (pc := 119) X dX0_strikes_119 ?_
        refine v_lmul (pc := 120) X dX0_strikes_120 ?_
        refine v_iload (pc := 121) X dX0_strikes_121 5 rfl ?_
        refine v_i2l (pc := 123) X dX0_strikes_123 ?_
        refine v_ldiv (pc := 124) X dX0_strikes_124 ?_
        refine v_l2i (pc := 125) X dX0_strikes_125 ?_
        refine v_goto (pc := 126) (tgt := 142) X dX0_strikes_126 (by decide) ?_
        refine v_sub [1, 2, 3, 4, 5, 0, 6] rfl ?_
        exact w_F_strikes_142 fu p1 X r6 h6 r58 h58 x2 x3 x4 x5_7 x6 (Int64.toInt32 (((Int32.toInt64 (s.1 ((12 + Int32.toNatClampNeg x2)) (Int32.toNatClampNeg x6))) * (Int32.toInt64 (s.1 36 (Int32.toNatClampNeg x2)))) / (Int32.toInt64 x4))) x6 ((19 + Int32.toNatClampNeg x2)) s
theorem w_F_strikes_58L {Γ : v_Ctx} {l : Launch} {g : v_G} (fu : Nat) (p1 : Int32) (X : v_C Γ l rm_F_strikes cX0_strikes 7 RX0 none wC g) (r6 : Int32 × v_S → Option v_S) (h6 : ∀ (x2 : Int32) (s : v_S), v_V Γ 7 wC g (fun z : v_S => ((none : Option Value), z)) 6 [(0, .ref (v_E g 0)), (1, .int p1), (2, .int x2)] [] s (r6 (x2, s))) : ∀ (n : Nat), ∀ (x2 : Int32) (x3 : Int32) (x4 : Int32) (x5 : Int32) (x6 : Int32) (s : v_S), v_V Γ 7 wC g (fun z : v_S => ((none : Option Value), z)) 58 [(0, .ref (v_E g 0)), (1, .int p1), (2, .int x2), (3, .int x3), (4, .int x4), (5, .int x5), (6, .int x6)] [] s (v_loop (t_F_strikes_58B fu p1 r6) n (x2, x3, x4, x5, x6, s)) := by
  intro n
  induction n with
  | zero => exact fun _ _ _ _ _ _ => v_none
  | succ n ih => exact fun x2 x3 x4 x5 x6 s => w_F_strikes_58 fu p1 X r6 h6 _ ih x2 x3 x4 x5 x6 s
theorem w_F_strikes_6 {Γ : v_Ctx} {l : Launch} {g : v_G} (fu : Nat) (p1 : Int32) (X : v_C Γ l rm_F_strikes cX0_strikes 7 RX0 none wC g) (r6 : Int32 × v_S → Option v_S) (h6 : ∀ (x2 : Int32) (s : v_S), v_V Γ 7 wC g (fun z : v_S => ((none : Option Value), z)) 6 [(0, .ref (v_E g 0)), (1, .int p1), (2, .int x2)] [] s (r6 (x2, s))) (x2 : Int32) (s : v_S) : v_V Γ 7 wC g (fun z : v_S => ((none : Option Value), z)) 6 [(0, .ref (v_E g 0)), (1, .int p1), (2, .int x2)] [] s (t_F_strikes_6 fu p1 r6 x2 s) := by
  unfold t_F_strikes_6
  refine v_iload_n (pc := 6) X dX0_strikes_6 2 rfl ?_
  refine v_aload_n (pc := 7) X dX0_strikes_7 0 rfl ?_
  refine v_cGi (pc := 8) X (m_F_villages l g fu _) (v_rc_n X wC_o0) (Or.inl q1071) hy_F_villages rfl rfl rfl rfl dX0_strikes_8 (fun z_2 _ => ?_)
  refine v_icmp_ge (pc := 11) (tgt := 174) X dX0_strikes_11 (by decide) (fun c11 => ?_) (fun c11 => ?_)
  · exact v_vret (pc := 174) X dX0_strikes_174 rfl
  · refine v_aload_n (pc := 14) X dX0_strikes_14 0 rfl ?_
    refine v_get (pc := 15) (kind := 10) (v := .ref (v_E g 7)) X wC_n0 wC_l0 wC_c0 in_X0 (Nat.le_of_ble_eq_true rfl : 4 < 16) q603 rfl rfl dX0_strikes_15 ?_
    refine v_getN (pc := 18) (kind := 39) (v := .ref (v_E g 36)) X wC_n7 wC_l7 wC_c2 in_X3 (Nat.le_of_ble_eq_true rfl : 1 < 23) q479 rfl rfl dX0_strikes_18 ?_
    refine v_iload_n (pc := 21) X dX0_strikes_21 2 rfl ?_
    refine v_iald (pc := 22) X wC_n36 wC_l36 dX0_strikes_22 ?_
    refine v_istore_nN (pc := 23) (lvf := fun x3_3 => [(3, .int x3_3), (0, .ref (v_E g 0)), (1, .int p1), (2, .int x2)]) X dX0_strikes_23 rfl (Nat.le_of_ble_eq_true rfl) (fun _ => rfl) (fun x3_3 => ?_)
    refine v_aload_n (pc := 24) X dX0_strikes_24 1 rfl ?_
    refine v_get (pc := 25) (kind := 14) (v := .ref (v_E g 11)) X wC_n0 wC_l0 wC_c0 in_X0 (Nat.le_of_ble_eq_true rfl : 13 < 16) q613 rfl rfl dX0_strikes_25 ?_
    refine v_iload_n (pc := 28) X dX0_strikes_28 3 rfl ?_
    refine v_aald (pc := 29) X wC_n11 wC_l11 rfl rfl dX0_strikes_29 ?_
    refine v_cSi (pc := 30) X (m_F_together l g fu ((12 + Int32.toNatClampNeg x2)) _) q1187 hy_F_together rfl rfl rfl rfl dX0_strikes_30 (fun z_4 _ => ?_)
    refine v_istore (pc := 33) (lv' := [(4, .int z_4), (3, .int x3_3), (0, .ref (v_E g 0)), (1, .int p1), (2, .int x2)]) X dX0_strikes_33 (Nat.le_of_ble_eq_true rfl) rfl ?_
    refine v_iconst (pc := 35) (v := 0) X dX0_strikes_35 rfl ?_
    refine v_istore (pc := 36) (lv' := [(5, .int (0 : Int32)), (4, .int z_4), (3, .int x3_3), (0, .ref (v_E g 0)), (1, .int p1), (2, .int x2)]) X dX0_strikes_36 (Nat.le_of_ble_eq_true rfl) rfl ?_
    refine v_aload_n (pc := 38) X dX0_strikes_38 3 rfl ?_
    refine v_get (pc := 39) (kind := 21) (v := .ref (v_E g 18)) X wC_n0 wC_l0 wC_c0 in_X0 (Nat.le_of_ble_eq_true rfl : 14 < 16) q614 rfl rfl dX0_strikes_39 ?_
    refine v_iload_n (pc := 42) X dX0_strikes_42 5 rfl ?_
    refine v_aald (pc := 43) X wC_n18 wC_l18 rfl rfl dX0_strikes_43 ?_
    refine v_iconst (pc := 44) (v := 0) X dX0_strikes_44 rfl ?_
    refine v_cSs (pc := 45) X (m_A_fill l g fu ((19 + Int32.toNatClampNeg x2)) (0 : Int32) _) q1056 hy_A_fill rfl rfl rfl rfl dX0_strikes_45 (fun s_5 _ => ?_)
    refine v_aload_n (pc := 48) X dX0_strikes_48 3 rfl ?_
    refine v_iload_n (pc := 49) X dX0_strikes_49 4 rfl ?_
    refine v_iload_n (pc := 50) X dX0_strikes_50 5 rfl ?_
    refine v_iload (pc := 51) X dX0_strikes_51 0 rfl ?_
    refine v_cGi (pc := 53) X (m_F_nextPaid l g fu p1 x2 (0 : Int32) _) (v_rc_n X wC_o0) (Or.inl q1371) hy_F_nextPaid rfl rfl rfl rfl dX0_strikes_53 (fun z_6 _ => ?_)
    refine v_istore (pc := 56) (lv' := [(6, .int z_6), (5, .int (0 : Int32)), (4, .int z_4), (3, .int x3_3), (0, .ref (v_E g 0)), (1, .int p1), (2, .int x2)]) X dX0_strikes_56 (Nat.le_of_ble_eq_true rfl) rfl ?_
    refine v_sub [4, 5, 6, 3, 2, 1, 0] rfl ?_
    exact w_F_strikes_58L fu p1 X r6 h6 fu x2 x3_3 z_4 (0 : Int32) z_6 s_5
theorem w_F_strikes_6L {Γ : v_Ctx} {l : Launch} {g : v_G} (fu : Nat) (p1 : Int32) (X : v_C Γ l rm_F_strikes cX0_strikes 7 RX0 none wC g)  : ∀ (n : Nat), ∀ (x2 : Int32) (s : v_S), v_V Γ 7 wC g (fun z : v_S => ((none : Option Value), z)) 6 [(0, .ref (v_E g 0)), (1, .int p1), (2, .int x2)] [] s (v_loop (t_F_strikes_6B fu p1) n (x2, s)) := by
  intro n
  induction n with
  | zero => exact fun _ _ => v_none
  | succ n ih => exact fun x2 s => w_F_strikes_6 fu p1 X  _ ih x2 s
theorem m_F_strikes (l : Launch) (g : v_G) (fu : Nat) (p1 : Int32) (s : v_S) : v_M l yX0_strikes cX0_strikes 7 none rm_F_strikes wC g [.ref (v_E g 0), .int p1] s (fun z : v_S => ((none : Option Value), z)) (t_F_strikes fu p1 s) := by
  refine v_met (by decide +kernel) (Nat.le_of_ble_eq_true rfl) (fun Γ X => ?_)
  refine v_lv (lv' := [(0, .ref (v_E g 0)), (1, .int p1)]) rfl ?_
  unfold t_F_strikes
  refine v_aload_n (pc := 0) X dX0_strikes_0 0 rfl ?_
  refine v_cGs (pc := 1) X (m_F_owing l g fu _) (v_rc_n X wC_o0) (Or.inl q1322) hy_F_owing rfl rfl rfl rfl dX0_strikes_1 (fun s_1 _ => ?_)
  refine v_iconst (pc := 4) (v := 0) X dX0_strikes_4 rfl ?_
  refine v_istore_n (pc := 5) (lv' := [(2, .int (0 : Int32)), (0, .ref (v_E g 0)), (1, .int p1)]) X dX0_strikes_5 rfl (Nat.le_of_ble_eq_true rfl) rfl ?_
  refine v_sub [1, 2, 0] rfl ?_
  exact w_F_strikes_6L fu p1 X  fu (0 : Int32) s_1
/-! FloodLent.ruined()I -/
abbrev rm_F_ruined : Room := { frames := 3, cells := 0, slots := 0, locals := 61 }
theorem hy_F_ruined : v_yV yX0_ruined cX0_ruined 6 (some .int) 0 := ⟨q1378, qs55, q133, q1379, by decide +kernel⟩
def t_F_ruined_61 (fu : Nat) (s : v_S) (r4 : Int32 × Int32 → Option Int32) (x1 : Int32) (x2 : Int32) (x3 : Int32) (x4 : Int32) : Option Int32 :=
if x3 ≤ (2 : Int32) * x4 then (v_n (x1 ||| (0 : Int32)) fun (x1_3 : Int32) => r4 (x1_3, x2 + (1 : Int32))) else (v_n (x1 ||| ((1 : Int32) <<< (x2 &&& 31))) fun (x1_4 : Int32) => r4 (x1_4, x2 + (1 : Int32)))
def t_F_ruined_20 (fu : Nat) (s : v_S) (r4 : Int32 × Int32 → Option Int32) (r20 : Int32 × Int32 × Int32 × Int32 × Int32 → Option Int32) (x1 : Int32) (x2 : Int32) (x3 : Int32) (x4 : Int32) (x5 : Int32) : Option Int32 :=
v_b1 (t_F_villages fu s) fun (z_2 : Int32) => if z_2 ≤ x5 then (t_F_ruined_61 fu s r4 x1 x2 x3 x4) else (v_g x5 6 <| v_b1 (v_il wC ((12 + Int32.toNatClampNeg x5))) fun (n_5 : Nat) => v_g x2 n_5 <| v_n (x3 + (s.1 ((12 + Int32.toNatClampNeg x5)) (Int32.toNatClampNeg x2))) fun (x3_6 : Int32) => v_g x5 6 <| v_b1 (v_il wC ((19 + Int32.toNatClampNeg x5))) fun (n_7 : Nat) => v_g x2 n_7 <| v_n (x4 + (s.1 ((19 + Int32.toNatClampNeg x5)) (Int32.toNatClampNeg x2))) fun (x4_8 : Int32) => r20 (x1, x2, x3_6, x4_8, x5 + (1 : Int32)))
def t_F_ruined_20B (fu : Nat) (s : v_S) (r4 : Int32 × Int32 → Option Int32) (r20 : Int32 × Int32 × Int32 × Int32 × Int32 → Option Int32) (a : Int32 × Int32 × Int32 × Int32 × Int32) : Option Int32 := t_F_ruined_20 fu s r4 r20 a.1 a.2.1 a.2.2.1 a.2.2.2.1 a.2.2.2.2
def t_F_ruined_4 (fu : Nat) (s : v_S) (r4 : Int32 × Int32 → Option Int32) (x1 : Int32) (x2 : Int32) : Option Int32 :=
v_b1 (t_F_villages fu s) fun (z_1 : Int32) => if z_1 ≤ x2 then (some x1) else (v_loop (t_F_ruined_20B fu s r4) fu (x1, x2, (0 : Int32), (0 : Int32), (0 : Int32)))
def t_F_ruined_4B (fu : Nat) (s : v_S) (r4 : Int32 × Int32 → Option Int32) (a : Int32 × Int32) : Option Int32 := t_F_ruined_4 fu s r4 a.1 a.2
def t_F_ruined (fu : Nat)  (s : v_S) : Option Int32 :=
  v_loop (t_F_ruined_4B fu s) fu ((0 : Int32), (0 : Int32))
theorem w_F_ruined_61 {Γ : v_Ctx} {l : Launch} {g : v_G} (fu : Nat) (s : v_S) (X : v_C Γ l rm_F_ruined cX0_ruined 6 RX0 (some .int) wC g) (r4 : Int32 × Int32 → Option Int32) (h4 : ∀ (x1 : Int32) (x2 : Int32), v_V Γ 6 wC g (fun z : Int32 => (some (.int z), s)) 4 [(0, .ref (v_E g 0)), (1, .int x1), (2, .int x2)] [] s (r4 (x1, x2))) (x1 : Int32) (x2 : Int32) (x3 : Int32) (x4 : Int32) : v_V Γ 6 wC g (fun z : Int32 => (some (.int z), s)) 61 [(0, .ref (v_E g 0)), (1, .int x1), (2, .int x2), (3, .int x3), (4, .int x4)] [] s (t_F_ruined_61 fu s r4 x1 x2 x3 x4) := by
  unfold t_F_ruined_61
  refine v_iload_n (pc := 61) X dX0_ruined_61 1 rfl ?_
  refine v_iconst (pc := 62) (v := 2) X dX0_ruined_62 rfl ?_
  refine v_iload (pc := 63) X dX0_ruined_63 4 rfl ?_
  refine v_imul (pc := 65) X dX0_ruined_65 ?_
  refine v_iload_n (pc := 66) X dX0_ruined_66 3 rfl ?_
  refine v_icmp_ge (pc := 67) (tgt := 76) X dX0_ruined_67 (by decide) (fun c67 => ?_) (fun c67 => ?_)
  · refine v_iconst (pc := 76) (v := 0) X dX0_ruined_76 rfl ?_
    refine v_ior (pc := 77) X dX0_ruined_77 ?_
    refine v_istore_nN (pc := 78) (lvf := fun x1_3 => [(1, .int x1_3), (0, .ref (v_E g 0)), (2, .int x2), (3, .int x3), (4, .int x4)]) X dX0_ruined_78 rfl (Nat.le_of_ble_eq_true rfl) (fun _ => rfl) (fun x1_3 => ?_)
    refine v_iinc (pc := 79) (v := x2 + (1 : Int32)) (lv' := [(2, .int (x2 + (1 : Int32))), (1, .int x1_3), (0, .ref (v_E g 0)), (3, .int x3), (4, .int x4)]) (k := 2) X dX0_ruined_79 rfl rfl (Nat.le_of_ble_eq_true rfl) rfl ?_
    refine v_goto (pc := 82) (tgt := 4) X dX0_ruined_82 (by decide) ?_
    refine v_sub [2, 1, 0] rfl ?_
    exact h4 x1_3 (x2 + (1 : Int32))
  · refine v_iconst (pc := 70) (v := 1) X dX0_ruined_70 rfl ?_
    refine v_iload_n (pc := 71) X dX0_ruined_71 2 rfl ?_
    refine v_ishl (pc := 72) X dX0_ruined_72 ?_
    refine v_goto (pc := 73) (tgt := 77) X dX0_ruined_73 (by decide) ?_
    refine v_ior (pc := 77) X dX0_ruined_77 ?_
    refine v_istore_nN (pc := 78) (lvf := fun x1_4 => [(1, .int x1_4), (0, .ref (v_E g 0)), (2, .int x2), (3, .int x3), (4, .int x4)]) X dX0_ruined_78 rfl (Nat.le_of_ble_eq_true rfl) (fun _ => rfl) (fun x1_4 => ?_)
    refine v_iinc (pc := 79) (v := x2 + (1 : Int32)) (lv' := [(2, .int (x2 + (1 : Int32))), (1, .int x1_4), (0, .ref (v_E g 0)), (3, .int x3), (4, .int x4)]) (k := 2) X dX0_ruined_79 rfl rfl (Nat.le_of_ble_eq_true rfl) rfl ?_
    refine v_goto (pc := 82) (tgt := 4) X dX0_ruined_82 (by decide) ?_
    refine v_sub [2, 1, 0] rfl ?_
    exact h4 x1_4 (x2 + (1 : Int32))
theorem w_F_ruined_20 {Γ : v_Ctx} {l : Launch} {g : v_G} (fu : Nat) (s : v_S) (X : v_C Γ l rm_F_ruined cX0_ruined 6 RX0 (some .int) wC g) (r4 : Int32 × Int32 → Option Int32) (h4 : ∀ (x1 : Int32) (x2 : Int32), v_V Γ 6 wC g (fun z : Int32 => (some (.int z), s)) 4 [(0, .ref (v_E g 0)), (1, .int x1), (2, .int x2)] [] s (r4 (x1, x2))) (r20 : Int32 × Int32 × Int32 × Int32 × Int32 → Option Int32) (h20 : ∀ (x1 : Int32) (x2 : Int32) (x3 : Int32) (x4 : Int32) (x5 : Int32), v_V Γ 6 wC g (fun z : Int32 => (some (.int z), s)) 20 [(0, .ref (v_E g 0)), (1, .int x1), (2, .int x2), (3, .int x3), (4, .int x4), (5, .int x5)] [] s (r20 (x1, x2, x3, x4, x5))) (x1 : Int32) (x2 : Int32) (x3 : Int32) (x4 : Int32) (x5 : Int32) : v_V Γ 6 wC g (fun z : Int32 => (some (.int z), s)) 20 [(0, .ref (v_E g 0)), (1, .int x1), (2, .int x2), (3, .int x3), (4, .int x4), (5, .int x5)] [] s (t_F_ruined_20 fu s r4 r20 x1 x2 x3 x4 x5) := by
  unfold t_F_ruined_20
  refine v_iload (pc := 20) X dX0_ruined_20 5 rfl ?_
  refine v_aload_n (pc := 22) X dX0_ruined_22 0 rfl ?_
  refine v_cGi (pc := 23) X (m_F_villages l g fu _) (v_rc_n X wC_o0) (Or.inl q1071) hy_F_villages rfl rfl rfl rfl dX0_ruined_23 (fun z_2 _ => ?_)
  refine v_icmp_ge (pc := 26) (tgt := 61) X dX0_ruined_26 (by decide) (fun c26 => ?_) (fun c26 => ?_)
  · refine v_sub [0, 1, 2, 3, 4] rfl ?_
    exact w_F_ruined_61 fu s X r4 h4 x1 x2 x3 x4
  · refine v_iload_n (pc := 29) X dX0_ruined_29 3 rfl ?_
    refine v_aload_n (pc := 30) X dX0_ruined_30 0 rfl ?_
    refine v_get (pc := 31) (kind := 14) (v := .ref (v_E g 11)) X wC_n0 wC_l0 wC_c0 in_X0 (Nat.le_of_ble_eq_true rfl : 13 < 16) q613 rfl rfl dX0_ruined_31 ?_
    refine v_iload (pc := 34) X dX0_ruined_34 5 rfl ?_
    refine v_aald (pc := 36) X wC_n11 wC_l11 rfl rfl dX0_ruined_36 ?_
    refine v_iload_n (pc := 37) X dX0_ruined_37 2 rfl ?_
    refine v_ialdS (pc := 38) X dX0_ruined_38 (fun n_5 => ?_)
    refine v_iadd (pc := 39) X dX0_ruined_39 ?_
    refine v_istore_nN (pc := 40) (lvf := fun x3_6 => [(3, .int x3_6), (0, .ref (v_E g 0)), (1, .int x1), (2, .int x2), (4, .int x4), (5, .int x5)]) X dX0_ruined_40 rfl (Nat.le_of_ble_eq_true rfl) (fun _ => rfl) (fun x3_6 => ?_)
    refine v_iload (pc := 41) X dX0_ruined_41 4 rfl ?_
    refine v_aload_n (pc := 43) X dX0_ruined_43 1 rfl ?_
    refine v_get (pc := 44) (kind := 21) (v := .ref (v_E g 18)) X wC_n0 wC_l0 wC_c0 in_X0 (Nat.le_of_ble_eq_true rfl : 14 < 16) q614 rfl rfl dX0_ruined_44 ?_
    refine v_iload (pc := 47) X dX0_ruined_47 5 rfl ?_
    refine v_aald (pc := 49) X wC_n18 wC_l18 rfl rfl dX0_ruined_49 ?_
    refine v_iload_n (pc := 50) X dX0_ruined_50 3 rfl ?_
    refine v_ialdS (pc := 51) X dX0_ruined_51 (fun n_7 => ?_)
    refine v_iadd (pc := 52) X dX0_ruined_52 ?_
    refine v_istoreN (pc := 53) (lvf := fun x4_8 => [(4, .int x4_8), (3, .int x3_6), (0, .ref (v_E g 0)), (1, .int x1), (2, .int x2), (5, .int x5)]) X dX0_ruined_53 (Nat.le_of_ble_eq_true rfl) (fun _ => rfl) (fun x4_8 => ?_)
    refine v_iinc (pc := 55) (v := x5 + (1 : Int32)) (lv' := [(5, .int (x5 + (1 : Int32))), (4, .int x4_8), (3, .int x3_6), (0, .ref (v_E g 0)), (1, .int x1), (2, .int x2)]) (k := 5) X dX0_ruined_55 rfl rfl (Nat.le_of_ble_eq_true rfl) rfl ?_
    refine v_goto (pc := 58) (tgt := 20) X dX0_ruined_58 (by decide) ?_
    refine v_sub [3, 4, 5, 2, 1, 0] rfl ?_
    exact h20 x1 x2 x3_6 x4_8 (x5 + (1 : Int32))
theorem w_F_ruined_20L {Γ : v_Ctx} {l : Launch} {g : v_G} (fu : Nat) (s : v_S) (X : v_C Γ l rm_F_ruined cX0_ruined 6 RX0 (some .int) wC g) (r4 : Int32 × Int32 → Option Int32) (h4 : ∀ (x1 : Int32) (x2 : Int32), v_V Γ 6 wC g (fun z : Int32 => (some (.int z), s)) 4 [(0, .ref (v_E g 0)), (1, .int x1), (2, .int x2)] [] s (r4 (x1, x2))) : ∀ (n : Nat), ∀ (x1 : Int32) (x2 : Int32) (x3 : Int32) (x4 : Int32) (x5 : Int32), v_V Γ 6 wC g (fun z : Int32 => (some (.int z), s)) 20 [(0, .ref (v_E g 0)), (1, .int x1), (2, .int x2), (3, .int x3), (4, .int x4), (5, .int x5)] [] s (v_loop (t_F_ruined_20B fu s r4) n (x1, x2, x3, x4, x5)) := by
  intro n
  induction n with
  | zero => exact fun _ _ _ _ _ => v_none
  | succ n ih => exact fun x1 x2 x3 x4 x5 => w_F_ruined_20 fu s X r4 h4 _ ih x1 x2 x3 x4 x5
theorem w_F_ruined_4 {Γ : v_Ctx} {l : Launch} {g : v_G} (fu : Nat) (s : v_S) (X : v_C Γ l rm_F_ruined cX0_ruined 6 RX0 (some .int) wC g) (r4 : Int32 × Int32 → Option Int32) (h4 : ∀ (x1 : Int32) (x2 : Int32), v_V Γ 6 wC g (fun z : Int32 => (some (.int z), s)) 4 [(0, .ref (v_E g 0)), (1, .int x1), (2, .int x2)] [] s (r4 (x1, x2))) (x1 : Int32) (x2 : Int32) : v_V Γ 6 wC g (fun z : Int32 => (some (.int z), s)) 4 [(0, .ref (v_E g 0)), (1, .int x1), (2, .int x2)] [] s (t_F_ruined_4 fu s r4 x1 x2) := by
  unfold t_F_ruined_4
  refine v_iload_n (pc := 4) X dX0_ruined_4 2 rfl ?_
  refine v_aload_n (pc := 5) X dX0_ruined_5 0 rfl ?_
  refine v_cGi (pc := 6) X (m_F_villages l g fu _) (v_rc_n X wC_o0) (Or.inl q1071) hy_F_villages rfl rfl rfl rfl dX0_ruined_6 (fun z_1 _ => ?_)
  refine v_icmp_ge (pc := 9) (tgt := 85) X dX0_ruined_9 (by decide) (fun c9 => ?_) (fun c9 => ?_)
  · refine v_iload_n (pc := 85) X dX0_ruined_85 1 rfl ?_
    exact v_iret (pc := 86) X dX0_ruined_86 rfl
  · refine v_iconst (pc := 12) (v := 0) X dX0_ruined_12 rfl ?_
    refine v_istore_n (pc := 13) (lv' := [(3, .int (0 : Int32)), (0, .ref (v_E g 0)), (1, .int x1), (2, .int x2)]) X dX0_ruined_13 rfl (Nat.le_of_ble_eq_true rfl) rfl ?_
    refine v_iconst (pc := 14) (v := 0) X dX0_ruined_14 rfl ?_
    refine v_istore (pc := 15) (lv' := [(4, .int (0 : Int32)), (3, .int (0 : Int32)), (0, .ref (v_E g 0)), (1, .int x1), (2, .int x2)]) X dX0_ruined_15 (Nat.le_of_ble_eq_true rfl) rfl ?_
    refine v_iconst (pc := 17) (v := 0) X dX0_ruined_17 rfl ?_
    refine v_istore (pc := 18) (lv' := [(5, .int (0 : Int32)), (4, .int (0 : Int32)), (3, .int (0 : Int32)), (0, .ref (v_E g 0)), (1, .int x1), (2, .int x2)]) X dX0_ruined_18 (Nat.le_of_ble_eq_true rfl) rfl ?_
    refine v_sub [3, 4, 5, 2, 1, 0] rfl ?_
    exact w_F_ruined_20L fu s X r4 h4 fu x1 x2 (0 : Int32) (0 : Int32) (0 : Int32)
theorem w_F_ruined_4L {Γ : v_Ctx} {l : Launch} {g : v_G} (fu : Nat) (s : v_S) (X : v_C Γ l rm_F_ruined cX0_ruined 6 RX0 (some .int) wC g)  : ∀ (n : Nat), ∀ (x1 : Int32) (x2 : Int32), v_V Γ 6 wC g (fun z : Int32 => (some (.int z), s)) 4 [(0, .ref (v_E g 0)), (1, .int x1), (2, .int x2)] [] s (v_loop (t_F_ruined_4B fu s) n (x1, x2)) := by
  intro n
  induction n with
  | zero => exact fun _ _ => v_none
  | succ n ih => exact fun x1 x2 => w_F_ruined_4 fu s X  _ ih x1 x2
theorem m_F_ruined (l : Launch) (g : v_G) (fu : Nat)  (s : v_S) : v_M l yX0_ruined cX0_ruined 6 (some .int) rm_F_ruined wC g [.ref (v_E g 0)] s (fun z : Int32 => (some (.int z), s)) (t_F_ruined fu  s) := by
  refine v_met (by decide +kernel) (Nat.le_of_ble_eq_true rfl) (fun Γ X => ?_)
  refine v_lv (lv' := [(0, .ref (v_E g 0))]) rfl ?_
  unfold t_F_ruined
  refine v_iconst (pc := 0) (v := 0) X dX0_ruined_0 rfl ?_
  refine v_istore_n (pc := 1) (lv' := [(1, .int (0 : Int32)), (0, .ref (v_E g 0))]) X dX0_ruined_1 rfl (Nat.le_of_ble_eq_true rfl) rfl ?_
  refine v_iconst (pc := 2) (v := 0) X dX0_ruined_2 rfl ?_
  refine v_istore_n (pc := 3) (lv' := [(2, .int (0 : Int32)), (1, .int (0 : Int32)), (0, .ref (v_E g 0))]) X dX0_ruined_3 rfl (Nat.le_of_ble_eq_true rfl) rfl ?_
  refine v_sub [2, 1, 0] rfl ?_
  exact w_F_ruined_4L fu s X  fu (0 : Int32) (0 : Int32)
/-! FloodLent.struck(II)I -/
abbrev rm_F_struck : Room := { frames := 10, cells := 0, slots := 0, locals := 219 }
theorem hy_F_struck : v_yV yX0_struck cX0_struck 5 (some .int) 2 := ⟨q1364, q1365, q133, q1366, by decide +kernel⟩
def t_F_struck_55 (fu : Nat) (p1 : Int32) (p2 : Int32) (r55 : Int32 × Int32 × v_S → Option (Int32 × v_S)) (x3 : Int32) (x4 : Int32) (s : v_S) : Option (Int32 × v_S) :=
v_b1 (t_F_villages fu s) fun (z_7 : Int32) => if z_7 ≤ x4 then (some (x3, s)) else (v_g x4 6 <| v_b1 (t_F_together fu ((19 + Int32.toNatClampNeg x4)) s) fun (z_8 : Int32) => v_n (x3 + z_8) fun (x3_9 : Int32) => r55 (x3_9, x4 + (1 : Int32), s))
def t_F_struck_55B (fu : Nat) (p1 : Int32) (p2 : Int32) (r55 : Int32 × Int32 × v_S → Option (Int32 × v_S)) (a : Int32 × Int32 × v_S) : Option (Int32 × v_S) := t_F_struck_55 fu p1 p2 r55 a.1 a.2.1 a.2.2
def t_F_struck (fu : Nat) (p1 : Int32) (p2 : Int32) (s : v_S) : Option (Int32 × v_S) :=
  v_b1 (s.2.2.1 0 1) fun (a_1 : Nat) => if v_isc s (some a_1) 4 = true then v_b1 (t_Q_is fu a_1 s) fun (z_3 : Int32) => (if z_3 = 0 then (some ((-2 : Int32), s)) else (v_b1 (t_F_in fu (Int32.toInt64 p1) (0 : Int64) (2 : Int64) s) fun (z_4 : Int32) => if z_4 = 0 then (some ((-2 : Int32), s)) else (v_b1 (t_F_in fu (Int32.toInt64 p2) (0 : Int64) (1 : Int64) s) fun (z_5 : Int32) => if z_5 = 0 then (some ((-2 : Int32), s)) else (v_b1 (t_F_strikes fu p1 s) fun (s_6 : v_S) => if p2 = (1 : Int32) then (v_b1 (t_F_ruined fu s_6) fun (z_10 : Int32) => some (z_10, s_6)) else (v_loop (t_F_struck_55B fu p1 p2) fu ((0 : Int32), (0 : Int32), s_6)))))) else none
theorem w_F_struck_55 {Γ : v_Ctx} {l : Launch} {g : v_G} (fu : Nat) (p1 : Int32) (p2 : Int32) (X : v_C Γ l rm_F_struck cX0_struck 5 RX0 (some .int) wC g) (r55 : Int32 × Int32 × v_S → Option (Int32 × v_S)) (h55 : ∀ (x3 : Int32) (x4 : Int32) (s : v_S), v_V Γ 5 wC g (fun z : Int32 × v_S => (some (.int z.1), z.2)) 55 [(0, .ref (v_E g 0)), (3, .int x3), (4, .int x4)] [] s (r55 (x3, x4, s))) (x3 : Int32) (x4 : Int32) (s : v_S) : v_V Γ 5 wC g (fun z : Int32 × v_S => (some (.int z.1), z.2)) 55 [(0, .ref (v_E g 0)), (3, .int x3), (4, .int x4)] [] s (t_F_struck_55 fu p1 p2 r55 x3 x4 s) := by
  unfold t_F_struck_55
  refine v_iload (pc := 55) X dX0_struck_55 2 rfl ?_
  refine v_aload_n (pc := 57) X dX0_struck_57 0 rfl ?_
  refine v_cGi (pc := 58) X (m_F_villages l g fu _) (v_rc_n X wC_o0) (Or.inl q1071) hy_F_villages rfl rfl rfl rfl dX0_struck_58 (fun z_7 _ => ?_)
  refine v_icmp_ge (pc := 61) (tgt := 83) X dX0_struck_61 (by decide) (fun c61 => ?_) (fun c61 => ?_)
  · refine v_iload_n (pc := 83) X dX0_struck_83 1 rfl ?_
    exact v_iret (pc := 84) X dX0_struck_84 rfl
  · refine v_iload_n (pc := 64) X dX0_struck_64 1 rfl ?_
    refine v_aload_n (pc := 65) X dX0_struck_65 0 rfl ?_
    refine v_get (pc := 66) (kind := 21) (v := .ref (v_E g 18)) X wC_n0 wC_l0 wC_c0 in_X0 (Nat.le_of_ble_eq_true rfl : 14 < 16) q614 rfl rfl dX0_struck_66 ?_
    refine v_iload (pc := 69) X dX0_struck_69 2 rfl ?_
    refine v_aald (pc := 71) X wC_n18 wC_l18 rfl rfl dX0_struck_71 ?_
    refine v_cSi (pc := 72) X (m_F_together l g fu ((19 + Int32.toNatClampNeg x4)) _) q1187 hy_F_together rfl rfl rfl rfl dX0_struck_72 (fun z_8 _ => ?_)
    refine v_iadd (pc := 75) X dX0_struck_75 ?_
    refine v_istore_nN (pc := 76) (lvf := fun x3_9 => [(3, .int x3_9), (0, .ref (v_E g 0)), (4, .int x4)]) X dX0_struck_76 rfl (Nat.le_of_ble_eq_true rfl) (fun _ => rfl) (fun x3_9 => ?_)
    refine v_iinc (pc := 77) (v := x4 + (1 : Int32)) (lv' := [(4, .int (x4 + (1 : Int32))), (3, .int x3_9), (0, .ref (v_E g 0))]) (k := 2) X dX0_struck_77 rfl rfl (Nat.le_of_ble_eq_true rfl) rfl ?_
    refine v_goto (pc := 80) (tgt := 55) X dX0_struck_80 (by decide) ?_
    refine v_sub [2, 1, 0] rfl ?_
    exact h55 x3_9 (x4 + (1 : Int32)) s
theorem w_F_struck_55L {Γ : v_Ctx} {l : Launch} {g : v_G} (fu : Nat) (p1 : Int32) (p2 : Int32) (X : v_C Γ l rm_F_struck cX0_struck 5 RX0 (some .int) wC g)  : ∀ (n : Nat), ∀ (x3 : Int32) (x4 : Int32) (s : v_S), v_V Γ 5 wC g (fun z : Int32 × v_S => (some (.int z.1), z.2)) 55 [(0, .ref (v_E g 0)), (3, .int x3), (4, .int x4)] [] s (v_loop (t_F_struck_55B fu p1 p2) n (x3, x4, s)) := by
  intro n
  induction n with
  | zero => exact fun _ _ _ => v_none
  | succ n ih => exact fun x3 x4 s => w_F_struck_55 fu p1 p2 X  _ ih x3 x4 s
theorem m_F_struck (l : Launch) (g : v_G) (fu : Nat) (p1 : Int32) (p2 : Int32) (s : v_S) : v_M l yX0_struck cX0_struck 5 (some .int) rm_F_struck wC g [.ref (v_E g 0), .int p1, .int p2] s (fun z : Int32 × v_S => (some (.int z.1), z.2)) (t_F_struck fu p1 p2 s) := by
  refine v_met (by decide +kernel) (Nat.le_of_ble_eq_true rfl) (fun Γ X => ?_)
  refine v_lv (lv' := [(0, .ref (v_E g 0)), (1, .int p1), (2, .int p2)]) rfl ?_
  unfold t_F_struck
  refine v_aload_n (pc := 0) X dX0_struck_0 0 rfl ?_
  refine v_get (pc := 1) (kind := 2) (v := va_rf (s.2.2.1 0 1)) X wC_n0 wC_l0 wC_c0 in_X0 (Nat.le_of_ble_eq_true rfl : 1 < 16) q600 rfl rfl dX0_struck_1 ?_
  refine v_unq0 (pc := 4) (fun a_1 _ => ?_)
  refine v_nzT (pc := 4) (fun h_2 => ?_)
  refine v_cGi (pc := 4) X (m_Q_is l g fu a_1 _) (v_rc_d X wC_c4 h_2) (Or.inl q1052) hy_Q_is rfl rfl rfl rfl dX0_struck_4 (fun z_3 _ => ?_)
  refine v_if_eq (pc := 7) (tgt := 32) X dX0_struck_7 (by decide) (fun c7 => ?_) (fun c7 => ?_)
  · refine v_bipush (pc := 32) (v := -2) X dX0_struck_32 rfl ?_
    exact v_iret (pc := 34) X dX0_struck_34 rfl
  · refine v_iload_n (pc := 10) X dX0_struck_10 1 rfl ?_
    refine v_i2l (pc := 11) X dX0_struck_11 ?_
    refine v_lconst (pc := 12) (v := 0) X dX0_struck_12 rfl ?_
    refine v_ldc2 (pc := 13) X q1169 dX0_struck_13 ?_
    refine v_cSi (pc := 16) X (m_F_in l g fu (Int32.toInt64 p1) (0 : Int64) (2 : Int64) _) q174 hy_F_in rfl rfl rfl rfl dX0_struck_16 (fun z_4 _ => ?_)
    refine v_if_eq (pc := 19) (tgt := 32) X dX0_struck_19 (by decide) (fun c19 => ?_) (fun c19 => ?_)
    · refine v_bipush (pc := 32) (v := -2) X dX0_struck_32 rfl ?_
      exact v_iret (pc := 34) X dX0_struck_34 rfl
    · refine v_iload_n (pc := 22) X dX0_struck_22 2 rfl ?_
      refine v_i2l (pc := 23) X dX0_struck_23 ?_
      refine v_lconst (pc := 24) (v := 0) X dX0_struck_24 rfl ?_
      refine v_lconst (pc := 25) (v := 1) X dX0_struck_25 rfl ?_
      refine v_cSi (pc := 26) X (m_F_in l g fu (Int32.toInt64 p2) (0 : Int64) (1 : Int64) _) q174 hy_F_in rfl rfl rfl rfl dX0_struck_26 (fun z_5 _ => ?_)
      refine v_if_ne (pc := 29) (tgt := 35) X dX0_struck_29 (by decide) (fun c29 => ?_) (fun c29 => ?_)
      · refine v_aload_n (pc := 35) X dX0_struck_35 0 rfl ?_
        refine v_iload_n (pc := 36) X dX0_struck_36 1 rfl ?_
        refine v_cGs (pc := 37) X (m_F_strikes l g fu p1 _) (v_rc_n X wC_o0) (Or.inl q1367) hy_F_strikes rfl rfl rfl rfl dX0_struck_37 (fun s_6 _ => ?_)
        refine v_iload_n (pc := 40) X dX0_struck_40 2 rfl ?_
        refine v_iconst (pc := 41) (v := 1) X dX0_struck_41 rfl ?_
        refine v_icmp_ne (pc := 42) (tgt := 50) X dX0_struck_42 (by decide) (fun c42 => ?_) (fun c42 => ?_)
        · refine v_iconst (pc := 50) (v := 0) X dX0_struck_50 rfl ?_
          refine v_istore_n (pc := 51) (lv' := [(3, .int (0 : Int32)), (0, .ref (v_E g 0)), (1, .int p1), (2, .int p2)]) X dX0_struck_51 rfl (Nat.le_of_ble_eq_true rfl) rfl ?_
          refine v_iconst (pc := 52) (v := 0) X dX0_struck_52 rfl ?_
          refine v_istore (pc := 53) (lv' := [(4, .int (0 : Int32)), (3, .int (0 : Int32)), (0, .ref (v_E g 0)), (1, .int p1), (2, .int p2)]) X dX0_struck_53 (Nat.le_of_ble_eq_true rfl) rfl ?_
          refine v_sub [2, 1, 0] rfl ?_
          exact w_F_struck_55L fu p1 p2 X  fu (0 : Int32) (0 : Int32) s_6
        · refine v_aload_n (pc := 45) X dX0_struck_45 0 rfl ?_
          refine v_cGi (pc := 46) X (m_F_ruined l g fu _) (v_rc_n X wC_o0) (Or.inl q1376) hy_F_ruined rfl rfl rfl rfl dX0_struck_46 (fun z_10 _ => ?_)
          exact v_iret (pc := 49) X dX0_struck_49 rfl
      · refine v_bipush (pc := 32) (v := -2) X dX0_struck_32 rfl ?_
        exact v_iret (pc := 34) X dX0_struck_34 rfl
/-! FloodLent.pays(III)I -/
abbrev rm_F_pays : Room := { frames := 10, cells := 0, slots := 0, locals := 219 }
theorem hy_F_pays : v_yV yX0_pays cX0_pays 4 (some .int) 3 := ⟨q1381, q1382, q133, q1383, by decide +kernel⟩
def t_F_pays (fu : Nat) (p1 : Int32) (p2 : Int32) (p3 : Int32) (s : v_S) : Option (Int32 × v_S) :=
  v_b1 (t_F_in fu (Int32.toInt64 p1) (0 : Int64) (2 : Int64) s) fun (z_1 : Int32) => if z_1 = 0 then (some ((-2 : Int32), s)) else (v_b1 (t_F_areTwo fu p2 p3 s) fun (z_2 : Int32) => if z_2 = 0 then (some ((-2 : Int32), s)) else (v_b1 (t_F_strikes fu p1 s) fun (s_3 : v_S) => v_g p2 6 <| v_b1 (v_il wC ((19 + Int32.toNatClampNeg p2))) fun (n_4 : Nat) => v_g p3 n_4 <| some (s_3.1 ((19 + Int32.toNatClampNeg p2)) (Int32.toNatClampNeg p3), s_3)))
theorem m_F_pays (l : Launch) (g : v_G) (fu : Nat) (p1 : Int32) (p2 : Int32) (p3 : Int32) (s : v_S) : v_M l yX0_pays cX0_pays 4 (some .int) rm_F_pays wC g [.ref (v_E g 0), .int p1, .int p2, .int p3] s (fun z : Int32 × v_S => (some (.int z.1), z.2)) (t_F_pays fu p1 p2 p3 s) := by
  refine v_met (by decide +kernel) (Nat.le_of_ble_eq_true rfl) (fun Γ X => ?_)
  refine v_lv (lv' := [(0, .ref (v_E g 0)), (1, .int p1), (2, .int p2), (3, .int p3)]) rfl ?_
  unfold t_F_pays
  refine v_iload_n (pc := 0) X dX0_pays_0 1 rfl ?_
  refine v_i2l (pc := 1) X dX0_pays_1 ?_
  refine v_lconst (pc := 2) (v := 0) X dX0_pays_2 rfl ?_
  refine v_ldc2 (pc := 3) X q1169 dX0_pays_3 ?_
  refine v_cSi (pc := 6) X (m_F_in l g fu (Int32.toInt64 p1) (0 : Int64) (2 : Int64) _) q174 hy_F_in rfl rfl rfl rfl dX0_pays_6 (fun z_1 _ => ?_)
  refine v_if_eq (pc := 9) (tgt := 21) X dX0_pays_9 (by decide) (fun c9 => ?_) (fun c9 => ?_)
  · refine v_bipush (pc := 21) (v := -2) X dX0_pays_21 rfl ?_
    exact v_iret (pc := 23) X dX0_pays_23 rfl
  · refine v_aload_n (pc := 12) X dX0_pays_12 0 rfl ?_
    refine v_iload_n (pc := 13) X dX0_pays_13 2 rfl ?_
    refine v_iload_n (pc := 14) X dX0_pays_14 3 rfl ?_
    refine v_cGi (pc := 15) X (m_F_areTwo l g fu p2 p3 _) (v_rc_n X wC_o0) (Or.inl q1318) hy_F_areTwo rfl rfl rfl rfl dX0_pays_15 (fun z_2 _ => ?_)
    refine v_if_ne (pc := 18) (tgt := 24) X dX0_pays_18 (by decide) (fun c18 => ?_) (fun c18 => ?_)
    · refine v_aload_n (pc := 24) X dX0_pays_24 0 rfl ?_
      refine v_iload_n (pc := 25) X dX0_pays_25 1 rfl ?_
      refine v_cGs (pc := 26) X (m_F_strikes l g fu p1 _) (v_rc_n X wC_o0) (Or.inl q1367) hy_F_strikes rfl rfl rfl rfl dX0_pays_26 (fun s_3 _ => ?_)
      refine v_aload_n (pc := 29) X dX0_pays_29 0 rfl ?_
      refine v_get (pc := 30) (kind := 21) (v := .ref (v_E g 18)) X wC_n0 wC_l0 wC_c0 in_X0 (Nat.le_of_ble_eq_true rfl : 14 < 16) q614 rfl rfl dX0_pays_30 ?_
      refine v_iload_n (pc := 33) X dX0_pays_33 2 rfl ?_
      refine v_aald (pc := 34) X wC_n18 wC_l18 rfl rfl dX0_pays_34 ?_
      refine v_iload_n (pc := 35) X dX0_pays_35 3 rfl ?_
      refine v_ialdS (pc := 36) X dX0_pays_36 (fun n_4 => ?_)
      exact v_iret (pc := 37) X dX0_pays_37 rfl
    · refine v_bipush (pc := 21) (v := -2) X dX0_pays_21 rfl ?_
      exact v_iret (pc := 23) X dX0_pays_23 rfl
/-! FloodLent.law()I -/
abbrev rm_F_law : Room := { frames := 10, cells := 0, slots := 0, locals := 219 }
theorem hy_F_law : v_yV yX0_law cX0_law 5 (some .int) 0 := ⟨q1385, q1386, q133, q1387, by decide +kernel⟩
def t_F_law_20 (fu : Nat) (r20 : Int32 × Int32 × Int32 × v_S → Option (Int32 × v_S)) (x1 : Int32) (x2 : Int32) (x3 : Int32) (s : v_S) : Option (Int32 × v_S) :=
if (3 : Int32) ≤ x3 then (some (x1, s)) else (v_b1 (t_F_strikes fu x3 s) fun (s_4 : v_S) => v_b1 (t_F_ruined fu s_4) fun (z_5 : Int32) => v_b1 (t_I_bitCount fu z_5 s_4) fun (z_6 : Int32) => if z_6 < x2 then (r20 (x3, z_6, x3 + (1 : Int32), s_4)) else (r20 (x1, x2, x3 + (1 : Int32), s_4)))
def t_F_law_20B (fu : Nat) (r20 : Int32 × Int32 × Int32 × v_S → Option (Int32 × v_S)) (a : Int32 × Int32 × Int32 × v_S) : Option (Int32 × v_S) := t_F_law_20 fu r20 a.1 a.2.1 a.2.2.1 a.2.2.2
def t_F_law (fu : Nat)  (s : v_S) : Option (Int32 × v_S) :=
  v_b1 (s.2.2.1 0 1) fun (a_1 : Nat) => if v_isc s (some a_1) 4 = true then v_b1 (t_Q_is fu a_1 s) fun (z_3 : Int32) => (if z_3 = 0 then (some ((-2 : Int32), s)) else (v_loop (t_F_law_20B fu) fu ((0 : Int32), (7 : Int32), (0 : Int32), s))) else none
theorem w_F_law_20 {Γ : v_Ctx} {l : Launch} {g : v_G} (fu : Nat) (X : v_C Γ l rm_F_law cX0_law 5 RX0 (some .int) wC g) (r20 : Int32 × Int32 × Int32 × v_S → Option (Int32 × v_S)) (h20 : ∀ (x1 : Int32) (x2 : Int32) (x3 : Int32) (s : v_S), v_V Γ 5 wC g (fun z : Int32 × v_S => (some (.int z.1), z.2)) 20 [(0, .ref (v_E g 0)), (1, .int x1), (2, .int x2), (3, .int x3)] [] s (r20 (x1, x2, x3, s))) (x1 : Int32) (x2 : Int32) (x3 : Int32) (s : v_S) : v_V Γ 5 wC g (fun z : Int32 × v_S => (some (.int z.1), z.2)) 20 [(0, .ref (v_E g 0)), (1, .int x1), (2, .int x2), (3, .int x3)] [] s (t_F_law_20 fu r20 x1 x2 x3 s) := by
  unfold t_F_law_20
  refine v_iload_n (pc := 20) X dX0_law_20 3 rfl ?_
  refine v_iconst (pc := 21) (v := 3) X dX0_law_21 rfl ?_
  refine v_icmp_ge (pc := 22) (tgt := 59) X dX0_law_22 (by decide) (fun c22 => ?_) (fun c22 => ?_)
  · refine v_iload_n (pc := 59) X dX0_law_59 1 rfl ?_
    exact v_iret (pc := 60) X dX0_law_60 rfl
  · refine v_aload_n (pc := 25) X dX0_law_25 0 rfl ?_
    refine v_iload_n (pc := 26) X dX0_law_26 3 rfl ?_
    refine v_cGs (pc := 27) X (m_F_strikes l g fu x3 _) (v_rc_n X wC_o0) (Or.inl q1367) hy_F_strikes rfl rfl rfl rfl dX0_law_27 (fun s_4 _ => ?_)
    refine v_aload_n (pc := 30) X dX0_law_30 0 rfl ?_
    refine v_cGi (pc := 31) X (m_F_ruined l g fu _) (v_rc_n X wC_o0) (Or.inl q1376) hy_F_ruined rfl rfl rfl rfl dX0_law_31 (fun z_5 _ => ?_)
    refine v_cSi (pc := 34) X (m_I_bitCount l g fu z_5 _) q1388 hy_I_bitCount rfl rfl rfl rfl dX0_law_34 (fun z_6 _ => ?_)
    refine v_istore (pc := 37) (lv' := [(4, .int z_6), (0, .ref (v_E g 0)), (1, .int x1), (2, .int x2), (3, .int x3)]) X dX0_law_37 (Nat.le_of_ble_eq_true rfl) rfl ?_
    refine v_iload (pc := 39) X dX0_law_39 0 rfl ?_
    refine v_iload_n (pc := 41) X dX0_law_41 3 rfl ?_
    refine v_icmp_lt (pc := 42) (tgt := 48) X dX0_law_42 (by decide) (fun c42 => ?_) (fun c42 => ?_)
    · refine v_iload (pc := 48) X dX0_law_48 0 rfl ?_
      refine v_istore_n (pc := 50) (lv' := [(2, .int z_6), (4, .int z_6), (0, .ref (v_E g 0)), (1, .int x1), (3, .int x3)]) X dX0_law_50 rfl (Nat.le_of_ble_eq_true rfl) rfl ?_
      refine v_iload_n (pc := 51) X dX0_law_51 4 rfl ?_
      refine v_istore_n (pc := 52) (lv' := [(1, .int x3), (2, .int z_6), (4, .int z_6), (0, .ref (v_E g 0)), (3, .int x3)]) X dX0_law_52 rfl (Nat.le_of_ble_eq_true rfl) rfl ?_
      refine v_iinc (pc := 53) (v := x3 + (1 : Int32)) (lv' := [(3, .int (x3 + (1 : Int32))), (1, .int x3), (2, .int z_6), (4, .int z_6), (0, .ref (v_E g 0))]) (k := 4) X dX0_law_53 rfl rfl (Nat.le_of_ble_eq_true rfl) rfl ?_
      refine v_goto (pc := 56) (tgt := 20) X dX0_law_56 (by decide) ?_
      refine v_sub [4, 1, 2, 0] rfl ?_
      exact h20 x3 z_6 (x3 + (1 : Int32)) s_4
    · refine v_goto (pc := 45) (tgt := 53) X dX0_law_45 (by decide) ?_
      refine v_iinc (pc := 53) (v := x3 + (1 : Int32)) (lv' := [(3, .int (x3 + (1 : Int32))), (4, .int z_6), (0, .ref (v_E g 0)), (1, .int x1), (2, .int x2)]) (k := 4) X dX0_law_53 rfl rfl (Nat.le_of_ble_eq_true rfl) rfl ?_
      refine v_goto (pc := 56) (tgt := 20) X dX0_law_56 (by decide) ?_
      refine v_sub [2, 3, 4, 0] rfl ?_
      exact h20 x1 x2 (x3 + (1 : Int32)) s_4
theorem w_F_law_20L {Γ : v_Ctx} {l : Launch} {g : v_G} (fu : Nat) (X : v_C Γ l rm_F_law cX0_law 5 RX0 (some .int) wC g)  : ∀ (n : Nat), ∀ (x1 : Int32) (x2 : Int32) (x3 : Int32) (s : v_S), v_V Γ 5 wC g (fun z : Int32 × v_S => (some (.int z.1), z.2)) 20 [(0, .ref (v_E g 0)), (1, .int x1), (2, .int x2), (3, .int x3)] [] s (v_loop (t_F_law_20B fu) n (x1, x2, x3, s)) := by
  intro n
  induction n with
  | zero => exact fun _ _ _ _ => v_none
  | succ n ih => exact fun x1 x2 x3 s => w_F_law_20 fu X  _ ih x1 x2 x3 s
theorem m_F_law (l : Launch) (g : v_G) (fu : Nat)  (s : v_S) : v_M l yX0_law cX0_law 5 (some .int) rm_F_law wC g [.ref (v_E g 0)] s (fun z : Int32 × v_S => (some (.int z.1), z.2)) (t_F_law fu  s) := by
  refine v_met (by decide +kernel) (Nat.le_of_ble_eq_true rfl) (fun Γ X => ?_)
  refine v_lv (lv' := [(0, .ref (v_E g 0))]) rfl ?_
  unfold t_F_law
  refine v_aload_n (pc := 0) X dX0_law_0 0 rfl ?_
  refine v_get (pc := 1) (kind := 2) (v := va_rf (s.2.2.1 0 1)) X wC_n0 wC_l0 wC_c0 in_X0 (Nat.le_of_ble_eq_true rfl : 1 < 16) q600 rfl rfl dX0_law_1 ?_
  refine v_unq0 (pc := 4) (fun a_1 _ => ?_)
  refine v_nzT (pc := 4) (fun h_2 => ?_)
  refine v_cGi (pc := 4) X (m_Q_is l g fu a_1 _) (v_rc_d X wC_c4 h_2) (Or.inl q1052) hy_Q_is rfl rfl rfl rfl dX0_law_4 (fun z_3 _ => ?_)
  refine v_if_ne (pc := 7) (tgt := 13) X dX0_law_7 (by decide) (fun c7 => ?_) (fun c7 => ?_)
  · refine v_iconst (pc := 13) (v := 0) X dX0_law_13 rfl ?_
    refine v_istore_n (pc := 14) (lv' := [(1, .int (0 : Int32)), (0, .ref (v_E g 0))]) X dX0_law_14 rfl (Nat.le_of_ble_eq_true rfl) rfl ?_
    refine v_bipush (pc := 15) (v := 7) X dX0_law_15 rfl ?_
    refine v_istore_n (pc := 17) (lv' := [(2, .int (7 : Int32)), (1, .int (0 : Int32)), (0, .ref (v_E g 0))]) X dX0_law_17 rfl (Nat.le_of_ble_eq_true rfl) rfl ?_
    refine v_iconst (pc := 18) (v := 0) X dX0_law_18 rfl ?_
    refine v_istore_n (pc := 19) (lv' := [(3, .int (0 : Int32)), (2, .int (7 : Int32)), (1, .int (0 : Int32)), (0, .ref (v_E g 0))]) X dX0_law_19 rfl (Nat.le_of_ble_eq_true rfl) rfl ?_
    refine v_sub [3, 2, 1, 0] rfl ?_
    exact w_F_law_20L fu X  fu (0 : Int32) (7 : Int32) (0 : Int32) s
  · refine v_bipush (pc := 10) (v := -2) X dX0_law_10 rfl ?_
    exact v_iret (pc := 12) X dX0_law_12 rfl
/-! FloodLent.melons(I)I -/
abbrev rm_F_melons : Room := { frames := 8, cells := 0, slots := 0, locals := 173 }
theorem hy_F_melons : v_yV yX0_melons cX0_melons 5 (some .int) 1 := ⟨q1395, q1396, q133, q1397, by decide +kernel⟩
def t_F_melons_227 (fu : Nat) (p1 : Int32) (x2 : Int32) (x3 : Int32) (s : v_S) : Option (Int32 × v_S) :=
v_b1 (s.2.2.1 0 1) fun (a_19 : Nat) => v_b1 (v_dR s a_19 4 1) fun (e_20 : Option Nat) => v_b1 e_20 fun (a_21 : Nat) => if v_isc s (some a_21) 5 = true then v_b1 (t_L_get fu a_21 x2 s) fun (e_22 : Option Nat) => if v_isc s e_22 7 = true then v_b1 e_22 fun (a_23 : Nat) => v_b1 (v_dI s a_23 7 1) fun (z_24 : Int32) => if z_24 = 0 then none else (some (((x3 + z_24) - (1 : Int32)) / z_24, s)) else none else none
def t_F_melons_165 (fu : Nat) (p1 : Int32) (r165 : Int32 × Int32 × Int32 × v_S → Option (Int32 × v_S)) (x2 : Int32) (x3 : Int32) (x4 : Int32) (s : v_S) : Option (Int32 × v_S) :=
v_b1 (s.2.2.1 0 1) fun (a_15 : Nat) => v_b1 (v_dR s a_15 4 2) fun (e_16 : Option Nat) => v_b1 e_16 fun (a_17 : Nat) => if v_isc s (some a_17) 5 = true then v_b1 (t_L_size fu a_17 s) fun (z_18 : Int32) => (if z_18 ≤ x4 then (t_F_melons_227 fu p1 x2 x3 s) else (v_g x4 3 <| if s.1 6 (Int32.toNatClampNeg x4) = p1 then (v_g x4 3 <| v_g x4 3 <| v_n (x3 + ((s.1 39 (Int32.toNatClampNeg x4)) - (s.1 40 (Int32.toNatClampNeg x4)))) fun (x3_26 : Int32) => r165 (x2, x3_26, x4 + (1 : Int32), s)) else (v_n (x3 + (0 : Int32)) fun (x3_25 : Int32) => r165 (x2, x3_25, x4 + (1 : Int32), s)))) else none
def t_F_melons_165B (fu : Nat) (p1 : Int32) (r165 : Int32 × Int32 × Int32 × v_S → Option (Int32 × v_S)) (a : Int32 × Int32 × Int32 × v_S) : Option (Int32 × v_S) := t_F_melons_165 fu p1 r165 a.1 a.2.1 a.2.2.1 a.2.2.2
def t_F_melons_87 (fu : Nat) (p1 : Int32) (r87 : Int32 × Int32 × Int32 × v_S → Option (Int32 × v_S)) (x2 : Int32) (x3 : Int32) (x4 : Int32) (s : v_S) : Option (Int32 × v_S) :=
v_b1 (s.2.2.1 0 1) fun (a_11 : Nat) => v_b1 (v_dR s a_11 4 3) fun (e_12 : Option Nat) => v_b1 e_12 fun (a_13 : Nat) => if v_isc s (some a_13) 5 = true then v_b1 (t_L_size fu a_13 s) fun (z_14 : Int32) => (if z_14 ≤ x4 then (v_loop (t_F_melons_165B fu p1) fu (x2, x3, (0 : Int32), s)) else (v_b1 (s.2.2.1 0 1) fun (a_27 : Nat) => v_b1 (v_dR s a_27 4 3) fun (e_28 : Option Nat) => v_b1 e_28 fun (a_29 : Nat) => if v_isc s (some a_29) 5 = true then v_b1 (t_L_get fu a_29 x4 s) fun (e_30 : Option Nat) => if v_isc s e_30 8 = true then v_b1 e_30 fun (a_31 : Nat) => v_b1 (v_dI s a_31 8 1) fun (z_32 : Int32) => (if z_32 = p1 then (v_g x4 8 <| v_g x4 8 <| v_n (x3 + ((s.1 42 (Int32.toNatClampNeg x4)) - (s.1 43 (Int32.toNatClampNeg x4)))) fun (x3_34 : Int32) => r87 (x2, x3_34, x4 + (1 : Int32), s)) else (v_n (x3 + (0 : Int32)) fun (x3_33 : Int32) => r87 (x2, x3_33, x4 + (1 : Int32), s))) else none else none)) else none
def t_F_melons_87B (fu : Nat) (p1 : Int32) (r87 : Int32 × Int32 × Int32 × v_S → Option (Int32 × v_S)) (a : Int32 × Int32 × Int32 × v_S) : Option (Int32 × v_S) := t_F_melons_87 fu p1 r87 a.1 a.2.1 a.2.2.1 a.2.2.2
def t_F_melons_59 (fu : Nat) (p1 : Int32) (x2 : Int32) (s : v_S) : Option (Int32 × v_S) :=
v_b1 (s.2.2.1 0 1) fun (a_6 : Nat) => v_b1 (v_dR s a_6 4 1) fun (e_7 : Option Nat) => v_b1 e_7 fun (a_8 : Nat) => if v_isc s (some a_8) 5 = true then v_b1 (t_L_size fu a_8 s) fun (z_9 : Int32) => (if x2 = z_9 then (some ((-1 : Int32), s)) else (v_b1 (t_F_told fu s) fun (s_10 : v_S) => v_loop (t_F_melons_87B fu p1) fu (x2, (0 : Int32), (0 : Int32), s_10))) else none
def t_F_melons_14 (fu : Nat) (p1 : Int32) (r14 : Int32 × v_S → Option (Int32 × v_S)) (x2 : Int32) (s : v_S) : Option (Int32 × v_S) :=
v_b1 (s.2.2.1 0 1) fun (a_2 : Nat) => v_b1 (v_dR s a_2 4 1) fun (e_3 : Option Nat) => v_b1 e_3 fun (a_4 : Nat) => if v_isc s (some a_4) 5 = true then v_b1 (t_L_size fu a_4 s) fun (z_5 : Int32) => (if z_5 ≤ x2 then (t_F_melons_59 fu p1 x2 s) else (v_b1 (s.2.2.1 0 1) fun (a_35 : Nat) => v_b1 (v_dR s a_35 4 1) fun (e_36 : Option Nat) => v_b1 e_36 fun (a_37 : Nat) => if v_isc s (some a_37) 5 = true then v_b1 (t_L_get fu a_37 x2 s) fun (e_38 : Option Nat) => if v_isc s e_38 7 = true then v_b1 e_38 fun (a_39 : Nat) => v_b1 (v_dI s a_39 7 0) fun (z_40 : Int32) => (if z_40 = p1 then (t_F_melons_59 fu p1 x2 s) else (r14 (x2 + (1 : Int32), s))) else none else none)) else none
def t_F_melons_14B (fu : Nat) (p1 : Int32) (r14 : Int32 × v_S → Option (Int32 × v_S)) (a : Int32 × v_S) : Option (Int32 × v_S) := t_F_melons_14 fu p1 r14 a.1 a.2
def t_F_melons (fu : Nat) (p1 : Int32) (s : v_S) : Option (Int32 × v_S) :=
  v_b1 (t_F_isVillage fu (Int32.toInt64 p1) s) fun (z_1 : Int32) => if z_1 = 0 then (some ((-2 : Int32), s)) else (v_loop (t_F_melons_14B fu p1) fu ((0 : Int32), s))
theorem w_F_melons_227 {Γ : v_Ctx} {l : Launch} {g : v_G} (fu : Nat) (p1 : Int32) (X : v_C Γ l rm_F_melons cX0_melons 5 RX0 (some .int) wC g)  (x2 : Int32) (x3 : Int32) (s : v_S) : v_V Γ 5 wC g (fun z : Int32 × v_S => (some (.int z.1), z.2)) 227 [(0, .ref (v_E g 0)), (2, .int x2), (3, .int x3)] [] s (t_F_melons_227 fu p1 x2 x3 s) := by
  unfold t_F_melons_227
  refine v_aload_n (pc := 227) X dX0_melons_227 0 rfl ?_
  refine v_get (pc := 228) (kind := 2) (v := va_rf (s.2.2.1 0 1)) X wC_n0 wC_l0 wC_c0 in_X0 (Nat.le_of_ble_eq_true rfl : 1 < 16) q600 rfl rfl dX0_melons_228 ?_
  refine v_unq0 (pc := 231) (fun a_19 _ => ?_)
  refine v_dgetRN (pc := 231) X wC_c4 in_X2 (Nat.le_of_ble_eq_true rfl : 1 < 9) q425 dX0_melons_231 (fun e_20 => ?_)
  refine v_iload_n (pc := 234) X dX0_melons_234 1 rfl ?_
  refine v_unq1 (pc := 235) (fun a_21 _ => ?_)
  refine v_cFq (pc := 235) X (m_L_get l g fu a_21 x2 _) wC_c5 q1079 hF_get rfl rfl rfl rfl dX0_melons_235 (fun e_22 _ => ?_)
  refine v_castq (pc := 240) X wC_c7 q1398 dX0_melons_240 ?_
  refine v_unq0 (pc := 243) (fun a_23 _ => ?_)
  refine v_dgetIN (pc := 243) X wC_c7 in_X9 (Nat.le_of_ble_eq_true rfl : 1 < 5) q967 dX0_melons_243 (fun z_24 => ?_)
  refine v_istore (pc := 246) (lv' := [(4, .int z_24), (0, .ref (v_E g 0)), (2, .int x2), (3, .int x3)]) X dX0_melons_246 (Nat.le_of_ble_eq_true rfl) rfl ?_
  refine v_iload_n (pc := 248) X dX0_melons_248 3 rfl ?_
  refine v_iload (pc := 249) X dX0_melons_249 0 rfl ?_
  refine v_iadd (pc := 251) X dX0_melons_251 ?_
  refine v_iconst (pc := 252) (v := 1) X dX0_melons_252 rfl ?_
  refine v_isub (pc := 253) X dX0_melons_253 ?_
  refine v_iload (pc := 254) X dX0_melons_254 0 rfl ?_
  refine v_idiv (pc := 256) X dX0_melons_256 ?_
  exact v_iret (pc := 257) X dX0_melons_257 rfl
theorem w_F_melons_165 {Γ : v_Ctx} {l : Launch} {g : v_G} (fu : Nat) (p1 : Int32) (X : v_C Γ l rm_F_melons cX0_melons 5 RX0 (some .int) wC g) (r165 : Int32 × Int32 × Int32 × v_S → Option (Int32 × v_S)) (h165 : ∀ (x2 : Int32) (x3 : Int32) (x4 : Int32) (s : v_S), v_V Γ 5 wC g (fun z : Int32 × v_S => (some (.int z.1), z.2)) 165 [(0, .ref (v_E g 0)), (1, .int p1), (2, .int x2), (3, .int x3), (4, .int x4)] [] s (r165 (x2, x3, x4, s))) (x2 : Int32) (x3 : Int32) (x4 : Int32) (s : v_S) : v_V Γ 5 wC g (fun z : Int32 × v_S => (some (.int z.1), z.2)) 165 [(0, .ref (v_E g 0)), (1, .int p1), (2, .int x2), (3, .int x3), (4, .int x4)] [] s (t_F_melons_165 fu p1 r165 x2 x3 x4 s) := by
  unfold t_F_melons_165
  refine v_iload (pc := 165) X dX0_melons_165 4 rfl ?_
  refine v_aload_n (pc := 167) X dX0_melons_167 0 rfl ?_
  refine v_get (pc := 168) (kind := 2) (v := va_rf (s.2.2.1 0 1)) X wC_n0 wC_l0 wC_c0 in_X0 (Nat.le_of_ble_eq_true rfl : 1 < 16) q600 rfl rfl dX0_melons_168 ?_
  refine v_unq0 (pc := 171) (fun a_15 _ => ?_)
  refine v_dgetRN (pc := 171) X wC_c4 in_X2 (Nat.le_of_ble_eq_true rfl : 2 < 9) q429 dX0_melons_171 (fun e_16 => ?_)
  refine v_unq0 (pc := 174) (fun a_17 _ => ?_)
  refine v_cFi (pc := 174) X (m_L_size l g fu a_17  _) wC_c5 q1076 hF_size rfl rfl rfl rfl dX0_melons_174 (fun z_18 _ => ?_)
  refine v_icmp_ge (pc := 179) (tgt := 227) X dX0_melons_179 (by decide) (fun c179 => ?_) (fun c179 => ?_)
  · refine v_sub [0, 2, 3] rfl ?_
    exact w_F_melons_227 fu p1 X  x2 x3 s
  · refine v_iload_n (pc := 182) X dX0_melons_182 3 rfl ?_
    refine v_aload_n (pc := 183) X dX0_melons_183 0 rfl ?_
    refine v_get (pc := 184) (kind := 9) (v := .ref (v_E g 6)) X wC_n0 wC_l0 wC_c0 in_X0 (Nat.le_of_ble_eq_true rfl : 3 < 16) q602 rfl rfl dX0_melons_184 ?_
    refine v_iload (pc := 187) X dX0_melons_187 4 rfl ?_
    refine v_iald (pc := 189) X wC_n6 wC_l6 dX0_melons_189 ?_
    refine v_iload_n (pc := 190) X dX0_melons_190 1 rfl ?_
    refine v_icmp_ne (pc := 191) (tgt := 218) X dX0_melons_191 (by decide) (fun c191 => ?_) (fun c191 => ?_)
    · refine v_iconst (pc := 218) (v := 0) X dX0_melons_218 rfl ?_
      refine v_iadd (pc := 219) X dX0_melons_219 ?_
      refine v_istore_nN (pc := 220) (lvf := fun x3_25 => [(3, .int x3_25), (0, .ref (v_E g 0)), (1, .int p1), (2, .int x2), (4, .int x4)]) X dX0_melons_220 rfl (Nat.le_of_ble_eq_true rfl) (fun _ => rfl) (fun x3_25 => ?_)
      refine v_iinc (pc := 221) (v := x4 + (1 : Int32)) (lv' := [(4, .int (x4 + (1 : Int32))), (3, .int x3_25), (0, .ref (v_E g 0)), (1, .int p1), (2, .int x2)]) (k := 4) X dX0_melons_221 rfl rfl (Nat.le_of_ble_eq_true rfl) rfl ?_
      refine v_goto (pc := 224) (tgt := 165) X dX0_melons_224 (by decide) ?_
      refine v_sub [2, 3, 4, 1, 0] rfl ?_
      exact h165 x2 x3_25 (x4 + (1 : Int32)) s
    · refine v_aload_n (pc := 194) X dX0_melons_194 0 rfl ?_
      refine v_get (pc := 195) (kind := 10) (v := .ref (v_E g 7)) X wC_n0 wC_l0 wC_c0 in_X0 (Nat.le_of_ble_eq_true rfl : 4 < 16) q603 rfl rfl dX0_melons_195 ?_
      refine v_getN (pc := 198) (kind := 42) (v := .ref (v_E g 39)) X wC_n7 wC_l7 wC_c2 in_X3 (Nat.le_of_ble_eq_true rfl : 4 < 23) q484 rfl rfl dX0_melons_198 ?_
      refine v_iload (pc := 201) X dX0_melons_201 4 rfl ?_
      refine v_iald (pc := 203) X wC_n39 wC_l39 dX0_melons_203 ?_
      refine v_aload_n (pc := 204) X dX0_melons_204 0 rfl ?_
      refine v_get (pc := 205) (kind := 10) (v := .ref (v_E g 7)) X wC_n0 wC_l0 wC_c0 in_X0 (Nat.le_of_ble_eq_true rfl : 4 < 16) q603 rfl rfl dX0_melons_205 ?_
      refine v_getN (pc := 208) (kind := 43) (v := .ref (v_E g 40)) X wC_n7 wC_l7 wC_c2 in_X3 (Nat.le_of_ble_eq_true rfl : 5 < 23) q486 rfl rfl dX0_melons_208 ?_
      refine v_iload (pc := 211) X dX0_melons_211 4 rfl ?_
      refine v_iald (pc := 213) X wC_n40 wC_l40 dX0_melons_213 ?_
      refine v_isub (pc := 214) X dX0_melons_214 ?_
      refine v_goto (pc := 215) (tgt := 219) X dX0_melons_215 (by decide) ?_
      refine v_iadd (pc := 219) X dX0_melons_219 ?_
      refine v_istore_nN (pc := 220) (lvf := fun x3_26 => [(3, .int x3_26), (0, .ref (v_E g 0)), (1, .int p1), (2, .int x2), (4, .int x4)]) X dX0_melons_220 rfl (Nat.le_of_ble_eq_true rfl) (fun _ => rfl) (fun x3_26 => ?_)
      refine v_iinc (pc := 221) (v := x4 + (1 : Int32)) (lv' := [(4, .int (x4 + (1 : Int32))), (3, .int x3_26), (0, .ref (v_E g 0)), (1, .int p1), (2, .int x2)]) (k := 4) X dX0_melons_221 rfl rfl (Nat.le_of_ble_eq_true rfl) rfl ?_
      refine v_goto (pc := 224) (tgt := 165) X dX0_melons_224 (by decide) ?_
      refine v_sub [2, 3, 4, 1, 0] rfl ?_
      exact h165 x2 x3_26 (x4 + (1 : Int32)) s
theorem w_F_melons_165L {Γ : v_Ctx} {l : Launch} {g : v_G} (fu : Nat) (p1 : Int32) (X : v_C Γ l rm_F_melons cX0_melons 5 RX0 (some .int) wC g)  : ∀ (n : Nat), ∀ (x2 : Int32) (x3 : Int32) (x4 : Int32) (s : v_S), v_V Γ 5 wC g (fun z : Int32 × v_S => (some (.int z.1), z.2)) 165 [(0, .ref (v_E g 0)), (1, .int p1), (2, .int x2), (3, .int x3), (4, .int x4)] [] s (v_loop (t_F_melons_165B fu p1) n (x2, x3, x4, s)) := by
  intro n
  induction n with
  | zero => exact fun _ _ _ _ => v_none
  | succ n ih => exact fun x2 x3 x4 s => w_F_melons_165 fu p1 X  _ ih x2 x3 x4 s
theorem w_F_melons_87 {Γ : v_Ctx} {l : Launch} {g : v_G} (fu : Nat) (p1 : Int32) (X : v_C Γ l rm_F_melons cX0_melons 5 RX0 (some .int) wC g) (r87 : Int32 × Int32 × Int32 × v_S → Option (Int32 × v_S)) (h87 : ∀ (x2 : Int32) (x3 : Int32) (x4 : Int32) (s : v_S), v_V Γ 5 wC g (fun z : Int32 × v_S => (some (.int z.1), z.2)) 87 [(0, .ref (v_E g 0)), (1, .int p1), (2, .int x2), (3, .int x3), (4, .int x4)] [] s (r87 (x2, x3, x4, s))) (x2 : Int32) (x3 : Int32) (x4 : Int32) (s : v_S) : v_V Γ 5 wC g (fun z : Int32 × v_S => (some (.int z.1), z.2)) 87 [(0, .ref (v_E g 0)), (1, .int p1), (2, .int x2), (3, .int x3), (4, .int x4)] [] s (t_F_melons_87 fu p1 r87 x2 x3 x4 s) := by
  unfold t_F_melons_87
  refine v_iload (pc := 87) X dX0_melons_87 4 rfl ?_
  refine v_aload_n (pc := 89) X dX0_melons_89 0 rfl ?_
  refine v_get (pc := 90) (kind := 2) (v := va_rf (s.2.2.1 0 1)) X wC_n0 wC_l0 wC_c0 in_X0 (Nat.le_of_ble_eq_true rfl : 1 < 16) q600 rfl rfl dX0_melons_90 ?_
  refine v_unq0 (pc := 93) (fun a_11 _ => ?_)
  refine v_dgetRN (pc := 93) X wC_c4 in_X2 (Nat.le_of_ble_eq_true rfl : 3 < 9) q433 dX0_melons_93 (fun e_12 => ?_)
  refine v_unq0 (pc := 96) (fun a_13 _ => ?_)
  refine v_cFi (pc := 96) X (m_L_size l g fu a_13  _) wC_c5 q1076 hF_size rfl rfl rfl rfl dX0_melons_96 (fun z_14 _ => ?_)
  refine v_icmp_ge (pc := 101) (tgt := 162) X dX0_melons_101 (by decide) (fun c101 => ?_) (fun c101 => ?_)
  · refine v_iconst (pc := 162) (v := 0) X dX0_melons_162 rfl ?_
    refine v_istore (pc := 163) (lv' := [(4, .int (0 : Int32)), (0, .ref (v_E g 0)), (1, .int p1), (2, .int x2), (3, .int x3)]) X dX0_melons_163 (Nat.le_of_ble_eq_true rfl) rfl ?_
    refine v_sub [1, 2, 3, 4, 0] rfl ?_
    exact w_F_melons_165L fu p1 X  fu x2 x3 (0 : Int32) s
  · refine v_iload_n (pc := 104) X dX0_melons_104 3 rfl ?_
    refine v_aload_n (pc := 105) X dX0_melons_105 0 rfl ?_
    refine v_get (pc := 106) (kind := 2) (v := va_rf (s.2.2.1 0 1)) X wC_n0 wC_l0 wC_c0 in_X0 (Nat.le_of_ble_eq_true rfl : 1 < 16) q600 rfl rfl dX0_melons_106 ?_
    refine v_unq0 (pc := 109) (fun a_27 _ => ?_)
    refine v_dgetRN (pc := 109) X wC_c4 in_X2 (Nat.le_of_ble_eq_true rfl : 3 < 9) q433 dX0_melons_109 (fun e_28 => ?_)
    refine v_iload (pc := 112) X dX0_melons_112 4 rfl ?_
    refine v_unq1 (pc := 114) (fun a_29 _ => ?_)
    refine v_cFq (pc := 114) X (m_L_get l g fu a_29 x4 _) wC_c5 q1079 hF_get rfl rfl rfl rfl dX0_melons_114 (fun e_30 _ => ?_)
    refine v_castq (pc := 119) X wC_c8 q1241 dX0_melons_119 ?_
    refine v_unq0 (pc := 122) (fun a_31 _ => ?_)
    refine v_dgetIN (pc := 122) X wC_c8 in_X10 (Nat.le_of_ble_eq_true rfl : 1 < 6) q1001 dX0_melons_122 (fun z_32 => ?_)
    refine v_iload_n (pc := 125) X dX0_melons_125 1 rfl ?_
    refine v_icmp_ne (pc := 126) (tgt := 153) X dX0_melons_126 (by decide) (fun c126 => ?_) (fun c126 => ?_)
    · refine v_iconst (pc := 153) (v := 0) X dX0_melons_153 rfl ?_
      refine v_iadd (pc := 154) X dX0_melons_154 ?_
      refine v_istore_nN (pc := 155) (lvf := fun x3_33 => [(3, .int x3_33), (0, .ref (v_E g 0)), (1, .int p1), (2, .int x2), (4, .int x4)]) X dX0_melons_155 rfl (Nat.le_of_ble_eq_true rfl) (fun _ => rfl) (fun x3_33 => ?_)
      refine v_iinc (pc := 156) (v := x4 + (1 : Int32)) (lv' := [(4, .int (x4 + (1 : Int32))), (3, .int x3_33), (0, .ref (v_E g 0)), (1, .int p1), (2, .int x2)]) (k := 4) X dX0_melons_156 rfl rfl (Nat.le_of_ble_eq_true rfl) rfl ?_
      refine v_goto (pc := 159) (tgt := 87) X dX0_melons_159 (by decide) ?_
      refine v_sub [2, 3, 4, 1, 0] rfl ?_
      exact h87 x2 x3_33 (x4 + (1 : Int32)) s
    · refine v_aload_n (pc := 129) X dX0_melons_129 0 rfl ?_
      refine v_get (pc := 130) (kind := 10) (v := .ref (v_E g 7)) X wC_n0 wC_l0 wC_c0 in_X0 (Nat.le_of_ble_eq_true rfl : 4 < 16) q603 rfl rfl dX0_melons_130 ?_
      refine v_getN (pc := 133) (kind := 45) (v := .ref (v_E g 42)) X wC_n7 wC_l7 wC_c2 in_X3 (Nat.le_of_ble_eq_true rfl : 7 < 23) q490 rfl rfl dX0_melons_133 ?_
      refine v_iload (pc := 136) X dX0_melons_136 4 rfl ?_
      refine v_iald (pc := 138) X wC_n42 wC_l42 dX0_melons_138 ?_
      refine v_aload_n (pc := 139) X dX0_melons_139 0 rfl ?_
      refine v_get (pc := 140) (kind := 10) (v := .ref (v_E g 7)) X wC_n0 wC_l0 wC_c0 in_X0 (Nat.le_of_ble_eq_true rfl : 4 < 16) q603 rfl rfl dX0_melons_140 ?_
      refine v_getN (pc := 143) (kind := 46) (v := .ref (v_E g 43)) X wC_n7 wC_l7 wC_c2 in_X3 (Nat.le_of_ble_eq_true rfl : 8 < 23) q492 rfl rfl dX0_melons_143 ?_
      refine v_iload (pc := 146) X dX0_melons_146 4 rfl ?_
      refine v_iald (pc := 148) X wC_n43 wC_l43 dX0_melons_148 ?_
      refine v_isub (pc := 149) X dX0_melons_149 ?_
      refine v_goto (pc := 150) (tgt := 154) X dX0_melons_150 (by decide) ?_
      refine v_iadd (pc := 154) X dX0_melons_154 ?_
      refine v_istore_nN (pc := 155) (lvf := fun x3_34 => [(3, .int x3_34), (0, .ref (v_E g 0)), (1, .int p1), (2, .int x2), (4, .int x4)]) X dX0_melons_155 rfl (Nat.le_of_ble_eq_true rfl) (fun _ => rfl) (fun x3_34 => ?_)
      refine v_iinc (pc := 156) (v := x4 + (1 : Int32)) (lv' := [(4, .int (x4 + (1 : Int32))), (3, .int x3_34), (0, .ref (v_E g 0)), (1, .int p1), (2, .int x2)]) (k := 4) X dX0_melons_156 rfl rfl (Nat.le_of_ble_eq_true rfl) rfl ?_
      refine v_goto (pc := 159) (tgt := 87) X dX0_melons_159 (by decide) ?_
      refine v_sub [2, 3, 4, 1, 0] rfl ?_
      exact h87 x2 x3_34 (x4 + (1 : Int32)) s
theorem w_F_melons_87L {Γ : v_Ctx} {l : Launch} {g : v_G} (fu : Nat) (p1 : Int32) (X : v_C Γ l rm_F_melons cX0_melons 5 RX0 (some .int) wC g)  : ∀ (n : Nat), ∀ (x2 : Int32) (x3 : Int32) (x4 : Int32) (s : v_S), v_V Γ 5 wC g (fun z : Int32 × v_S => (some (.int z.1), z.2)) 87 [(0, .ref (v_E g 0)), (1, .int p1), (2, .int x2), (3, .int x3), (4, .int x4)] [] s (v_loop (t_F_melons_87B fu p1) n (x2, x3, x4, s)) := by
  intro n
  induction n with
  | zero => exact fun _ _ _ _ => v_none
  | succ n ih => exact fun x2 x3 x4 s => w_F_melons_87 fu p1 X  _ ih x2 x3 x4 s
theorem w_F_melons_59 {Γ : v_Ctx} {l : Launch} {g : v_G} (fu : Nat) (p1 : Int32) (X : v_C Γ l rm_F_melons cX0_melons 5 RX0 (some .int) wC g)  (x2 : Int32) (s : v_S) : v_V Γ 5 wC g (fun z : Int32 × v_S => (some (.int z.1), z.2)) 59 [(0, .ref (v_E g 0)), (1, .int p1), (2, .int x2)] [] s (t_F_melons_59 fu p1 x2 s) := by
  unfold t_F_melons_59
  refine v_iload_n (pc := 59) X dX0_melons_59 2 rfl ?_
  refine v_aload_n (pc := 60) X dX0_melons_60 0 rfl ?_
  refine v_get (pc := 61) (kind := 2) (v := va_rf (s.2.2.1 0 1)) X wC_n0 wC_l0 wC_c0 in_X0 (Nat.le_of_ble_eq_true rfl : 1 < 16) q600 rfl rfl dX0_melons_61 ?_
  refine v_unq0 (pc := 64) (fun a_6 _ => ?_)
  refine v_dgetRN (pc := 64) X wC_c4 in_X2 (Nat.le_of_ble_eq_true rfl : 1 < 9) q425 dX0_melons_64 (fun e_7 => ?_)
  refine v_unq0 (pc := 67) (fun a_8 _ => ?_)
  refine v_cFi (pc := 67) X (m_L_size l g fu a_8  _) wC_c5 q1076 hF_size rfl rfl rfl rfl dX0_melons_67 (fun z_9 _ => ?_)
  refine v_icmp_ne (pc := 72) (tgt := 77) X dX0_melons_72 (by decide) (fun c72 => ?_) (fun c72 => ?_)
  · refine v_aload_n (pc := 77) X dX0_melons_77 0 rfl ?_
    refine v_cGr (pc := 78) X (m_F_told l g fu _) (v_rc_n X wC_o0) (Or.inl q1097) hy_F_told rfl rfl rfl rfl dX0_melons_78 (fun s_10 _ => ?_)
    refine v_pop (pc := 81) X dX0_melons_81 rfl ?_
    refine v_iconst (pc := 82) (v := 0) X dX0_melons_82 rfl ?_
    refine v_istore_n (pc := 83) (lv' := [(3, .int (0 : Int32)), (0, .ref (v_E g 0)), (1, .int p1), (2, .int x2)]) X dX0_melons_83 rfl (Nat.le_of_ble_eq_true rfl) rfl ?_
    refine v_iconst (pc := 84) (v := 0) X dX0_melons_84 rfl ?_
    refine v_istore (pc := 85) (lv' := [(4, .int (0 : Int32)), (3, .int (0 : Int32)), (0, .ref (v_E g 0)), (1, .int p1), (2, .int x2)]) X dX0_melons_85 (Nat.le_of_ble_eq_true rfl) rfl ?_
    refine v_sub [2, 3, 4, 1, 0] rfl ?_
    exact w_F_melons_87L fu p1 X  fu x2 (0 : Int32) (0 : Int32) s_10
  · refine v_iconst (pc := 75) (v := -1) X dX0_melons_75 rfl ?_
    exact v_iret (pc := 76) X dX0_melons_76 rfl
theorem w_F_melons_14 {Γ : v_Ctx} {l : Launch} {g : v_G} (fu : Nat) (p1 : Int32) (X : v_C Γ l rm_F_melons cX0_melons 5 RX0 (some .int) wC g) (r14 : Int32 × v_S → Option (Int32 × v_S)) (h14 : ∀ (x2 : Int32) (s : v_S), v_V Γ 5 wC g (fun z : Int32 × v_S => (some (.int z.1), z.2)) 14 [(0, .ref (v_E g 0)), (1, .int p1), (2, .int x2)] [] s (r14 (x2, s))) (x2 : Int32) (s : v_S) : v_V Γ 5 wC g (fun z : Int32 × v_S => (some (.int z.1), z.2)) 14 [(0, .ref (v_E g 0)), (1, .int p1), (2, .int x2)] [] s (t_F_melons_14 fu p1 r14 x2 s) := by
  unfold t_F_melons_14
  refine v_iload_n (pc := 14) X dX0_melons_14 2 rfl ?_
  refine v_aload_n (pc := 15) X dX0_melons_15 0 rfl ?_
  refine v_get (pc := 16) (kind := 2) (v := va_rf (s.2.2.1 0 1)) X wC_n0 wC_l0 wC_c0 in_X0 (Nat.le_of_ble_eq_true rfl : 1 < 16) q600 rfl rfl dX0_melons_16 ?_
  refine v_unq0 (pc := 19) (fun a_2 _ => ?_)
  refine v_dgetRN (pc := 19) X wC_c4 in_X2 (Nat.le_of_ble_eq_true rfl : 1 < 9) q425 dX0_melons_19 (fun e_3 => ?_)
  refine v_unq0 (pc := 22) (fun a_4 _ => ?_)
  refine v_cFi (pc := 22) X (m_L_size l g fu a_4  _) wC_c5 q1076 hF_size rfl rfl rfl rfl dX0_melons_22 (fun z_5 _ => ?_)
  refine v_icmp_ge (pc := 27) (tgt := 59) X dX0_melons_27 (by decide) (fun c27 => ?_) (fun c27 => ?_)
  · exact w_F_melons_59 fu p1 X  x2 s
  · refine v_aload_n (pc := 30) X dX0_melons_30 0 rfl ?_
    refine v_get (pc := 31) (kind := 2) (v := va_rf (s.2.2.1 0 1)) X wC_n0 wC_l0 wC_c0 in_X0 (Nat.le_of_ble_eq_true rfl : 1 < 16) q600 rfl rfl dX0_melons_31 ?_
    refine v_unq0 (pc := 34) (fun a_35 _ => ?_)
    refine v_dgetRN (pc := 34) X wC_c4 in_X2 (Nat.le_of_ble_eq_true rfl : 1 < 9) q425 dX0_melons_34 (fun e_36 => ?_)
    refine v_iload_n (pc := 37) X dX0_melons_37 2 rfl ?_
    refine v_unq1 (pc := 38) (fun a_37 _ => ?_)
    refine v_cFq (pc := 38) X (m_L_get l g fu a_37 x2 _) wC_c5 q1079 hF_get rfl rfl rfl rfl dX0_melons_38 (fun e_38 _ => ?_)
    refine v_castq (pc := 43) X wC_c7 q1398 dX0_melons_43 ?_
    refine v_unq0 (pc := 46) (fun a_39 _ => ?_)
    refine v_dgetIN (pc := 46) X wC_c7 in_X9 (Nat.le_of_ble_eq_true rfl : 0 < 5) q964 dX0_melons_46 (fun z_40 => ?_)
    refine v_iload_n (pc := 49) X dX0_melons_49 1 rfl ?_
    refine v_icmp_eq (pc := 50) (tgt := 59) X dX0_melons_50 (by decide) (fun c50 => ?_) (fun c50 => ?_)
    · exact w_F_melons_59 fu p1 X  x2 s
    · refine v_iinc (pc := 53) (v := x2 + (1 : Int32)) (lv' := [(2, .int (x2 + (1 : Int32))), (0, .ref (v_E g 0)), (1, .int p1)]) (k := 2) X dX0_melons_53 rfl rfl (Nat.le_of_ble_eq_true rfl) rfl ?_
      refine v_goto (pc := 56) (tgt := 14) X dX0_melons_56 (by decide) ?_
      refine v_sub [1, 2, 0] rfl ?_
      exact h14 (x2 + (1 : Int32)) s
theorem w_F_melons_14L {Γ : v_Ctx} {l : Launch} {g : v_G} (fu : Nat) (p1 : Int32) (X : v_C Γ l rm_F_melons cX0_melons 5 RX0 (some .int) wC g)  : ∀ (n : Nat), ∀ (x2 : Int32) (s : v_S), v_V Γ 5 wC g (fun z : Int32 × v_S => (some (.int z.1), z.2)) 14 [(0, .ref (v_E g 0)), (1, .int p1), (2, .int x2)] [] s (v_loop (t_F_melons_14B fu p1) n (x2, s)) := by
  intro n
  induction n with
  | zero => exact fun _ _ => v_none
  | succ n ih => exact fun x2 s => w_F_melons_14 fu p1 X  _ ih x2 s
theorem m_F_melons (l : Launch) (g : v_G) (fu : Nat) (p1 : Int32) (s : v_S) : v_M l yX0_melons cX0_melons 5 (some .int) rm_F_melons wC g [.ref (v_E g 0), .int p1] s (fun z : Int32 × v_S => (some (.int z.1), z.2)) (t_F_melons fu p1 s) := by
  refine v_met (by decide +kernel) (Nat.le_of_ble_eq_true rfl) (fun Γ X => ?_)
  refine v_lv (lv' := [(0, .ref (v_E g 0)), (1, .int p1)]) rfl ?_
  unfold t_F_melons
  refine v_aload_n (pc := 0) X dX0_melons_0 0 rfl ?_
  refine v_iload_n (pc := 1) X dX0_melons_1 1 rfl ?_
  refine v_i2l (pc := 2) X dX0_melons_2 ?_
  refine v_cGi (pc := 3) X (m_F_isVillage l g fu (Int32.toInt64 p1) _) (v_rc_n X wC_o0) (Or.inl q1067) hy_F_isVillage rfl rfl rfl rfl dX0_melons_3 (fun z_1 _ => ?_)
  refine v_if_ne (pc := 6) (tgt := 12) X dX0_melons_6 (by decide) (fun c6 => ?_) (fun c6 => ?_)
  · refine v_iconst (pc := 12) (v := 0) X dX0_melons_12 rfl ?_
    refine v_istore_n (pc := 13) (lv' := [(2, .int (0 : Int32)), (0, .ref (v_E g 0)), (1, .int p1)]) X dX0_melons_13 rfl (Nat.le_of_ble_eq_true rfl) rfl ?_
    refine v_sub [1, 2, 0] rfl ?_
    exact w_F_melons_14L fu p1 X  fu (0 : Int32) s
  · refine v_bipush (pc := 9) (v := -2) X dX0_melons_9 rfl ?_
    exact v_iret (pc := 11) X dX0_melons_11 rfl
/-! FloodLent.shareOf(I)I -/
abbrev rm_F_shareOf : Room := { frames := 4, cells := 0, slots := 0, locals := 85 }
theorem hy_F_shareOf : v_yV yX0_shareOf cX0_shareOf 4 (some .int) 1 := ⟨q1405, qs56, q133, q1406, by decide +kernel⟩
def t_F_shareOf_4 (fu : Nat) (p1 : Int32) (s : v_S) (r4 : Int32 × Int32 → Option Int32) (x2 : Int32) (x3 : Int32) : Option Int32 :=
if p1 < x3 then (some x2) else (v_b1 (s.2.2.1 0 1) fun (a_1 : Nat) => v_b1 (v_dR s a_1 4 0) fun (e_2 : Option Nat) => v_b1 e_2 fun (a_3 : Nat) => if v_isc s (some a_3) 5 = true then v_b1 (t_L_get fu a_3 x3 s) fun (e_4 : Option Nat) => if v_isc s e_4 6 = true then v_b1 e_4 fun (a_5 : Nat) => v_b1 (v_dI s a_5 6 4) fun (z_6 : Int32) => v_b1 (t_F_villages fu s) fun (z_7 : Int32) => if (z_7 - x3) = 0 then none else v_n (x2 + (z_6 / (z_7 - x3))) fun (x2_8 : Int32) => (r4 (x2_8, x3 + (1 : Int32))) else none else none)
def t_F_shareOf_4B (fu : Nat) (p1 : Int32) (s : v_S) (r4 : Int32 × Int32 → Option Int32) (a : Int32 × Int32) : Option Int32 := t_F_shareOf_4 fu p1 s r4 a.1 a.2
def t_F_shareOf (fu : Nat) (p1 : Int32) (s : v_S) : Option Int32 :=
  v_loop (t_F_shareOf_4B fu p1 s) fu ((0 : Int32), (0 : Int32))
theorem w_F_shareOf_4 {Γ : v_Ctx} {l : Launch} {g : v_G} (fu : Nat) (p1 : Int32) (s : v_S) (X : v_C Γ l rm_F_shareOf cX0_shareOf 4 RX0 (some .int) wC g) (r4 : Int32 × Int32 → Option Int32) (h4 : ∀ (x2 : Int32) (x3 : Int32), v_V Γ 4 wC g (fun z : Int32 => (some (.int z), s)) 4 [(0, .ref (v_E g 0)), (1, .int p1), (2, .int x2), (3, .int x3)] [] s (r4 (x2, x3))) (x2 : Int32) (x3 : Int32) : v_V Γ 4 wC g (fun z : Int32 => (some (.int z), s)) 4 [(0, .ref (v_E g 0)), (1, .int p1), (2, .int x2), (3, .int x3)] [] s (t_F_shareOf_4 fu p1 s r4 x2 x3) := by
  unfold t_F_shareOf_4
  refine v_iload_n (pc := 4) X dX0_shareOf_4 3 rfl ?_
  refine v_iload_n (pc := 5) X dX0_shareOf_5 1 rfl ?_
  refine v_icmp_gt (pc := 6) (tgt := 44) X dX0_shareOf_6 (by decide) (fun c6 => ?_) (fun c6 => ?_)
  · refine v_iload_n (pc := 44) X dX0_shareOf_44 2 rfl ?_
    exact v_iret (pc := 45) X dX0_shareOf_45 rfl
  · refine v_iload_n (pc := 9) X dX0_shareOf_9 2 rfl ?_
    refine v_aload_n (pc := 10) X dX0_shareOf_10 0 rfl ?_
    refine v_get (pc := 11) (kind := 2) (v := va_rf (s.2.2.1 0 1)) X wC_n0 wC_l0 wC_c0 in_X0 (Nat.le_of_ble_eq_true rfl : 1 < 16) q600 rfl rfl dX0_shareOf_11 ?_
    refine v_unq0 (pc := 14) (fun a_1 _ => ?_)
    refine v_dgetRN (pc := 14) X wC_c4 in_X2 (Nat.le_of_ble_eq_true rfl : 0 < 9) q421 dX0_shareOf_14 (fun e_2 => ?_)
    refine v_iload_n (pc := 17) X dX0_shareOf_17 3 rfl ?_
    refine v_unq1 (pc := 18) (fun a_3 _ => ?_)
    refine v_cFq (pc := 18) X (m_L_get l g fu a_3 x3 _) wC_c5 q1079 hF_get rfl rfl rfl rfl dX0_shareOf_18 (fun e_4 _ => ?_)
    refine v_castq (pc := 23) X wC_c6 q1080 dX0_shareOf_23 ?_
    refine v_unq0 (pc := 26) (fun a_5 _ => ?_)
    refine v_dgetIN (pc := 26) X wC_c6 in_X8 (Nat.le_of_ble_eq_true rfl : 4 < 5) q866 dX0_shareOf_26 (fun z_6 => ?_)
    refine v_aload_n (pc := 29) X dX0_shareOf_29 0 rfl ?_
    refine v_cGi (pc := 30) X (m_F_villages l g fu _) (v_rc_n X wC_o0) (Or.inl q1071) hy_F_villages rfl rfl rfl rfl dX0_shareOf_30 (fun z_7 _ => ?_)
    refine v_iload_n (pc := 33) X dX0_shareOf_33 3 rfl ?_
    refine v_isub (pc := 34) X dX0_shareOf_34 ?_
    refine v_idiv (pc := 35) X dX0_shareOf_35 ?_
    refine v_iadd (pc := 36) X dX0_shareOf_36 ?_
    refine v_istore_nN (pc := 37) (lvf := fun x2_8 => [(2, .int x2_8), (0, .ref (v_E g 0)), (1, .int p1), (3, .int x3)]) X dX0_shareOf_37 rfl (Nat.le_of_ble_eq_true rfl) (fun _ => rfl) (fun x2_8 => ?_)
    refine v_iinc (pc := 38) (v := x3 + (1 : Int32)) (lv' := [(3, .int (x3 + (1 : Int32))), (2, .int x2_8), (0, .ref (v_E g 0)), (1, .int p1)]) (k := 3) X dX0_shareOf_38 rfl rfl (Nat.le_of_ble_eq_true rfl) rfl ?_
    refine v_goto (pc := 41) (tgt := 4) X dX0_shareOf_41 (by decide) ?_
    refine v_sub [2, 3, 1, 0] rfl ?_
    exact h4 x2_8 (x3 + (1 : Int32))
theorem w_F_shareOf_4L {Γ : v_Ctx} {l : Launch} {g : v_G} (fu : Nat) (p1 : Int32) (s : v_S) (X : v_C Γ l rm_F_shareOf cX0_shareOf 4 RX0 (some .int) wC g)  : ∀ (n : Nat), ∀ (x2 : Int32) (x3 : Int32), v_V Γ 4 wC g (fun z : Int32 => (some (.int z), s)) 4 [(0, .ref (v_E g 0)), (1, .int p1), (2, .int x2), (3, .int x3)] [] s (v_loop (t_F_shareOf_4B fu p1 s) n (x2, x3)) := by
  intro n
  induction n with
  | zero => exact fun _ _ => v_none
  | succ n ih => exact fun x2 x3 => w_F_shareOf_4 fu p1 s X  _ ih x2 x3
theorem m_F_shareOf (l : Launch) (g : v_G) (fu : Nat) (p1 : Int32) (s : v_S) : v_M l yX0_shareOf cX0_shareOf 4 (some .int) rm_F_shareOf wC g [.ref (v_E g 0), .int p1] s (fun z : Int32 => (some (.int z), s)) (t_F_shareOf fu p1 s) := by
  refine v_met (by decide +kernel) (Nat.le_of_ble_eq_true rfl) (fun Γ X => ?_)
  refine v_lv (lv' := [(0, .ref (v_E g 0)), (1, .int p1)]) rfl ?_
  unfold t_F_shareOf
  refine v_iconst (pc := 0) (v := 0) X dX0_shareOf_0 rfl ?_
  refine v_istore_n (pc := 1) (lv' := [(2, .int (0 : Int32)), (0, .ref (v_E g 0)), (1, .int p1)]) X dX0_shareOf_1 rfl (Nat.le_of_ble_eq_true rfl) rfl ?_
  refine v_iconst (pc := 2) (v := 0) X dX0_shareOf_2 rfl ?_
  refine v_istore_n (pc := 3) (lv' := [(3, .int (0 : Int32)), (2, .int (0 : Int32)), (0, .ref (v_E g 0)), (1, .int p1)]) X dX0_shareOf_3 rfl (Nat.le_of_ble_eq_true rfl) rfl ?_
  refine v_sub [2, 3, 1, 0] rfl ?_
  exact w_F_shareOf_4L fu p1 s X  fu (0 : Int32) (0 : Int32)
/-! FloodLent.share(I)I -/
abbrev rm_F_share : Room := { frames := 5, cells := 0, slots := 0, locals := 108 }
theorem hy_F_share : v_yV yX0_share cX0_share 4 (some .int) 1 := ⟨q1400, q1401, q133, q1402, by decide +kernel⟩
def t_F_share_74 (fu : Nat) (p1 : Int32) (s : v_S) (r32 : Int32 × Int32 → Option Int32) (x3 : Int32) (y0 : Int32) (y1 : Int32) (y2 : Int32) : Option Int32 :=
v_n (y2 + (y1 - y0)) fun (x2_10 : Int32) => r32 (x2_10, x3 + (1 : Int32))
def t_F_share_32 (fu : Nat) (p1 : Int32) (s : v_S) (r32 : Int32 × Int32 → Option Int32) (x2 : Int32) (x3 : Int32) : Option Int32 :=
v_b1 (t_F_villages fu s) fun (z_3 : Int32) => if z_3 ≤ x3 then (some x2) else (v_b1 (s.2.2.1 0 1) fun (a_4 : Nat) => v_b1 (v_dR s a_4 4 0) fun (e_5 : Option Nat) => v_b1 e_5 fun (a_6 : Nat) => if v_isc s (some a_6) 5 = true then v_b1 (t_L_get fu a_6 x3 s) fun (e_7 : Option Nat) => if v_isc s e_7 6 = true then v_b1 e_7 fun (a_8 : Nat) => v_b1 (v_dI s a_8 6 4) fun (z_9 : Int32) => (if p1 ≤ x3 then (t_F_share_74 fu p1 s r32 x3 (0 : Int32) z_9 x2) else (v_b1 (t_F_shareOf fu x3 s) fun (z_11 : Int32) => t_F_share_74 fu p1 s r32 x3 z_11 z_9 x2)) else none else none)
def t_F_share_32B (fu : Nat) (p1 : Int32) (s : v_S) (r32 : Int32 × Int32 → Option Int32) (a : Int32 × Int32) : Option Int32 := t_F_share_32 fu p1 s r32 a.1 a.2
def t_F_share (fu : Nat) (p1 : Int32) (s : v_S) : Option Int32 :=
  v_b1 (t_F_isVillage fu (Int32.toInt64 p1) s) fun (z_1 : Int32) => if z_1 = 0 then (some (-2 : Int32)) else (v_b1 (t_F_villages fu s) fun (z_2 : Int32) => if z_2 - (1 : Int32) ≤ p1 then (v_loop (t_F_share_32B fu p1 s) fu ((0 : Int32), (0 : Int32))) else (v_b1 (t_F_shareOf fu p1 s) fun (z_12 : Int32) => some z_12))
theorem w_F_share_74 {Γ : v_Ctx} {l : Launch} {g : v_G} (fu : Nat) (p1 : Int32) (s : v_S) (X : v_C Γ l rm_F_share cX0_share 4 RX0 (some .int) wC g) (r32 : Int32 × Int32 → Option Int32) (h32 : ∀ (x2 : Int32) (x3 : Int32), v_V Γ 4 wC g (fun z : Int32 => (some (.int z), s)) 32 [(0, .ref (v_E g 0)), (1, .int p1), (2, .int x2), (3, .int x3)] [] s (r32 (x2, x3))) (x3 : Int32) (y0 : Int32) (y1 : Int32) (y2 : Int32) : v_V Γ 4 wC g (fun z : Int32 => (some (.int z), s)) 74 [(0, .ref (v_E g 0)), (1, .int p1), (3, .int x3)] [.int y0, .int y1, .int y2] s (t_F_share_74 fu p1 s r32 x3 y0 y1 y2) := by
  unfold t_F_share_74
  refine v_isub (pc := 74) X dX0_share_74 ?_
  refine v_iadd (pc := 75) X dX0_share_75 ?_
  refine v_istore_nN (pc := 76) (lvf := fun x2_10 => [(2, .int x2_10), (0, .ref (v_E g 0)), (1, .int p1), (3, .int x3)]) X dX0_share_76 rfl (Nat.le_of_ble_eq_true rfl) (fun _ => rfl) (fun x2_10 => ?_)
  refine v_iinc (pc := 77) (v := x3 + (1 : Int32)) (lv' := [(3, .int (x3 + (1 : Int32))), (2, .int x2_10), (0, .ref (v_E g 0)), (1, .int p1)]) (k := 3) X dX0_share_77 rfl rfl (Nat.le_of_ble_eq_true rfl) rfl ?_
  refine v_goto (pc := 80) (tgt := 32) X dX0_share_80 (by decide) ?_
  refine v_sub [2, 3, 1, 0] rfl ?_
  exact h32 x2_10 (x3 + (1 : Int32))
theorem w_F_share_32 {Γ : v_Ctx} {l : Launch} {g : v_G} (fu : Nat) (p1 : Int32) (s : v_S) (X : v_C Γ l rm_F_share cX0_share 4 RX0 (some .int) wC g) (r32 : Int32 × Int32 → Option Int32) (h32 : ∀ (x2 : Int32) (x3 : Int32), v_V Γ 4 wC g (fun z : Int32 => (some (.int z), s)) 32 [(0, .ref (v_E g 0)), (1, .int p1), (2, .int x2), (3, .int x3)] [] s (r32 (x2, x3))) (x2 : Int32) (x3 : Int32) : v_V Γ 4 wC g (fun z : Int32 => (some (.int z), s)) 32 [(0, .ref (v_E g 0)), (1, .int p1), (2, .int x2), (3, .int x3)] [] s (t_F_share_32 fu p1 s r32 x2 x3) := by
  unfold t_F_share_32
  refine v_iload_n (pc := 32) X dX0_share_32 3 rfl ?_
  refine v_aload_n (pc := 33) X dX0_share_33 0 rfl ?_
  refine v_cGi (pc := 34) X (m_F_villages l g fu _) (v_rc_n X wC_o0) (Or.inl q1071) hy_F_villages rfl rfl rfl rfl dX0_share_34 (fun z_3 _ => ?_)
  refine v_icmp_ge (pc := 37) (tgt := 83) X dX0_share_37 (by decide) (fun c37 => ?_) (fun c37 => ?_)
  · refine v_iload_n (pc := 83) X dX0_share_83 2 rfl ?_
    exact v_iret (pc := 84) X dX0_share_84 rfl
  · refine v_iload_n (pc := 40) X dX0_share_40 2 rfl ?_
    refine v_aload_n (pc := 41) X dX0_share_41 0 rfl ?_
    refine v_get (pc := 42) (kind := 2) (v := va_rf (s.2.2.1 0 1)) X wC_n0 wC_l0 wC_c0 in_X0 (Nat.le_of_ble_eq_true rfl : 1 < 16) q600 rfl rfl dX0_share_42 ?_
    refine v_unq0 (pc := 45) (fun a_4 _ => ?_)
    refine v_dgetRN (pc := 45) X wC_c4 in_X2 (Nat.le_of_ble_eq_true rfl : 0 < 9) q421 dX0_share_45 (fun e_5 => ?_)
    refine v_iload_n (pc := 48) X dX0_share_48 3 rfl ?_
    refine v_unq1 (pc := 49) (fun a_6 _ => ?_)
    refine v_cFq (pc := 49) X (m_L_get l g fu a_6 x3 _) wC_c5 q1079 hF_get rfl rfl rfl rfl dX0_share_49 (fun e_7 _ => ?_)
    refine v_castq (pc := 54) X wC_c6 q1080 dX0_share_54 ?_
    refine v_unq0 (pc := 57) (fun a_8 _ => ?_)
    refine v_dgetIN (pc := 57) X wC_c6 in_X8 (Nat.le_of_ble_eq_true rfl : 4 < 5) q866 dX0_share_57 (fun z_9 => ?_)
    refine v_iload_n (pc := 60) X dX0_share_60 3 rfl ?_
    refine v_iload_n (pc := 61) X dX0_share_61 1 rfl ?_
    refine v_icmp_ge (pc := 62) (tgt := 73) X dX0_share_62 (by decide) (fun c62 => ?_) (fun c62 => ?_)
    · refine v_iconst (pc := 73) (v := 0) X dX0_share_73 rfl ?_
      refine v_sub [0, 1, 3] rfl ?_
      exact w_F_share_74 fu p1 s X r32 h32 x3 (0 : Int32) z_9 x2
    · refine v_aload_n (pc := 65) X dX0_share_65 0 rfl ?_
      refine v_iload_n (pc := 66) X dX0_share_66 3 rfl ?_
      refine v_cGi (pc := 67) X (m_F_shareOf l g fu x3 _) (v_rc_n X wC_o0) (Or.inl q1403) hy_F_shareOf rfl rfl rfl rfl dX0_share_67 (fun z_11 _ => ?_)
      refine v_goto (pc := 70) (tgt := 74) X dX0_share_70 (by decide) ?_
      refine v_sub [0, 1, 3] rfl ?_
      exact w_F_share_74 fu p1 s X r32 h32 x3 z_11 z_9 x2
theorem w_F_share_32L {Γ : v_Ctx} {l : Launch} {g : v_G} (fu : Nat) (p1 : Int32) (s : v_S) (X : v_C Γ l rm_F_share cX0_share 4 RX0 (some .int) wC g)  : ∀ (n : Nat), ∀ (x2 : Int32) (x3 : Int32), v_V Γ 4 wC g (fun z : Int32 => (some (.int z), s)) 32 [(0, .ref (v_E g 0)), (1, .int p1), (2, .int x2), (3, .int x3)] [] s (v_loop (t_F_share_32B fu p1 s) n (x2, x3)) := by
  intro n
  induction n with
  | zero => exact fun _ _ => v_none
  | succ n ih => exact fun x2 x3 => w_F_share_32 fu p1 s X  _ ih x2 x3
theorem m_F_share (l : Launch) (g : v_G) (fu : Nat) (p1 : Int32) (s : v_S) : v_M l yX0_share cX0_share 4 (some .int) rm_F_share wC g [.ref (v_E g 0), .int p1] s (fun z : Int32 => (some (.int z), s)) (t_F_share fu p1 s) := by
  refine v_met (by decide +kernel) (Nat.le_of_ble_eq_true rfl) (fun Γ X => ?_)
  refine v_lv (lv' := [(0, .ref (v_E g 0)), (1, .int p1)]) rfl ?_
  unfold t_F_share
  refine v_aload_n (pc := 0) X dX0_share_0 0 rfl ?_
  refine v_iload_n (pc := 1) X dX0_share_1 1 rfl ?_
  refine v_i2l (pc := 2) X dX0_share_2 ?_
  refine v_cGi (pc := 3) X (m_F_isVillage l g fu (Int32.toInt64 p1) _) (v_rc_n X wC_o0) (Or.inl q1067) hy_F_isVillage rfl rfl rfl rfl dX0_share_3 (fun z_1 _ => ?_)
  refine v_if_ne (pc := 6) (tgt := 12) X dX0_share_6 (by decide) (fun c6 => ?_) (fun c6 => ?_)
  · refine v_iload_n (pc := 12) X dX0_share_12 1 rfl ?_
    refine v_aload_n (pc := 13) X dX0_share_13 0 rfl ?_
    refine v_cGi (pc := 14) X (m_F_villages l g fu _) (v_rc_n X wC_o0) (Or.inl q1071) hy_F_villages rfl rfl rfl rfl dX0_share_14 (fun z_2 _ => ?_)
    refine v_iconst (pc := 17) (v := 1) X dX0_share_17 rfl ?_
    refine v_isub (pc := 18) X dX0_share_18 ?_
    refine v_icmp_ge (pc := 19) (tgt := 28) X dX0_share_19 (by decide) (fun c19 => ?_) (fun c19 => ?_)
    · refine v_iconst (pc := 28) (v := 0) X dX0_share_28 rfl ?_
      refine v_istore_n (pc := 29) (lv' := [(2, .int (0 : Int32)), (0, .ref (v_E g 0)), (1, .int p1)]) X dX0_share_29 rfl (Nat.le_of_ble_eq_true rfl) rfl ?_
      refine v_iconst (pc := 30) (v := 0) X dX0_share_30 rfl ?_
      refine v_istore_n (pc := 31) (lv' := [(3, .int (0 : Int32)), (2, .int (0 : Int32)), (0, .ref (v_E g 0)), (1, .int p1)]) X dX0_share_31 rfl (Nat.le_of_ble_eq_true rfl) rfl ?_
      refine v_sub [2, 3, 1, 0] rfl ?_
      exact w_F_share_32L fu p1 s X  fu (0 : Int32) (0 : Int32)
    · refine v_aload_n (pc := 22) X dX0_share_22 0 rfl ?_
      refine v_iload_n (pc := 23) X dX0_share_23 1 rfl ?_
      refine v_cGi (pc := 24) X (m_F_shareOf l g fu p1 _) (v_rc_n X wC_o0) (Or.inl q1403) hy_F_shareOf rfl rfl rfl rfl dX0_share_24 (fun z_12 _ => ?_)
      exact v_iret (pc := 27) X dX0_share_27 rfl
  · refine v_bipush (pc := 9) (v := -2) X dX0_share_9 rfl ?_
    exact v_iret (pc := 11) X dX0_share_11 rfl
/-! FloodLent.dryBy(II)I -/
abbrev rm_F_dryBy : Room := { frames := 7, cells := 0, slots := 0, locals := 153 }
theorem hy_F_dryBy : v_yV yX0_dryBy cX0_dryBy 5 (some .int) 2 := ⟨q1413, qs57, q133, q1414, by decide +kernel⟩
def t_F_dryBy_48 (fu : Nat) (p1 : Int32) (p2 : Int32) (r48 : Int32 × Int32 × v_S → Option (Int32 × v_S)) (x3 : Int32) (x4 : Int32) (s : v_S) : Option (Int32 × v_S) :=
v_b1 (s.2.2.1 0 1) fun (a_5 : Nat) => v_b1 (v_dR s a_5 4 1) fun (e_6 : Option Nat) => v_b1 e_6 fun (a_7 : Nat) => if v_isc s (some a_7) 5 = true then v_b1 (t_L_size fu a_7 s) fun (z_8 : Int32) => (if z_8 ≤ x4 then (some (x3, s)) else (v_b1 (s.2.2.1 0 1) fun (a_9 : Nat) => v_b1 (v_dR s a_9 4 1) fun (e_10 : Option Nat) => v_b1 e_10 fun (a_11 : Nat) => if v_isc s (some a_11) 5 = true then v_b1 (t_L_get fu a_11 x4 s) fun (e_12 : Option Nat) => if v_isc s e_12 7 = true then v_b1 e_12 fun (a_13 : Nat) => v_b1 (v_dI s a_13 7 0) fun (z_14 : Int32) => (if z_14 = p1 then (v_g x4 8 <| v_n (x3 + (s.1 45 (Int32.toNatClampNeg x4))) fun (x3_16 : Int32) => r48 (x3_16, x4 + (1 : Int32), s)) else (v_n (x3 + (0 : Int32)) fun (x3_15 : Int32) => r48 (x3_15, x4 + (1 : Int32), s))) else none else none)) else none
def t_F_dryBy_48B (fu : Nat) (p1 : Int32) (p2 : Int32) (r48 : Int32 × Int32 × v_S → Option (Int32 × v_S)) (a : Int32 × Int32 × v_S) : Option (Int32 × v_S) := t_F_dryBy_48 fu p1 p2 r48 a.1 a.2.1 a.2.2
def t_F_dryBy (fu : Nat) (p1 : Int32) (p2 : Int32) (s : v_S) : Option (Int32 × v_S) :=
  v_b1 (t_Y_begins fu (s.2.2.1 0 1) (6) (s.1 0 2) s) fun (s_1 : v_S) => v_n (v_uI s_1 7 21 p1) fun (s_2 : v_S) => v_n (v_uI s_2 7 22 p2) fun (s_3 : v_S) => v_b1 (t_Y_goes fu s_3) fun (s_4 : v_S) => v_loop (t_F_dryBy_48B fu p1 p2) fu ((0 : Int32), (0 : Int32), s_4)
theorem w_F_dryBy_48 {Γ : v_Ctx} {l : Launch} {g : v_G} (fu : Nat) (p1 : Int32) (p2 : Int32) (X : v_C Γ l rm_F_dryBy cX0_dryBy 5 RX0 (some .int) wC g) (r48 : Int32 × Int32 × v_S → Option (Int32 × v_S)) (h48 : ∀ (x3 : Int32) (x4 : Int32) (s : v_S), v_V Γ 5 wC g (fun z : Int32 × v_S => (some (.int z.1), z.2)) 48 [(0, .ref (v_E g 0)), (1, .int p1), (3, .int x3), (4, .int x4)] [] s (r48 (x3, x4, s))) (x3 : Int32) (x4 : Int32) (s : v_S) : v_V Γ 5 wC g (fun z : Int32 × v_S => (some (.int z.1), z.2)) 48 [(0, .ref (v_E g 0)), (1, .int p1), (3, .int x3), (4, .int x4)] [] s (t_F_dryBy_48 fu p1 p2 r48 x3 x4 s) := by
  unfold t_F_dryBy_48
  refine v_iload (pc := 48) X dX0_dryBy_48 3 rfl ?_
  refine v_aload_n (pc := 50) X dX0_dryBy_50 0 rfl ?_
  refine v_get (pc := 51) (kind := 2) (v := va_rf (s.2.2.1 0 1)) X wC_n0 wC_l0 wC_c0 in_X0 (Nat.le_of_ble_eq_true rfl : 1 < 16) q600 rfl rfl dX0_dryBy_51 ?_
  refine v_unq0 (pc := 54) (fun a_5 _ => ?_)
  refine v_dgetRN (pc := 54) X wC_c4 in_X2 (Nat.le_of_ble_eq_true rfl : 1 < 9) q425 dX0_dryBy_54 (fun e_6 => ?_)
  refine v_unq0 (pc := 57) (fun a_7 _ => ?_)
  refine v_cFi (pc := 57) X (m_L_size l g fu a_7  _) wC_c5 q1076 hF_size rfl rfl rfl rfl dX0_dryBy_57 (fun z_8 _ => ?_)
  refine v_icmp_ge (pc := 62) (tgt := 112) X dX0_dryBy_62 (by decide) (fun c62 => ?_) (fun c62 => ?_)
  · refine v_iload_n (pc := 112) X dX0_dryBy_112 2 rfl ?_
    exact v_iret (pc := 113) X dX0_dryBy_113 rfl
  · refine v_iload_n (pc := 65) X dX0_dryBy_65 2 rfl ?_
    refine v_aload_n (pc := 66) X dX0_dryBy_66 0 rfl ?_
    refine v_get (pc := 67) (kind := 2) (v := va_rf (s.2.2.1 0 1)) X wC_n0 wC_l0 wC_c0 in_X0 (Nat.le_of_ble_eq_true rfl : 1 < 16) q600 rfl rfl dX0_dryBy_67 ?_
    refine v_unq0 (pc := 70) (fun a_9 _ => ?_)
    refine v_dgetRN (pc := 70) X wC_c4 in_X2 (Nat.le_of_ble_eq_true rfl : 1 < 9) q425 dX0_dryBy_70 (fun e_10 => ?_)
    refine v_iload (pc := 73) X dX0_dryBy_73 3 rfl ?_
    refine v_unq1 (pc := 75) (fun a_11 _ => ?_)
    refine v_cFq (pc := 75) X (m_L_get l g fu a_11 x4 _) wC_c5 q1079 hF_get rfl rfl rfl rfl dX0_dryBy_75 (fun e_12 _ => ?_)
    refine v_castq (pc := 80) X wC_c7 q1398 dX0_dryBy_80 ?_
    refine v_unq0 (pc := 83) (fun a_13 _ => ?_)
    refine v_dgetIN (pc := 83) X wC_c7 in_X9 (Nat.le_of_ble_eq_true rfl : 0 < 5) q964 dX0_dryBy_83 (fun z_14 => ?_)
    refine v_iload_n (pc := 86) X dX0_dryBy_86 1 rfl ?_
    refine v_icmp_ne (pc := 87) (tgt := 103) X dX0_dryBy_87 (by decide) (fun c87 => ?_) (fun c87 => ?_)
    · refine v_iconst (pc := 103) (v := 0) X dX0_dryBy_103 rfl ?_
      refine v_iadd (pc := 104) X dX0_dryBy_104 ?_
      refine v_istore_nN (pc := 105) (lvf := fun x3_15 => [(3, .int x3_15), (0, .ref (v_E g 0)), (1, .int p1), (4, .int x4)]) X dX0_dryBy_105 rfl (Nat.le_of_ble_eq_true rfl) (fun _ => rfl) (fun x3_15 => ?_)
      refine v_iinc (pc := 106) (v := x4 + (1 : Int32)) (lv' := [(4, .int (x4 + (1 : Int32))), (3, .int x3_15), (0, .ref (v_E g 0)), (1, .int p1)]) (k := 3) X dX0_dryBy_106 rfl rfl (Nat.le_of_ble_eq_true rfl) rfl ?_
      refine v_goto (pc := 109) (tgt := 48) X dX0_dryBy_109 (by decide) ?_
      refine v_sub [2, 3, 1, 0] rfl ?_
      exact h48 x3_15 (x4 + (1 : Int32)) s
    · refine v_aload_n (pc := 90) X dX0_dryBy_90 0 rfl ?_
      refine v_get (pc := 91) (kind := 10) (v := .ref (v_E g 7)) X wC_n0 wC_l0 wC_c0 in_X0 (Nat.le_of_ble_eq_true rfl : 4 < 16) q603 rfl rfl dX0_dryBy_91 ?_
      refine v_getN (pc := 94) (kind := 48) (v := .ref (v_E g 45)) X wC_n7 wC_l7 wC_c2 in_X3 (Nat.le_of_ble_eq_true rfl : 10 < 23) q496 rfl rfl dX0_dryBy_94 ?_
      refine v_iload (pc := 97) X dX0_dryBy_97 3 rfl ?_
      refine v_iald (pc := 99) X wC_n45 wC_l45 dX0_dryBy_99 ?_
      refine v_goto (pc := 100) (tgt := 104) X dX0_dryBy_100 (by decide) ?_
      refine v_iadd (pc := 104) X dX0_dryBy_104 ?_
      refine v_istore_nN (pc := 105) (lvf := fun x3_16 => [(3, .int x3_16), (0, .ref (v_E g 0)), (1, .int p1), (4, .int x4)]) X dX0_dryBy_105 rfl (Nat.le_of_ble_eq_true rfl) (fun _ => rfl) (fun x3_16 => ?_)
      refine v_iinc (pc := 106) (v := x4 + (1 : Int32)) (lv' := [(4, .int (x4 + (1 : Int32))), (3, .int x3_16), (0, .ref (v_E g 0)), (1, .int p1)]) (k := 3) X dX0_dryBy_106 rfl rfl (Nat.le_of_ble_eq_true rfl) rfl ?_
      refine v_goto (pc := 109) (tgt := 48) X dX0_dryBy_109 (by decide) ?_
      refine v_sub [2, 3, 1, 0] rfl ?_
      exact h48 x3_16 (x4 + (1 : Int32)) s
theorem w_F_dryBy_48L {Γ : v_Ctx} {l : Launch} {g : v_G} (fu : Nat) (p1 : Int32) (p2 : Int32) (X : v_C Γ l rm_F_dryBy cX0_dryBy 5 RX0 (some .int) wC g)  : ∀ (n : Nat), ∀ (x3 : Int32) (x4 : Int32) (s : v_S), v_V Γ 5 wC g (fun z : Int32 × v_S => (some (.int z.1), z.2)) 48 [(0, .ref (v_E g 0)), (1, .int p1), (3, .int x3), (4, .int x4)] [] s (v_loop (t_F_dryBy_48B fu p1 p2) n (x3, x4, s)) := by
  intro n
  induction n with
  | zero => exact fun _ _ _ => v_none
  | succ n ih => exact fun x3 x4 s => w_F_dryBy_48 fu p1 p2 X  _ ih x3 x4 s
theorem m_F_dryBy (l : Launch) (g : v_G) (fu : Nat) (p1 : Int32) (p2 : Int32) (s : v_S) : v_M l yX0_dryBy cX0_dryBy 5 (some .int) rm_F_dryBy wC g [.ref (v_E g 0), .int p1, .int p2] s (fun z : Int32 × v_S => (some (.int z.1), z.2)) (t_F_dryBy fu p1 p2 s) := by
  refine v_met (by decide +kernel) (Nat.le_of_ble_eq_true rfl) (fun Γ X => ?_)
  refine v_lv (lv' := [(0, .ref (v_E g 0)), (1, .int p1), (2, .int p2)]) rfl ?_
  unfold t_F_dryBy
  refine v_aload_n (pc := 0) X dX0_dryBy_0 0 rfl ?_
  refine v_get (pc := 1) (kind := 10) (v := .ref (v_E g 7)) X wC_n0 wC_l0 wC_c0 in_X0 (Nat.le_of_ble_eq_true rfl : 4 < 16) q603 rfl rfl dX0_dryBy_1 ?_
  refine v_aload_n (pc := 4) X dX0_dryBy_4 0 rfl ?_
  refine v_get (pc := 5) (kind := 2) (v := va_rf (s.2.2.1 0 1)) X wC_n0 wC_l0 wC_c0 in_X0 (Nat.le_of_ble_eq_true rfl : 1 < 16) q600 rfl rfl dX0_dryBy_5 ?_
  refine v_aload_n (pc := 8) X dX0_dryBy_8 0 rfl ?_
  refine v_get (pc := 9) (kind := 9) (v := .ref (v_E g 6)) X wC_n0 wC_l0 wC_c0 in_X0 (Nat.le_of_ble_eq_true rfl : 3 < 16) q602 rfl rfl dX0_dryBy_9 ?_
  refine v_aload_n (pc := 12) X dX0_dryBy_12 0 rfl ?_
  refine v_get (pc := 13) (kind := 0) (v := .int (s.1 0 2)) X wC_n0 wC_l0 wC_c0 in_X0 (Nat.le_of_ble_eq_true rfl : 2 < 16) q601 rfl rfl dX0_dryBy_13 ?_
  refine v_cGs (pc := 16) X (m_Y_begins l g fu (s.2.2.1 0 1) (6) (s.1 0 2) _) (v_rc_n X wC_o7) (Or.inl q1101) hy_Y_begins rfl rfl rfl rfl dX0_dryBy_16 (fun s_1 _ => ?_)
  refine v_aload_n (pc := 19) X dX0_dryBy_19 0 rfl ?_
  refine v_get (pc := 20) (kind := 10) (v := .ref (v_E g 7)) X wC_n0 wC_l0 wC_c0 in_X0 (Nat.le_of_ble_eq_true rfl : 4 < 16) q603 rfl rfl dX0_dryBy_20 ?_
  refine v_iload_n (pc := 23) X dX0_dryBy_23 1 rfl ?_
  refine v_putIN (pc := 24) X wC_n7 wC_l7 wC_c2 in_X3 tyX3 tyX3_ok nmX3 (Nat.le_of_ble_eq_true rfl : 21 < 23) q515 rfl rfl rfl dX0_dryBy_24 (fun s_2 => ?_)
  refine v_aload_n (pc := 27) X dX0_dryBy_27 0 rfl ?_
  refine v_get (pc := 28) (kind := 10) (v := .ref (v_E g 7)) X wC_n0 wC_l0 wC_c0 in_X0 (Nat.le_of_ble_eq_true rfl : 4 < 16) q603 rfl rfl dX0_dryBy_28 ?_
  refine v_iload_n (pc := 31) X dX0_dryBy_31 2 rfl ?_
  refine v_putIN (pc := 32) X wC_n7 wC_l7 wC_c2 in_X3 tyX3 tyX3_ok nmX3 (Nat.le_of_ble_eq_true rfl : 22 < 23) q517 rfl rfl rfl dX0_dryBy_32 (fun s_3 => ?_)
  refine v_aload_n (pc := 35) X dX0_dryBy_35 0 rfl ?_
  refine v_get (pc := 36) (kind := 10) (v := .ref (v_E g 7)) X wC_n0 wC_l0 wC_c0 in_X0 (Nat.le_of_ble_eq_true rfl : 4 < 16) q603 rfl rfl dX0_dryBy_36 ?_
  refine v_cGr (pc := 39) X (m_Y_goes l g fu _) (v_rc_n X wC_o7) (Or.inl q1106) hy_Y_goes rfl rfl rfl rfl dX0_dryBy_39 (fun s_4 _ => ?_)
  refine v_pop (pc := 42) X dX0_dryBy_42 rfl ?_
  refine v_iconst (pc := 43) (v := 0) X dX0_dryBy_43 rfl ?_
  refine v_istore_n (pc := 44) (lv' := [(3, .int (0 : Int32)), (0, .ref (v_E g 0)), (1, .int p1), (2, .int p2)]) X dX0_dryBy_44 rfl (Nat.le_of_ble_eq_true rfl) rfl ?_
  refine v_iconst (pc := 45) (v := 0) X dX0_dryBy_45 rfl ?_
  refine v_istore (pc := 46) (lv' := [(4, .int (0 : Int32)), (3, .int (0 : Int32)), (0, .ref (v_E g 0)), (1, .int p1), (2, .int p2)]) X dX0_dryBy_46 (Nat.le_of_ble_eq_true rfl) rfl ?_
  refine v_sub [2, 3, 1, 0] rfl ?_
  exact w_F_dryBy_48L fu p1 p2 X  fu (0 : Int32) (0 : Int32) s_4
/-! FloodLent.enough(I)I -/
abbrev rm_F_enough : Room := { frames := 8, cells := 0, slots := 0, locals := 177 }
theorem hy_F_enough : v_yV yX0_enough cX0_enough 3 (some .int) 1 := ⟨q1408, q1409, q133, q1410, by decide +kernel⟩
def t_F_enough_14 (fu : Nat) (p1 : Int32) (r14 : Int32 × v_S → Option (Int32 × v_S)) (x2 : Int32) (s : v_S) : Option (Int32 × v_S) :=
v_b1 (s.2.2.1 0 1) fun (a_2 : Nat) => v_b1 (v_dR s a_2 4 0) fun (e_3 : Option Nat) => v_b1 e_3 fun (a_4 : Nat) => if v_isc s (some a_4) 5 = true then v_b1 (t_L_get fu a_4 p1 s) fun (e_5 : Option Nat) => if v_isc s e_5 6 = true then v_b1 e_5 fun (a_6 : Nat) => v_b1 (v_dI s a_6 6 0) fun (z_7 : Int32) => (if z_7 < x2 then (some ((-1 : Int32), s)) else (v_b2 (t_F_dryBy fu p1 x2 s) fun (z_8 : Int32) (s_9 : v_S) => if z_8 = 0 then (some (x2, s_9)) else (r14 (x2 + (1 : Int32), s_9)))) else none else none
def t_F_enough_14B (fu : Nat) (p1 : Int32) (r14 : Int32 × v_S → Option (Int32 × v_S)) (a : Int32 × v_S) : Option (Int32 × v_S) := t_F_enough_14 fu p1 r14 a.1 a.2
def t_F_enough (fu : Nat) (p1 : Int32) (s : v_S) : Option (Int32 × v_S) :=
  v_b1 (t_F_isVillage fu (Int32.toInt64 p1) s) fun (z_1 : Int32) => if z_1 = 0 then (some ((-2 : Int32), s)) else (v_loop (t_F_enough_14B fu p1) fu ((0 : Int32), s))
theorem w_F_enough_14 {Γ : v_Ctx} {l : Launch} {g : v_G} (fu : Nat) (p1 : Int32) (X : v_C Γ l rm_F_enough cX0_enough 3 RX0 (some .int) wC g) (r14 : Int32 × v_S → Option (Int32 × v_S)) (h14 : ∀ (x2 : Int32) (s : v_S), v_V Γ 3 wC g (fun z : Int32 × v_S => (some (.int z.1), z.2)) 14 [(0, .ref (v_E g 0)), (1, .int p1), (2, .int x2)] [] s (r14 (x2, s))) (x2 : Int32) (s : v_S) : v_V Γ 3 wC g (fun z : Int32 × v_S => (some (.int z.1), z.2)) 14 [(0, .ref (v_E g 0)), (1, .int p1), (2, .int x2)] [] s (t_F_enough_14 fu p1 r14 x2 s) := by
  unfold t_F_enough_14
  refine v_iload_n (pc := 14) X dX0_enough_14 2 rfl ?_
  refine v_aload_n (pc := 15) X dX0_enough_15 0 rfl ?_
  refine v_get (pc := 16) (kind := 2) (v := va_rf (s.2.2.1 0 1)) X wC_n0 wC_l0 wC_c0 in_X0 (Nat.le_of_ble_eq_true rfl : 1 < 16) q600 rfl rfl dX0_enough_16 ?_
  refine v_unq0 (pc := 19) (fun a_2 _ => ?_)
  refine v_dgetRN (pc := 19) X wC_c4 in_X2 (Nat.le_of_ble_eq_true rfl : 0 < 9) q421 dX0_enough_19 (fun e_3 => ?_)
  refine v_iload_n (pc := 22) X dX0_enough_22 1 rfl ?_
  refine v_unq1 (pc := 23) (fun a_4 _ => ?_)
  refine v_cFq (pc := 23) X (m_L_get l g fu a_4 p1 _) wC_c5 q1079 hF_get rfl rfl rfl rfl dX0_enough_23 (fun e_5 _ => ?_)
  refine v_castq (pc := 28) X wC_c6 q1080 dX0_enough_28 ?_
  refine v_unq0 (pc := 31) (fun a_6 _ => ?_)
  refine v_dgetIN (pc := 31) X wC_c6 in_X8 (Nat.le_of_ble_eq_true rfl : 0 < 5) q855 dX0_enough_31 (fun z_7 => ?_)
  refine v_icmp_gt (pc := 34) (tgt := 54) X dX0_enough_34 (by decide) (fun c34 => ?_) (fun c34 => ?_)
  · refine v_iconst (pc := 54) (v := -1) X dX0_enough_54 rfl ?_
    exact v_iret (pc := 55) X dX0_enough_55 rfl
  · refine v_aload_n (pc := 37) X dX0_enough_37 0 rfl ?_
    refine v_iload_n (pc := 38) X dX0_enough_38 1 rfl ?_
    refine v_iload_n (pc := 39) X dX0_enough_39 2 rfl ?_
    refine v_cGis (pc := 40) X (m_F_dryBy l g fu p1 x2 _) (v_rc_n X wC_o0) (Or.inl q1411) hy_F_dryBy rfl rfl rfl rfl dX0_enough_40 (fun z_8 s_9 _ => ?_)
    refine v_if_ne (pc := 43) (tgt := 48) X dX0_enough_43 (by decide) (fun c43 => ?_) (fun c43 => ?_)
    · refine v_iinc (pc := 48) (v := x2 + (1 : Int32)) (lv' := [(2, .int (x2 + (1 : Int32))), (0, .ref (v_E g 0)), (1, .int p1)]) (k := 2) X dX0_enough_48 rfl rfl (Nat.le_of_ble_eq_true rfl) rfl ?_
      refine v_goto (pc := 51) (tgt := 14) X dX0_enough_51 (by decide) ?_
      refine v_sub [1, 2, 0] rfl ?_
      exact h14 (x2 + (1 : Int32)) s_9
    · refine v_iload_n (pc := 46) X dX0_enough_46 2 rfl ?_
      exact v_iret (pc := 47) X dX0_enough_47 rfl
theorem w_F_enough_14L {Γ : v_Ctx} {l : Launch} {g : v_G} (fu : Nat) (p1 : Int32) (X : v_C Γ l rm_F_enough cX0_enough 3 RX0 (some .int) wC g)  : ∀ (n : Nat), ∀ (x2 : Int32) (s : v_S), v_V Γ 3 wC g (fun z : Int32 × v_S => (some (.int z.1), z.2)) 14 [(0, .ref (v_E g 0)), (1, .int p1), (2, .int x2)] [] s (v_loop (t_F_enough_14B fu p1) n (x2, s)) := by
  intro n
  induction n with
  | zero => exact fun _ _ => v_none
  | succ n ih => exact fun x2 s => w_F_enough_14 fu p1 X  _ ih x2 s
theorem m_F_enough (l : Launch) (g : v_G) (fu : Nat) (p1 : Int32) (s : v_S) : v_M l yX0_enough cX0_enough 3 (some .int) rm_F_enough wC g [.ref (v_E g 0), .int p1] s (fun z : Int32 × v_S => (some (.int z.1), z.2)) (t_F_enough fu p1 s) := by
  refine v_met (by decide +kernel) (Nat.le_of_ble_eq_true rfl) (fun Γ X => ?_)
  refine v_lv (lv' := [(0, .ref (v_E g 0)), (1, .int p1)]) rfl ?_
  unfold t_F_enough
  refine v_aload_n (pc := 0) X dX0_enough_0 0 rfl ?_
  refine v_iload_n (pc := 1) X dX0_enough_1 1 rfl ?_
  refine v_i2l (pc := 2) X dX0_enough_2 ?_
  refine v_cGi (pc := 3) X (m_F_isVillage l g fu (Int32.toInt64 p1) _) (v_rc_n X wC_o0) (Or.inl q1067) hy_F_isVillage rfl rfl rfl rfl dX0_enough_3 (fun z_1 _ => ?_)
  refine v_if_ne (pc := 6) (tgt := 12) X dX0_enough_6 (by decide) (fun c6 => ?_) (fun c6 => ?_)
  · refine v_iconst (pc := 12) (v := 0) X dX0_enough_12 rfl ?_
    refine v_istore_n (pc := 13) (lv' := [(2, .int (0 : Int32)), (0, .ref (v_E g 0)), (1, .int p1)]) X dX0_enough_13 rfl (Nat.le_of_ble_eq_true rfl) rfl ?_
    refine v_sub [1, 2, 0] rfl ?_
    exact w_F_enough_14L fu p1 X  fu (0 : Int32) s
  · refine v_bipush (pc := 9) (v := -2) X dX0_enough_9 rfl ?_
    exact v_iret (pc := 11) X dX0_enough_11 rfl
/-! FloodLent.isSeed(I)Z -/
abbrev rm_F_isSeed : Room := { frames := 2, cells := 0, slots := 0, locals := 46 }
theorem hy_F_isSeed : v_yV yX0_isSeed cX0_isSeed 2 (some .boolean) 1 := ⟨q1421, qs58, q133, q1422, by decide +kernel⟩
def t_F_isSeed (fu : Nat) (p1 : Int32) (s : v_S) : Option Int32 :=
  v_b1 (s.2.2.1 0 1) fun (a_1 : Nat) => if v_isc s (some a_1) 4 = true then v_b1 (t_Q_is fu a_1 s) fun (z_3 : Int32) => (if z_3 = 0 then (some (0 : Int32)) else (v_b1 (t_F_in fu (Int32.toInt64 p1) (0 : Int64) (2000000000 : Int64) s) fun (z_4 : Int32) => if z_4 = 0 then (some (0 : Int32)) else (some (1 : Int32)))) else none
theorem m_F_isSeed (l : Launch) (g : v_G) (fu : Nat) (p1 : Int32) (s : v_S) : v_M l yX0_isSeed cX0_isSeed 2 (some .boolean) rm_F_isSeed wC g [.ref (v_E g 0), .int p1] s (fun z : Int32 => (some (.int z), s)) (t_F_isSeed fu p1 s) := by
  refine v_met (by decide +kernel) (Nat.le_of_ble_eq_true rfl) (fun Γ X => ?_)
  refine v_lv (lv' := [(0, .ref (v_E g 0)), (1, .int p1)]) rfl ?_
  unfold t_F_isSeed
  refine v_aload_n (pc := 0) X dX0_isSeed_0 0 rfl ?_
  refine v_get (pc := 1) (kind := 2) (v := va_rf (s.2.2.1 0 1)) X wC_n0 wC_l0 wC_c0 in_X0 (Nat.le_of_ble_eq_true rfl : 1 < 16) q600 rfl rfl dX0_isSeed_1 ?_
  refine v_unq0 (pc := 4) (fun a_1 _ => ?_)
  refine v_nzT (pc := 4) (fun h_2 => ?_)
  refine v_cGi (pc := 4) X (m_Q_is l g fu a_1 _) (v_rc_d X wC_c4 h_2) (Or.inl q1052) hy_Q_is rfl rfl rfl rfl dX0_isSeed_4 (fun z_3 _ => ?_)
  refine v_if_eq (pc := 7) (tgt := 26) X dX0_isSeed_7 (by decide) (fun c7 => ?_) (fun c7 => ?_)
  · refine v_iconst (pc := 26) (v := 0) X dX0_isSeed_26 rfl ?_
    exact v_zret (pc := 27) X dX0_isSeed_27 rfl rfl
  · refine v_iload_n (pc := 10) X dX0_isSeed_10 1 rfl ?_
    refine v_i2l (pc := 11) X dX0_isSeed_11 ?_
    refine v_lconst (pc := 12) (v := 0) X dX0_isSeed_12 rfl ?_
    refine v_ldc2 (pc := 13) X q1423 dX0_isSeed_13 ?_
    refine v_cSi (pc := 16) X (m_F_in l g fu (Int32.toInt64 p1) (0 : Int64) (2000000000 : Int64) _) q174 hy_F_in rfl rfl rfl rfl dX0_isSeed_16 (fun z_4 _ => ?_)
    refine v_if_eq (pc := 19) (tgt := 26) X dX0_isSeed_19 (by decide) (fun c19 => ?_) (fun c19 => ?_)
    · refine v_iconst (pc := 26) (v := 0) X dX0_isSeed_26 rfl ?_
      exact v_zret (pc := 27) X dX0_isSeed_27 rfl rfl
    · refine v_iconst (pc := 22) (v := 1) X dX0_isSeed_22 rfl ?_
      refine v_goto (pc := 23) (tgt := 27) X dX0_isSeed_23 (by decide) ?_
      exact v_zret (pc := 27) X dX0_isSeed_27 rfl rfl
/-! FloodLent.drawn(J)LFloodLent$Year; -/
abbrev rm_F_drawn : Room := { frames := 7, cells := 0, slots := 0, locals := 153 }
theorem hy_F_drawn : v_yV yX0_drawn cX0_drawn 7 (some (.object "FloodLent$Year")) 1 := ⟨q1426, qs59, q133, q1427, by decide +kernel⟩
def t_F_drawn_92 (fu : Nat) (p1 : Int64) (x5 : Int32) (s : v_S) : Option v_S :=
v_b1 (t_Y_begins fu (s.2.2.1 0 1) (6) (s.1 0 2) s) fun (s_5 : v_S) => v_n (v_uI s_5 7 14 x5) fun (s_6 : v_S) => v_b1 (t_Y_goes fu s_6) fun (s_7 : v_S) => some s_7
def t_F_drawn_8 (fu : Nat) (p1 : Int64) (r8 : Int64 × Int32 × Int32 × v_S → Option v_S) (x3 : Int64) (x5 : Int32) (x6 : Int32) (s : v_S) : Option v_S :=
v_b1 (s.2.2.1 0 1) fun (a_1 : Nat) => v_b1 (v_dR s a_1 4 2) fun (e_2 : Option Nat) => v_b1 e_2 fun (a_3 : Nat) => if v_isc s (some a_3) 5 = true then v_b1 (t_L_size fu a_3 s) fun (z_4 : Int32) => (if z_4 ≤ x6 then (t_F_drawn_92 fu p1 x5 s) else (v_n ((((1103515245 : Int64) * x3) + (12345 : Int64)) - (((1103515245 : Int64) * x3) + (12345 : Int64)) / (2147483648 : Int64) * (2147483648 : Int64)) fun (x3_8 : Int64) => v_b1 (s.2.2.1 0 1) fun (a_9 : Nat) => v_b1 (v_dR s a_9 4 2) fun (e_10 : Option Nat) => v_b1 e_10 fun (a_11 : Nat) => if v_isc s (some a_11) 5 = true then v_b1 (t_L_get fu a_11 x6 s) fun (e_12 : Option Nat) => if v_isc s e_12 8 = true then v_b1 e_12 fun (a_13 : Nat) => v_b1 (v_dI s a_13 8 5) fun (z_14 : Int32) => (if (0 : Int32) ≤ lg_cmp ((x3_8 / (65536 : Int64)) - (x3_8 / (65536 : Int64)) / (100 : Int64) * (100 : Int64)) (Int32.toInt64 z_14) then (v_n (x5 ||| (0 : Int32)) fun (x5_15 : Int32) => r8 (x3_8, x5_15, x6 + (1 : Int32), s)) else (v_n (x5 ||| ((1 : Int32) <<< (x6 &&& 31))) fun (x5_16 : Int32) => r8 (x3_8, x5_16, x6 + (1 : Int32), s))) else none else none)) else none
def t_F_drawn_8B (fu : Nat) (p1 : Int64) (r8 : Int64 × Int32 × Int32 × v_S → Option v_S) (a : Int64 × Int32 × Int32 × v_S) : Option v_S := t_F_drawn_8 fu p1 r8 a.1 a.2.1 a.2.2.1 a.2.2.2
def t_F_drawn (fu : Nat) (p1 : Int64) (s : v_S) : Option v_S :=
  v_loop (t_F_drawn_8B fu p1) fu (p1, (0 : Int32), (0 : Int32), s)
theorem w_F_drawn_92 {Γ : v_Ctx} {l : Launch} {g : v_G} (fu : Nat) (p1 : Int64) (X : v_C Γ l rm_F_drawn cX0_drawn 7 RX0 (some (.object "FloodLent$Year")) wC g)  (x5 : Int32) (s : v_S) : v_V Γ 7 wC g (fun z : v_S => (some (.ref (v_E g 7)), z)) 92 [(0, .ref (v_E g 0)), (5, .int x5)] [] s (t_F_drawn_92 fu p1 x5 s) := by
  unfold t_F_drawn_92
  refine v_aload_n (pc := 92) X dX0_drawn_92 0 rfl ?_
  refine v_get (pc := 93) (kind := 10) (v := .ref (v_E g 7)) X wC_n0 wC_l0 wC_c0 in_X0 (Nat.le_of_ble_eq_true rfl : 4 < 16) q603 rfl rfl dX0_drawn_93 ?_
  refine v_aload_n (pc := 96) X dX0_drawn_96 0 rfl ?_
  refine v_get (pc := 97) (kind := 2) (v := va_rf (s.2.2.1 0 1)) X wC_n0 wC_l0 wC_c0 in_X0 (Nat.le_of_ble_eq_true rfl : 1 < 16) q600 rfl rfl dX0_drawn_97 ?_
  refine v_aload_n (pc := 100) X dX0_drawn_100 0 rfl ?_
  refine v_get (pc := 101) (kind := 9) (v := .ref (v_E g 6)) X wC_n0 wC_l0 wC_c0 in_X0 (Nat.le_of_ble_eq_true rfl : 3 < 16) q602 rfl rfl dX0_drawn_101 ?_
  refine v_aload_n (pc := 104) X dX0_drawn_104 0 rfl ?_
  refine v_get (pc := 105) (kind := 0) (v := .int (s.1 0 2)) X wC_n0 wC_l0 wC_c0 in_X0 (Nat.le_of_ble_eq_true rfl : 2 < 16) q601 rfl rfl dX0_drawn_105 ?_
  refine v_cGs (pc := 108) X (m_Y_begins l g fu (s.2.2.1 0 1) (6) (s.1 0 2) _) (v_rc_n X wC_o7) (Or.inl q1101) hy_Y_begins rfl rfl rfl rfl dX0_drawn_108 (fun s_5 _ => ?_)
  refine v_aload_n (pc := 111) X dX0_drawn_111 0 rfl ?_
  refine v_get (pc := 112) (kind := 10) (v := .ref (v_E g 7)) X wC_n0 wC_l0 wC_c0 in_X0 (Nat.le_of_ble_eq_true rfl : 4 < 16) q603 rfl rfl dX0_drawn_112 ?_
  refine v_iload (pc := 115) X dX0_drawn_115 1 rfl ?_
  refine v_putIN (pc := 117) X wC_n7 wC_l7 wC_c2 in_X3 tyX3 tyX3_ok nmX3 (Nat.le_of_ble_eq_true rfl : 14 < 23) q502 rfl rfl rfl dX0_drawn_117 (fun s_6 => ?_)
  refine v_aload_n (pc := 120) X dX0_drawn_120 0 rfl ?_
  refine v_get (pc := 121) (kind := 10) (v := .ref (v_E g 7)) X wC_n0 wC_l0 wC_c0 in_X0 (Nat.le_of_ble_eq_true rfl : 4 < 16) q603 rfl rfl dX0_drawn_121 ?_
  refine v_cGr (pc := 124) X (m_Y_goes l g fu _) (v_rc_n X wC_o7) (Or.inl q1106) hy_Y_goes rfl rfl rfl rfl dX0_drawn_124 (fun s_7 _ => ?_)
  exact v_aret (pc := 127) X dX0_drawn_127 rfl
theorem w_F_drawn_8 {Γ : v_Ctx} {l : Launch} {g : v_G} (fu : Nat) (p1 : Int64) (X : v_C Γ l rm_F_drawn cX0_drawn 7 RX0 (some (.object "FloodLent$Year")) wC g) (r8 : Int64 × Int32 × Int32 × v_S → Option v_S) (h8 : ∀ (x3 : Int64) (x5 : Int32) (x6 : Int32) (s : v_S), v_V Γ 7 wC g (fun z : v_S => (some (.ref (v_E g 7)), z)) 8 [(0, .ref (v_E g 0)), (3, .long x3), (5, .int x5), (6, .int x6)] [] s (r8 (x3, x5, x6, s))) (x3 : Int64) (x5 : Int32) (x6 : Int32) (s : v_S) : v_V Γ 7 wC g (fun z : v_S => (some (.ref (v_E g 7)), z)) 8 [(0, .ref (v_E g 0)), (3, .long x3), (5, .int x5), (6, .int x6)] [] s (t_F_drawn_8 fu p1 r8 x3 x5 x6 s) := by
  unfold t_F_drawn_8
  refine v_iload (pc := 8) X dX0_drawn_8 3 rfl ?_
  refine v_aload_n (pc := 10) X dX0_drawn_10 0 rfl ?_
  refine v_get (pc := 11) (kind := 2) (v := va_rf (s.2.2.1 0 1)) X wC_n0 wC_l0 wC_c0 in_X0 (Nat.le_of_ble_eq_true rfl : 1 < 16) q600 rfl rfl dX0_drawn_11 ?_
  refine v_unq0 (pc := 14) (fun a_1 _ => ?_)
  refine v_dgetRN (pc := 14) X wC_c4 in_X2 (Nat.le_of_ble_eq_true rfl : 2 < 9) q429 dX0_drawn_14 (fun e_2 => ?_)
  refine v_unq0 (pc := 17) (fun a_3 _ => ?_)
  refine v_cFi (pc := 17) X (m_L_size l g fu a_3  _) wC_c5 q1076 hF_size rfl rfl rfl rfl dX0_drawn_17 (fun z_4 _ => ?_)
  refine v_icmp_ge (pc := 22) (tgt := 92) X dX0_drawn_22 (by decide) (fun c22 => ?_) (fun c22 => ?_)
  · refine v_sub [0, 2] rfl ?_
    exact w_F_drawn_92 fu p1 X  x5 s
  · refine v_ldc2 (pc := 25) X q1428 dX0_drawn_25 ?_
    refine v_lload_n (pc := 28) X dX0_drawn_28 1 rfl ?_
    refine v_lmul (pc := 29) X dX0_drawn_29 ?_
    refine v_ldc2 (pc := 30) X q1429 dX0_drawn_30 ?_
    refine v_ladd (pc := 33) X dX0_drawn_33 ?_
    refine v_ldc2 (pc := 34) X q1430 dX0_drawn_34 ?_
    refine v_lremC (pc := 37) X (by decide) dX0_drawn_37 ?_
    refine v_lstore_nN (pc := 38) (lvf := fun x3_8 => [(3, .long x3_8), (0, .ref (v_E g 0)), (5, .int x5), (6, .int x6)]) X dX0_drawn_38 rfl (Nat.le_of_ble_eq_true rfl) (fun _ => rfl) (fun x3_8 => ?_)
    refine v_iload (pc := 39) X dX0_drawn_39 2 rfl ?_
    refine v_lload_n (pc := 41) X dX0_drawn_41 0 rfl ?_
    refine v_ldc2 (pc := 42) X q1431 dX0_drawn_42 ?_
    refine v_ldivC (pc := 45) X (by decide) dX0_drawn_45 ?_
    refine v_ldc2 (pc := 46) X q1246 dX0_drawn_46 ?_
    refine v_lremC (pc := 49) X (by decide) dX0_drawn_49 ?_
    refine v_aload_n (pc := 50) X dX0_drawn_50 1 rfl ?_
    refine v_get (pc := 51) (kind := 2) (v := va_rf (s.2.2.1 0 1)) X wC_n0 wC_l0 wC_c0 in_X0 (Nat.le_of_ble_eq_true rfl : 1 < 16) q600 rfl rfl dX0_drawn_51 ?_
    refine v_unq0 (pc := 54) (fun a_9 _ => ?_)
    refine v_dgetRN (pc := 54) X wC_c4 in_X2 (Nat.le_of_ble_eq_true rfl : 2 < 9) q429 dX0_drawn_54 (fun e_10 => ?_)
    refine v_iload (pc := 57) X dX0_drawn_57 3 rfl ?_
    refine v_unq1 (pc := 59) (fun a_11 _ => ?_)
    refine v_cFq (pc := 59) X (m_L_get l g fu a_11 x6 _) wC_c5 q1079 hF_get rfl rfl rfl rfl dX0_drawn_59 (fun e_12 _ => ?_)
    refine v_castq (pc := 64) X wC_c8 q1241 dX0_drawn_64 ?_
    refine v_unq0 (pc := 67) (fun a_13 _ => ?_)
    refine v_dgetIN (pc := 67) X wC_c8 in_X10 (Nat.le_of_ble_eq_true rfl : 5 < 6) q1009 dX0_drawn_67 (fun z_14 => ?_)
    refine v_i2l (pc := 70) X dX0_drawn_70 ?_
    refine v_lcmp (pc := 71) X dX0_drawn_71 ?_
    refine v_if_ge (pc := 72) (tgt := 82) X dX0_drawn_72 (by decide) (fun c72 => ?_) (fun c72 => ?_)
    · refine v_iconst (pc := 82) (v := 0) X dX0_drawn_82 rfl ?_
      refine v_ior (pc := 83) X dX0_drawn_83 ?_
      refine v_istoreN (pc := 84) (lvf := fun x5_15 => [(5, .int x5_15), (3, .long x3_8), (0, .ref (v_E g 0)), (6, .int x6)]) X dX0_drawn_84 (Nat.le_of_ble_eq_true rfl) (fun _ => rfl) (fun x5_15 => ?_)
      refine v_iinc (pc := 86) (v := x6 + (1 : Int32)) (lv' := [(6, .int (x6 + (1 : Int32))), (5, .int x5_15), (3, .long x3_8), (0, .ref (v_E g 0))]) (k := 3) X dX0_drawn_86 rfl rfl (Nat.le_of_ble_eq_true rfl) rfl ?_
      refine v_goto (pc := 89) (tgt := 8) X dX0_drawn_89 (by decide) ?_
      refine v_sub [3, 2, 1, 0] rfl ?_
      exact h8 x3_8 x5_15 (x6 + (1 : Int32)) s
    · refine v_iconst (pc := 75) (v := 1) X dX0_drawn_75 rfl ?_
      refine v_iload (pc := 76) X dX0_drawn_76 3 rfl ?_
      refine v_ishl (pc := 78) X dX0_drawn_78 ?_
      refine v_goto (pc := 79) (tgt := 83) X dX0_drawn_79 (by decide) ?_
      refine v_ior (pc := 83) X dX0_drawn_83 ?_
      refine v_istoreN (pc := 84) (lvf := fun x5_16 => [(5, .int x5_16), (3, .long x3_8), (0, .ref (v_E g 0)), (6, .int x6)]) X dX0_drawn_84 (Nat.le_of_ble_eq_true rfl) (fun _ => rfl) (fun x5_16 => ?_)
      refine v_iinc (pc := 86) (v := x6 + (1 : Int32)) (lv' := [(6, .int (x6 + (1 : Int32))), (5, .int x5_16), (3, .long x3_8), (0, .ref (v_E g 0))]) (k := 3) X dX0_drawn_86 rfl rfl (Nat.le_of_ble_eq_true rfl) rfl ?_
      refine v_goto (pc := 89) (tgt := 8) X dX0_drawn_89 (by decide) ?_
      refine v_sub [3, 2, 1, 0] rfl ?_
      exact h8 x3_8 x5_16 (x6 + (1 : Int32)) s
theorem w_F_drawn_8L {Γ : v_Ctx} {l : Launch} {g : v_G} (fu : Nat) (p1 : Int64) (X : v_C Γ l rm_F_drawn cX0_drawn 7 RX0 (some (.object "FloodLent$Year")) wC g)  : ∀ (n : Nat), ∀ (x3 : Int64) (x5 : Int32) (x6 : Int32) (s : v_S), v_V Γ 7 wC g (fun z : v_S => (some (.ref (v_E g 7)), z)) 8 [(0, .ref (v_E g 0)), (3, .long x3), (5, .int x5), (6, .int x6)] [] s (v_loop (t_F_drawn_8B fu p1) n (x3, x5, x6, s)) := by
  intro n
  induction n with
  | zero => exact fun _ _ _ _ => v_none
  | succ n ih => exact fun x3 x5 x6 s => w_F_drawn_8 fu p1 X  _ ih x3 x5 x6 s
theorem m_F_drawn (l : Launch) (g : v_G) (fu : Nat) (p1 : Int64) (s : v_S) : v_M l yX0_drawn cX0_drawn 7 (some (.object "FloodLent$Year")) rm_F_drawn wC g [.ref (v_E g 0), .long p1] s (fun z : v_S => (some (.ref (v_E g 7)), z)) (t_F_drawn fu p1 s) := by
  refine v_met (by decide +kernel) (Nat.le_of_ble_eq_true rfl) (fun Γ X => ?_)
  refine v_lv (lv' := [(0, .ref (v_E g 0)), (1, .long p1)]) rfl ?_
  unfold t_F_drawn
  refine v_lload_n (pc := 0) X dX0_drawn_0 1 rfl ?_
  refine v_lstore_n (pc := 1) (lv' := [(3, .long p1), (0, .ref (v_E g 0)), (1, .long p1)]) X dX0_drawn_1 rfl (Nat.le_of_ble_eq_true rfl) rfl ?_
  refine v_iconst (pc := 2) (v := 0) X dX0_drawn_2 rfl ?_
  refine v_istore (pc := 3) (lv' := [(5, .int (0 : Int32)), (3, .long p1), (0, .ref (v_E g 0)), (1, .long p1)]) X dX0_drawn_3 (Nat.le_of_ble_eq_true rfl) rfl ?_
  refine v_iconst (pc := 5) (v := 0) X dX0_drawn_5 rfl ?_
  refine v_istore (pc := 6) (lv' := [(6, .int (0 : Int32)), (5, .int (0 : Int32)), (3, .long p1), (0, .ref (v_E g 0)), (1, .long p1)]) X dX0_drawn_6 (Nat.le_of_ble_eq_true rfl) rfl ?_
  refine v_sub [3, 2, 1, 0] rfl ?_
  exact w_F_drawn_8L fu p1 X  fu p1 (0 : Int32) (0 : Int32) s
/-! FloodLent.year(II)I -/
abbrev rm_F_year : Room := { frames := 8, cells := 0, slots := 0, locals := 179 }
theorem hy_F_year : v_yV yX0_year cX0_year 3 (some .int) 2 := ⟨q1416, q1417, q133, q1418, by decide +kernel⟩
def t_F_year (fu : Nat) (p1 : Int32) (p2 : Int32) (s : v_S) : Option (Int32 × v_S) :=
  v_b1 (t_F_isSeed fu p1 s) fun (z_1 : Int32) => if z_1 = 0 then (some ((-2 : Int32), s)) else (v_b1 (t_F_in fu (Int32.toInt64 p2) (0 : Int64) (2 : Int64) s) fun (z_2 : Int32) => if z_2 = 0 then (some ((-2 : Int32), s)) else (v_b1 (t_F_drawn fu (Int32.toInt64 p1) s) fun (s_3 : v_S) => if p2 = 0 then (v_b1 (t_Y_broughtInAll fu s_3) fun (z_5 : Int32) => some (z_5, s_3)) else (if p2 = (1 : Int32) then (v_b1 (t_Y_allShort fu s_3) fun (z_4 : Int32) => some (z_4, s_3)) else (some (s_3.1 7 14, s_3)))))
theorem m_F_year (l : Launch) (g : v_G) (fu : Nat) (p1 : Int32) (p2 : Int32) (s : v_S) : v_M l yX0_year cX0_year 3 (some .int) rm_F_year wC g [.ref (v_E g 0), .int p1, .int p2] s (fun z : Int32 × v_S => (some (.int z.1), z.2)) (t_F_year fu p1 p2 s) := by
  refine v_met (by decide +kernel) (Nat.le_of_ble_eq_true rfl) (fun Γ X => ?_)
  refine v_lv (lv' := [(0, .ref (v_E g 0)), (1, .int p1), (2, .int p2)]) rfl ?_
  unfold t_F_year
  refine v_aload_n (pc := 0) X dX0_year_0 0 rfl ?_
  refine v_iload_n (pc := 1) X dX0_year_1 1 rfl ?_
  refine v_cGi (pc := 2) X (m_F_isSeed l g fu p1 _) (v_rc_n X wC_o0) (Or.inl q1419) hy_F_isSeed rfl rfl rfl rfl dX0_year_2 (fun z_1 _ => ?_)
  refine v_if_eq (pc := 5) (tgt := 20) X dX0_year_5 (by decide) (fun c5 => ?_) (fun c5 => ?_)
  · refine v_bipush (pc := 20) (v := -2) X dX0_year_20 rfl ?_
    exact v_iret (pc := 22) X dX0_year_22 rfl
  · refine v_iload_n (pc := 8) X dX0_year_8 2 rfl ?_
    refine v_i2l (pc := 9) X dX0_year_9 ?_
    refine v_lconst (pc := 10) (v := 0) X dX0_year_10 rfl ?_
    refine v_ldc2 (pc := 11) X q1169 dX0_year_11 ?_
    refine v_cSi (pc := 14) X (m_F_in l g fu (Int32.toInt64 p2) (0 : Int64) (2 : Int64) _) q174 hy_F_in rfl rfl rfl rfl dX0_year_14 (fun z_2 _ => ?_)
    refine v_if_ne (pc := 17) (tgt := 23) X dX0_year_17 (by decide) (fun c17 => ?_) (fun c17 => ?_)
    · refine v_aload_n (pc := 23) X dX0_year_23 0 rfl ?_
      refine v_iload_n (pc := 24) X dX0_year_24 1 rfl ?_
      refine v_i2l (pc := 25) X dX0_year_25 ?_
      refine v_cGr (pc := 26) X (m_F_drawn l g fu (Int32.toInt64 p1) _) (v_rc_n X wC_o0) (Or.inl q1424) hy_F_drawn rfl rfl rfl rfl dX0_year_26 (fun s_3 _ => ?_)
      refine v_pop (pc := 29) X dX0_year_29 rfl ?_
      refine v_iload_n (pc := 30) X dX0_year_30 2 rfl ?_
      refine v_if_ne (pc := 31) (tgt := 44) X dX0_year_31 (by decide) (fun c31 => ?_) (fun c31 => ?_)
      · refine v_iload_n (pc := 44) X dX0_year_44 2 rfl ?_
        refine v_iconst (pc := 45) (v := 1) X dX0_year_45 rfl ?_
        refine v_icmp_ne (pc := 46) (tgt := 59) X dX0_year_46 (by decide) (fun c46 => ?_) (fun c46 => ?_)
        · refine v_aload_n (pc := 59) X dX0_year_59 0 rfl ?_
          refine v_get (pc := 60) (kind := 10) (v := .ref (v_E g 7)) X wC_n0 wC_l0 wC_c0 in_X0 (Nat.le_of_ble_eq_true rfl : 4 < 16) q603 rfl rfl dX0_year_60 ?_
          refine v_getN (pc := 63) (kind := 0) (v := .int (s_3.1 7 14)) X wC_n7 wC_l7 wC_c2 in_X3 (Nat.le_of_ble_eq_true rfl : 14 < 23) q502 rfl rfl dX0_year_63 ?_
          exact v_iret (pc := 66) X dX0_year_66 rfl
        · refine v_aload_n (pc := 49) X dX0_year_49 0 rfl ?_
          refine v_get (pc := 50) (kind := 10) (v := .ref (v_E g 7)) X wC_n0 wC_l0 wC_c0 in_X0 (Nat.le_of_ble_eq_true rfl : 4 < 16) q603 rfl rfl dX0_year_50 ?_
          refine v_cGi (pc := 53) X (m_Y_allShort l g fu _) (v_rc_n X wC_o7) (Or.inl q1218) hy_Y_allShort rfl rfl rfl rfl dX0_year_53 (fun z_4 _ => ?_)
          refine v_goto (pc := 56) (tgt := 66) X dX0_year_56 (by decide) ?_
          exact v_iret (pc := 66) X dX0_year_66 rfl
      · refine v_aload_n (pc := 34) X dX0_year_34 0 rfl ?_
        refine v_get (pc := 35) (kind := 10) (v := .ref (v_E g 7)) X wC_n0 wC_l0 wC_c0 in_X0 (Nat.le_of_ble_eq_true rfl : 4 < 16) q603 rfl rfl dX0_year_35 ?_
        refine v_cGi (pc := 38) X (m_Y_broughtInAll l g fu _) (v_rc_n X wC_o7) (Or.inl q1175) hy_Y_broughtInAll rfl rfl rfl rfl dX0_year_38 (fun z_5 _ => ?_)
        refine v_goto (pc := 41) (tgt := 66) X dX0_year_41 (by decide) ?_
        exact v_iret (pc := 66) X dX0_year_66 rfl
    · refine v_bipush (pc := 20) (v := -2) X dX0_year_20 rfl ?_
      exact v_iret (pc := 22) X dX0_year_22 rfl
/-! FloodLent.years(II)I -/
abbrev rm_F_years : Room := { frames := 8, cells := 0, slots := 0, locals := 179 }
theorem hy_F_years : v_yV yX0_years cX0_years 5 (some .int) 2 := ⟨q1433, q1434, q133, q1435, by decide +kernel⟩
def t_F_years_28 (fu : Nat) (p1 : Int32) (p2 : Int32) (r28 : Int32 × Int32 × v_S → Option (Int32 × v_S)) (x3 : Int32) (x4 : Int32) (s : v_S) : Option (Int32 × v_S) :=
if p2 ≤ x4 then (some (x3, s)) else (v_b1 (t_F_drawn fu ((Int32.toInt64 p1) + (Int32.toInt64 x4)) s) fun (s_3 : v_S) => v_b1 (t_Y_allShort fu s_3) fun (z_4 : Int32) => if z_4 = 0 then (v_n (x3 + (1 : Int32)) fun (x3_6 : Int32) => r28 (x3_6, x4 + (1 : Int32), s_3)) else (v_n (x3 + (0 : Int32)) fun (x3_5 : Int32) => r28 (x3_5, x4 + (1 : Int32), s_3)))
def t_F_years_28B (fu : Nat) (p1 : Int32) (p2 : Int32) (r28 : Int32 × Int32 × v_S → Option (Int32 × v_S)) (a : Int32 × Int32 × v_S) : Option (Int32 × v_S) := t_F_years_28 fu p1 p2 r28 a.1 a.2.1 a.2.2
def t_F_years (fu : Nat) (p1 : Int32) (p2 : Int32) (s : v_S) : Option (Int32 × v_S) :=
  v_b1 (t_F_isSeed fu p1 s) fun (z_1 : Int32) => if z_1 = 0 then (some ((-2 : Int32), s)) else (v_b1 (t_F_in fu (Int32.toInt64 p2) (1 : Int64) (20 : Int64) s) fun (z_2 : Int32) => if z_2 = 0 then (some ((-2 : Int32), s)) else (v_loop (t_F_years_28B fu p1 p2) fu ((0 : Int32), (0 : Int32), s)))
theorem w_F_years_28 {Γ : v_Ctx} {l : Launch} {g : v_G} (fu : Nat) (p1 : Int32) (p2 : Int32) (X : v_C Γ l rm_F_years cX0_years 5 RX0 (some .int) wC g) (r28 : Int32 × Int32 × v_S → Option (Int32 × v_S)) (h28 : ∀ (x3 : Int32) (x4 : Int32) (s : v_S), v_V Γ 5 wC g (fun z : Int32 × v_S => (some (.int z.1), z.2)) 28 [(0, .ref (v_E g 0)), (1, .int p1), (2, .int p2), (3, .int x3), (4, .int x4)] [] s (r28 (x3, x4, s))) (x3 : Int32) (x4 : Int32) (s : v_S) : v_V Γ 5 wC g (fun z : Int32 × v_S => (some (.int z.1), z.2)) 28 [(0, .ref (v_E g 0)), (1, .int p1), (2, .int p2), (3, .int x3), (4, .int x4)] [] s (t_F_years_28 fu p1 p2 r28 x3 x4 s) := by
  unfold t_F_years_28
  refine v_iload (pc := 28) X dX0_years_28 4 rfl ?_
  refine v_iload_n (pc := 30) X dX0_years_30 2 rfl ?_
  refine v_icmp_ge (pc := 31) (tgt := 64) X dX0_years_31 (by decide) (fun c31 => ?_) (fun c31 => ?_)
  · refine v_iload_n (pc := 64) X dX0_years_64 3 rfl ?_
    exact v_iret (pc := 65) X dX0_years_65 rfl
  · refine v_iload_n (pc := 34) X dX0_years_34 3 rfl ?_
    refine v_aload_n (pc := 35) X dX0_years_35 0 rfl ?_
    refine v_iload_n (pc := 36) X dX0_years_36 1 rfl ?_
    refine v_i2l (pc := 37) X dX0_years_37 ?_
    refine v_iload (pc := 38) X dX0_years_38 4 rfl ?_
    refine v_i2l (pc := 40) X dX0_years_40 ?_
    refine v_ladd (pc := 41) X dX0_years_41 ?_
    refine v_cGr (pc := 42) X (m_F_drawn l g fu ((Int32.toInt64 p1) + (Int32.toInt64 x4)) _) (v_rc_n X wC_o0) (Or.inl q1424) hy_F_drawn rfl rfl rfl rfl dX0_years_42 (fun s_3 _ => ?_)
    refine v_cGi (pc := 45) X (m_Y_allShort l g fu _) (v_rc_n X wC_o7) (Or.inl q1218) hy_Y_allShort rfl rfl rfl rfl dX0_years_45 (fun z_4 _ => ?_)
    refine v_if_ne (pc := 48) (tgt := 55) X dX0_years_48 (by decide) (fun c48 => ?_) (fun c48 => ?_)
    · refine v_iconst (pc := 55) (v := 0) X dX0_years_55 rfl ?_
      refine v_iadd (pc := 56) X dX0_years_56 ?_
      refine v_istore_nN (pc := 57) (lvf := fun x3_5 => [(3, .int x3_5), (0, .ref (v_E g 0)), (1, .int p1), (2, .int p2), (4, .int x4)]) X dX0_years_57 rfl (Nat.le_of_ble_eq_true rfl) (fun _ => rfl) (fun x3_5 => ?_)
      refine v_iinc (pc := 58) (v := x4 + (1 : Int32)) (lv' := [(4, .int (x4 + (1 : Int32))), (3, .int x3_5), (0, .ref (v_E g 0)), (1, .int p1), (2, .int p2)]) (k := 4) X dX0_years_58 rfl rfl (Nat.le_of_ble_eq_true rfl) rfl ?_
      refine v_goto (pc := 61) (tgt := 28) X dX0_years_61 (by decide) ?_
      refine v_sub [2, 3, 4, 1, 0] rfl ?_
      exact h28 x3_5 (x4 + (1 : Int32)) s_3
    · refine v_iconst (pc := 51) (v := 1) X dX0_years_51 rfl ?_
      refine v_goto (pc := 52) (tgt := 56) X dX0_years_52 (by decide) ?_
      refine v_iadd (pc := 56) X dX0_years_56 ?_
      refine v_istore_nN (pc := 57) (lvf := fun x3_6 => [(3, .int x3_6), (0, .ref (v_E g 0)), (1, .int p1), (2, .int p2), (4, .int x4)]) X dX0_years_57 rfl (Nat.le_of_ble_eq_true rfl) (fun _ => rfl) (fun x3_6 => ?_)
      refine v_iinc (pc := 58) (v := x4 + (1 : Int32)) (lv' := [(4, .int (x4 + (1 : Int32))), (3, .int x3_6), (0, .ref (v_E g 0)), (1, .int p1), (2, .int p2)]) (k := 4) X dX0_years_58 rfl rfl (Nat.le_of_ble_eq_true rfl) rfl ?_
      refine v_goto (pc := 61) (tgt := 28) X dX0_years_61 (by decide) ?_
      refine v_sub [2, 3, 4, 1, 0] rfl ?_
      exact h28 x3_6 (x4 + (1 : Int32)) s_3
theorem w_F_years_28L {Γ : v_Ctx} {l : Launch} {g : v_G} (fu : Nat) (p1 : Int32) (p2 : Int32) (X : v_C Γ l rm_F_years cX0_years 5 RX0 (some .int) wC g)  : ∀ (n : Nat), ∀ (x3 : Int32) (x4 : Int32) (s : v_S), v_V Γ 5 wC g (fun z : Int32 × v_S => (some (.int z.1), z.2)) 28 [(0, .ref (v_E g 0)), (1, .int p1), (2, .int p2), (3, .int x3), (4, .int x4)] [] s (v_loop (t_F_years_28B fu p1 p2) n (x3, x4, s)) := by
  intro n
  induction n with
  | zero => exact fun _ _ _ => v_none
  | succ n ih => exact fun x3 x4 s => w_F_years_28 fu p1 p2 X  _ ih x3 x4 s
theorem m_F_years (l : Launch) (g : v_G) (fu : Nat) (p1 : Int32) (p2 : Int32) (s : v_S) : v_M l yX0_years cX0_years 5 (some .int) rm_F_years wC g [.ref (v_E g 0), .int p1, .int p2] s (fun z : Int32 × v_S => (some (.int z.1), z.2)) (t_F_years fu p1 p2 s) := by
  refine v_met (by decide +kernel) (Nat.le_of_ble_eq_true rfl) (fun Γ X => ?_)
  refine v_lv (lv' := [(0, .ref (v_E g 0)), (1, .int p1), (2, .int p2)]) rfl ?_
  unfold t_F_years
  refine v_aload_n (pc := 0) X dX0_years_0 0 rfl ?_
  refine v_iload_n (pc := 1) X dX0_years_1 1 rfl ?_
  refine v_cGi (pc := 2) X (m_F_isSeed l g fu p1 _) (v_rc_n X wC_o0) (Or.inl q1419) hy_F_isSeed rfl rfl rfl rfl dX0_years_2 (fun z_1 _ => ?_)
  refine v_if_eq (pc := 5) (tgt := 20) X dX0_years_5 (by decide) (fun c5 => ?_) (fun c5 => ?_)
  · refine v_bipush (pc := 20) (v := -2) X dX0_years_20 rfl ?_
    exact v_iret (pc := 22) X dX0_years_22 rfl
  · refine v_iload_n (pc := 8) X dX0_years_8 2 rfl ?_
    refine v_i2l (pc := 9) X dX0_years_9 ?_
    refine v_lconst (pc := 10) (v := 1) X dX0_years_10 rfl ?_
    refine v_ldc2 (pc := 11) X q1436 dX0_years_11 ?_
    refine v_cSi (pc := 14) X (m_F_in l g fu (Int32.toInt64 p2) (1 : Int64) (20 : Int64) _) q174 hy_F_in rfl rfl rfl rfl dX0_years_14 (fun z_2 _ => ?_)
    refine v_if_ne (pc := 17) (tgt := 23) X dX0_years_17 (by decide) (fun c17 => ?_) (fun c17 => ?_)
    · refine v_iconst (pc := 23) (v := 0) X dX0_years_23 rfl ?_
      refine v_istore_n (pc := 24) (lv' := [(3, .int (0 : Int32)), (0, .ref (v_E g 0)), (1, .int p1), (2, .int p2)]) X dX0_years_24 rfl (Nat.le_of_ble_eq_true rfl) rfl ?_
      refine v_iconst (pc := 25) (v := 0) X dX0_years_25 rfl ?_
      refine v_istore (pc := 26) (lv' := [(4, .int (0 : Int32)), (3, .int (0 : Int32)), (0, .ref (v_E g 0)), (1, .int p1), (2, .int p2)]) X dX0_years_26 (Nat.le_of_ble_eq_true rfl) rfl ?_
      refine v_sub [2, 3, 4, 1, 0] rfl ?_
      exact w_F_years_28L fu p1 p2 X  fu (0 : Int32) (0 : Int32) s
    · refine v_bipush (pc := 20) (v := -2) X dX0_years_20 rfl ?_
      exact v_iret (pc := 22) X dX0_years_22 rfl
/-! FloodLent.count(I)I -/
abbrev rm_F_count : Room := { frames := 3, cells := 0, slots := 0, locals := 61 }
theorem hy_F_count : v_yV yX0_count cX0_count 7 (some .int) 1 := ⟨q1438, q1439, q133, q1440, by decide +kernel⟩
def t_F_count_148 (fu : Nat) (p1 : Int32) (s : v_S) (r148 : Int32 × Int32 × Int32 → Option Int32) (x2 : Int32) (x4 : Int32) (x5 : Int32) : Option Int32 :=
if x4 ≤ x5 then (some x2) else (v_g x5 4 <| if v_ok wC ((2 + Int32.toNatClampNeg x5)) 1 [2] = true then (if s.2.2.1 ((2 + Int32.toNatClampNeg x5)) 0 = none then (v_n (x2 + (0 : Int32)) fun (x2_22 : Int32) => r148 (x2_22, x4, x5 + (1 : Int32))) else (v_n (x2 + (1 : Int32)) fun (x2_21 : Int32) => r148 (x2_21, x4, x5 + (1 : Int32)))) else none)
def t_F_count_148B (fu : Nat) (p1 : Int32) (s : v_S) (r148 : Int32 × Int32 × Int32 → Option Int32) (a : Int32 × Int32 × Int32) : Option Int32 := t_F_count_148 fu p1 s r148 a.1 a.2.1 a.2.2
def t_F_count (fu : Nat) (p1 : Int32) (s : v_S) : Option Int32 :=
  v_tw (p1) 0 9 (some (-1 : Int32)) (fun (j : Nat) => match j with | 0 => (v_b1 (s.2.2.1 0 1) fun (a_1 : Nat) => v_b1 (v_dI s a_1 4 5) fun (z_2 : Int32) => some z_2) | 1 => (v_b1 (t_F_villages fu s) fun (z_3 : Int32) => some z_3) | 2 => (v_b1 (s.2.2.1 0 1) fun (a_4 : Nat) => v_b1 (v_dR s a_4 4 1) fun (e_5 : Option Nat) => v_b1 e_5 fun (a_6 : Nat) => if v_isc s (some a_6) 5 = true then v_b1 (t_L_size fu a_6 s) fun (z_7 : Int32) => (some z_7) else none) | 3 => (v_b1 (s.2.2.1 0 1) fun (a_8 : Nat) => v_b1 (v_dR s a_8 4 2) fun (e_9 : Option Nat) => v_b1 e_9 fun (a_10 : Nat) => if v_isc s (some a_10) 5 = true then v_b1 (t_L_size fu a_10 s) fun (z_11 : Int32) => (some z_11) else none) | 4 => (v_b1 (s.2.2.1 0 1) fun (a_12 : Nat) => v_b1 (v_dR s a_12 4 3) fun (e_13 : Option Nat) => v_b1 e_13 fun (a_14 : Nat) => if v_isc s (some a_14) 5 = true then v_b1 (t_L_size fu a_14 s) fun (z_15 : Int32) => (some z_15) else none) | 5 => (v_b1 (s.2.2.1 0 1) fun (a_16 : Nat) => v_b1 (v_dI s a_16 4 8) fun (z_17 : Int32) => some z_17) | 6 => (some (s.1 0 7)) | 7 => (some (s.1 0 2)) | 8 => (v_b1 (s.2.2.1 0 1) fun (a_18 : Nat) => v_b1 (v_dI s a_18 4 7) fun (z_19 : Int32) => some z_19) | 9 => (v_loop (t_F_count_148B fu p1 s) fu ((0 : Int32), (4 : Int32), (0 : Int32))) | _ => none)
theorem w_F_count_148 {Γ : v_Ctx} {l : Launch} {g : v_G} (fu : Nat) (p1 : Int32) (s : v_S) (X : v_C Γ l rm_F_count cX0_count 7 RX0 (some .int) wC g) (r148 : Int32 × Int32 × Int32 → Option Int32) (h148 : ∀ (x2 : Int32) (x4 : Int32) (x5 : Int32), v_V Γ 7 wC g (fun z : Int32 => (some (.int z), s)) 148 [(2, .int x2), (3, .ref (v_E g 1)), (4, .int x4), (5, .int x5)] [] s (r148 (x2, x4, x5))) (x2 : Int32) (x4 : Int32) (x5 : Int32) : v_V Γ 7 wC g (fun z : Int32 => (some (.int z), s)) 148 [(2, .int x2), (3, .ref (v_E g 1)), (4, .int x4), (5, .int x5)] [] s (t_F_count_148 fu p1 s r148 x2 x4 x5) := by
  unfold t_F_count_148
  refine v_iload (pc := 148) X dX0_count_148 3 rfl ?_
  refine v_iload (pc := 150) X dX0_count_150 2 rfl ?_
  refine v_icmp_ge (pc := 152) (tgt := 183) X dX0_count_152 (by decide) (fun c152 => ?_) (fun c152 => ?_)
  · refine v_iload_n (pc := 183) X dX0_count_183 0 rfl ?_
    exact v_iret (pc := 184) X dX0_count_184 rfl
  · refine v_aload_n (pc := 155) X dX0_count_155 1 rfl ?_
    refine v_iload (pc := 156) X dX0_count_156 3 rfl ?_
    refine v_aald (pc := 158) X wC_n1 wC_l1 rfl rfl dX0_count_158 ?_
    refine v_astore (pc := 159) (lv' := [(6, .ref (v_E g (2 + Int32.toNatClampNeg x5))), (2, .int x2), (3, .ref (v_E g 1)), (4, .int x4), (5, .int x5)]) X dX0_count_159 (Nat.le_of_ble_eq_true rfl) rfl ?_
    refine v_iload_n (pc := 161) X dX0_count_161 1 rfl ?_
    refine v_aload (pc := 162) X dX0_count_162 0 rfl ?_
    refine v_nzT (pc := 164) (fun h_20 => ?_)
    refine v_getN (pc := 164) (kind := 2) (v := va_rf (s.2.2.1 ((2 + Int32.toNatClampNeg x5)) 0)) X (v_ok_n h_20) (v_ok_l h_20) wC_c1 in_X1 (Nat.le_of_ble_eq_true rfl : 0 < 1) q380 rfl rfl dX0_count_164 ?_
    refine v_ifnn (pc := 167) (tgt := 174) X dX0_count_167 (by decide) (fun c167 => ?_) (fun c167 => ?_)
    · refine v_iconst (pc := 174) (v := 1) X dX0_count_174 rfl ?_
      refine v_iadd (pc := 175) X dX0_count_175 ?_
      refine v_istore_nN (pc := 176) (lvf := fun x2_21 => [(2, .int x2_21), (6, .ref (v_E g (2 + Int32.toNatClampNeg x5))), (3, .ref (v_E g 1)), (4, .int x4), (5, .int x5)]) X dX0_count_176 rfl (Nat.le_of_ble_eq_true rfl) (fun _ => rfl) (fun x2_21 => ?_)
      refine v_iinc (pc := 177) (v := x5 + (1 : Int32)) (lv' := [(5, .int (x5 + (1 : Int32))), (2, .int x2_21), (6, .ref (v_E g (2 + Int32.toNatClampNeg x5))), (3, .ref (v_E g 1)), (4, .int x4)]) (k := 4) X dX0_count_177 rfl rfl (Nat.le_of_ble_eq_true rfl) rfl ?_
      refine v_goto (pc := 180) (tgt := 148) X dX0_count_180 (by decide) ?_
      refine v_sub [1, 3, 4, 0] rfl ?_
      exact h148 x2_21 x4 (x5 + (1 : Int32))
    · refine v_iconst (pc := 170) (v := 0) X dX0_count_170 rfl ?_
      refine v_goto (pc := 171) (tgt := 175) X dX0_count_171 (by decide) ?_
      refine v_iadd (pc := 175) X dX0_count_175 ?_
      refine v_istore_nN (pc := 176) (lvf := fun x2_22 => [(2, .int x2_22), (6, .ref (v_E g (2 + Int32.toNatClampNeg x5))), (3, .ref (v_E g 1)), (4, .int x4), (5, .int x5)]) X dX0_count_176 rfl (Nat.le_of_ble_eq_true rfl) (fun _ => rfl) (fun x2_22 => ?_)
      refine v_iinc (pc := 177) (v := x5 + (1 : Int32)) (lv' := [(5, .int (x5 + (1 : Int32))), (2, .int x2_22), (6, .ref (v_E g (2 + Int32.toNatClampNeg x5))), (3, .ref (v_E g 1)), (4, .int x4)]) (k := 4) X dX0_count_177 rfl rfl (Nat.le_of_ble_eq_true rfl) rfl ?_
      refine v_goto (pc := 180) (tgt := 148) X dX0_count_180 (by decide) ?_
      refine v_sub [1, 3, 4, 0] rfl ?_
      exact h148 x2_22 x4 (x5 + (1 : Int32))
theorem w_F_count_148L {Γ : v_Ctx} {l : Launch} {g : v_G} (fu : Nat) (p1 : Int32) (s : v_S) (X : v_C Γ l rm_F_count cX0_count 7 RX0 (some .int) wC g)  : ∀ (n : Nat), ∀ (x2 : Int32) (x4 : Int32) (x5 : Int32), v_V Γ 7 wC g (fun z : Int32 => (some (.int z), s)) 148 [(2, .int x2), (3, .ref (v_E g 1)), (4, .int x4), (5, .int x5)] [] s (v_loop (t_F_count_148B fu p1 s) n (x2, x4, x5)) := by
  intro n
  induction n with
  | zero => exact fun _ _ _ => v_none
  | succ n ih => exact fun x2 x4 x5 => w_F_count_148 fu p1 s X  _ ih x2 x4 x5
theorem m_F_count (l : Launch) (g : v_G) (fu : Nat) (p1 : Int32) (s : v_S) : v_M l yX0_count cX0_count 7 (some .int) rm_F_count wC g [.ref (v_E g 0), .int p1] s (fun z : Int32 => (some (.int z), s)) (t_F_count fu p1 s) := by
  refine v_met (by decide +kernel) (Nat.le_of_ble_eq_true rfl) (fun Γ X => ?_)
  refine v_lv (lv' := [(0, .ref (v_E g 0)), (1, .int p1)]) rfl ?_
  unfold t_F_count
  refine v_iload_n (pc := 0) X dX0_count_0 1 rfl ?_
  refine v_tsw (pc := 1) (tgt := 185) [56, 64, 69, 82, 95, 108, 116, 121, 126, 134] X dX0_count_1 (by decide) (by decide) (by decide) ?_ (fun j t hj => ?_)
  · refine v_iconst (pc := 185) (v := -1) X dX0_count_185 rfl ?_
    exact v_iret (pc := 186) X dX0_count_186 rfl
  · match j, hj with
    | 0, hj =>
      cases hj
      refine v_aload_n (pc := 56) X dX0_count_56 0 rfl ?_
      refine v_get (pc := 57) (kind := 2) (v := va_rf (s.2.2.1 0 1)) X wC_n0 wC_l0 wC_c0 in_X0 (Nat.le_of_ble_eq_true rfl : 1 < 16) q600 rfl rfl dX0_count_57 ?_
      refine v_unq0 (pc := 60) (fun a_1 _ => ?_)
      refine v_dgetIN (pc := 60) X wC_c4 in_X2 (Nat.le_of_ble_eq_true rfl : 5 < 9) q439 dX0_count_60 (fun z_2 => ?_)
      exact v_iret (pc := 63) X dX0_count_63 rfl
    | 1, hj =>
      cases hj
      refine v_aload_n (pc := 64) X dX0_count_64 0 rfl ?_
      refine v_cGi (pc := 65) X (m_F_villages l g fu _) (v_rc_n X wC_o0) (Or.inl q1071) hy_F_villages rfl rfl rfl rfl dX0_count_65 (fun z_3 _ => ?_)
      exact v_iret (pc := 68) X dX0_count_68 rfl
    | 2, hj =>
      cases hj
      refine v_aload_n (pc := 69) X dX0_count_69 0 rfl ?_
      refine v_get (pc := 70) (kind := 2) (v := va_rf (s.2.2.1 0 1)) X wC_n0 wC_l0 wC_c0 in_X0 (Nat.le_of_ble_eq_true rfl : 1 < 16) q600 rfl rfl dX0_count_70 ?_
      refine v_unq0 (pc := 73) (fun a_4 _ => ?_)
      refine v_dgetRN (pc := 73) X wC_c4 in_X2 (Nat.le_of_ble_eq_true rfl : 1 < 9) q425 dX0_count_73 (fun e_5 => ?_)
      refine v_unq0 (pc := 76) (fun a_6 _ => ?_)
      refine v_cFi (pc := 76) X (m_L_size l g fu a_6  _) wC_c5 q1076 hF_size rfl rfl rfl rfl dX0_count_76 (fun z_7 _ => ?_)
      exact v_iret (pc := 81) X dX0_count_81 rfl
    | 3, hj =>
      cases hj
      refine v_aload_n (pc := 82) X dX0_count_82 0 rfl ?_
      refine v_get (pc := 83) (kind := 2) (v := va_rf (s.2.2.1 0 1)) X wC_n0 wC_l0 wC_c0 in_X0 (Nat.le_of_ble_eq_true rfl : 1 < 16) q600 rfl rfl dX0_count_83 ?_
      refine v_unq0 (pc := 86) (fun a_8 _ => ?_)
      refine v_dgetRN (pc := 86) X wC_c4 in_X2 (Nat.le_of_ble_eq_true rfl : 2 < 9) q429 dX0_count_86 (fun e_9 => ?_)
      refine v_unq0 (pc := 89) (fun a_10 _ => ?_)
      refine v_cFi (pc := 89) X (m_L_size l g fu a_10  _) wC_c5 q1076 hF_size rfl rfl rfl rfl dX0_count_89 (fun z_11 _ => ?_)
      exact v_iret (pc := 94) X dX0_count_94 rfl
    | 4, hj =>
      cases hj
      refine v_aload_n (pc := 95) X dX0_count_95 0 rfl ?_
      refine v_get (pc := 96) (kind := 2) (v := va_rf (s.2.2.1 0 1)) X wC_n0 wC_l0 wC_c0 in_X0 (Nat.le_of_ble_eq_true rfl : 1 < 16) q600 rfl rfl dX0_count_96 ?_
      refine v_unq0 (pc := 99) (fun a_12 _ => ?_)
      refine v_dgetRN (pc := 99) X wC_c4 in_X2 (Nat.le_of_ble_eq_true rfl : 3 < 9) q433 dX0_count_99 (fun e_13 => ?_)
      refine v_unq0 (pc := 102) (fun a_14 _ => ?_)
      refine v_cFi (pc := 102) X (m_L_size l g fu a_14  _) wC_c5 q1076 hF_size rfl rfl rfl rfl dX0_count_102 (fun z_15 _ => ?_)
      exact v_iret (pc := 107) X dX0_count_107 rfl
    | 5, hj =>
      cases hj
      refine v_aload_n (pc := 108) X dX0_count_108 0 rfl ?_
      refine v_get (pc := 109) (kind := 2) (v := va_rf (s.2.2.1 0 1)) X wC_n0 wC_l0 wC_c0 in_X0 (Nat.le_of_ble_eq_true rfl : 1 < 16) q600 rfl rfl dX0_count_109 ?_
      refine v_unq0 (pc := 112) (fun a_16 _ => ?_)
      refine v_dgetIN (pc := 112) X wC_c4 in_X2 (Nat.le_of_ble_eq_true rfl : 8 < 9) q446 dX0_count_112 (fun z_17 => ?_)
      exact v_iret (pc := 115) X dX0_count_115 rfl
    | 6, hj =>
      cases hj
      refine v_aload_n (pc := 116) X dX0_count_116 0 rfl ?_
      refine v_get (pc := 117) (kind := 0) (v := .int (s.1 0 7)) X wC_n0 wC_l0 wC_c0 in_X0 (Nat.le_of_ble_eq_true rfl : 7 < 16) q606 rfl rfl dX0_count_117 ?_
      exact v_iret (pc := 120) X dX0_count_120 rfl
    | 7, hj =>
      cases hj
      refine v_aload_n (pc := 121) X dX0_count_121 0 rfl ?_
      refine v_get (pc := 122) (kind := 0) (v := .int (s.1 0 2)) X wC_n0 wC_l0 wC_c0 in_X0 (Nat.le_of_ble_eq_true rfl : 2 < 16) q601 rfl rfl dX0_count_122 ?_
      exact v_iret (pc := 125) X dX0_count_125 rfl
    | 8, hj =>
      cases hj
      refine v_aload_n (pc := 126) X dX0_count_126 0 rfl ?_
      refine v_get (pc := 127) (kind := 2) (v := va_rf (s.2.2.1 0 1)) X wC_n0 wC_l0 wC_c0 in_X0 (Nat.le_of_ble_eq_true rfl : 1 < 16) q600 rfl rfl dX0_count_127 ?_
      refine v_unq0 (pc := 130) (fun a_18 _ => ?_)
      refine v_dgetIN (pc := 130) X wC_c4 in_X2 (Nat.le_of_ble_eq_true rfl : 7 < 9) q444 dX0_count_130 (fun z_19 => ?_)
      exact v_iret (pc := 133) X dX0_count_133 rfl
    | 9, hj =>
      cases hj
      refine v_iconst (pc := 134) (v := 0) X dX0_count_134 rfl ?_
      refine v_istore_n (pc := 135) (lv' := [(2, .int (0 : Int32)), (0, .ref (v_E g 0)), (1, .int p1)]) X dX0_count_135 rfl (Nat.le_of_ble_eq_true rfl) rfl ?_
      refine v_aload_n (pc := 136) X dX0_count_136 1 rfl ?_
      refine v_get (pc := 137) (kind := 4) (v := .ref (v_E g 1)) X wC_n0 wC_l0 wC_c0 in_X0 (Nat.le_of_ble_eq_true rfl : 0 < 16) q599 rfl rfl dX0_count_137 ?_
      refine v_astore_n (pc := 140) (lv' := [(3, .ref (v_E g 1)), (2, .int (0 : Int32)), (0, .ref (v_E g 0)), (1, .int p1)]) X dX0_count_140 rfl (Nat.le_of_ble_eq_true rfl) rfl ?_
      refine v_aload_n (pc := 141) X dX0_count_141 0 rfl ?_
      refine v_alen (pc := 142) (v := 4) X wC_n1 wC_l1 rfl rfl dX0_count_142 ?_
      refine v_istore (pc := 143) (lv' := [(4, .int (4 : Int32)), (3, .ref (v_E g 1)), (2, .int (0 : Int32)), (0, .ref (v_E g 0)), (1, .int p1)]) X dX0_count_143 (Nat.le_of_ble_eq_true rfl) rfl ?_
      refine v_iconst (pc := 145) (v := 0) X dX0_count_145 rfl ?_
      refine v_istore (pc := 146) (lv' := [(5, .int (0 : Int32)), (4, .int (4 : Int32)), (3, .ref (v_E g 1)), (2, .int (0 : Int32)), (0, .ref (v_E g 0)), (1, .int p1)]) X dX0_count_146 (Nat.le_of_ble_eq_true rfl) rfl ?_
      refine v_sub [3, 2, 1, 0] rfl ?_
      exact w_F_count_148L fu p1 s X  fu (0 : Int32) (4 : Int32) (0 : Int32)
    | j + 10, hj => simp at hj
