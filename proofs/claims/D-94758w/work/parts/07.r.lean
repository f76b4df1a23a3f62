/-! records, lists, faults: in any world with the system's classes -/
theorem wG_c0 {w : v_Wd} (hw : w.2.2 = clC) : w.2.2[0]? = some ("FloodLent", TX0, 16) := by rw [hw]; rfl
theorem wG_c1 {w : v_Wd} (hw : w.2.2 = clC) : w.2.2[1]? = some ("FloodLent$Slot", TX1, 1) := by rw [hw]; rfl
theorem wG_c2 {w : v_Wd} (hw : w.2.2 = clC) : w.2.2[2]? = some ("FloodLent$Year", TX3, 23) := by rw [hw]; rfl
theorem wG_c3 {w : v_Wd} (hw : w.2.2 = clC) : w.2.2[3]? = some ("FloodLent$Rings", TX4, 7) := by rw [hw]; rfl
theorem wG_c4 {w : v_Wd} (hw : w.2.2 = clC) : w.2.2[4]? = some ("FloodLent$Plain", TX2, 9) := by rw [hw]; rfl
theorem wG_c5 {w : v_Wd} (hw : w.2.2 = clC) : w.2.2[5]? = some ("java/util/ArrayList", TJ2, 3) := by rw [hw]; rfl
theorem wG_c6 {w : v_Wd} (hw : w.2.2 = clC) : w.2.2[6]? = some ("FloodLent$Village", TX8, 5) := by rw [hw]; rfl
theorem wG_c7 {w : v_Wd} (hw : w.2.2 = clC) : w.2.2[7]? = some ("FloodLent$Crop", TX9, 5) := by rw [hw]; rfl
theorem wG_c8 {w : v_Wd} (hw : w.2.2 = clC) : w.2.2[8]? = some ("FloodLent$Lent", TX10, 6) := by rw [hw]; rfl
theorem wG_c9 {w : v_Wd} (hw : w.2.2 = clC) : w.2.2[9]? = some ("FloodLent$Image", TX11, 3) := by rw [hw]; rfl
theorem wG_c10 {w : v_Wd} (hw : w.2.2 = clC) : w.2.2[10]? = some ("FloodLent$Reader", TX6, 7) := by rw [hw]; rfl
theorem wG_c11 {w : v_Wd} (hw : w.2.2 = clC) : w.2.2[11]? = some ("FloodLent$Fault", TX7, 8) := by rw [hw]; rfl
theorem df_X2 : ∀ j, j < 9 → defaultValue (tyX2 j) = vp_V [.null, .null, .null, .null, .null, .int 0, .int 0, .int 0, .int 0] j := fun j hj => match j, hj with
  | 0, _ => rfl
  | 1, _ => rfl
  | 2, _ => rfl
  | 3, _ => rfl
  | 4, _ => rfl
  | 5, _ => rfl
  | 6, _ => rfl
  | 7, _ => rfl
  | 8, _ => rfl
  | j + 9, hj => absurd hj (Nat.not_lt.mpr (Nat.le_add_left _ _))
theorem df_X7 : ∀ j, j < 8 → defaultValue (tyX7 j) = vp_V [.null, .null, .null, .null, .null, .int 0, .int 0, .int 0] j := fun j hj => match j, hj with
  | 0, _ => rfl
  | 1, _ => rfl
  | 2, _ => rfl
  | 3, _ => rfl
  | 4, _ => rfl
  | 5, _ => rfl
  | 6, _ => rfl
  | 7, _ => rfl
  | j + 8, hj => absurd hj (Nat.not_lt.mpr (Nat.le_add_left _ _))
theorem df_X8 : ∀ j, j < 5 → defaultValue (tyX8 j) = vp_V [.int 0, .int 0, .int 0, .int 0, .int 0] j := fun j hj => match j, hj with
  | 0, _ => rfl
  | 1, _ => rfl
  | 2, _ => rfl
  | 3, _ => rfl
  | 4, _ => rfl
  | j + 5, hj => absurd hj (Nat.not_lt.mpr (Nat.le_add_left _ _))
theorem df_X9 : ∀ j, j < 5 → defaultValue (tyX9 j) = vp_V [.int 0, .int 0, .int 0, .int 0, .int 0] j := fun j hj => match j, hj with
  | 0, _ => rfl
  | 1, _ => rfl
  | 2, _ => rfl
  | 3, _ => rfl
  | 4, _ => rfl
  | j + 5, hj => absurd hj (Nat.not_lt.mpr (Nat.le_add_left _ _))
theorem df_X10 : ∀ j, j < 6 → defaultValue (tyX10 j) = vp_V [.int 0, .int 0, .int 0, .int 0, .int 0, .int 0] j := fun j hj => match j, hj with
  | 0, _ => rfl
  | 1, _ => rfl
  | 2, _ => rfl
  | 3, _ => rfl
  | 4, _ => rfl
  | 5, _ => rfl
  | j + 6, hj => absurd hj (Nat.not_lt.mpr (Nat.le_add_left _ _))
theorem df_X11 : ∀ j, j < 3 → defaultValue (tyX11 j) = vp_V [.null, .null, .int 0] j := fun j hj => match j, hj with
  | 0, _ => rfl
  | 1, _ => rfl
  | 2, _ => rfl
  | j + 3, hj => absurd hj (Nat.not_lt.mpr (Nat.le_add_left _ _))
theorem df_J2 : ∀ j, j < 3 → defaultValue (tyJ2 j) = vp_V [.int 0, .null, .int 0] j := fun j hj => match j, hj with
  | 0, _ => rfl
  | 1, _ => rfl
  | 2, _ => rfl
  | j + 3, hj => absurd hj (Nat.not_lt.mpr (Nat.le_add_left _ _))
theorem df_X6 : ∀ j, j < 7 → defaultValue (tyX6 j) = vp_V [.null, .int 0, .null, .int 0, .int 0, .int 0, .int 0] j := fun j hj => match j, hj with
  | 0, _ => rfl
  | 1, _ => rfl
  | 2, _ => rfl
  | 3, _ => rfl
  | 4, _ => rfl
  | 5, _ => rfl
  | 6, _ => rfl
  | j + 7, hj => absurd hj (Nat.not_lt.mpr (Nat.le_add_left _ _))
/-! java/util/AbstractCollection.<init>()V -/
abbrev rm_AC_init : Room := { frames := 2, cells := 0, slots := 0, locals := 60 }
theorem hy_AC_init : x_yI yJ0_init cJ0_init 1 0 := ⟨q399, q136, q400, rfl, by decide +kernel⟩
def t_AC_init (fu : Nat) (g : v_G) (a0 : Nat) (s : v_S) : x_M v_S :=
  x_ret s
theorem m_AC_init {w : v_Wd} (hw : w.2.2 = clC) (l : Launch) (g : v_G) (fu : Nat) (a0 : Nat) (s : v_S) : x_MC l yJ0_init cJ0_init 1 none rm_AC_init w g 0 0 [.ref a0] s (fun z : v_S => ((none : Option Value), z)) (t_AC_init fu g a0 s) := by
  refine x_met (by decide +kernel) (Nat.le_of_ble_eq_true rfl) (fun Γ X ht hi => ?_)
  refine x_lv (lv' := [(0, .ref a0)]) rfl ?_
  unfold t_AC_init
  refine x_aload_n (pc := 0) X dJ0_init_0 0 rfl ?_
  refine x_objInit (pc := 1) X q401 q195 q196 rfl dJ0_init_1 ?_
  exact x_vret (pc := 4) X (Nat.le_of_ble_eq_true rfl) (Nat.le_of_ble_eq_true rfl) dJ0_init_4 rfl
/-! java/util/AbstractList.<init>()V -/
abbrev rm_AL_init : Room := { frames := 3, cells := 0, slots := 0, locals := 80 }
theorem hy_AL_init : x_yI yJ1_init cJ1_init 1 0 := ⟨q396, q137, q397, rfl, by decide +kernel⟩
def t_AL_init (fu : Nat) (g : v_G) (a0 : Nat) (s : v_S) : x_M v_S :=
  x_call (t_AC_init fu g a0 s) fun (s_1 : v_S) => x_b1 (v_dfk s_1 a0 5 0) fun (f_3 : List Value) => x_n (x_st s_1 a0 (.inr (5, f_3.set 0 (.int (0 : Int32))))) fun (s_2 : v_S) => x_ret s_2
theorem m_AL_init {w : v_Wd} (hw : w.2.2 = clC) (l : Launch) (g : v_G) (fu : Nat) (a0 : Nat) (s : v_S) : x_MC l yJ1_init cJ1_init 1 none rm_AL_init w g 0 0 [.ref a0] s (fun z : v_S => ((none : Option Value), z)) (t_AL_init fu g a0 s) := by
  refine x_met (by decide +kernel) (Nat.le_of_ble_eq_true rfl) (fun Γ X ht hi => ?_)
  refine x_lv (lv' := [(0, .ref a0)]) rfl ?_
  unfold t_AL_init
  refine x_aload_n (pc := 0) X dJ1_init_0 0 rfl ?_
  refine x_xIs (pc := 1) X ht (Nat.le_of_ble_eq_true rfl) (Nat.le_of_ble_eq_true rfl) (m_AC_init hw l g fu a0 _) (Or.inl q398) hy_AC_init rfl rfl ⟨(Nat.le_of_ble_eq_true rfl), (Nat.le_of_ble_eq_true rfl)⟩ rfl rfl dJ1_init_1 (fun s_1 => ?_)
  refine x_aload_n (pc := 4) X dJ1_init_4 0 rfl ?_
  refine x_iconst (pc := 5) (v := 0) X dJ1_init_5 rfl ?_
  refine x_dput (pc := 6) (v := .int (0 : Int32)) X (wG_c5 hw) in_J2 tyJ2 tyJ2_ok nmJ2 (Nat.le_of_ble_eq_true rfl : 0 < 3) q408 rfl rfl rfl rfl dJ1_init_6 (fun s_2 => ?_)
  exact x_vret (pc := 9) X (Nat.le_of_ble_eq_true rfl) (Nat.le_of_ble_eq_true rfl) dJ1_init_9 rfl
/-! java/lang/Throwable.<init>(Ljava/lang/String;Ljava/lang/Throwable;ZZ)V -/
abbrev rm_TH_init_3 : Room := { frames := 1, cells := 0, slots := 0, locals := 21 }
theorem hy_TH_init_3 : x_yI yJ8_init_3 cJ8_init_3 5 4 := ⟨q793, q148, q794, rfl, by decide +kernel⟩
def t_TH_init_3_41 (fu : Nat) (g : v_G) (a0 : Nat) (s : v_S) : x_M v_S :=
x_b1 (v_dfk s a0 11 3) fun (f_12 : List Value) => x_n (x_st s a0 (.inr (11, f_12.set 3 (va_rf none)))) fun (s_11 : v_S) => x_b1 (v_dfk s_11 a0 11 0) fun (f_14 : List Value) => x_n (x_st s_11 a0 (.inr (11, f_14.set 0 (va_rf none)))) fun (s_13 : v_S) => if (0 : Int32) = 0 then (x_b1 (v_dfk s_13 a0 11 2) fun (f_16 : List Value) => x_n (x_st s_13 a0 (.inr (11, f_16.set 2 (va_rf none)))) fun (s_15 : v_S) => x_ret s_15) else (x_ret s_13)
def t_TH_init_3 (fu : Nat) (g : v_G) (a0 : Nat) (s : v_S) : x_M v_S :=
  x_b1 (v_dfk s a0 11 0) fun (f_2 : List Value) => x_n (x_st s a0 (.inr (11, f_2.set 0 (.ref a0)))) fun (s_1 : v_S) => x_all fun (z_3 : Option Nat) => x_b1 (v_dfk s_1 a0 11 1) fun (f_5 : List Value) => x_n (x_st s_1 a0 (.inr (11, f_5.set 1 (va_rf z_3)))) fun (s_4 : v_S) => x_all fun (z_6 : Option Nat) => x_b1 (v_dfk s_4 a0 11 2) fun (f_8 : List Value) => x_n (x_st s_4 a0 (.inr (11, f_8.set 2 (va_rf z_6)))) fun (s_7 : v_S) => if (0 : Int32) = 0 then (x_b1 (v_dfk s_7 a0 11 1) fun (f_10 : List Value) => x_n (x_st s_7 a0 (.inr (11, f_10.set 1 (va_rf none)))) fun (s_9 : v_S) => t_TH_init_3_41 fu g a0 s_9) else (x_no)
theorem w_TH_init_3_41 {Γ : v_Ctx} {l : Launch} {w : v_Wd} (hw : w.2.2 = clC) (fu : Nat) (g : v_G) (a0 : Nat) (X : v_C Γ l rm_TH_init_3 cJ8_init_3 5 RJ8 none w g) (ht : (v_c Γ).exceptionTable.toList = []) (hi : (v_me Γ).name = yJ8_init_3.name)  (s : v_S) : x_V Γ 5 w g 0 0 (fun z : v_S => ((none : Option Value), z)) 0 0 41 [(0, .ref a0), (1, va_rf none), (2, va_rf none), (3, .int (0 : Int32))] [] s (t_TH_init_3_41 fu g a0 s) := by
  unfold t_TH_init_3_41
  refine x_aload_n (pc := 41) X dJ8_init_3_41 0 rfl ?_
  refine x_aload_nq (pc := 42) X dJ8_init_3_42 1 rfl ?_
  refine x_dput (pc := 43) (v := va_rf none) X (wG_c11 hw) in_X7 tyX7 tyX7_ok nmX7 (Nat.le_of_ble_eq_true rfl : 3 < 8) q229 rfl rfl x_rfn x_rff dJ8_init_3_43 (fun s_11 => ?_)
  refine x_aload_n (pc := 46) X dJ8_init_3_46 0 rfl ?_
  refine x_aload_nq (pc := 47) X dJ8_init_3_47 2 rfl ?_
  refine x_dput (pc := 48) (v := va_rf none) X (wG_c11 hw) in_X7 tyX7 tyX7_ok nmX7 (Nat.le_of_ble_eq_true rfl : 0 < 8) q230 rfl rfl x_rfn x_rff dJ8_init_3_48 (fun s_13 => ?_)
  refine x_iload_n (pc := 51) X dJ8_init_3_51 3 rfl ?_
  refine x_if_ne (pc := 52) (tgt := 60) X dJ8_init_3_52 (by decide) (fun c52 => ?_) (fun c52 => ?_)
  · exact x_vret (pc := 60) X (Nat.le_of_ble_eq_true rfl) (Nat.le_of_ble_eq_true rfl) dJ8_init_3_60 rfl
  · refine x_aload_n (pc := 55) X dJ8_init_3_55 0 rfl ?_
    refine x_null (pc := 56) X dJ8_init_3_56 ?_
    refine x_dput (pc := 57) (v := va_rf none) X (wG_c11 hw) in_X7 tyX7 tyX7_ok nmX7 (Nat.le_of_ble_eq_true rfl : 2 < 8) q232 rfl rfl x_rfn x_rff dJ8_init_3_57 (fun s_15 => ?_)
    exact x_vret (pc := 60) X (Nat.le_of_ble_eq_true rfl) (Nat.le_of_ble_eq_true rfl) dJ8_init_3_60 rfl
theorem m_TH_init_3 {w : v_Wd} (hw : w.2.2 = clC) (l : Launch) (g : v_G) (fu : Nat) (a0 : Nat) (s : v_S) : x_MC l yJ8_init_3 cJ8_init_3 5 none rm_TH_init_3 w g 0 0 [.ref a0, va_rf none, va_rf none, .int (0 : Int32), .int (0 : Int32)] s (fun z : v_S => ((none : Option Value), z)) (t_TH_init_3 fu g a0 s) := by
  refine x_met (by decide +kernel) (Nat.le_of_ble_eq_true rfl) (fun Γ X ht hi => ?_)
  refine x_lv (lv' := [(0, .ref a0), (1, va_rf none), (2, va_rf none), (3, .int (0 : Int32)), (4, .int (0 : Int32))]) rfl ?_
  unfold t_TH_init_3
  refine x_aload_n (pc := 0) X dJ8_init_3_0 0 rfl ?_
  refine x_objInit (pc := 1) X q194 q195 q196 rfl dJ8_init_3_1 ?_
  refine x_aload_n (pc := 4) X dJ8_init_3_4 0 rfl ?_
  refine x_aload_n (pc := 5) X dJ8_init_3_5 0 rfl ?_
  refine x_dput (pc := 6) (v := .ref a0) X (wG_c11 hw) in_X7 tyX7 tyX7_ok nmX7 (Nat.le_of_ble_eq_true rfl : 0 < 8) q230 rfl rfl rfl rfl dJ8_init_3_6 (fun s_1 => ?_)
  refine x_aload_n (pc := 9) X dJ8_init_3_9 0 rfl ?_
  refine x_gsta (pc := 10) X q198 (lw_all_tbl q148) [true, false, false, false, false, false, false, false, true, false] (by decide +kernel) q197 dJ8_init_3_10 (fun z_3 => ?_)
  refine x_dput (pc := 13) (v := va_rf z_3) X (wG_c11 hw) in_X7 tyX7 tyX7_ok nmX7 (Nat.le_of_ble_eq_true rfl : 1 < 8) q231 rfl rfl x_rfna x_rffa dJ8_init_3_13 (fun s_4 => ?_)
  refine x_aload_n (pc := 16) X dJ8_init_3_16 0 rfl ?_
  refine x_gsta (pc := 17) X q200 (lw_all_tbl q148) [true, false, false, false, false, false, false, false, true, true, false] (by decide +kernel) q199 dJ8_init_3_17 (fun z_6 => ?_)
  refine x_dput (pc := 20) (v := va_rf z_6) X (wG_c11 hw) in_X7 tyX7 tyX7_ok nmX7 (Nat.le_of_ble_eq_true rfl : 2 < 8) q232 rfl rfl x_rfn x_rff dJ8_init_3_20 (fun s_7 => ?_)
  refine x_iload (pc := 23) X dJ8_init_3_23 4 rfl ?_
  refine x_if_eq (pc := 25) (tgt := 36) X dJ8_init_3_25 (by decide) (fun c25 => ?_) (fun c25 => ?_)
  · refine x_aload_n (pc := 36) X dJ8_init_3_36 0 rfl ?_
    refine x_null (pc := 37) X dJ8_init_3_37 ?_
    refine x_dput (pc := 38) (v := va_rf none) X (wG_c11 hw) in_X7 tyX7 tyX7_ok nmX7 (Nat.le_of_ble_eq_true rfl : 1 < 8) q231 rfl rfl x_rfna x_rffa dJ8_init_3_38 (fun s_9 => ?_)
    refine x_sub [0, 1, 2, 3] rfl ?_
    refine x_wd (k := 0) (n := 0) (Nat.le_of_ble_eq_true rfl) (Nat.le_of_ble_eq_true rfl) ?_
    exact w_TH_init_3_41 hw fu g a0 X ht hi  s_9
  · exact x_none
/-! java/lang/Exception.<init>(Ljava/lang/String;Ljava/lang/Throwable;ZZ)V -/
abbrev rm_EX_init_3 : Room := { frames := 2, cells := 0, slots := 0, locals := 45 }
theorem hy_EX_init_3 : x_yI yJ9_init_3 cJ9_init_3 5 4 := ⟨q790, q149, q791, rfl, by decide +kernel⟩
def t_EX_init_3 (fu : Nat) (g : v_G) (a0 : Nat) (s : v_S) : x_M v_S :=
  x_call (t_TH_init_3 fu g a0 s) fun (s_1 : v_S) => x_ret s_1
theorem m_EX_init_3 {w : v_Wd} (hw : w.2.2 = clC) (l : Launch) (g : v_G) (fu : Nat) (a0 : Nat) (s : v_S) : x_MC l yJ9_init_3 cJ9_init_3 5 none rm_EX_init_3 w g 0 0 [.ref a0, va_rf none, va_rf none, .int (0 : Int32), .int (0 : Int32)] s (fun z : v_S => ((none : Option Value), z)) (t_EX_init_3 fu g a0 s) := by
  refine x_met (by decide +kernel) (Nat.le_of_ble_eq_true rfl) (fun Γ X ht hi => ?_)
  refine x_lv (lv' := [(0, .ref a0), (1, va_rf none), (2, va_rf none), (3, .int (0 : Int32)), (4, .int (0 : Int32))]) rfl ?_
  unfold t_EX_init_3
  refine x_aload_n (pc := 0) X dJ9_init_3_0 0 rfl ?_
  refine x_aload_nq (pc := 1) X dJ9_init_3_1 1 rfl ?_
  refine x_aload_nq (pc := 2) X dJ9_init_3_2 2 rfl ?_
  refine x_iload_n (pc := 3) X dJ9_init_3_3 3 rfl ?_
  refine x_iload (pc := 4) X dJ9_init_3_4 4 rfl ?_
  refine x_xIs (pc := 6) X ht (Nat.le_of_ble_eq_true rfl) (Nat.le_of_ble_eq_true rfl) (m_TH_init_3 hw l g fu a0 _) (Or.inl q792) hy_TH_init_3 rfl rfl ⟨(Nat.le_of_ble_eq_true rfl), (Nat.le_of_ble_eq_true rfl)⟩ rfl rfl dJ9_init_3_6 (fun s_1 => ?_)
  exact x_vret (pc := 9) X (Nat.le_of_ble_eq_true rfl) (Nat.le_of_ble_eq_true rfl) dJ9_init_3_9 rfl
/-! java/lang/RuntimeException.<init>(Ljava/lang/String;Ljava/lang/Throwable;ZZ)V -/
abbrev rm_RE_init_3 : Room := { frames := 3, cells := 0, slots := 0, locals := 69 }
theorem hy_RE_init_3 : x_yI yJ10_init_3 cJ10_init_3 5 4 := ⟨q787, q150, q788, rfl, by decide +kernel⟩
def t_RE_init_3 (fu : Nat) (g : v_G) (a0 : Nat) (s : v_S) : x_M v_S :=
  x_call (t_EX_init_3 fu g a0 s) fun (s_1 : v_S) => x_ret s_1
theorem m_RE_init_3 {w : v_Wd} (hw : w.2.2 = clC) (l : Launch) (g : v_G) (fu : Nat) (a0 : Nat) (s : v_S) : x_MC l yJ10_init_3 cJ10_init_3 5 none rm_RE_init_3 w g 0 0 [.ref a0, va_rf none, va_rf none, .int (0 : Int32), .int (0 : Int32)] s (fun z : v_S => ((none : Option Value), z)) (t_RE_init_3 fu g a0 s) := by
  refine x_met (by decide +kernel) (Nat.le_of_ble_eq_true rfl) (fun Γ X ht hi => ?_)
  refine x_lv (lv' := [(0, .ref a0), (1, va_rf none), (2, va_rf none), (3, .int (0 : Int32)), (4, .int (0 : Int32))]) rfl ?_
  unfold t_RE_init_3
  refine x_aload_n (pc := 0) X dJ10_init_3_0 0 rfl ?_
  refine x_aload_nq (pc := 1) X dJ10_init_3_1 1 rfl ?_
  refine x_aload_nq (pc := 2) X dJ10_init_3_2 2 rfl ?_
  refine x_iload_n (pc := 3) X dJ10_init_3_3 3 rfl ?_
  refine x_iload (pc := 4) X dJ10_init_3_4 4 rfl ?_
  refine x_xIs (pc := 6) X ht (Nat.le_of_ble_eq_true rfl) (Nat.le_of_ble_eq_true rfl) (m_EX_init_3 hw l g fu a0 _) (Or.inl q789) hy_EX_init_3 rfl rfl ⟨(Nat.le_of_ble_eq_true rfl), (Nat.le_of_ble_eq_true rfl)⟩ rfl rfl dJ10_init_3_6 (fun s_1 => ?_)
  exact x_vret (pc := 9) X (Nat.le_of_ble_eq_true rfl) (Nat.le_of_ble_eq_true rfl) dJ10_init_3_9 rfl
/-! FloodLent$Fault.<init>(II)V -/
abbrev rm_FA_init : Room := { frames := 4, cells := 0, slots := 0, locals := 93 }
theorem hy_FA_init : x_yI yX7_init cX7_init 3 2 := ⟨q784, q151, q785, rfl, by decide +kernel⟩
def t_FA_init (fu : Nat) (g : v_G) (a0 : Nat) (p1 : Int32) (p2 : Int32) (s : v_S) : x_M v_S :=
  x_call (t_RE_init_3 fu g a0 s) fun (s_1 : v_S) => x_b1 (v_dfk s_1 a0 11 6) fun (f_3 : List Value) => x_n (x_st s_1 a0 (.inr (11, f_3.set 6 (.int p1)))) fun (s_2 : v_S) => x_b1 (v_dfk s_2 a0 11 7) fun (f_5 : List Value) => x_n (x_st s_2 a0 (.inr (11, f_5.set 7 (.int p2)))) fun (s_4 : v_S) => x_ret s_4
theorem m_FA_init {w : v_Wd} (hw : w.2.2 = clC) (l : Launch) (g : v_G) (fu : Nat) (a0 : Nat) (p1 : Int32) (p2 : Int32) (s : v_S) : x_MC l yX7_init cX7_init 3 none rm_FA_init w g 0 0 [.ref a0, .int p1, .int p2] s (fun z : v_S => ((none : Option Value), z)) (t_FA_init fu g a0 p1 p2 s) := by
  refine x_met (by decide +kernel) (Nat.le_of_ble_eq_true rfl) (fun Γ X ht hi => ?_)
  refine x_lv (lv' := [(0, .ref a0), (1, .int p1), (2, .int p2)]) rfl ?_
  unfold t_FA_init
  refine x_aload_n (pc := 0) X dX7_init_0 0 rfl ?_
  refine x_null (pc := 1) X dX7_init_1 ?_
  refine x_null (pc := 2) X dX7_init_2 ?_
  refine x_iconst (pc := 3) (v := 0) X dX7_init_3 rfl ?_
  refine x_iconst (pc := 4) (v := 0) X dX7_init_4 rfl ?_
  refine x_xIs (pc := 5) X ht (Nat.le_of_ble_eq_true rfl) (Nat.le_of_ble_eq_true rfl) (m_RE_init_3 hw l g fu a0 _) (Or.inl q786) hy_RE_init_3 rfl rfl ⟨(Nat.le_of_ble_eq_true rfl), (Nat.le_of_ble_eq_true rfl)⟩ rfl rfl dX7_init_5 (fun s_1 => ?_)
  refine x_aload_n (pc := 8) X dX7_init_8 0 rfl ?_
  refine x_iload_n (pc := 9) X dX7_init_9 1 rfl ?_
  refine x_dputF (pc := 10) (v := .int p1) X (wG_c11 hw) in_X7 tyX7 tyX7_ok nmX7 (Nat.le_of_ble_eq_true rfl : 6 < 8) q795 rfl hi rfl rfl rfl rfl dX7_init_10 (fun s_2 => ?_)
  refine x_aload_n (pc := 13) X dX7_init_13 0 rfl ?_
  refine x_iload_n (pc := 14) X dX7_init_14 2 rfl ?_
  refine x_dputF (pc := 15) (v := .int p2) X (wG_c11 hw) in_X7 tyX7 tyX7_ok nmX7 (Nat.le_of_ble_eq_true rfl : 7 < 8) q797 rfl hi rfl rfl rfl rfl dX7_init_15 (fun s_4 => ?_)
  exact x_vret (pc := 18) X (Nat.le_of_ble_eq_true rfl) (Nat.le_of_ble_eq_true rfl) dX7_init_18 rfl
/-! FloodLent$Village.<init>(IIII)V -/
abbrev rm_VI_init : Room := { frames := 2, cells := 0, slots := 0, locals := 60 }
theorem hy_VI_init : x_yI yX8_init cX8_init 5 4 := ⟨q850, q152, q851, rfl, by decide +kernel⟩
def t_VI_init (fu : Nat) (g : v_G) (a0 : Nat) (p1 : Int32) (p2 : Int32) (p3 : Int32) (p4 : Int32) (s : v_S) : x_M v_S :=
  x_b1 (v_dfk s a0 6 0) fun (f_2 : List Value) => x_n (x_st s a0 (.inr (6, f_2.set 0 (.int p1)))) fun (s_1 : v_S) => x_b1 (v_dfk s_1 a0 6 1) fun (f_4 : List Value) => x_n (x_st s_1 a0 (.inr (6, f_4.set 1 (.int p2)))) fun (s_3 : v_S) => x_b1 (v_dfk s_3 a0 6 2) fun (f_6 : List Value) => x_n (x_st s_3 a0 (.inr (6, f_6.set 2 (.int p3)))) fun (s_5 : v_S) => x_b1 (v_dfk s_5 a0 6 3) fun (f_8 : List Value) => x_n (x_st s_5 a0 (.inr (6, f_8.set 3 (.int p4)))) fun (s_7 : v_S) => x_ret s_7
theorem m_VI_init {w : v_Wd} (hw : w.2.2 = clC) (l : Launch) (g : v_G) (fu : Nat) (a0 : Nat) (p1 : Int32) (p2 : Int32) (p3 : Int32) (p4 : Int32) (s : v_S) : x_MC l yX8_init cX8_init 5 none rm_VI_init w g 0 0 [.ref a0, .int p1, .int p2, .int p3, .int p4] s (fun z : v_S => ((none : Option Value), z)) (t_VI_init fu g a0 p1 p2 p3 p4 s) := by
  refine x_met (by decide +kernel) (Nat.le_of_ble_eq_true rfl) (fun Γ X ht hi => ?_)
  refine x_lv (lv' := [(0, .ref a0), (1, .int p1), (2, .int p2), (3, .int p3), (4, .int p4)]) rfl ?_
  unfold t_VI_init
  refine x_aload_n (pc := 0) X dX8_init_0 0 rfl ?_
  refine x_objInit (pc := 1) X q852 q195 q196 rfl dX8_init_1 ?_
  refine x_aload_n (pc := 4) X dX8_init_4 0 rfl ?_
  refine x_iload_n (pc := 5) X dX8_init_5 1 rfl ?_
  refine x_dputF (pc := 6) (v := .int p1) X (wG_c6 hw) in_X8 tyX8 tyX8_ok nmX8 (Nat.le_of_ble_eq_true rfl : 0 < 5) q853 rfl hi rfl rfl rfl rfl dX8_init_6 (fun s_1 => ?_)
  refine x_aload_n (pc := 9) X dX8_init_9 0 rfl ?_
  refine x_iload_n (pc := 10) X dX8_init_10 2 rfl ?_
  refine x_dputF (pc := 11) (v := .int p2) X (wG_c6 hw) in_X8 tyX8 tyX8_ok nmX8 (Nat.le_of_ble_eq_true rfl : 1 < 5) q856 rfl hi rfl rfl rfl rfl dX8_init_11 (fun s_3 => ?_)
  refine x_aload_n (pc := 14) X dX8_init_14 0 rfl ?_
  refine x_iload_n (pc := 15) X dX8_init_15 3 rfl ?_
  refine x_dputF (pc := 16) (v := .int p3) X (wG_c6 hw) in_X8 tyX8 tyX8_ok nmX8 (Nat.le_of_ble_eq_true rfl : 2 < 5) q859 rfl hi rfl rfl rfl rfl dX8_init_16 (fun s_5 => ?_)
  refine x_aload_n (pc := 19) X dX8_init_19 0 rfl ?_
  refine x_iload (pc := 20) X dX8_init_20 4 rfl ?_
  refine x_dputF (pc := 22) (v := .int p4) X (wG_c6 hw) in_X8 tyX8 tyX8_ok nmX8 (Nat.le_of_ble_eq_true rfl : 3 < 5) q862 rfl hi rfl rfl rfl rfl dX8_init_22 (fun s_7 => ?_)
  exact x_vret (pc := 25) X (Nat.le_of_ble_eq_true rfl) (Nat.le_of_ble_eq_true rfl) dX8_init_25 rfl
/-! FloodLent$Crop.<init>(IIIII)V -/
abbrev rm_CR_init : Room := { frames := 2, cells := 0, slots := 0, locals := 60 }
theorem hy_CR_init : x_yI yX9_init cX9_init 6 5 := ⟨q959, q156, q960, rfl, by decide +kernel⟩
def t_CR_init (fu : Nat) (g : v_G) (a0 : Nat) (p1 : Int32) (p2 : Int32) (p3 : Int32) (p4 : Int32) (p5 : Int32) (s : v_S) : x_M v_S :=
  x_b1 (v_dfk s a0 7 0) fun (f_2 : List Value) => x_n (x_st s a0 (.inr (7, f_2.set 0 (.int p1)))) fun (s_1 : v_S) => x_b1 (v_dfk s_1 a0 7 1) fun (f_4 : List Value) => x_n (x_st s_1 a0 (.inr (7, f_4.set 1 (.int p2)))) fun (s_3 : v_S) => x_b1 (v_dfk s_3 a0 7 2) fun (f_6 : List Value) => x_n (x_st s_3 a0 (.inr (7, f_6.set 2 (.int p3)))) fun (s_5 : v_S) => x_b1 (v_dfk s_5 a0 7 3) fun (f_8 : List Value) => x_n (x_st s_5 a0 (.inr (7, f_8.set 3 (.int p4)))) fun (s_7 : v_S) => x_b1 (v_dfk s_7 a0 7 4) fun (f_10 : List Value) => x_n (x_st s_7 a0 (.inr (7, f_10.set 4 (.int p5)))) fun (s_9 : v_S) => x_ret s_9
theorem m_CR_init {w : v_Wd} (hw : w.2.2 = clC) (l : Launch) (g : v_G) (fu : Nat) (a0 : Nat) (p1 : Int32) (p2 : Int32) (p3 : Int32) (p4 : Int32) (p5 : Int32) (s : v_S) : x_MC l yX9_init cX9_init 6 none rm_CR_init w g 0 0 [.ref a0, .int p1, .int p2, .int p3, .int p4, .int p5] s (fun z : v_S => ((none : Option Value), z)) (t_CR_init fu g a0 p1 p2 p3 p4 p5 s) := by
  refine x_met (by decide +kernel) (Nat.le_of_ble_eq_true rfl) (fun Γ X ht hi => ?_)
  refine x_lv (lv' := [(0, .ref a0), (1, .int p1), (2, .int p2), (3, .int p3), (4, .int p4), (5, .int p5)]) rfl ?_
  unfold t_CR_init
  refine x_aload_n (pc := 0) X dX9_init_0 0 rfl ?_
  refine x_objInit (pc := 1) X q961 q195 q196 rfl dX9_init_1 ?_
  refine x_aload_n (pc := 4) X dX9_init_4 0 rfl ?_
  refine x_iload_n (pc := 5) X dX9_init_5 1 rfl ?_
  refine x_dputF (pc := 6) (v := .int p1) X (wG_c7 hw) in_X9 tyX9 tyX9_ok nmX9 (Nat.le_of_ble_eq_true rfl : 0 < 5) q962 rfl hi rfl rfl rfl rfl dX9_init_6 (fun s_1 => ?_)
  refine x_aload_n (pc := 9) X dX9_init_9 0 rfl ?_
  refine x_iload_n (pc := 10) X dX9_init_10 2 rfl ?_
  refine x_dputF (pc := 11) (v := .int p2) X (wG_c7 hw) in_X9 tyX9 tyX9_ok nmX9 (Nat.le_of_ble_eq_true rfl : 1 < 5) q965 rfl hi rfl rfl rfl rfl dX9_init_11 (fun s_3 => ?_)
  refine x_aload_n (pc := 14) X dX9_init_14 0 rfl ?_
  refine x_iload_n (pc := 15) X dX9_init_15 3 rfl ?_
  refine x_dputF (pc := 16) (v := .int p3) X (wG_c7 hw) in_X9 tyX9 tyX9_ok nmX9 (Nat.le_of_ble_eq_true rfl : 2 < 5) q968 rfl hi rfl rfl rfl rfl dX9_init_16 (fun s_5 => ?_)
  refine x_aload_n (pc := 19) X dX9_init_19 0 rfl ?_
  refine x_iload (pc := 20) X dX9_init_20 4 rfl ?_
  refine x_dputF (pc := 22) (v := .int p4) X (wG_c7 hw) in_X9 tyX9 tyX9_ok nmX9 (Nat.le_of_ble_eq_true rfl : 3 < 5) q970 rfl hi rfl rfl rfl rfl dX9_init_22 (fun s_7 => ?_)
  refine x_aload_n (pc := 25) X dX9_init_25 0 rfl ?_
  refine x_iload (pc := 26) X dX9_init_26 5 rfl ?_
  refine x_dputF (pc := 28) (v := .int p5) X (wG_c7 hw) in_X9 tyX9 tyX9_ok nmX9 (Nat.le_of_ble_eq_true rfl : 4 < 5) q972 rfl hi rfl rfl rfl rfl dX9_init_28 (fun s_9 => ?_)
  exact x_vret (pc := 31) X (Nat.le_of_ble_eq_true rfl) (Nat.le_of_ble_eq_true rfl) dX9_init_31 rfl
/-! FloodLent$Lent.<init>(IIIIII)V -/
abbrev rm_LE_init : Room := { frames := 2, cells := 0, slots := 0, locals := 60 }
theorem hy_LE_init : x_yI yX10_init cX10_init 7 6 := ⟨q994, q157, q995, rfl, by decide +kernel⟩
def t_LE_init (fu : Nat) (g : v_G) (a0 : Nat) (p1 : Int32) (p2 : Int32) (p3 : Int32) (p4 : Int32) (p5 : Int32) (p6 : Int32) (s : v_S) : x_M v_S :=
  x_b1 (v_dfk s a0 8 0) fun (f_2 : List Value) => x_n (x_st s a0 (.inr (8, f_2.set 0 (.int p1)))) fun (s_1 : v_S) => x_b1 (v_dfk s_1 a0 8 1) fun (f_4 : List Value) => x_n (x_st s_1 a0 (.inr (8, f_4.set 1 (.int p2)))) fun (s_3 : v_S) => x_b1 (v_dfk s_3 a0 8 2) fun (f_6 : List Value) => x_n (x_st s_3 a0 (.inr (8, f_6.set 2 (.int p3)))) fun (s_5 : v_S) => x_b1 (v_dfk s_5 a0 8 3) fun (f_8 : List Value) => x_n (x_st s_5 a0 (.inr (8, f_8.set 3 (.int p4)))) fun (s_7 : v_S) => x_b1 (v_dfk s_7 a0 8 4) fun (f_10 : List Value) => x_n (x_st s_7 a0 (.inr (8, f_10.set 4 (.int p5)))) fun (s_9 : v_S) => x_b1 (v_dfk s_9 a0 8 5) fun (f_12 : List Value) => x_n (x_st s_9 a0 (.inr (8, f_12.set 5 (.int p6)))) fun (s_11 : v_S) => x_ret s_11
theorem m_LE_init {w : v_Wd} (hw : w.2.2 = clC) (l : Launch) (g : v_G) (fu : Nat) (a0 : Nat) (p1 : Int32) (p2 : Int32) (p3 : Int32) (p4 : Int32) (p5 : Int32) (p6 : Int32) (s : v_S) : x_MC l yX10_init cX10_init 7 none rm_LE_init w g 0 0 [.ref a0, .int p1, .int p2, .int p3, .int p4, .int p5, .int p6] s (fun z : v_S => ((none : Option Value), z)) (t_LE_init fu g a0 p1 p2 p3 p4 p5 p6 s) := by
  refine x_met (by decide +kernel) (Nat.le_of_ble_eq_true rfl) (fun Γ X ht hi => ?_)
  refine x_lv (lv' := [(0, .ref a0), (1, .int p1), (2, .int p2), (3, .int p3), (4, .int p4), (5, .int p5), (6, .int p6)]) rfl ?_
  unfold t_LE_init
  refine x_aload_n (pc := 0) X dX10_init_0 0 rfl ?_
  refine x_objInit (pc := 1) X q996 q195 q196 rfl dX10_init_1 ?_
  refine x_aload_n (pc := 4) X dX10_init_4 0 rfl ?_
  refine x_iload_n (pc := 5) X dX10_init_5 1 rfl ?_
  refine x_dputF (pc := 6) (v := .int p1) X (wG_c8 hw) in_X10 tyX10 tyX10_ok nmX10 (Nat.le_of_ble_eq_true rfl : 0 < 6) q997 rfl hi rfl rfl rfl rfl dX10_init_6 (fun s_1 => ?_)
  refine x_aload_n (pc := 9) X dX10_init_9 0 rfl ?_
  refine x_iload_n (pc := 10) X dX10_init_10 2 rfl ?_
  refine x_dputF (pc := 11) (v := .int p2) X (wG_c8 hw) in_X10 tyX10 tyX10_ok nmX10 (Nat.le_of_ble_eq_true rfl : 1 < 6) q999 rfl hi rfl rfl rfl rfl dX10_init_11 (fun s_3 => ?_)
  refine x_aload_n (pc := 14) X dX10_init_14 0 rfl ?_
  refine x_iload_n (pc := 15) X dX10_init_15 3 rfl ?_
  refine x_dputF (pc := 16) (v := .int p3) X (wG_c8 hw) in_X10 tyX10 tyX10_ok nmX10 (Nat.le_of_ble_eq_true rfl : 2 < 6) q1002 rfl hi rfl rfl rfl rfl dX10_init_16 (fun s_5 => ?_)
  refine x_aload_n (pc := 19) X dX10_init_19 0 rfl ?_
  refine x_iload (pc := 20) X dX10_init_20 4 rfl ?_
  refine x_dputF (pc := 22) (v := .int p4) X (wG_c8 hw) in_X10 tyX10 tyX10_ok nmX10 (Nat.le_of_ble_eq_true rfl : 3 < 6) q1004 rfl hi rfl rfl rfl rfl dX10_init_22 (fun s_7 => ?_)
  refine x_aload_n (pc := 25) X dX10_init_25 0 rfl ?_
  refine x_iload (pc := 26) X dX10_init_26 5 rfl ?_
  refine x_dputF (pc := 28) (v := .int p5) X (wG_c8 hw) in_X10 tyX10 tyX10_ok nmX10 (Nat.le_of_ble_eq_true rfl : 4 < 6) q1006 rfl hi rfl rfl rfl rfl dX10_init_28 (fun s_9 => ?_)
  refine x_aload_n (pc := 31) X dX10_init_31 0 rfl ?_
  refine x_iload (pc := 32) X dX10_init_32 6 rfl ?_
  refine x_dputF (pc := 34) (v := .int p6) X (wG_c8 hw) in_X10 tyX10 tyX10_ok nmX10 (Nat.le_of_ble_eq_true rfl : 5 < 6) q1008 rfl hi rfl rfl rfl rfl dX10_init_34 (fun s_11 => ?_)
  exact x_vret (pc := 37) X (Nat.le_of_ble_eq_true rfl) (Nat.le_of_ble_eq_true rfl) dX10_init_37 rfl
/-! FloodLent$Image.<init>()V -/
abbrev rm_IM_init : Room := { frames := 2, cells := 1, slots := 3, locals := 60 }
theorem hy_IM_init : x_yI yX11_init cX11_init 1 0 := ⟨q1447, q160, q1448, rfl, by decide +kernel⟩
def t_IM_init (fu : Nat) (g : v_G) (a0 : Nat) (s : v_S) : x_M v_S :=
  x_new s (.inl (0, 3, .inl (fun _ => 0))) fun (a_1 : Nat) (s_2 : v_S) => x_b1 (v_dfk s_2 a0 9 0) fun (f_4 : List Value) => x_n (x_st s_2 a0 (.inr (9, f_4.set 0 (.ref a_1)))) fun (s_3 : v_S) => x_ret s_3
theorem m_IM_init {w : v_Wd} (hw : w.2.2 = clC) (l : Launch) (g : v_G) (fu : Nat) (a0 : Nat) (s : v_S) : x_MC l yX11_init cX11_init 1 none rm_IM_init w g 1 3 [.ref a0] s (fun z : v_S => ((none : Option Value), z)) (t_IM_init fu g a0 s) := by
  refine x_met (by decide +kernel) (Nat.le_of_ble_eq_true rfl) (fun Γ X ht hi => ?_)
  refine x_lv (lv' := [(0, .ref a0)]) rfl ?_
  unfold t_IM_init
  refine x_aload_n (pc := 0) X dX11_init_0 0 rfl ?_
  refine x_objInit (pc := 1) X q1449 q195 q196 rfl dX11_init_1 ?_
  refine x_aload_n (pc := 4) X dX11_init_4 0 rfl ?_
  refine x_iconst (pc := 5) (v := 3) X dX11_init_5 rfl ?_
  refine x_newGI (pc := 6) (nb := 3) X (by decide) (by decide) q270 rfl ⟨(Nat.le_of_ble_eq_true rfl), (Nat.le_of_ble_eq_true rfl)⟩ dX11_init_6 (fun a_1 s_2 => ?_)
  refine x_dputF (pc := 8) (v := .ref a_1) X (wG_c9 hw) in_X11 tyX11 tyX11_ok nmX11 (Nat.le_of_ble_eq_true rfl : 0 < 3) q1450 rfl hi rfl rfl rfl rfl dX11_init_8 (fun s_3 => ?_)
  exact x_vret (pc := 11) X (Nat.le_of_ble_eq_true rfl) (Nat.le_of_ble_eq_true rfl) dX11_init_11 rfl
/-! java/util/ArrayList.<init>(I)V -/
abbrev rm_L_init : Room := { frames := 4, cells := 1, slots := 16, locals := 100 }
theorem hy_L_init : x_yI yJ2_init cJ2_init 2 1 := ⟨q393, q138, q394, rfl, by decide +kernel⟩
def t_L_init (fu : Nat) (g : v_G) (a0 : Nat) (p1 : Int32) (s : v_S) : x_M v_S :=
  x_call (t_AL_init fu g a0 s) fun (s_1 : v_S) => if p1 ≤ 0 then (if p1 = 0 then (x_all fun (z_2 : Option Nat) => x_b1 (v_dfk s_1 a0 5 1) fun (f_4 : List Value) => x_n (x_st s_1 a0 (.inr (5, f_4.set 1 (va_rf z_2)))) fun (s_3 : v_S) => x_ret s_3) else (x_no)) else (if ¬ p1 < 0 ∧ Int32.toNatClampNeg p1 ≤ 16 then x_new s_1 (.inl (8, Int32.toNatClampNeg p1, .inr (.inr (.inr (.inr (fun _ => none)))))) fun (a_5 : Nat) (s_6 : v_S) => x_b1 (v_dfk s_6 a0 5 1) fun (f_8 : List Value) => x_n (x_st s_6 a0 (.inr (5, f_8.set 1 (.ref a_5)))) fun (s_7 : v_S) => (x_ret s_7) else x_no)
theorem m_L_init {w : v_Wd} (hw : w.2.2 = clC) (l : Launch) (g : v_G) (fu : Nat) (a0 : Nat) (p1 : Int32) (s : v_S) : x_MC l yJ2_init cJ2_init 2 none rm_L_init w g 1 16 [.ref a0, .int p1] s (fun z : v_S => ((none : Option Value), z)) (t_L_init fu g a0 p1 s) := by
  refine x_met (by decide +kernel) (Nat.le_of_ble_eq_true rfl) (fun Γ X ht hi => ?_)
  refine x_lv (lv' := [(0, .ref a0), (1, .int p1)]) rfl ?_
  unfold t_L_init
  refine x_aload_n (pc := 0) X dJ2_init_0 0 rfl ?_
  refine x_xIs (pc := 1) X ht (Nat.le_of_ble_eq_true rfl) (Nat.le_of_ble_eq_true rfl) (m_AL_init hw l g fu a0 _) (Or.inl q395) hy_AL_init rfl rfl ⟨(Nat.le_of_ble_eq_true rfl), (Nat.le_of_ble_eq_true rfl)⟩ rfl rfl dJ2_init_1 (fun s_1 => ?_)
  refine x_iload_n (pc := 4) X dJ2_init_4 1 rfl ?_
  refine x_if_le (pc := 5) (tgt := 19) X dJ2_init_5 (by decide) (fun c5 => ?_) (fun c5 => ?_)
  · refine x_iload_n (pc := 19) X dJ2_init_19 1 rfl ?_
    refine x_if_ne (pc := 20) (tgt := 33) X dJ2_init_20 (by decide) (fun c20 => ?_) (fun c20 => ?_)
    · exact x_none
    · refine x_aload_n (pc := 23) X dJ2_init_23 0 rfl ?_
      refine x_gsta (pc := 24) X q405 (lw_all_tbl q138) [true, false, false, false, false, false, false, false, true, true, true] (by decide +kernel) q404 dJ2_init_24 (fun z_2 => ?_)
      refine x_dput (pc := 27) (v := va_rf z_2) X (wG_c5 hw) in_J2 tyJ2 tyJ2_ok nmJ2 (Nat.le_of_ble_eq_true rfl : 1 < 3) q406 rfl rfl x_rfna x_rffa dJ2_init_27 (fun s_3 => ?_)
      refine x_goto (pc := 30) (tgt := 60) X dJ2_init_30 (by decide) ?_
      exact x_vret (pc := 60) X (Nat.le_of_ble_eq_true rfl) (Nat.le_of_ble_eq_true rfl) dJ2_init_60 rfl
  · refine x_aload_n (pc := 8) X dJ2_init_8 0 rfl ?_
    refine x_iload_n (pc := 9) X dJ2_init_9 1 rfl ?_
    refine x_newQA (pc := 10) (nb := 16) (t := 8) X q402 q403 (fun _ => rfl) (by decide) ⟨(Nat.le_of_ble_eq_true rfl), (Nat.le_of_ble_eq_true rfl)⟩ dJ2_init_10 (fun a_5 s_6 => ?_)
    refine x_dput (pc := 13) (v := .ref a_5) X (wG_c5 hw) in_J2 tyJ2 tyJ2_ok nmJ2 (Nat.le_of_ble_eq_true rfl : 1 < 3) q406 rfl rfl rfl rfl dJ2_init_13 (fun s_7 => ?_)
    refine x_goto (pc := 16) (tgt := 60) X dJ2_init_16 (by decide) ?_
    exact x_vret (pc := 60) X (Nat.le_of_ble_eq_true rfl) (Nat.le_of_ble_eq_true rfl) dJ2_init_60 rfl
/-! FloodLent$Plain.<init>()V -/
abbrev rm_PL_init : Room := { frames := 5, cells := 9, slots := 106, locals := 121 }
theorem hy_PL_init : x_yI yX2_init cX2_init 1 0 := ⟨q387, q135, q388, rfl, by decide +kernel⟩
def t_PL_init (fu : Nat) (g : v_G) (a0 : Nat) (s : v_S) : x_M v_S :=
  x_new s (.inr (5, [.int 0, .null, .int 0])) fun (a_1 : Nat) (s_2 : v_S) => x_call (t_L_init fu g a_1 (6 : Int32) s_2) fun (s_3 : v_S) => x_b1 (v_dfk s_3 a0 4 0) fun (f_5 : List Value) => x_n (x_st s_3 a0 (.inr (4, f_5.set 0 (.ref a_1)))) fun (s_4 : v_S) => x_new s_4 (.inr (5, [.int 0, .null, .int 0])) fun (a_6 : Nat) (s_7 : v_S) => x_call (t_L_init fu g a_6 (4 : Int32) s_7) fun (s_8 : v_S) => x_b1 (v_dfk s_8 a0 4 1) fun (f_10 : List Value) => x_n (x_st s_8 a0 (.inr (4, f_10.set 1 (.ref a_6)))) fun (s_9 : v_S) => x_new s_9 (.inr (5, [.int 0, .null, .int 0])) fun (a_11 : Nat) (s_12 : v_S) => x_call (t_L_init fu g a_11 (3 : Int32) s_12) fun (s_13 : v_S) => x_b1 (v_dfk s_13 a0 4 2) fun (f_15 : List Value) => x_n (x_st s_13 a0 (.inr (4, f_15.set 2 (.ref a_11)))) fun (s_14 : v_S) => x_new s_14 (.inr (5, [.int 0, .null, .int 0])) fun (a_16 : Nat) (s_17 : v_S) => x_call (t_L_init fu g a_16 (4 : Int32) s_17) fun (s_18 : v_S) => x_b1 (v_dfk s_18 a0 4 3) fun (f_20 : List Value) => x_n (x_st s_18 a0 (.inr (4, f_20.set 3 (.ref a_16)))) fun (s_19 : v_S) => x_new s_19 (.inl (0, 30, .inl (fun _ => 0))) fun (a_21 : Nat) (s_22 : v_S) => x_b1 (v_dfk s_22 a0 4 4) fun (f_24 : List Value) => x_n (x_st s_22 a0 (.inr (4, f_24.set 4 (.ref a_21)))) fun (s_23 : v_S) => x_ret s_23
theorem m_PL_init {w : v_Wd} (hw : w.2.2 = clC) (l : Launch) (g : v_G) (fu : Nat) (a0 : Nat) (s : v_S) : x_MC l yX2_init cX2_init 1 none rm_PL_init w g 9 106 [.ref a0] s (fun z : v_S => ((none : Option Value), z)) (t_PL_init fu g a0 s) := by
  refine x_met (by decide +kernel) (Nat.le_of_ble_eq_true rfl) (fun Γ X ht hi => ?_)
  refine x_lv (lv' := [(0, .ref a0)]) rfl ?_
  unfold t_PL_init
  refine x_aload_n (pc := 0) X dX2_init_0 0 rfl ?_
  refine x_objInit (pc := 1) X q389 q195 q196 rfl dX2_init_1 ?_
  refine x_aload_n (pc := 4) X dX2_init_4 0 rfl ?_
  refine x_newOG (pc := 5) (fs := [.int 0, .null, .int 0]) X (wG_c5 hw) in_J2 tyJ2 tyJ2_ok q390 q391 q138 df_J2 ⟨(Nat.le_of_ble_eq_true rfl), (Nat.le_of_ble_eq_true rfl)⟩ dX2_init_5 (fun a_1 s_2 => ?_)
  refine x_dup (pc := 8) X dX2_init_8 rfl ?_
  refine x_bipush (pc := 9) (v := 6) X dX2_init_9 rfl ?_
  refine x_xIs (pc := 11) X ht (Nat.le_of_ble_eq_true rfl) (Nat.le_of_ble_eq_true rfl) (m_L_init hw l g fu a_1 (6 : Int32) _) (Or.inl q392) hy_L_init rfl rfl ⟨(Nat.le_of_ble_eq_true rfl), (Nat.le_of_ble_eq_true rfl)⟩ rfl rfl dX2_init_11 (fun s_3 => ?_)
  refine x_dputF (pc := 14) (v := .ref a_1) X (wG_c4 hw) in_X2 tyX2 tyX2_ok nmX2 (Nat.le_of_ble_eq_true rfl : 0 < 9) q418 rfl hi rfl rfl rfl rfl dX2_init_14 (fun s_4 => ?_)
  refine x_aload_n (pc := 17) X dX2_init_17 0 rfl ?_
  refine x_newOG (pc := 18) (fs := [.int 0, .null, .int 0]) X (wG_c5 hw) in_J2 tyJ2 tyJ2_ok q390 q391 q138 df_J2 ⟨(Nat.le_of_ble_eq_true rfl), (Nat.le_of_ble_eq_true rfl)⟩ dX2_init_18 (fun a_6 s_7 => ?_)
  refine x_dup (pc := 21) X dX2_init_21 rfl ?_
  refine x_iconst (pc := 22) (v := 4) X dX2_init_22 rfl ?_
  refine x_xIs (pc := 23) X ht (Nat.le_of_ble_eq_true rfl) (Nat.le_of_ble_eq_true rfl) (m_L_init hw l g fu a_6 (4 : Int32) _) (Or.inl q392) hy_L_init rfl rfl ⟨(Nat.le_of_ble_eq_true rfl), (Nat.le_of_ble_eq_true rfl)⟩ rfl rfl dX2_init_23 (fun s_8 => ?_)
  refine x_dputF (pc := 26) (v := .ref a_6) X (wG_c4 hw) in_X2 tyX2 tyX2_ok nmX2 (Nat.le_of_ble_eq_true rfl : 1 < 9) q422 rfl hi rfl rfl rfl rfl dX2_init_26 (fun s_9 => ?_)
  refine x_aload_n (pc := 29) X dX2_init_29 0 rfl ?_
  refine x_newOG (pc := 30) (fs := [.int 0, .null, .int 0]) X (wG_c5 hw) in_J2 tyJ2 tyJ2_ok q390 q391 q138 df_J2 ⟨(Nat.le_of_ble_eq_true rfl), (Nat.le_of_ble_eq_true rfl)⟩ dX2_init_30 (fun a_11 s_12 => ?_)
  refine x_dup (pc := 33) X dX2_init_33 rfl ?_
  refine x_iconst (pc := 34) (v := 3) X dX2_init_34 rfl ?_
  refine x_xIs (pc := 35) X ht (Nat.le_of_ble_eq_true rfl) (Nat.le_of_ble_eq_true rfl) (m_L_init hw l g fu a_11 (3 : Int32) _) (Or.inl q392) hy_L_init rfl rfl ⟨(Nat.le_of_ble_eq_true rfl), (Nat.le_of_ble_eq_true rfl)⟩ rfl rfl dX2_init_35 (fun s_13 => ?_)
  refine x_dputF (pc := 38) (v := .ref a_11) X (wG_c4 hw) in_X2 tyX2 tyX2_ok nmX2 (Nat.le_of_ble_eq_true rfl : 2 < 9) q426 rfl hi rfl rfl rfl rfl dX2_init_38 (fun s_14 => ?_)
  refine x_aload_n (pc := 41) X dX2_init_41 0 rfl ?_
  refine x_newOG (pc := 42) (fs := [.int 0, .null, .int 0]) X (wG_c5 hw) in_J2 tyJ2 tyJ2_ok q390 q391 q138 df_J2 ⟨(Nat.le_of_ble_eq_true rfl), (Nat.le_of_ble_eq_true rfl)⟩ dX2_init_42 (fun a_16 s_17 => ?_)
  refine x_dup (pc := 45) X dX2_init_45 rfl ?_
  refine x_iconst (pc := 46) (v := 4) X dX2_init_46 rfl ?_
  refine x_xIs (pc := 47) X ht (Nat.le_of_ble_eq_true rfl) (Nat.le_of_ble_eq_true rfl) (m_L_init hw l g fu a_16 (4 : Int32) _) (Or.inl q392) hy_L_init rfl rfl ⟨(Nat.le_of_ble_eq_true rfl), (Nat.le_of_ble_eq_true rfl)⟩ rfl rfl dX2_init_47 (fun s_18 => ?_)
  refine x_dputF (pc := 50) (v := .ref a_16) X (wG_c4 hw) in_X2 tyX2 tyX2_ok nmX2 (Nat.le_of_ble_eq_true rfl : 3 < 9) q430 rfl hi rfl rfl rfl rfl dX2_init_50 (fun s_19 => ?_)
  refine x_aload_n (pc := 53) X dX2_init_53 0 rfl ?_
  refine x_bipush (pc := 54) (v := 30) X dX2_init_54 rfl ?_
  refine x_newGI (pc := 56) (nb := 30) X (by decide) (by decide) q270 rfl ⟨(Nat.le_of_ble_eq_true rfl), (Nat.le_of_ble_eq_true rfl)⟩ dX2_init_56 (fun a_21 s_22 => ?_)
  refine x_dputF (pc := 58) (v := .ref a_21) X (wG_c4 hw) in_X2 tyX2 tyX2_ok nmX2 (Nat.le_of_ble_eq_true rfl : 4 < 9) q434 rfl hi rfl rfl rfl rfl dX2_init_58 (fun s_23 => ?_)
  exact x_vret (pc := 61) X (Nat.le_of_ble_eq_true rfl) (Nat.le_of_ble_eq_true rfl) dX2_init_61 rfl
/-! jdk/internal/util/ArraysSupport.newLength(III)I -/
abbrev rm_AS_newLength : Room := { frames := 1, cells := 0, slots := 0, locals := 21 }
theorem hy_AS_newLength : v_yS yJ11_newLength cJ11_newLength 4 (some .int) 3 := ⟨q902, q153, q903, by decide +kernel⟩
def t_AS_newLength_21 (fu : Nat) (g : v_G) (p0 : Int32) (p1 : Int32) (p2 : Int32) (s : v_S) : x_M (Int32 × v_S) :=
x_no
def t_AS_newLength (fu : Nat) (g : v_G) (p0 : Int32) (p1 : Int32) (p2 : Int32) (s : v_S) : x_M (Int32 × v_S) :=
  x_n (p0 + (if p1 < p2 then p2 else p1)) fun (x3_1 : Int32) => if x3_1 ≤ (0 : Int32) then (t_AS_newLength_21 fu g p0 p1 p2 s) else (if (2147483639 : Int32) < x3_1 then (t_AS_newLength_21 fu g p0 p1 p2 s) else (x_ret (x3_1, s)))
theorem w_AS_newLength_21 {Γ : v_Ctx} {l : Launch} {w : v_Wd} (hw : w.2.2 = clC) (fu : Nat) (g : v_G) (p0 : Int32) (p1 : Int32) (p2 : Int32) (X : v_C Γ l rm_AS_newLength cJ11_newLength 4 RJ11 (some .int) w g) (ht : (v_c Γ).exceptionTable.toList = []) (hi : (v_me Γ).name = yJ11_newLength.name)  (s : v_S) : x_V Γ 4 w g 0 0 (fun z : Int32 × v_S => (some (.int z.1), z.2)) 0 0 21 [(0, .int p0), (1, .int p1)] [] s (t_AS_newLength_21 fu g p0 p1 p2 s) := by
  unfold t_AS_newLength_21
  exact x_none
theorem m_AS_newLength {w : v_Wd} (hw : w.2.2 = clC) (l : Launch) (g : v_G) (fu : Nat) (p0 : Int32) (p1 : Int32) (p2 : Int32) (s : v_S) : x_MC l yJ11_newLength cJ11_newLength 4 (some .int) rm_AS_newLength w g 0 0 [.int p0, .int p1, .int p2] s (fun z : Int32 × v_S => (some (.int z.1), z.2)) (t_AS_newLength fu g p0 p1 p2 s) := by
  refine x_met (by decide +kernel) (Nat.le_of_ble_eq_true rfl) (fun Γ X ht hi => ?_)
  refine x_lv (lv' := [(0, .int p0), (1, .int p1), (2, .int p2)]) rfl ?_
  unfold t_AS_newLength
  refine x_iload_n (pc := 0) X dJ11_newLength_0 0 rfl ?_
  refine x_iload_n (pc := 1) X dJ11_newLength_1 1 rfl ?_
  refine x_iload_n (pc := 2) X dJ11_newLength_2 2 rfl ?_
  refine x_mmax (pc := 3) X q904 q905 q143 q906 rfl ⟨(Nat.le_of_ble_eq_true rfl), (Nat.le_of_ble_eq_true rfl)⟩ dJ11_newLength_3 ?_
  refine x_iadd (pc := 6) X dJ11_newLength_6 ?_
  refine x_istore_nN (pc := 7) (lvf := fun x3_1 => [(3, .int x3_1), (0, .int p0), (1, .int p1), (2, .int p2)]) X dJ11_newLength_7 rfl (Nat.le_of_ble_eq_true rfl) (fun _ => rfl) (fun x3_1 => ?_)
  refine x_iconst (pc := 8) (v := 0) X dJ11_newLength_8 rfl ?_
  refine x_iload_n (pc := 9) X dJ11_newLength_9 0 rfl ?_
  refine x_icmp_ge (pc := 10) (tgt := 21) X dJ11_newLength_10 (by decide) (fun c10 => ?_) (fun c10 => ?_)
  · refine x_sub [1, 2] rfl ?_
    refine x_wd (k := 0) (n := 0) (Nat.le_of_ble_eq_true rfl) (Nat.le_of_ble_eq_true rfl) ?_
    exact w_AS_newLength_21 hw fu g p0 p1 p2 X ht hi  s
  · refine x_iload_n (pc := 13) X dJ11_newLength_13 0 rfl ?_
    refine x_ldc (pc := 14) X q907 dJ11_newLength_14 ?_
    refine x_icmp_gt (pc := 16) (tgt := 21) X dJ11_newLength_16 (by decide) (fun c16 => ?_) (fun c16 => ?_)
    · refine x_sub [1, 2] rfl ?_
      refine x_wd (k := 0) (n := 0) (Nat.le_of_ble_eq_true rfl) (Nat.le_of_ble_eq_true rfl) ?_
      exact w_AS_newLength_21 hw fu g p0 p1 p2 X ht hi  s
    · refine x_iload_n (pc := 19) X dJ11_newLength_19 0 rfl ?_
      exact x_iret (pc := 20) X (Nat.le_of_ble_eq_true rfl) (Nat.le_of_ble_eq_true rfl) dJ11_newLength_20 rfl
/-! java/util/Arrays.copyOf([Ljava/lang/Object;ILjava/lang/Class;)[Ljava/lang/Object; -/
abbrev rm_A_copyOf_2 : Room := { frames := 1, cells := 1, slots := 16, locals := 21 }
theorem hy_A_copyOf_2 : v_yS yJ12_copyOf_2 cJ12_copyOf_2 4 (some (.array (.object "java/lang/Object"))) 3 := ⟨q936, q154, q937, by decide +kernel⟩
def t_A_copyOf_2 (fu : Nat) (g : v_G) (p0 : Nat) (p1 : Int32) (s : v_S) : x_M (Nat × v_S) :=
  if ¬ p1 < 0 ∧ Int32.toNatClampNeg p1 ≤ 16 then x_new s (.inl (8, Int32.toNatClampNeg p1, .inr (.inr (.inr (.inr (fun _ => none)))))) fun (a_1 : Nat) (s_2 : v_S) => x_b1 (v_dlen s_2 p0) fun (z_3 : Int32) => x_b2 (v_dq s_2 p0 8) fun (n8 : Nat) (f8 : Nat → Option Nat) => x_b2 (v_dq s_2 a_1 8) fun (n9 : Nat) (f9 : Nat → Option Nat) => if v_bad (0 : Int32) (0 : Int32) (if p1 < z_3 then p1 else z_3) n8 n9 = true then x_no else x_as (∃ c ∈ [6, 7, 8], v_allc s_2 f8 (Int32.toNatClampNeg (0 : Int32)) (Int32.toNatClampNeg (if p1 < z_3 then p1 else z_3)) c) <| x_n (x_st s_2 a_1 (.inl (8, n9, .inr (.inr (.inr (.inr (va_cpy f8 f9 (Int32.toNatClampNeg (0 : Int32)) (Int32.toNatClampNeg (0 : Int32)) (Int32.toNatClampNeg (if p1 < z_3 then p1 else z_3))))))))) fun (s_4 : v_S) => (x_ret (a_1, s_4)) else x_no
theorem m_A_copyOf_2 {w : v_Wd} (hw : w.2.2 = clC) (l : Launch) (g : v_G) (fu : Nat) (p0 : Nat) (p1 : Int32) (s : v_S) : x_MC l yJ12_copyOf_2 cJ12_copyOf_2 4 (some (.array (.object "java/lang/Object"))) rm_A_copyOf_2 w g 1 16 [.ref p0, .int p1, .ref (v_Mo g)] s (fun z : Nat × v_S => (some (.ref z.1), z.2)) (t_A_copyOf_2 fu g p0 p1 s) := by
  refine x_met (by decide +kernel) (Nat.le_of_ble_eq_true rfl) (fun Γ X ht hi => ?_)
  refine x_lv (lv' := [(0, .ref p0), (1, .int p1), (2, .ref (v_Mo g))]) rfl ?_
  unfold t_A_copyOf_2
  refine x_aload_n (pc := 0) X dJ12_copyOf_2_0 2 rfl ?_
  refine x_ldcM (pc := 1) X [true, false, true, true, true, false, false, true, true, true, false] (by decide +kernel) q938 dJ12_copyOf_2_1 ?_
  refine x_acmpS (pc := 3) (tgt := 13) X dJ12_copyOf_2_3 (by decide) ?_
  refine x_iload_n (pc := 6) X dJ12_copyOf_2_6 1 rfl ?_
  refine x_newQA (pc := 7) (nb := 16) (t := 8) X q939 q403 (fun _ => rfl) (by decide) ⟨(Nat.le_of_ble_eq_true rfl), (Nat.le_of_ble_eq_true rfl)⟩ dJ12_copyOf_2_7 (fun a_1 s_2 => ?_)
  refine x_goto (pc := 10) (tgt := 24) X dJ12_copyOf_2_10 (by decide) ?_
  refine x_astore_n (pc := 24) (lv' := [(3, .ref a_1), (0, .ref p0), (1, .int p1), (2, .ref (v_Mo g))]) X dJ12_copyOf_2_24 rfl (Nat.le_of_ble_eq_true rfl) rfl ?_
  refine x_aload_n (pc := 25) X dJ12_copyOf_2_25 1 rfl ?_
  refine x_iconst (pc := 26) (v := 0) X dJ12_copyOf_2_26 rfl ?_
  refine x_aload_n (pc := 27) X dJ12_copyOf_2_27 0 rfl ?_
  refine x_iconst (pc := 28) (v := 0) X dJ12_copyOf_2_28 rfl ?_
  refine x_aload_n (pc := 29) X dJ12_copyOf_2_29 1 rfl ?_
  refine x_dalen (pc := 30) X dJ12_copyOf_2_30 (fun z_3 => ?_)
  refine x_iload_n (pc := 31) X dJ12_copyOf_2_31 2 rfl ?_
  refine x_mmin (pc := 32) X q940 q681 q143 q682 rfl ⟨(Nat.le_of_ble_eq_true rfl), (Nat.le_of_ble_eq_true rfl)⟩ dJ12_copyOf_2_32 ?_
  refine x_copyQ (pc := 35) (cs := [6, 7, 8]) X q941 q366 q365 q155 (by intro c hc; simp only [List.mem_cons, List.not_mem_nil, or_false] at hc; rcases hc with rfl | rfl | rfl <;> first | exact ⟨_, wG_c6 hw, q2123⟩ | exact ⟨_, wG_c7 hw, q2124⟩ | exact ⟨_, wG_c8 hw, q2125⟩) rfl dJ12_copyOf_2_35 (fun s_4 => ?_)
  refine x_aload_n (pc := 38) X dJ12_copyOf_2_38 0 rfl ?_
  exact x_aretA (pc := 39) X (Nat.le_of_ble_eq_true rfl) (Nat.le_of_ble_eq_true rfl) dJ12_copyOf_2_39 rfl
/-! java/util/Arrays.copyOf([Ljava/lang/Object;I)[Ljava/lang/Object; -/
abbrev rm_A_copyOf : Room := { frames := 2, cells := 1, slots := 16, locals := 60 }
theorem hy_A_copyOf : v_yS yJ12_copyOf cJ12_copyOf 2 (some (.array (.object "java/lang/Object"))) 2 := ⟨q912, q154, q913, by decide +kernel⟩
def t_A_copyOf (fu : Nat) (g : v_G) (p0 : Nat) (p1 : Int32) (s : v_S) : x_M (Nat × v_S) :=
  x_b2 (v_dq s p0 8) fun _ _ => x_call2 (t_A_copyOf_2 fu g p0 p1 s) fun (a_2 : Nat) (s_1 : v_S) => x_ret (a_2, s_1)
theorem m_A_copyOf {w : v_Wd} (hw : w.2.2 = clC) (l : Launch) (g : v_G) (fu : Nat) (p0 : Nat) (p1 : Int32) (s : v_S) : x_MC l yJ12_copyOf cJ12_copyOf 2 (some (.array (.object "java/lang/Object"))) rm_A_copyOf w g 1 16 [.ref p0, .int p1] s (fun z : Nat × v_S => (some (.ref z.1), z.2)) (t_A_copyOf fu g p0 p1 s) := by
  refine x_met (by decide +kernel) (Nat.le_of_ble_eq_true rfl) (fun Γ X ht hi => ?_)
  refine x_lv (lv' := [(0, .ref p0), (1, .int p1)]) rfl ?_
  unfold t_A_copyOf
  refine x_aload_n (pc := 0) X dJ12_copyOf_0 0 rfl ?_
  refine x_iload_n (pc := 1) X dJ12_copyOf_1 1 rfl ?_
  refine x_aload_n (pc := 2) X dJ12_copyOf_2 0 rfl ?_
  refine x_getC (pc := 3) X [true, false, true, true, true, false, false, true, true, true, false] (by decide +kernel) q914 q2134 q915 q934 q2133 rfl dJ12_copyOf_3 ?_
  refine x_xSrs (pc := 6) X ht (Nat.le_of_ble_eq_true rfl) (Nat.le_of_ble_eq_true rfl) (m_A_copyOf_2 hw l g fu p0 p1 _) (Or.inl q935) hy_A_copyOf_2 rfl rfl ⟨(Nat.le_of_ble_eq_true rfl), (Nat.le_of_ble_eq_true rfl)⟩ rfl rfl dJ12_copyOf_6 (fun a_2 s_1 => ?_)
  exact x_aretA (pc := 9) X (Nat.le_of_ble_eq_true rfl) (Nat.le_of_ble_eq_true rfl) dJ12_copyOf_9 rfl
/-! java/util/ArrayList.grow(I)[Ljava/lang/Object; -/
abbrev rm_L_grow_2 : Room := { frames := 3, cells := 1, slots := 16, locals := 81 }
theorem hy_L_grow_2 : v_yV yJ2_grow_2 cJ2_grow_2 4 (some (.array (.object "java/lang/Object"))) 1 := ⟨q897, qs19, q138, q898, by decide +kernel⟩
def t_L_grow_2_20 (fu : Nat) (g : v_G) (a0 : Nat) (p1 : Int32) (x2 : Int32) (s : v_S) : x_M (Nat × v_S) :=
x_call2 (t_AS_newLength fu g x2 (p1 - x2) (x2 >>> ((1 : Int32) &&& 31)) s) fun (z_5 : Int32) (s_4 : v_S) => x_b1 (v_dR s_4 a0 5 1) fun (e_6 : Option Nat) => x_b1 e_6 fun (a_7 : Nat) => x_call2 (t_A_copyOf fu g a_7 z_5 s_4) fun (a_9 : Nat) (s_8 : v_S) => x_b1 (v_dfk s_8 a0 5 1) fun (f_11 : List Value) => x_n (x_st s_8 a0 (.inr (5, f_11.set 1 (.ref a_9)))) fun (s_10 : v_S) => x_ret (a_9, s_10)
def t_L_grow_2 (fu : Nat) (g : v_G) (a0 : Nat) (p1 : Int32) (s : v_S) : x_M (Nat × v_S) :=
  x_b1 (v_dR s a0 5 1) fun (e_1 : Option Nat) => x_b1 e_1 fun (a_2 : Nat) => x_b1 (v_dlen s a_2) fun (z_3 : Int32) => if (0 : Int32) < z_3 then (t_L_grow_2_20 fu g a0 p1 z_3 s) else (x_no)
theorem w_L_grow_2_20 {Γ : v_Ctx} {l : Launch} {w : v_Wd} (hw : w.2.2 = clC) (fu : Nat) (g : v_G) (a0 : Nat) (p1 : Int32) (X : v_C Γ l rm_L_grow_2 cJ2_grow_2 4 RJ2 (some (.array (.object "java/lang/Object"))) w g) (ht : (v_c Γ).exceptionTable.toList = []) (hi : (v_me Γ).name = yJ2_grow_2.name)  (x2 : Int32) (s : v_S) : x_V Γ 4 w g 1 16 (fun z : Nat × v_S => (some (.ref z.1), z.2)) 0 0 20 [(0, .ref a0), (1, .int p1), (2, .int x2)] [] s (t_L_grow_2_20 fu g a0 p1 x2 s) := by
  unfold t_L_grow_2_20
  refine x_iload_n (pc := 20) X dJ2_grow_2_20 2 rfl ?_
  refine x_iload_n (pc := 21) X dJ2_grow_2_21 1 rfl ?_
  refine x_iload_n (pc := 22) X dJ2_grow_2_22 2 rfl ?_
  refine x_isub (pc := 23) X dJ2_grow_2_23 ?_
  refine x_iload_n (pc := 24) X dJ2_grow_2_24 2 rfl ?_
  refine x_iconst (pc := 25) (v := 1) X dJ2_grow_2_25 rfl ?_
  refine x_ishr (pc := 26) X dJ2_grow_2_26 ?_
  refine x_xSis (pc := 27) X ht (Nat.le_of_ble_eq_true rfl) (Nat.le_of_ble_eq_true rfl) (m_AS_newLength hw l g fu x2 (p1 - x2) (x2 >>> ((1 : Int32) &&& 31)) _) (Or.inl q901) hy_AS_newLength rfl rfl ⟨(Nat.le_of_ble_eq_true rfl), (Nat.le_of_ble_eq_true rfl)⟩ rfl rfl dJ2_grow_2_27 (fun z_5 s_4 => ?_)
  refine x_istore_n (pc := 30) (lv' := [(3, .int z_5), (0, .ref a0), (1, .int p1), (2, .int x2)]) X dJ2_grow_2_30 rfl (Nat.le_of_ble_eq_true rfl) rfl ?_
  refine x_aload_n (pc := 31) X dJ2_grow_2_31 1 rfl ?_
  refine x_aload_n (pc := 32) X dJ2_grow_2_32 1 rfl ?_
  refine x_dgetR (pc := 33) X (wG_c5 hw) in_J2 (Nat.le_of_ble_eq_true rfl : 1 < 3) q406 dJ2_grow_2_33 (fun e_6 => ?_)
  refine x_unq0 (pc := 36) (fun a_7 _ => ?_)
  refine x_iload_n (pc := 36) X dJ2_grow_2_36 0 rfl ?_
  refine x_xSrs (pc := 37) X ht (Nat.le_of_ble_eq_true rfl) (Nat.le_of_ble_eq_true rfl) (m_A_copyOf hw l g fu a_7 z_5 _) (Or.inl q911) hy_A_copyOf rfl rfl ⟨(Nat.le_of_ble_eq_true rfl), (Nat.le_of_ble_eq_true rfl)⟩ rfl rfl dJ2_grow_2_37 (fun a_9 s_8 => ?_)
  refine x_dup_x1 (pc := 40) X dJ2_grow_2_40 rfl rfl ?_
  refine x_dput (pc := 41) (v := .ref a_9) X (wG_c5 hw) in_J2 tyJ2 tyJ2_ok nmJ2 (Nat.le_of_ble_eq_true rfl : 1 < 3) q406 rfl rfl rfl rfl dJ2_grow_2_41 (fun s_10 => ?_)
  exact x_aretA (pc := 44) X (Nat.le_of_ble_eq_true rfl) (Nat.le_of_ble_eq_true rfl) dJ2_grow_2_44 rfl
theorem m_L_grow_2 {w : v_Wd} (hw : w.2.2 = clC) (l : Launch) (g : v_G) (fu : Nat) (a0 : Nat) (p1 : Int32) (s : v_S) : x_MC l yJ2_grow_2 cJ2_grow_2 4 (some (.array (.object "java/lang/Object"))) rm_L_grow_2 w g 1 16 [.ref a0, .int p1] s (fun z : Nat × v_S => (some (.ref z.1), z.2)) (t_L_grow_2 fu g a0 p1 s) := by
  refine x_met (by decide +kernel) (Nat.le_of_ble_eq_true rfl) (fun Γ X ht hi => ?_)
  refine x_lv (lv' := [(0, .ref a0), (1, .int p1)]) rfl ?_
  unfold t_L_grow_2
  refine x_aload_n (pc := 0) X dJ2_grow_2_0 0 rfl ?_
  refine x_dgetR (pc := 1) X (wG_c5 hw) in_J2 (Nat.le_of_ble_eq_true rfl : 1 < 3) q406 dJ2_grow_2_1 (fun e_1 => ?_)
  refine x_unq0 (pc := 4) (fun a_2 _ => ?_)
  refine x_dalen (pc := 4) X dJ2_grow_2_4 (fun z_3 => ?_)
  refine x_istore_n (pc := 5) (lv' := [(2, .int z_3), (0, .ref a0), (1, .int p1)]) X dJ2_grow_2_5 rfl (Nat.le_of_ble_eq_true rfl) rfl ?_
  refine x_iload_n (pc := 6) X dJ2_grow_2_6 0 rfl ?_
  refine x_if_gt (pc := 7) (tgt := 20) X dJ2_grow_2_7 (by decide) (fun c7 => ?_) (fun c7 => ?_)
  · refine x_sub [1, 2, 0] rfl ?_
    refine x_wd (k := 0) (n := 0) (Nat.le_of_ble_eq_true rfl) (Nat.le_of_ble_eq_true rfl) ?_
    exact w_L_grow_2_20 hw fu g a0 p1 X ht hi  z_3 s
  · exact x_none
/-! java/util/ArrayList.grow()[Ljava/lang/Object; -/
abbrev rm_L_grow : Room := { frames := 4, cells := 1, slots := 16, locals := 104 }
theorem hy_L_grow : v_yV yJ2_grow cJ2_grow 1 (some (.array (.object "java/lang/Object"))) 0 := ⟨q893, qs18, q138, q894, by decide +kernel⟩
def t_L_grow (fu : Nat) (g : v_G) (a0 : Nat) (s : v_S) : x_M (Nat × v_S) :=
  x_b1 (v_dI s a0 5 2) fun (z_1 : Int32) => if v_isc s (some a0) 5 = true then x_call2 (t_L_grow_2 fu g a0 (z_1 + (1 : Int32)) s) fun (a_4 : Nat) (s_3 : v_S) => (x_ret (a_4, s_3)) else x_no
theorem m_L_grow {w : v_Wd} (hw : w.2.2 = clC) (l : Launch) (g : v_G) (fu : Nat) (a0 : Nat) (s : v_S) : x_MC l yJ2_grow cJ2_grow 1 (some (.array (.object "java/lang/Object"))) rm_L_grow w g 1 16 [.ref a0] s (fun z : Nat × v_S => (some (.ref z.1), z.2)) (t_L_grow fu g a0 s) := by
  refine x_met (by decide +kernel) (Nat.le_of_ble_eq_true rfl) (fun Γ X ht hi => ?_)
  refine x_lv (lv' := [(0, .ref a0)]) rfl ?_
  unfold t_L_grow
  refine x_aload_n (pc := 0) X dJ2_grow_0 0 rfl ?_
  refine x_aload_n (pc := 1) X dJ2_grow_1 0 rfl ?_
  refine x_dgetI (pc := 2) X (wG_c5 hw) in_J2 (Nat.le_of_ble_eq_true rfl : 2 < 3) q407 dJ2_grow_2 (fun z_1 => ?_)
  refine x_iconst (pc := 5) (v := 1) X dJ2_grow_5 rfl ?_
  refine x_iadd (pc := 6) X dJ2_grow_6 ?_
  refine x_nzT (pc := 7) (fun h_2 => ?_)
  refine x_xGrs (pc := 7) X ht (Nat.le_of_ble_eq_true rfl) (Nat.le_of_ble_eq_true rfl) (m_L_grow_2 hw l g fu a0 (z_1 + (1 : Int32)) _) (v_rc_d X (wG_c5 hw) h_2) (Or.inl q895) hy_L_grow_2 rfl rfl ⟨(Nat.le_of_ble_eq_true rfl), (Nat.le_of_ble_eq_true rfl)⟩ rfl rfl dJ2_grow_7 (fun a_4 s_3 => ?_)
  exact x_aretA (pc := 10) X (Nat.le_of_ble_eq_true rfl) (Nat.le_of_ble_eq_true rfl) dJ2_grow_10 rfl
/-! java/util/ArrayList.add(Ljava/lang/Object;[Ljava/lang/Object;I)V -/
abbrev rm_L_add_2 : Room := { frames := 5, cells := 1, slots := 16, locals := 124 }
theorem hy_L_add_2 : v_yV yJ2_add_2 cJ2_add_2 4 none 3 := ⟨q889, qs17, q138, q890, by decide +kernel⟩
def t_L_add_2_11 (fu : Nat) (g : v_G) (a0 : Nat) (p1 : Nat) (p2 : Nat) (p3 : Int32) (x2 : Nat) (s : v_S) : x_M v_S :=
x_b1 (v_cc s p1) fun (c9 : Nat) => if c9 ∈ [6, 7, 8] then x_b2 (v_dq s x2 8) fun (n9 : Nat) (f9 : Nat → Option Nat) => x_g p3 n9 <| x_n (x_st s x2 (.inl (8, n9, .inr (.inr (.inr (.inr (va_up f9 (Int32.toNatClampNeg p3) (some p1)))))))) fun (s_2 : v_S) => x_b1 (v_dfk s_2 a0 5 2) fun (f_4 : List Value) => x_n (x_st s_2 a0 (.inr (5, f_4.set 2 (.int (p3 + (1 : Int32)))))) fun (s_3 : v_S) => (x_ret s_3) else x_no
def t_L_add_2 (fu : Nat) (g : v_G) (a0 : Nat) (p1 : Nat) (p2 : Nat) (p3 : Int32) (s : v_S) : x_M v_S :=
  x_b1 (v_dlen s p2) fun (z_1 : Int32) => if p3 = z_1 then (if v_isc s (some a0) 5 = true then x_call2 (t_L_grow fu g a0 s) fun (a_7 : Nat) (s_6 : v_S) => (t_L_add_2_11 fu g a0 p1 p2 p3 a_7 s_6) else x_no) else (t_L_add_2_11 fu g a0 p1 p2 p3 p2 s)
theorem w_L_add_2_11 {Γ : v_Ctx} {l : Launch} {w : v_Wd} (hw : w.2.2 = clC) (fu : Nat) (g : v_G) (a0 : Nat) (p1 : Nat) (p2 : Nat) (p3 : Int32) (X : v_C Γ l rm_L_add_2 cJ2_add_2 4 RJ2 none w g) (ht : (v_c Γ).exceptionTable.toList = []) (hi : (v_me Γ).name = yJ2_add_2.name)  (x2 : Nat) (s : v_S) : x_V Γ 4 w g 1 16 (fun z : v_S => ((none : Option Value), z)) 1 16 11 [(0, .ref a0), (1, .ref p1), (2, .ref x2), (3, .int p3)] [] s (t_L_add_2_11 fu g a0 p1 p2 p3 x2 s) := by
  unfold t_L_add_2_11
  refine x_aload_n (pc := 11) X dJ2_add_2_11 2 rfl ?_
  refine x_iload_n (pc := 12) X dJ2_add_2_12 3 rfl ?_
  refine x_aload_n (pc := 13) X dJ2_add_2_13 1 rfl ?_
  refine x_dqast (pc := 14) (t := 8) (cs := [6, 7, 8]) X (fun _ => rfl) (by intro c hc; simp only [List.mem_cons, List.not_mem_nil, or_false] at hc; rcases hc with rfl | rfl | rfl <;> first | exact ⟨_, wG_c6 hw, Or.inr q2123⟩ | exact ⟨_, wG_c7 hw, Or.inr q2124⟩ | exact ⟨_, wG_c8 hw, Or.inr q2125⟩) dJ2_add_2_14 (fun s_2 => ?_)
  refine x_aload_n (pc := 15) X dJ2_add_2_15 0 rfl ?_
  refine x_iload_n (pc := 16) X dJ2_add_2_16 3 rfl ?_
  refine x_iconst (pc := 17) (v := 1) X dJ2_add_2_17 rfl ?_
  refine x_iadd (pc := 18) X dJ2_add_2_18 ?_
  refine x_dput (pc := 19) (v := .int (p3 + (1 : Int32))) X (wG_c5 hw) in_J2 tyJ2 tyJ2_ok nmJ2 (Nat.le_of_ble_eq_true rfl : 2 < 3) q407 rfl rfl rfl rfl dJ2_add_2_19 (fun s_3 => ?_)
  exact x_vret (pc := 22) X (Nat.le_of_ble_eq_true rfl) (Nat.le_of_ble_eq_true rfl) dJ2_add_2_22 rfl
theorem m_L_add_2 {w : v_Wd} (hw : w.2.2 = clC) (l : Launch) (g : v_G) (fu : Nat) (a0 : Nat) (p1 : Nat) (p2 : Nat) (p3 : Int32) (s : v_S) : x_MC l yJ2_add_2 cJ2_add_2 4 none rm_L_add_2 w g 1 16 [.ref a0, .ref p1, .ref p2, .int p3] s (fun z : v_S => ((none : Option Value), z)) (t_L_add_2 fu g a0 p1 p2 p3 s) := by
  refine x_met (by decide +kernel) (Nat.le_of_ble_eq_true rfl) (fun Γ X ht hi => ?_)
  refine x_lv (lv' := [(0, .ref a0), (1, .ref p1), (2, .ref p2), (3, .int p3)]) rfl ?_
  unfold t_L_add_2
  refine x_iload_n (pc := 0) X dJ2_add_2_0 3 rfl ?_
  refine x_aload_n (pc := 1) X dJ2_add_2_1 2 rfl ?_
  refine x_dalen (pc := 2) X dJ2_add_2_2 (fun z_1 => ?_)
  refine x_icmp_ne (pc := 3) (tgt := 11) X dJ2_add_2_3 (by decide) (fun c3 => ?_) (fun c3 => ?_)
  · refine x_wd (k := 1) (n := 16) (Nat.le_of_ble_eq_true rfl) (Nat.le_of_ble_eq_true rfl) ?_
    exact w_L_add_2_11 hw fu g a0 p1 p2 p3 X ht hi  p2 s
  · refine x_aload_n (pc := 6) X dJ2_add_2_6 0 rfl ?_
    refine x_nzT (pc := 7) (fun h_5 => ?_)
    refine x_xGrs (pc := 7) X ht (Nat.le_of_ble_eq_true rfl) (Nat.le_of_ble_eq_true rfl) (m_L_grow hw l g fu a0 _) (v_rc_d X (wG_c5 hw) h_5) (Or.inl q891) hy_L_grow rfl rfl ⟨(Nat.le_of_ble_eq_true rfl), (Nat.le_of_ble_eq_true rfl)⟩ rfl rfl dJ2_add_2_7 (fun a_7 s_6 => ?_)
    refine x_astore_n (pc := 10) (lv' := [(2, .ref a_7), (0, .ref a0), (1, .ref p1), (3, .int p3)]) X dJ2_add_2_10 rfl (Nat.le_of_ble_eq_true rfl) rfl ?_
    refine x_sub [1, 2, 0, 3] rfl ?_
    refine x_wd (k := 1) (n := 16) (Nat.le_of_ble_eq_true rfl) (Nat.le_of_ble_eq_true rfl) ?_
    exact w_L_add_2_11 hw fu g a0 p1 p2 p3 X ht hi  a_7 s_6
/-! java/util/ArrayList.add(Ljava/lang/Object;)Z -/
abbrev rm_L_add : Room := { frames := 6, cells := 1, slots := 16, locals := 147 }
def t_L_add (fu : Nat) (g : v_G) (a0 : Nat) (p1 : Nat) (s : v_S) : x_M (Int32 × v_S) :=
  x_b1 (v_dI s a0 5 0) fun (z_1 : Int32) => x_b1 (v_dfk s a0 5 0) fun (f_3 : List Value) => x_n (x_st s a0 (.inr (5, f_3.set 0 (.int (z_1 + (1 : Int32)))))) fun (s_2 : v_S) => x_b1 (v_dR s_2 a0 5 1) fun (e_4 : Option Nat) => x_b1 e_4 fun (a_5 : Nat) => x_b1 (v_dI s_2 a0 5 2) fun (z_6 : Int32) => if v_isc s_2 (some a0) 5 = true then x_call (t_L_add_2 fu g a0 p1 a_5 z_6 s_2) fun (s_8 : v_S) => (x_ret ((1 : Int32), s_8)) else x_no
theorem m_L_add {w : v_Wd} (hw : w.2.2 = clC) (l : Launch) (g : v_G) (fu : Nat) (a0 : Nat) (p1 : Nat) (s : v_S) : x_MC l yJ2_add cJ2_add 2 (some .boolean) rm_L_add w g 1 16 [.ref a0, .ref p1] s (fun z : Int32 × v_S => (some (.int z.1), z.2)) (t_L_add fu g a0 p1 s) := by
  refine x_met (by decide +kernel) (Nat.le_of_ble_eq_true rfl) (fun Γ X ht hi => ?_)
  refine x_lv (lv' := [(0, .ref a0), (1, .ref p1)]) rfl ?_
  unfold t_L_add
  refine x_aload_n (pc := 0) X dJ2_add_0 0 rfl ?_
  refine x_dup (pc := 1) X dJ2_add_1 rfl ?_
  refine x_dgetS (pc := 2) X (wG_c5 hw) in_J2 (Nat.le_of_ble_eq_true rfl : 0 < 3) q409 q410 dJ2_add_2 (fun z_1 => ?_)
  refine x_iconst (pc := 5) (v := 1) X dJ2_add_5 rfl ?_
  refine x_iadd (pc := 6) X dJ2_add_6 ?_
  refine x_dputS (pc := 7) (v := .int (z_1 + (1 : Int32))) X (wG_c5 hw) in_J2 tyJ2 tyJ2_ok nmJ2 (Nat.le_of_ble_eq_true rfl : 0 < 3) q409 q410 rfl rfl rfl rfl dJ2_add_7 (fun s_2 => ?_)
  refine x_aload_n (pc := 10) X dJ2_add_10 0 rfl ?_
  refine x_aload_n (pc := 11) X dJ2_add_11 1 rfl ?_
  refine x_aload_n (pc := 12) X dJ2_add_12 0 rfl ?_
  refine x_dgetR (pc := 13) X (wG_c5 hw) in_J2 (Nat.le_of_ble_eq_true rfl : 1 < 3) q406 dJ2_add_13 (fun e_4 => ?_)
  refine x_unq0 (pc := 16) (fun a_5 _ => ?_)
  refine x_aload_n (pc := 16) X dJ2_add_16 0 rfl ?_
  refine x_dgetI (pc := 17) X (wG_c5 hw) in_J2 (Nat.le_of_ble_eq_true rfl : 2 < 3) q407 dJ2_add_17 (fun z_6 => ?_)
  refine x_nzT (pc := 20) (fun h_7 => ?_)
  refine x_xGs (pc := 20) X ht (Nat.le_of_ble_eq_true rfl) (Nat.le_of_ble_eq_true rfl) (m_L_add_2 hw l g fu a0 p1 a_5 z_6 _) (v_rc_d X (wG_c5 hw) h_7) (Or.inl q887) hy_L_add_2 rfl rfl ⟨(Nat.le_of_ble_eq_true rfl), (Nat.le_of_ble_eq_true rfl)⟩ rfl rfl dJ2_add_20 (fun s_8 => ?_)
  refine x_iconst (pc := 23) (v := 1) X dJ2_add_23 rfl ?_
  exact x_zret (pc := 24) X (Nat.le_of_ble_eq_true rfl) (Nat.le_of_ble_eq_true rfl) dJ2_add_24 rfl rfl
