/-! the reference's world: cell 0 the object, cells 1.. its arrays -/
def layT : v_Lay := fun n => match n with
  | 0 => .inl (0, [0, 4, 5, 6, 7, 0, 8, 0, 0, 0, 0, 0, 0, 0, 9, 10, 11, 12, 13, 14, 0, 0, 0, 0, 0, 0, 15, 0, 1, 16, 17, 0, 0, 18, 19, 1, 20, 21, 22, 23])
  | 1 => .inr (0, 160, 0)
  | 2 => .inr (0, 480, 0)
  | 3 => .inr (2, 3, 0)
  | 4 => .inr (1, 1600, 0)
  | 5 => .inr (0, 5, 0)
  | 6 => .inr (0, 160, 0)
  | 7 => .inr (0, 6, 0)
  | 8 => .inr (0, 180, 0)
  | 9 => .inr (0, 9, 0)
  | 10 => .inr (0, 24, 0)
  | 11 => .inr (0, 24, 0)
  | 12 => .inr (0, 3, 0)
  | 13 => .inr (0, 36, 0)
  | 14 => .inr (0, 120, 0)
  | 15 => .inr (0, 6, 0)
  | 16 => .inr (0, 36, 0)
  | 17 => .inr (0, 4, 0)
  | 18 => .inr (0, 4, 0)
  | 19 => .inr (3, 240, 1)
  | 20 => .inr (3, 60, 1)
  | _ => .inr (0, 0, 0)
def wT : v_Wd := (layT, 21, [(RX5, TX5, 40)])
theorem wT_n0 : 0 < wT.2.1 := Nat.le_of_ble_eq_true rfl
theorem wT_l0 : wT.1 0 = .inl (0, [0, 4, 5, 6, 7, 0, 8, 0, 0, 0, 0, 0, 0, 0, 9, 10, 11, 12, 13, 14, 0, 0, 0, 0, 0, 0, 15, 0, 1, 16, 17, 0, 0, 18, 19, 1, 20, 21, 22, 23]) := rfl
theorem wT_c0 : wT.2.2[0]? = some ("FloodLentModel", TX5, 40) := rfl
theorem wT_o0 : v_ob wT 0 RX5 := ⟨wT_n0, 0, 40, _, TX5, wT_l0, rfl⟩
theorem wT_n1 : 1 < wT.2.1 := Nat.le_of_ble_eq_true rfl
theorem wT_l1 : wT.1 1 = .inr (0, 160, 0) := rfl
theorem wT_n2 : 2 < wT.2.1 := Nat.le_of_ble_eq_true rfl
theorem wT_l2 : wT.1 2 = .inr (0, 480, 0) := rfl
theorem wT_n3 : 3 < wT.2.1 := Nat.le_of_ble_eq_true rfl
theorem wT_l3 : wT.1 3 = .inr (2, 3, 0) := rfl
theorem wT_n4 : 4 < wT.2.1 := Nat.le_of_ble_eq_true rfl
theorem wT_l4 : wT.1 4 = .inr (1, 1600, 0) := rfl
theorem wT_n5 : 5 < wT.2.1 := Nat.le_of_ble_eq_true rfl
theorem wT_l5 : wT.1 5 = .inr (0, 5, 0) := rfl
theorem wT_n6 : 6 < wT.2.1 := Nat.le_of_ble_eq_true rfl
theorem wT_l6 : wT.1 6 = .inr (0, 160, 0) := rfl
theorem wT_n7 : 7 < wT.2.1 := Nat.le_of_ble_eq_true rfl
theorem wT_l7 : wT.1 7 = .inr (0, 6, 0) := rfl
theorem wT_n8 : 8 < wT.2.1 := Nat.le_of_ble_eq_true rfl
theorem wT_l8 : wT.1 8 = .inr (0, 180, 0) := rfl
theorem wT_n9 : 9 < wT.2.1 := Nat.le_of_ble_eq_true rfl
theorem wT_l9 : wT.1 9 = .inr (0, 9, 0) := rfl
theorem wT_n10 : 10 < wT.2.1 := Nat.le_of_ble_eq_true rfl
theorem wT_l10 : wT.1 10 = .inr (0, 24, 0) := rfl
theorem wT_n11 : 11 < wT.2.1 := Nat.le_of_ble_eq_true rfl
theorem wT_l11 : wT.1 11 = .inr (0, 24, 0) := rfl
theorem wT_n12 : 12 < wT.2.1 := Nat.le_of_ble_eq_true rfl
theorem wT_l12 : wT.1 12 = .inr (0, 3, 0) := rfl
theorem wT_n13 : 13 < wT.2.1 := Nat.le_of_ble_eq_true rfl
theorem wT_l13 : wT.1 13 = .inr (0, 36, 0) := rfl
theorem wT_n14 : 14 < wT.2.1 := Nat.le_of_ble_eq_true rfl
theorem wT_l14 : wT.1 14 = .inr (0, 120, 0) := rfl
theorem wT_n15 : 15 < wT.2.1 := Nat.le_of_ble_eq_true rfl
theorem wT_l15 : wT.1 15 = .inr (0, 6, 0) := rfl
theorem wT_n16 : 16 < wT.2.1 := Nat.le_of_ble_eq_true rfl
theorem wT_l16 : wT.1 16 = .inr (0, 36, 0) := rfl
theorem wT_n17 : 17 < wT.2.1 := Nat.le_of_ble_eq_true rfl
theorem wT_l17 : wT.1 17 = .inr (0, 4, 0) := rfl
theorem wT_n18 : 18 < wT.2.1 := Nat.le_of_ble_eq_true rfl
theorem wT_l18 : wT.1 18 = .inr (0, 4, 0) := rfl
theorem wT_n19 : 19 < wT.2.1 := Nat.le_of_ble_eq_true rfl
theorem wT_l19 : wT.1 19 = .inr (3, 240, 1) := rfl
theorem wT_n20 : 20 < wT.2.1 := Nat.le_of_ble_eq_true rfl
theorem wT_l20 : wT.1 20 = .inr (3, 60, 1) := rfl
/-! FloodLentModel.in(JJJ)Z -/
abbrev rm_T_in : Room := { frames := 1, cells := 0, slots := 0, locals := 21 }
theorem hy_T_in : v_yS yX5_in cX5_in 6 (some .boolean) 3 := ⟨q1599, q141, q1600, by decide +kernel⟩
def t_T_in (fu : Nat) (p0 : Int64) (p2 : Int64) (p4 : Int64) (s : v_S) : Option Int32 :=
  if lg_cmp p0 p2 < 0 then (some (0 : Int32)) else (if (0 : Int32) < lg_cmp p0 p4 then (some (0 : Int32)) else (some (1 : Int32)))
theorem m_T_in (l : Launch) (g : v_G) (fu : Nat) (p0 : Int64) (p2 : Int64) (p4 : Int64) (s : v_S) : v_M l yX5_in cX5_in 6 (some .boolean) rm_T_in wT g [.long p0, .long p2, .long p4] s (fun z : Int32 => (some (.int z), s)) (t_T_in fu p0 p2 p4 s) := by
  refine v_met (by decide +kernel) (Nat.le_of_ble_eq_true rfl) (fun Γ X => ?_)
  refine v_lv (lv' := [(0, .long p0), (2, .long p2), (4, .long p4)]) rfl ?_
  unfold t_T_in
  refine v_lload_n (pc := 0) X dX5_in_0 0 rfl ?_
  refine v_lload_n (pc := 1) X dX5_in_1 1 rfl ?_
  refine v_lcmp (pc := 2) X dX5_in_2 ?_
  refine v_if_lt (pc := 3) (tgt := 17) X dX5_in_3 (by decide) (fun c3 => ?_) (fun c3 => ?_)
  · refine v_iconst (pc := 17) (v := 0) X dX5_in_17 rfl ?_
    exact v_zret (pc := 18) X dX5_in_18 rfl rfl
  · refine v_lload_n (pc := 6) X dX5_in_6 0 rfl ?_
    refine v_lload (pc := 7) X dX5_in_7 2 rfl ?_
    refine v_lcmp (pc := 9) X dX5_in_9 ?_
    refine v_if_gt (pc := 10) (tgt := 17) X dX5_in_10 (by decide) (fun c10 => ?_) (fun c10 => ?_)
    · refine v_iconst (pc := 17) (v := 0) X dX5_in_17 rfl ?_
      exact v_zret (pc := 18) X dX5_in_18 rfl rfl
    · refine v_iconst (pc := 13) (v := 1) X dX5_in_13 rfl ?_
      refine v_goto (pc := 14) (tgt := 18) X dX5_in_14 (by decide) ?_
      exact v_zret (pc := 18) X dX5_in_18 rfl rfl
/-! FloodLentModel.image(I)I -/
abbrev rm_T_image : Room := { frames := 2, cells := 0, slots := 0, locals := 46 }
theorem hy_T_image : v_yV yX5_image cX5_image 3 (some .int) 1 := ⟨q1594, q1595, q141, q1596, by decide +kernel⟩
def t_T_image_48 (fu : Nat) (p1 : Int32) (s : v_S) : Option (Int32 × v_S) :=
v_g p1 3 <| v_n (v_uI s 3 (Int32.toNatClampNeg p1) (vp_nar .boolean (1 : Int32))) fun (s_2 : v_S) => some ((0 : Int32), s_2)
def t_T_image_17 (fu : Nat) (p1 : Int32) (r17 : Int32 × v_S → Option (Int32 × v_S)) (x2 : Int32) (s : v_S) : Option (Int32 × v_S) :=
if (160 : Int32) ≤ x2 then (t_T_image_48 fu p1 s) else (v_g x2 160 <| v_g (((160 : Int32) * p1) + x2) 480 <| v_n (v_uI s 2 (Int32.toNatClampNeg (((160 : Int32) * p1) + x2)) (s.1 1 (Int32.toNatClampNeg x2))) fun (s_3 : v_S) => r17 (x2 + (1 : Int32), s_3))
def t_T_image_17B (fu : Nat) (p1 : Int32) (r17 : Int32 × v_S → Option (Int32 × v_S)) (a : Int32 × v_S) : Option (Int32 × v_S) := t_T_image_17 fu p1 r17 a.1 a.2
def t_T_image (fu : Nat) (p1 : Int32) (s : v_S) : Option (Int32 × v_S) :=
  v_b1 (t_T_in fu (Int32.toInt64 p1) (0 : Int64) (2 : Int64) s) fun (z_1 : Int32) => if z_1 = 0 then (some ((-2 : Int32), s)) else (v_loop (t_T_image_17B fu p1) fu ((0 : Int32), s))
theorem w_T_image_48 {Γ : v_Ctx} {l : Launch} {g : v_G} (fu : Nat) (p1 : Int32) (X : v_C Γ l rm_T_image cX5_image 3 RX5 (some .int) wT g)  (s : v_S) : v_V Γ 3 wT g (fun z : Int32 × v_S => (some (.int z.1), z.2)) 48 [(0, .ref (v_E g 0)), (1, .int p1)] [] s (t_T_image_48 fu p1 s) := by
  unfold t_T_image_48
  refine v_aload_n (pc := 48) X dX5_image_48 0 rfl ?_
  refine v_get (pc := 49) (kind := 6) (v := .ref (v_E g 3)) X wT_n0 wT_l0 wT_c0 in_X5 (Nat.le_of_ble_eq_true rfl : 3 < 40) q1474 rfl rfl dX5_image_49 ?_
  refine v_iload_n (pc := 52) X dX5_image_52 1 rfl ?_
  refine v_iconst (pc := 53) (v := 1) X dX5_image_53 rfl ?_
  refine v_zast (pc := 54) X wT_n3 wT_l3 dX5_image_54 (fun s_2 => ?_)
  refine v_iconst (pc := 55) (v := 0) X dX5_image_55 rfl ?_
  exact v_iret (pc := 56) X dX5_image_56 rfl
theorem w_T_image_17 {Γ : v_Ctx} {l : Launch} {g : v_G} (fu : Nat) (p1 : Int32) (X : v_C Γ l rm_T_image cX5_image 3 RX5 (some .int) wT g) (r17 : Int32 × v_S → Option (Int32 × v_S)) (h17 : ∀ (x2 : Int32) (s : v_S), v_V Γ 3 wT g (fun z : Int32 × v_S => (some (.int z.1), z.2)) 17 [(0, .ref (v_E g 0)), (1, .int p1), (2, .int x2)] [] s (r17 (x2, s))) (x2 : Int32) (s : v_S) : v_V Γ 3 wT g (fun z : Int32 × v_S => (some (.int z.1), z.2)) 17 [(0, .ref (v_E g 0)), (1, .int p1), (2, .int x2)] [] s (t_T_image_17 fu p1 r17 x2 s) := by
  unfold t_T_image_17
  refine v_iload_n (pc := 17) X dX5_image_17 2 rfl ?_
  refine v_sipush (pc := 18) (v := 160) X dX5_image_18 rfl ?_
  refine v_icmp_ge (pc := 21) (tgt := 48) X dX5_image_21 (by decide) (fun c21 => ?_) (fun c21 => ?_)
  · refine v_sub [0, 1] rfl ?_
    exact w_T_image_48 fu p1 X  s
  · refine v_aload_n (pc := 24) X dX5_image_24 0 rfl ?_
    refine v_get (pc := 25) (kind := 5) (v := .ref (v_E g 2)) X wT_n0 wT_l0 wT_c0 in_X5 (Nat.le_of_ble_eq_true rfl : 2 < 40) q1473 rfl rfl dX5_image_25 ?_
    refine v_sipush (pc := 28) (v := 160) X dX5_image_28 rfl ?_
    refine v_iload_n (pc := 31) X dX5_image_31 1 rfl ?_
    refine v_imul (pc := 32) X dX5_image_32 ?_
    refine v_iload_n (pc := 33) X dX5_image_33 2 rfl ?_
    refine v_iadd (pc := 34) X dX5_image_34 ?_
    refine v_aload_n (pc := 35) X dX5_image_35 0 rfl ?_
    refine v_get (pc := 36) (kind := 4) (v := .ref (v_E g 1)) X wT_n0 wT_l0 wT_c0 in_X5 (Nat.le_of_ble_eq_true rfl : 1 < 40) q1472 rfl rfl dX5_image_36 ?_
    refine v_iload_n (pc := 39) X dX5_image_39 2 rfl ?_
    refine v_iald (pc := 40) X wT_n1 wT_l1 dX5_image_40 ?_
    refine v_iast (pc := 41) X wT_n2 wT_l2 dX5_image_41 (fun s_3 => ?_)
    refine v_iinc (pc := 42) (v := x2 + (1 : Int32)) (lv' := [(2, .int (x2 + (1 : Int32))), (0, .ref (v_E g 0)), (1, .int p1)]) (k := 2) X dX5_image_42 rfl rfl (Nat.le_of_ble_eq_true rfl) rfl ?_
    refine v_goto (pc := 45) (tgt := 17) X dX5_image_45 (by decide) ?_
    refine v_sub [1, 2, 0] rfl ?_
    exact h17 (x2 + (1 : Int32)) s_3
theorem w_T_image_17L {Γ : v_Ctx} {l : Launch} {g : v_G} (fu : Nat) (p1 : Int32) (X : v_C Γ l rm_T_image cX5_image 3 RX5 (some .int) wT g)  : ∀ (n : Nat), ∀ (x2 : Int32) (s : v_S), v_V Γ 3 wT g (fun z : Int32 × v_S => (some (.int z.1), z.2)) 17 [(0, .ref (v_E g 0)), (1, .int p1), (2, .int x2)] [] s (v_loop (t_T_image_17B fu p1) n (x2, s)) := by
  intro n
  induction n with
  | zero => exact fun _ _ => v_none
  | succ n ih => exact fun x2 s => w_T_image_17 fu p1 X  _ ih x2 s
theorem m_T_image (l : Launch) (g : v_G) (fu : Nat) (p1 : Int32) (s : v_S) : v_M l yX5_image cX5_image 3 (some .int) rm_T_image wT g [.ref (v_E g 0), .int p1] s (fun z : Int32 × v_S => (some (.int z.1), z.2)) (t_T_image fu p1 s) := by
  refine v_met (by decide +kernel) (Nat.le_of_ble_eq_true rfl) (fun Γ X => ?_)
  refine v_lv (lv' := [(0, .ref (v_E g 0)), (1, .int p1)]) rfl ?_
  unfold t_T_image
  refine v_iload_n (pc := 0) X dX5_image_0 1 rfl ?_
  refine v_i2l (pc := 1) X dX5_image_1 ?_
  refine v_lconst (pc := 2) (v := 0) X dX5_image_2 rfl ?_
  refine v_ldc2 (pc := 3) X q1597 dX5_image_3 ?_
  refine v_cSi (pc := 6) X (m_T_in l g fu (Int32.toInt64 p1) (0 : Int64) (2 : Int64) _) q1598 hy_T_in rfl rfl rfl rfl dX5_image_6 (fun z_1 _ => ?_)
  refine v_if_ne (pc := 9) (tgt := 15) X dX5_image_9 (by decide) (fun c9 => ?_) (fun c9 => ?_)
  · refine v_iconst (pc := 15) (v := 0) X dX5_image_15 rfl ?_
    refine v_istore_n (pc := 16) (lv' := [(2, .int (0 : Int32)), (0, .ref (v_E g 0)), (1, .int p1)]) X dX5_image_16 rfl (Nat.le_of_ble_eq_true rfl) rfl ?_
    refine v_sub [1, 2, 0] rfl ?_
    exact w_T_image_17L fu p1 X  fu (0 : Int32) s
  · refine v_bipush (pc := 12) (v := -2) X dX5_image_12 rfl ?_
    exact v_iret (pc := 14) X dX5_image_14 rfl
/-! FloodLentModel.restore(I)I -/
abbrev rm_T_restore : Room := { frames := 2, cells := 0, slots := 0, locals := 46 }
theorem hy_T_restore : v_yV yX5_restore cX5_restore 3 (some .int) 1 := ⟨q1602, q1603, q141, q1604, by decide +kernel⟩
def t_T_restore_29 (fu : Nat) (p1 : Int32) (r29 : Int32 × v_S → Option (Int32 × v_S)) (x2 : Int32) (s : v_S) : Option (Int32 × v_S) :=
if (160 : Int32) ≤ x2 then (some ((0 : Int32), s)) else (v_g (((160 : Int32) * p1) + x2) 480 <| v_g x2 160 <| v_n (v_uI s 1 (Int32.toNatClampNeg x2) (s.1 2 (Int32.toNatClampNeg (((160 : Int32) * p1) + x2)))) fun (s_2 : v_S) => r29 (x2 + (1 : Int32), s_2))
def t_T_restore_29B (fu : Nat) (p1 : Int32) (r29 : Int32 × v_S → Option (Int32 × v_S)) (a : Int32 × v_S) : Option (Int32 × v_S) := t_T_restore_29 fu p1 r29 a.1 a.2
def t_T_restore (fu : Nat) (p1 : Int32) (s : v_S) : Option (Int32 × v_S) :=
  v_b1 (t_T_in fu (Int32.toInt64 p1) (0 : Int64) (2 : Int64) s) fun (z_1 : Int32) => if z_1 = 0 then (some ((-2 : Int32), s)) else (v_g p1 3 <| if s.1 3 (Int32.toNatClampNeg p1) = 0 then (some ((-6 : Int32), s)) else (v_loop (t_T_restore_29B fu p1) fu ((0 : Int32), s)))
theorem w_T_restore_29 {Γ : v_Ctx} {l : Launch} {g : v_G} (fu : Nat) (p1 : Int32) (X : v_C Γ l rm_T_restore cX5_restore 3 RX5 (some .int) wT g) (r29 : Int32 × v_S → Option (Int32 × v_S)) (h29 : ∀ (x2 : Int32) (s : v_S), v_V Γ 3 wT g (fun z : Int32 × v_S => (some (.int z.1), z.2)) 29 [(0, .ref (v_E g 0)), (1, .int p1), (2, .int x2)] [] s (r29 (x2, s))) (x2 : Int32) (s : v_S) : v_V Γ 3 wT g (fun z : Int32 × v_S => (some (.int z.1), z.2)) 29 [(0, .ref (v_E g 0)), (1, .int p1), (2, .int x2)] [] s (t_T_restore_29 fu p1 r29 x2 s) := by
  unfold t_T_restore_29
  refine v_iload_n (pc := 29) X dX5_restore_29 2 rfl ?_
  refine v_sipush (pc := 30) (v := 160) X dX5_restore_30 rfl ?_
  refine v_icmp_ge (pc := 33) (tgt := 60) X dX5_restore_33 (by decide) (fun c33 => ?_) (fun c33 => ?_)
  · refine v_iconst (pc := 60) (v := 0) X dX5_restore_60 rfl ?_
    exact v_iret (pc := 61) X dX5_restore_61 rfl
  · refine v_aload_n (pc := 36) X dX5_restore_36 0 rfl ?_
    refine v_get (pc := 37) (kind := 4) (v := .ref (v_E g 1)) X wT_n0 wT_l0 wT_c0 in_X5 (Nat.le_of_ble_eq_true rfl : 1 < 40) q1472 rfl rfl dX5_restore_37 ?_
    refine v_iload_n (pc := 40) X dX5_restore_40 2 rfl ?_
    refine v_aload_n (pc := 41) X dX5_restore_41 0 rfl ?_
    refine v_get (pc := 42) (kind := 5) (v := .ref (v_E g 2)) X wT_n0 wT_l0 wT_c0 in_X5 (Nat.le_of_ble_eq_true rfl : 2 < 40) q1473 rfl rfl dX5_restore_42 ?_
    refine v_sipush (pc := 45) (v := 160) X dX5_restore_45 rfl ?_
    refine v_iload_n (pc := 48) X dX5_restore_48 1 rfl ?_
    refine v_imul (pc := 49) X dX5_restore_49 ?_
    refine v_iload_n (pc := 50) X dX5_restore_50 2 rfl ?_
    refine v_iadd (pc := 51) X dX5_restore_51 ?_
    refine v_iald (pc := 52) X wT_n2 wT_l2 dX5_restore_52 ?_
    refine v_iast (pc := 53) X wT_n1 wT_l1 dX5_restore_53 (fun s_2 => ?_)
    refine v_iinc (pc := 54) (v := x2 + (1 : Int32)) (lv' := [(2, .int (x2 + (1 : Int32))), (0, .ref (v_E g 0)), (1, .int p1)]) (k := 2) X dX5_restore_54 rfl rfl (Nat.le_of_ble_eq_true rfl) rfl ?_
    refine v_goto (pc := 57) (tgt := 29) X dX5_restore_57 (by decide) ?_
    refine v_sub [1, 2, 0] rfl ?_
    exact h29 (x2 + (1 : Int32)) s_2
theorem w_T_restore_29L {Γ : v_Ctx} {l : Launch} {g : v_G} (fu : Nat) (p1 : Int32) (X : v_C Γ l rm_T_restore cX5_restore 3 RX5 (some .int) wT g)  : ∀ (n : Nat), ∀ (x2 : Int32) (s : v_S), v_V Γ 3 wT g (fun z : Int32 × v_S => (some (.int z.1), z.2)) 29 [(0, .ref (v_E g 0)), (1, .int p1), (2, .int x2)] [] s (v_loop (t_T_restore_29B fu p1) n (x2, s)) := by
  intro n
  induction n with
  | zero => exact fun _ _ => v_none
  | succ n ih => exact fun x2 s => w_T_restore_29 fu p1 X  _ ih x2 s
theorem m_T_restore (l : Launch) (g : v_G) (fu : Nat) (p1 : Int32) (s : v_S) : v_M l yX5_restore cX5_restore 3 (some .int) rm_T_restore wT g [.ref (v_E g 0), .int p1] s (fun z : Int32 × v_S => (some (.int z.1), z.2)) (t_T_restore fu p1 s) := by
  refine v_met (by decide +kernel) (Nat.le_of_ble_eq_true rfl) (fun Γ X => ?_)
  refine v_lv (lv' := [(0, .ref (v_E g 0)), (1, .int p1)]) rfl ?_
  unfold t_T_restore
  refine v_iload_n (pc := 0) X dX5_restore_0 1 rfl ?_
  refine v_i2l (pc := 1) X dX5_restore_1 ?_
  refine v_lconst (pc := 2) (v := 0) X dX5_restore_2 rfl ?_
  refine v_ldc2 (pc := 3) X q1597 dX5_restore_3 ?_
  refine v_cSi (pc := 6) X (m_T_in l g fu (Int32.toInt64 p1) (0 : Int64) (2 : Int64) _) q1598 hy_T_in rfl rfl rfl rfl dX5_restore_6 (fun z_1 _ => ?_)
  refine v_if_ne (pc := 9) (tgt := 15) X dX5_restore_9 (by decide) (fun c9 => ?_) (fun c9 => ?_)
  · refine v_aload_n (pc := 15) X dX5_restore_15 0 rfl ?_
    refine v_get (pc := 16) (kind := 6) (v := .ref (v_E g 3)) X wT_n0 wT_l0 wT_c0 in_X5 (Nat.le_of_ble_eq_true rfl : 3 < 40) q1474 rfl rfl dX5_restore_16 ?_
    refine v_iload_n (pc := 19) X dX5_restore_19 1 rfl ?_
    refine v_zald (pc := 20) X wT_n3 wT_l3 dX5_restore_20 ?_
    refine v_if_ne (pc := 21) (tgt := 27) X dX5_restore_21 (by decide) (fun c21 => ?_) (fun c21 => ?_)
    · refine v_iconst (pc := 27) (v := 0) X dX5_restore_27 rfl ?_
      refine v_istore_n (pc := 28) (lv' := [(2, .int (0 : Int32)), (0, .ref (v_E g 0)), (1, .int p1)]) X dX5_restore_28 rfl (Nat.le_of_ble_eq_true rfl) rfl ?_
      refine v_sub [1, 2, 0] rfl ?_
      exact w_T_restore_29L fu p1 X  fu (0 : Int32) s
    · refine v_bipush (pc := 24) (v := -6) X dX5_restore_24 rfl ?_
      exact v_iret (pc := 26) X dX5_restore_26 rfl
  · refine v_bipush (pc := 12) (v := -2) X dX5_restore_12 rfl ?_
    exact v_iret (pc := 14) X dX5_restore_14 rfl
/-! FloodLentModel.feed(IIIII)I -/
abbrev rm_T_feed : Room := { frames := 1, cells := 0, slots := 0, locals := 21 }
theorem hy_T_feed : v_yV yX5_feed cX5_feed 7 (some .int) 5 := ⟨q1606, q1607, q141, q1608, by decide +kernel⟩
def t_T_feed_101 (fu : Nat) (p1 : Int32) (p2 : Int32) (p3 : Int32) (p4 : Int32) (p5 : Int32) (s : v_S) : Option (Int32 × v_S) :=
v_n (v_uI s 0 5 ((s.1 0 5) + (20 : Int32))) fun (s_6 : v_S) => some (s_6.1 0 5, s_6)
def t_T_feed_55 (fu : Nat) (p1 : Int32) (p2 : Int32) (p3 : Int32) (p4 : Int32) (p5 : Int32) (r55 : Int32 × v_S → Option (Int32 × v_S)) (x6 : Int32) (s : v_S) : Option (Int32 × v_S) :=
if (20 : Int32) ≤ x6 then (t_T_feed_101 fu p1 p2 p3 p4 p5 s) else (v_g (x6 / (4 : Int32)) 5 <| v_g ((s.1 0 5) + x6) 1600 <| v_n (v_uI s 4 (Int32.toNatClampNeg ((s.1 0 5) + x6)) (vp_nar .byte (Int8.toInt32 (Int32.toInt8 ((s.1 5 (Int32.toNatClampNeg (x6 / (4 : Int32)))) >>> (((24 : Int32) - ((8 : Int32) * (x6 - x6 / (4 : Int32) * (4 : Int32)))) &&& 31)))))) fun (s_7 : v_S) => r55 (x6 + (1 : Int32), s_7))
def t_T_feed_55B (fu : Nat) (p1 : Int32) (p2 : Int32) (p3 : Int32) (p4 : Int32) (p5 : Int32) (r55 : Int32 × v_S → Option (Int32 × v_S)) (a : Int32 × v_S) : Option (Int32 × v_S) := t_T_feed_55 fu p1 p2 p3 p4 p5 r55 a.1 a.2
def t_T_feed (fu : Nat) (p1 : Int32) (p2 : Int32) (p3 : Int32) (p4 : Int32) (p5 : Int32) (s : v_S) : Option (Int32 × v_S) :=
  if (s.1 0 5) + (20 : Int32) ≤ (1600 : Int32) then (v_n (v_uI s 5 0 p1) fun (s_1 : v_S) => v_n (v_uI s_1 5 1 p2) fun (s_2 : v_S) => v_n (v_uI s_2 5 2 p3) fun (s_3 : v_S) => v_n (v_uI s_3 5 3 p4) fun (s_4 : v_S) => v_n (v_uI s_4 5 4 p5) fun (s_5 : v_S) => v_loop (t_T_feed_55B fu p1 p2 p3 p4 p5) fu ((0 : Int32), s_5)) else (some ((-1 : Int32), s))
theorem w_T_feed_101 {Γ : v_Ctx} {l : Launch} {g : v_G} (fu : Nat) (p1 : Int32) (p2 : Int32) (p3 : Int32) (p4 : Int32) (p5 : Int32) (X : v_C Γ l rm_T_feed cX5_feed 7 RX5 (some .int) wT g)  (s : v_S) : v_V Γ 7 wT g (fun z : Int32 × v_S => (some (.int z.1), z.2)) 101 [(0, .ref (v_E g 0))] [] s (t_T_feed_101 fu p1 p2 p3 p4 p5 s) := by
  unfold t_T_feed_101
  refine v_aload_n (pc := 101) X dX5_feed_101 0 rfl ?_
  refine v_dup (pc := 102) X dX5_feed_102 rfl ?_
  refine v_get (pc := 103) (kind := 0) (v := .int (s.1 0 5)) X wT_n0 wT_l0 wT_c0 in_X5 (Nat.le_of_ble_eq_true rfl : 5 < 40) q1476 rfl rfl dX5_feed_103 ?_
  refine v_bipush (pc := 106) (v := 20) X dX5_feed_106 rfl ?_
  refine v_iadd (pc := 108) X dX5_feed_108 ?_
  refine v_putI (pc := 109) X wT_n0 wT_l0 wT_c0 in_X5 tyX5 tyX5_ok nmX5 (Nat.le_of_ble_eq_true rfl : 5 < 40) q1476 rfl rfl rfl dX5_feed_109 (fun s_6 => ?_)
  refine v_aload_n (pc := 112) X dX5_feed_112 0 rfl ?_
  refine v_get (pc := 113) (kind := 0) (v := .int (s_6.1 0 5)) X wT_n0 wT_l0 wT_c0 in_X5 (Nat.le_of_ble_eq_true rfl : 5 < 40) q1476 rfl rfl dX5_feed_113 ?_
  exact v_iret (pc := 116) X dX5_feed_116 rfl
theorem w_T_feed_55 {Γ : v_Ctx} {l : Launch} {g : v_G} (fu : Nat) (p1 : Int32) (p2 : Int32) (p3 : Int32) (p4 : Int32) (p5 : Int32) (X : v_C Γ l rm_T_feed cX5_feed 7 RX5 (some .int) wT g) (r55 : Int32 × v_S → Option (Int32 × v_S)) (h55 : ∀ (x6 : Int32) (s : v_S), v_V Γ 7 wT g (fun z : Int32 × v_S => (some (.int z.1), z.2)) 55 [(0, .ref (v_E g 0)), (6, .int x6)] [] s (r55 (x6, s))) (x6 : Int32) (s : v_S) : v_V Γ 7 wT g (fun z : Int32 × v_S => (some (.int z.1), z.2)) 55 [(0, .ref (v_E g 0)), (6, .int x6)] [] s (t_T_feed_55 fu p1 p2 p3 p4 p5 r55 x6 s) := by
  unfold t_T_feed_55
  refine v_iload (pc := 55) X dX5_feed_55 1 rfl ?_
  refine v_bipush (pc := 57) (v := 20) X dX5_feed_57 rfl ?_
  refine v_icmp_ge (pc := 59) (tgt := 101) X dX5_feed_59 (by decide) (fun c59 => ?_) (fun c59 => ?_)
  · refine v_sub [0] rfl ?_
    exact w_T_feed_101 fu p1 p2 p3 p4 p5 X  s
  · refine v_aload_n (pc := 62) X dX5_feed_62 0 rfl ?_
    refine v_get (pc := 63) (kind := 7) (v := .ref (v_E g 4)) X wT_n0 wT_l0 wT_c0 in_X5 (Nat.le_of_ble_eq_true rfl : 4 < 40) q1475 rfl rfl dX5_feed_63 ?_
    refine v_aload_n (pc := 66) X dX5_feed_66 0 rfl ?_
    refine v_get (pc := 67) (kind := 0) (v := .int (s.1 0 5)) X wT_n0 wT_l0 wT_c0 in_X5 (Nat.le_of_ble_eq_true rfl : 5 < 40) q1476 rfl rfl dX5_feed_67 ?_
    refine v_iload (pc := 70) X dX5_feed_70 1 rfl ?_
    refine v_iadd (pc := 72) X dX5_feed_72 ?_
    refine v_aload_n (pc := 73) X dX5_feed_73 0 rfl ?_
    refine v_get (pc := 74) (kind := 8) (v := .ref (v_E g 5)) X wT_n0 wT_l0 wT_c0 in_X5 (Nat.le_of_ble_eq_true rfl : 6 < 40) q1477 rfl rfl dX5_feed_74 ?_
    refine v_iload (pc := 77) X dX5_feed_77 1 rfl ?_
    refine v_iconst (pc := 79) (v := 4) X dX5_feed_79 rfl ?_
    refine v_idivC (pc := 80) X (by decide) dX5_feed_80 ?_
    refine v_iald (pc := 81) X wT_n5 wT_l5 dX5_feed_81 ?_
    refine v_bipush (pc := 82) (v := 24) X dX5_feed_82 rfl ?_
    refine v_bipush (pc := 84) (v := 8) X dX5_feed_84 rfl ?_
    refine v_iload (pc := 86) X dX5_feed_86 1 rfl ?_
    refine v_iconst (pc := 88) (v := 4) X dX5_feed_88 rfl ?_
    refine v_iremC (pc := 89) X (by decide) dX5_feed_89 ?_
    refine v_imul (pc := 90) X dX5_feed_90 ?_
    refine v_isub (pc := 91) X dX5_feed_91 ?_
    refine v_ishr (pc := 92) X dX5_feed_92 ?_
    refine v_i2b (pc := 93) X dX5_feed_93 ?_
    refine v_bast (pc := 94) X wT_n4 wT_l4 dX5_feed_94 (fun s_7 => ?_)
    refine v_iinc (pc := 95) (v := x6 + (1 : Int32)) (lv' := [(6, .int (x6 + (1 : Int32))), (0, .ref (v_E g 0))]) (k := 1) X dX5_feed_95 rfl rfl (Nat.le_of_ble_eq_true rfl) rfl ?_
    refine v_goto (pc := 98) (tgt := 55) X dX5_feed_98 (by decide) ?_
    refine v_sub [1, 0] rfl ?_
    exact h55 (x6 + (1 : Int32)) s_7
theorem w_T_feed_55L {Γ : v_Ctx} {l : Launch} {g : v_G} (fu : Nat) (p1 : Int32) (p2 : Int32) (p3 : Int32) (p4 : Int32) (p5 : Int32) (X : v_C Γ l rm_T_feed cX5_feed 7 RX5 (some .int) wT g)  : ∀ (n : Nat), ∀ (x6 : Int32) (s : v_S), v_V Γ 7 wT g (fun z : Int32 × v_S => (some (.int z.1), z.2)) 55 [(0, .ref (v_E g 0)), (6, .int x6)] [] s (v_loop (t_T_feed_55B fu p1 p2 p3 p4 p5) n (x6, s)) := by
  intro n
  induction n with
  | zero => exact fun _ _ => v_none
  | succ n ih => exact fun x6 s => w_T_feed_55 fu p1 p2 p3 p4 p5 X  _ ih x6 s
theorem m_T_feed (l : Launch) (g : v_G) (fu : Nat) (p1 : Int32) (p2 : Int32) (p3 : Int32) (p4 : Int32) (p5 : Int32) (s : v_S) : v_M l yX5_feed cX5_feed 7 (some .int) rm_T_feed wT g [.ref (v_E g 0), .int p1, .int p2, .int p3, .int p4, .int p5] s (fun z : Int32 × v_S => (some (.int z.1), z.2)) (t_T_feed fu p1 p2 p3 p4 p5 s) := by
  refine v_met (by decide +kernel) (Nat.le_of_ble_eq_true rfl) (fun Γ X => ?_)
  refine v_lv (lv' := [(0, .ref (v_E g 0)), (1, .int p1), (2, .int p2), (3, .int p3), (4, .int p4), (5, .int p5)]) rfl ?_
  unfold t_T_feed
  refine v_aload_n (pc := 0) X dX5_feed_0 0 rfl ?_
  refine v_get (pc := 1) (kind := 0) (v := .int (s.1 0 5)) X wT_n0 wT_l0 wT_c0 in_X5 (Nat.le_of_ble_eq_true rfl : 5 < 40) q1476 rfl rfl dX5_feed_1 ?_
  refine v_bipush (pc := 4) (v := 20) X dX5_feed_4 rfl ?_
  refine v_iadd (pc := 6) X dX5_feed_6 ?_
  refine v_sipush (pc := 7) (v := 1600) X dX5_feed_7 rfl ?_
  refine v_icmp_le (pc := 10) (tgt := 15) X dX5_feed_10 (by decide) (fun c10 => ?_) (fun c10 => ?_)
  · refine v_aload_n (pc := 15) X dX5_feed_15 0 rfl ?_
    refine v_get (pc := 16) (kind := 8) (v := .ref (v_E g 5)) X wT_n0 wT_l0 wT_c0 in_X5 (Nat.le_of_ble_eq_true rfl : 6 < 40) q1477 rfl rfl dX5_feed_16 ?_
    refine v_iconst (pc := 19) (v := 0) X dX5_feed_19 rfl ?_
    refine v_iload_n (pc := 20) X dX5_feed_20 1 rfl ?_
    refine v_iastC (pc := 21) (k := 0) X wT_n5 wT_l5 rfl dX5_feed_21 (fun s_1 => ?_)
    refine v_aload_n (pc := 22) X dX5_feed_22 0 rfl ?_
    refine v_get (pc := 23) (kind := 8) (v := .ref (v_E g 5)) X wT_n0 wT_l0 wT_c0 in_X5 (Nat.le_of_ble_eq_true rfl : 6 < 40) q1477 rfl rfl dX5_feed_23 ?_
    refine v_iconst (pc := 26) (v := 1) X dX5_feed_26 rfl ?_
    refine v_iload_n (pc := 27) X dX5_feed_27 2 rfl ?_
    refine v_iastC (pc := 28) (k := 1) X wT_n5 wT_l5 rfl dX5_feed_28 (fun s_2 => ?_)
    refine v_aload_n (pc := 29) X dX5_feed_29 0 rfl ?_
    refine v_get (pc := 30) (kind := 8) (v := .ref (v_E g 5)) X wT_n0 wT_l0 wT_c0 in_X5 (Nat.le_of_ble_eq_true rfl : 6 < 40) q1477 rfl rfl dX5_feed_30 ?_
    refine v_iconst (pc := 33) (v := 2) X dX5_feed_33 rfl ?_
    refine v_iload_n (pc := 34) X dX5_feed_34 3 rfl ?_
    refine v_iastC (pc := 35) (k := 2) X wT_n5 wT_l5 rfl dX5_feed_35 (fun s_3 => ?_)
    refine v_aload_n (pc := 36) X dX5_feed_36 0 rfl ?_
    refine v_get (pc := 37) (kind := 8) (v := .ref (v_E g 5)) X wT_n0 wT_l0 wT_c0 in_X5 (Nat.le_of_ble_eq_true rfl : 6 < 40) q1477 rfl rfl dX5_feed_37 ?_
    refine v_iconst (pc := 40) (v := 3) X dX5_feed_40 rfl ?_
    refine v_iload (pc := 41) X dX5_feed_41 4 rfl ?_
    refine v_iastC (pc := 43) (k := 3) X wT_n5 wT_l5 rfl dX5_feed_43 (fun s_4 => ?_)
    refine v_aload_n (pc := 44) X dX5_feed_44 0 rfl ?_
    refine v_get (pc := 45) (kind := 8) (v := .ref (v_E g 5)) X wT_n0 wT_l0 wT_c0 in_X5 (Nat.le_of_ble_eq_true rfl : 6 < 40) q1477 rfl rfl dX5_feed_45 ?_
    refine v_iconst (pc := 48) (v := 4) X dX5_feed_48 rfl ?_
    refine v_iload (pc := 49) X dX5_feed_49 5 rfl ?_
    refine v_iastC (pc := 51) (k := 4) X wT_n5 wT_l5 rfl dX5_feed_51 (fun s_5 => ?_)
    refine v_iconst (pc := 52) (v := 0) X dX5_feed_52 rfl ?_
    refine v_istore (pc := 53) (lv' := [(6, .int (0 : Int32)), (0, .ref (v_E g 0)), (1, .int p1), (2, .int p2), (3, .int p3), (4, .int p4), (5, .int p5)]) X dX5_feed_53 (Nat.le_of_ble_eq_true rfl) rfl ?_
    refine v_sub [1, 0] rfl ?_
    exact w_T_feed_55L fu p1 p2 p3 p4 p5 X  fu (0 : Int32) s_5
  · refine v_iconst (pc := 13) (v := -1) X dX5_feed_13 rfl ?_
    exact v_iret (pc := 14) X dX5_feed_14 rfl
/-! FloodLentModel.end(I)I -/
abbrev rm_T_end : Room := { frames := 2, cells := 0, slots := 0, locals := 46 }
theorem hy_T_end : v_yV yX5_end cX5_end 2 (some .int) 1 := ⟨q1610, q1611, q141, q1612, by decide +kernel⟩
def t_T_end (fu : Nat) (p1 : Int32) (s : v_S) : Option (Int32 × v_S) :=
  v_b1 (t_T_in fu (Int32.toInt64 p1) (0 : Int64) (Int32.toInt64 (s.1 0 5)) s) fun (z_1 : Int32) => if z_1 = 0 then (some ((-1 : Int32), s)) else (v_n (v_uI s 0 5 p1) fun (s_2 : v_S) => some (p1, s_2))
theorem m_T_end (l : Launch) (g : v_G) (fu : Nat) (p1 : Int32) (s : v_S) : v_M l yX5_end cX5_end 2 (some .int) rm_T_end wT g [.ref (v_E g 0), .int p1] s (fun z : Int32 × v_S => (some (.int z.1), z.2)) (t_T_end fu p1 s) := by
  refine v_met (by decide +kernel) (Nat.le_of_ble_eq_true rfl) (fun Γ X => ?_)
  refine v_lv (lv' := [(0, .ref (v_E g 0)), (1, .int p1)]) rfl ?_
  unfold t_T_end
  refine v_iload_n (pc := 0) X dX5_end_0 1 rfl ?_
  refine v_i2l (pc := 1) X dX5_end_1 ?_
  refine v_lconst (pc := 2) (v := 0) X dX5_end_2 rfl ?_
  refine v_aload_n (pc := 3) X dX5_end_3 0 rfl ?_
  refine v_get (pc := 4) (kind := 0) (v := .int (s.1 0 5)) X wT_n0 wT_l0 wT_c0 in_X5 (Nat.le_of_ble_eq_true rfl : 5 < 40) q1476 rfl rfl dX5_end_4 ?_
  refine v_i2l (pc := 7) X dX5_end_7 ?_
  refine v_cSi (pc := 8) X (m_T_in l g fu (Int32.toInt64 p1) (0 : Int64) (Int32.toInt64 (s.1 0 5)) _) q1598 hy_T_in rfl rfl rfl rfl dX5_end_8 (fun z_1 _ => ?_)
  refine v_if_ne (pc := 11) (tgt := 16) X dX5_end_11 (by decide) (fun c11 => ?_) (fun c11 => ?_)
  · refine v_aload_n (pc := 16) X dX5_end_16 0 rfl ?_
    refine v_iload_n (pc := 17) X dX5_end_17 1 rfl ?_
    refine v_putI (pc := 18) X wT_n0 wT_l0 wT_c0 in_X5 tyX5 tyX5_ok nmX5 (Nat.le_of_ble_eq_true rfl : 5 < 40) q1476 rfl rfl rfl dX5_end_18 (fun s_2 => ?_)
    refine v_iload_n (pc := 21) X dX5_end_21 1 rfl ?_
    exact v_iret (pc := 22) X dX5_end_22 rfl
  · refine v_iconst (pc := 14) (v := -1) X dX5_end_14 rfl ?_
    exact v_iret (pc := 15) X dX5_end_15 rfl
/-! FloodLentModel.fault(I)I -/
abbrev rm_T_fault : Room := { frames := 1, cells := 0, slots := 0, locals := 21 }
theorem hy_T_fault : v_yV yX5_fault cX5_fault 2 (some .int) 1 := ⟨q1614, q1615, q141, q1616, by decide +kernel⟩
def t_T_fault (fu : Nat) (p1 : Int32) (s : v_S) : Option Int32 :=
  if p1 = 0 then (some (s.1 0 12)) else (if p1 = (1 : Int32) then (some (s.1 0 13)) else (some (-1 : Int32)))
theorem m_T_fault (l : Launch) (g : v_G) (fu : Nat) (p1 : Int32) (s : v_S) : v_M l yX5_fault cX5_fault 2 (some .int) rm_T_fault wT g [.ref (v_E g 0), .int p1] s (fun z : Int32 => (some (.int z), s)) (t_T_fault fu p1 s) := by
  refine v_met (by decide +kernel) (Nat.le_of_ble_eq_true rfl) (fun Γ X => ?_)
  refine v_lv (lv' := [(0, .ref (v_E g 0)), (1, .int p1)]) rfl ?_
  unfold t_T_fault
  refine v_iload_n (pc := 0) X dX5_fault_0 1 rfl ?_
  refine v_if_ne (pc := 1) (tgt := 11) X dX5_fault_1 (by decide) (fun c1 => ?_) (fun c1 => ?_)
  · refine v_iload_n (pc := 11) X dX5_fault_11 1 rfl ?_
    refine v_iconst (pc := 12) (v := 1) X dX5_fault_12 rfl ?_
    refine v_icmp_ne (pc := 13) (tgt := 23) X dX5_fault_13 (by decide) (fun c13 => ?_) (fun c13 => ?_)
    · refine v_iconst (pc := 23) (v := -1) X dX5_fault_23 rfl ?_
      exact v_iret (pc := 24) X dX5_fault_24 rfl
    · refine v_aload_n (pc := 16) X dX5_fault_16 0 rfl ?_
      refine v_get (pc := 17) (kind := 0) (v := .int (s.1 0 13)) X wT_n0 wT_l0 wT_c0 in_X5 (Nat.le_of_ble_eq_true rfl : 13 < 40) q1484 rfl rfl dX5_fault_17 ?_
      refine v_goto (pc := 20) (tgt := 24) X dX5_fault_20 (by decide) ?_
      exact v_iret (pc := 24) X dX5_fault_24 rfl
  · refine v_aload_n (pc := 4) X dX5_fault_4 0 rfl ?_
    refine v_get (pc := 5) (kind := 0) (v := .int (s.1 0 12)) X wT_n0 wT_l0 wT_c0 in_X5 (Nat.le_of_ble_eq_true rfl : 12 < 40) q1483 rfl rfl dX5_fault_5 ?_
    refine v_goto (pc := 8) (tgt := 24) X dX5_fault_8 (by decide) ?_
    exact v_iret (pc := 24) X dX5_fault_24 rfl
/-! FloodLentModel.see(I)I -/
abbrev rm_T_see : Room := { frames := 1, cells := 0, slots := 0, locals := 21 }
theorem hy_T_see : v_yV yX5_see cX5_see 2 (some .int) 1 := ⟨q1627, qs61, q141, q1628, by decide +kernel⟩
def t_T_see (fu : Nat) (p1 : Int32) (s : v_S) : Option Int32 :=
  if s.1 0 7 ≤ p1 then (some (-1 : Int32)) else (v_g p1 1600 <| some ((s.1 4 (Int32.toNatClampNeg p1)) &&& (255 : Int32)))
theorem m_T_see (l : Launch) (g : v_G) (fu : Nat) (p1 : Int32) (s : v_S) : v_M l yX5_see cX5_see 2 (some .int) rm_T_see wT g [.ref (v_E g 0), .int p1] s (fun z : Int32 => (some (.int z), s)) (t_T_see fu p1 s) := by
  refine v_met (by decide +kernel) (Nat.le_of_ble_eq_true rfl) (fun Γ X => ?_)
  refine v_lv (lv' := [(0, .ref (v_E g 0)), (1, .int p1)]) rfl ?_
  unfold t_T_see
  refine v_iload_n (pc := 0) X dX5_see_0 1 rfl ?_
  refine v_aload_n (pc := 1) X dX5_see_1 0 rfl ?_
  refine v_get (pc := 2) (kind := 0) (v := .int (s.1 0 7)) X wT_n0 wT_l0 wT_c0 in_X5 (Nat.le_of_ble_eq_true rfl : 7 < 40) q1478 rfl rfl dX5_see_2 ?_
  refine v_icmp_ge (pc := 5) (tgt := 21) X dX5_see_5 (by decide) (fun c5 => ?_) (fun c5 => ?_)
  · refine v_iconst (pc := 21) (v := -1) X dX5_see_21 rfl ?_
    exact v_iret (pc := 22) X dX5_see_22 rfl
  · refine v_aload_n (pc := 8) X dX5_see_8 0 rfl ?_
    refine v_get (pc := 9) (kind := 7) (v := .ref (v_E g 4)) X wT_n0 wT_l0 wT_c0 in_X5 (Nat.le_of_ble_eq_true rfl : 4 < 40) q1475 rfl rfl dX5_see_9 ?_
    refine v_iload_n (pc := 12) X dX5_see_12 1 rfl ?_
    refine v_bald (pc := 13) X wT_n4 wT_l4 dX5_see_13 ?_
    refine v_sipush (pc := 14) (v := 255) X dX5_see_14 rfl ?_
    refine v_iand (pc := 17) X dX5_see_17 ?_
    refine v_goto (pc := 18) (tgt := 22) X dX5_see_18 (by decide) ?_
    exact v_iret (pc := 22) X dX5_see_22 rfl
/-! FloodLentModel.advance()V -/
abbrev rm_T_advance : Room := { frames := 2, cells := 0, slots := 0, locals := 60 }
theorem hy_T_advance : v_yV yX5_advance cX5_advance 2 none 0 := ⟨q1623, qs60, q141, q1624, by decide +kernel⟩
def t_T_advance_26 (fu : Nat) (r0 : v_S → Option v_S) (s : v_S) : Option v_S :=
v_n (v_uI s 0 8 ((s.1 0 8) + (1 : Int32))) fun (s_2 : v_S) => r0 s_2
def t_T_advance_226 (fu : Nat) (y0 : Int32) (s : v_S) : Option v_S :=
v_n (v_uI s 0 10 y0) fun (s_8 : v_S) => v_n (v_uI s_8 0 8 ((s_8.1 0 8) + (1 : Int32))) fun (s_9 : v_S) => some s_9
def t_T_advance_206 (fu : Nat) (s : v_S) : Option v_S :=
v_n (v_uI s 0 10 (2 : Int32)) fun (s_13 : v_S) => some s_13
def t_T_advance_144 (fu : Nat) (r144 : v_S → Option v_S) (s : v_S) : Option v_S :=
v_b1 (t_T_see fu (s.1 0 8) s) fun (z_11 : Int32) => v_b1 (t_T_in fu (Int32.toInt64 z_11) (48 : Int64) (57 : Int64) s) fun (z_12 : Int32) => if z_12 = 0 then (t_T_advance_206 fu s) else (v_b1 (t_T_see fu (s.1 0 8) s) fun (z_14 : Int32) => v_n (v_uI s 0 11 (if ((((10 : Int32) * (s.1 0 11)) + z_14) - (48 : Int32)) < (99999 : Int32) then (((10 : Int32) * (s.1 0 11)) + z_14) - (48 : Int32) else (99999 : Int32))) fun (s_15 : v_S) => v_n (v_uI s_15 0 8 ((s_15.1 0 8) + (1 : Int32))) fun (s_16 : v_S) => r144 s_16)
def t_T_advance_144B (fu : Nat) (r144 : v_S → Option v_S) (a : v_S) : Option v_S := t_T_advance_144 fu r144 a
def t_T_advance_117 (fu : Nat) (s : v_S) : Option v_S :=
v_n (v_uI s 0 10 (1 : Int32)) fun (s_19 : v_S) => some s_19
def t_T_advance_83 (fu : Nat) (r83 : v_S → Option v_S) (s : v_S) : Option v_S :=
v_b1 (t_T_see fu (s.1 0 8) s) fun (z_17 : Int32) => v_b1 (t_T_in fu (Int32.toInt64 z_17) (97 : Int64) (122 : Int64) s) fun (z_18 : Int32) => if z_18 = 0 then (t_T_advance_117 fu s) else (v_n (v_uI s 0 8 ((s.1 0 8) + (1 : Int32))) fun (s_20 : v_S) => r83 s_20)
def t_T_advance_83B (fu : Nat) (r83 : v_S → Option v_S) (a : v_S) : Option v_S := t_T_advance_83 fu r83 a
def t_T_advance_0 (fu : Nat) (r0 : v_S → Option v_S) (s : v_S) : Option v_S :=
v_b1 (t_T_see fu (s.1 0 8) s) fun (z_1 : Int32) => if z_1 = (32 : Int32) then (t_T_advance_26 fu r0 s) else (v_b1 (t_T_see fu (s.1 0 8) s) fun (z_3 : Int32) => if z_3 = (10 : Int32) then (t_T_advance_26 fu r0 s) else (v_n (v_uI s 0 9 (s.1 0 8)) fun (s_4 : v_S) => v_b1 (t_T_see fu (s_4.1 0 8) s_4) fun (z_5 : Int32) => if z_5 = (-1 : Int32) then (v_n (v_uI s_4 0 10 (0 : Int32)) fun (s_21 : v_S) => some s_21) else (v_b1 (t_T_in fu (Int32.toInt64 z_5) (97 : Int64) (122 : Int64) s_4) fun (z_6 : Int32) => if z_6 = 0 then (v_b1 (t_T_in fu (Int32.toInt64 z_5) (48 : Int64) (57 : Int64) s_4) fun (z_7 : Int32) => if z_7 = 0 then (if z_5 = (59 : Int32) then (t_T_advance_226 fu (3 : Int32) s_4) else (t_T_advance_226 fu (4 : Int32) s_4)) else (v_n (v_uI s_4 0 11 (0 : Int32)) fun (s_10 : v_S) => v_loop (t_T_advance_144B fu) fu s_10)) else (v_loop (t_T_advance_83B fu) fu s_4))))
def t_T_advance_0B (fu : Nat) (r0 : v_S → Option v_S) (a : v_S) : Option v_S := t_T_advance_0 fu r0 a
def t_T_advance (fu : Nat)  (s : v_S) : Option v_S :=
  v_loop (t_T_advance_0B fu) fu s
theorem w_T_advance_26 {Γ : v_Ctx} {l : Launch} {g : v_G} (fu : Nat) (X : v_C Γ l rm_T_advance cX5_advance 2 RX5 none wT g) (r0 : v_S → Option v_S) (h0 : ∀  (s : v_S), v_V Γ 2 wT g (fun z : v_S => ((none : Option Value), z)) 0 [(0, .ref (v_E g 0))] [] s (r0 s)) (s : v_S) : v_V Γ 2 wT g (fun z : v_S => ((none : Option Value), z)) 26 [(0, .ref (v_E g 0))] [] s (t_T_advance_26 fu r0 s) := by
  unfold t_T_advance_26
  refine v_aload_n (pc := 26) X dX5_advance_26 0 rfl ?_
  refine v_dup (pc := 27) X dX5_advance_27 rfl ?_
  refine v_get (pc := 28) (kind := 0) (v := .int (s.1 0 8)) X wT_n0 wT_l0 wT_c0 in_X5 (Nat.le_of_ble_eq_true rfl : 8 < 40) q1479 rfl rfl dX5_advance_28 ?_
  refine v_iconst (pc := 31) (v := 1) X dX5_advance_31 rfl ?_
  refine v_iadd (pc := 32) X dX5_advance_32 ?_
  refine v_putI (pc := 33) X wT_n0 wT_l0 wT_c0 in_X5 tyX5 tyX5_ok nmX5 (Nat.le_of_ble_eq_true rfl : 8 < 40) q1479 rfl rfl rfl dX5_advance_33 (fun s_2 => ?_)
  refine v_goto (pc := 36) (tgt := 0) X dX5_advance_36 (by decide) ?_
  exact h0 s_2
theorem w_T_advance_226 {Γ : v_Ctx} {l : Launch} {g : v_G} (fu : Nat) (X : v_C Γ l rm_T_advance cX5_advance 2 RX5 none wT g)  (y0 : Int32) (s : v_S) : v_V Γ 2 wT g (fun z : v_S => ((none : Option Value), z)) 226 [(0, .ref (v_E g 0))] [.int y0, .ref (v_E g 0)] s (t_T_advance_226 fu y0 s) := by
  unfold t_T_advance_226
  refine v_putI (pc := 226) X wT_n0 wT_l0 wT_c0 in_X5 tyX5 tyX5_ok nmX5 (Nat.le_of_ble_eq_true rfl : 10 < 40) q1481 rfl rfl rfl dX5_advance_226 (fun s_8 => ?_)
  refine v_aload_n (pc := 229) X dX5_advance_229 0 rfl ?_
  refine v_dup (pc := 230) X dX5_advance_230 rfl ?_
  refine v_get (pc := 231) (kind := 0) (v := .int (s_8.1 0 8)) X wT_n0 wT_l0 wT_c0 in_X5 (Nat.le_of_ble_eq_true rfl : 8 < 40) q1479 rfl rfl dX5_advance_231 ?_
  refine v_iconst (pc := 234) (v := 1) X dX5_advance_234 rfl ?_
  refine v_iadd (pc := 235) X dX5_advance_235 ?_
  refine v_putI (pc := 236) X wT_n0 wT_l0 wT_c0 in_X5 tyX5 tyX5_ok nmX5 (Nat.le_of_ble_eq_true rfl : 8 < 40) q1479 rfl rfl rfl dX5_advance_236 (fun s_9 => ?_)
  exact v_vret (pc := 239) X dX5_advance_239 rfl
theorem w_T_advance_206 {Γ : v_Ctx} {l : Launch} {g : v_G} (fu : Nat) (X : v_C Γ l rm_T_advance cX5_advance 2 RX5 none wT g)  (s : v_S) : v_V Γ 2 wT g (fun z : v_S => ((none : Option Value), z)) 206 [(0, .ref (v_E g 0))] [] s (t_T_advance_206 fu s) := by
  unfold t_T_advance_206
  refine v_aload_n (pc := 206) X dX5_advance_206 0 rfl ?_
  refine v_iconst (pc := 207) (v := 2) X dX5_advance_207 rfl ?_
  refine v_putI (pc := 208) X wT_n0 wT_l0 wT_c0 in_X5 tyX5 tyX5_ok nmX5 (Nat.le_of_ble_eq_true rfl : 10 < 40) q1481 rfl rfl rfl dX5_advance_208 (fun s_13 => ?_)
  refine v_goto (pc := 211) (tgt := 239) X dX5_advance_211 (by decide) ?_
  exact v_vret (pc := 239) X dX5_advance_239 rfl
theorem w_T_advance_144 {Γ : v_Ctx} {l : Launch} {g : v_G} (fu : Nat) (X : v_C Γ l rm_T_advance cX5_advance 2 RX5 none wT g) (r144 : v_S → Option v_S) (h144 : ∀  (s : v_S), v_V Γ 2 wT g (fun z : v_S => ((none : Option Value), z)) 144 [(0, .ref (v_E g 0))] [] s (r144 s)) (s : v_S) : v_V Γ 2 wT g (fun z : v_S => ((none : Option Value), z)) 144 [(0, .ref (v_E g 0))] [] s (t_T_advance_144 fu r144 s) := by
  unfold t_T_advance_144
  refine v_aload_n (pc := 144) X dX5_advance_144 0 rfl ?_
  refine v_aload_n (pc := 145) X dX5_advance_145 0 rfl ?_
  refine v_get (pc := 146) (kind := 0) (v := .int (s.1 0 8)) X wT_n0 wT_l0 wT_c0 in_X5 (Nat.le_of_ble_eq_true rfl : 8 < 40) q1479 rfl rfl dX5_advance_146 ?_
  refine v_cGi (pc := 149) X (m_T_see l g fu (s.1 0 8) _) (v_rc_n X wT_o0) (Or.inl q1625) hy_T_see rfl rfl rfl rfl dX5_advance_149 (fun z_11 _ => ?_)
  refine v_i2l (pc := 152) X dX5_advance_152 ?_
  refine v_ldc2 (pc := 153) X q1631 dX5_advance_153 ?_
  refine v_ldc2 (pc := 156) X q1632 dX5_advance_156 ?_
  refine v_cSi (pc := 159) X (m_T_in l g fu (Int32.toInt64 z_11) (48 : Int64) (57 : Int64) _) q1598 hy_T_in rfl rfl rfl rfl dX5_advance_159 (fun z_12 _ => ?_)
  refine v_if_eq (pc := 162) (tgt := 206) X dX5_advance_162 (by decide) (fun c162 => ?_) (fun c162 => ?_)
  · exact w_T_advance_206 fu X  s
  · refine v_aload_n (pc := 165) X dX5_advance_165 0 rfl ?_
    refine v_ldc (pc := 166) X q1633 dX5_advance_166 ?_
    refine v_bipush (pc := 168) (v := 10) X dX5_advance_168 rfl ?_
    refine v_aload_n (pc := 170) X dX5_advance_170 0 rfl ?_
    refine v_get (pc := 171) (kind := 0) (v := .int (s.1 0 11)) X wT_n0 wT_l0 wT_c0 in_X5 (Nat.le_of_ble_eq_true rfl : 11 < 40) q1482 rfl rfl dX5_advance_171 ?_
    refine v_imul (pc := 174) X dX5_advance_174 ?_
    refine v_aload_n (pc := 175) X dX5_advance_175 0 rfl ?_
    refine v_aload_n (pc := 176) X dX5_advance_176 0 rfl ?_
    refine v_get (pc := 177) (kind := 0) (v := .int (s.1 0 8)) X wT_n0 wT_l0 wT_c0 in_X5 (Nat.le_of_ble_eq_true rfl : 8 < 40) q1479 rfl rfl dX5_advance_177 ?_
    refine v_cGi (pc := 180) X (m_T_see l g fu (s.1 0 8) _) (v_rc_n X wT_o0) (Or.inl q1625) hy_T_see rfl rfl rfl rfl dX5_advance_180 (fun z_14 _ => ?_)
    refine v_iadd (pc := 183) X dX5_advance_183 ?_
    refine v_bipush (pc := 184) (v := 48) X dX5_advance_184 rfl ?_
    refine v_isub (pc := 186) X dX5_advance_186 ?_
    refine v_mmin (pc := 187) X q1634 q681 q143 q682 rfl dX5_advance_187 ?_
    refine v_putI (pc := 190) X wT_n0 wT_l0 wT_c0 in_X5 tyX5 tyX5_ok nmX5 (Nat.le_of_ble_eq_true rfl : 11 < 40) q1482 rfl rfl rfl dX5_advance_190 (fun s_15 => ?_)
    refine v_aload_n (pc := 193) X dX5_advance_193 0 rfl ?_
    refine v_dup (pc := 194) X dX5_advance_194 rfl ?_
    refine v_get (pc := 195) (kind := 0) (v := .int (s_15.1 0 8)) X wT_n0 wT_l0 wT_c0 in_X5 (Nat.le_of_ble_eq_true rfl : 8 < 40) q1479 rfl rfl dX5_advance_195 ?_
    refine v_iconst (pc := 198) (v := 1) X dX5_advance_198 rfl ?_
    refine v_iadd (pc := 199) X dX5_advance_199 ?_
    refine v_putI (pc := 200) X wT_n0 wT_l0 wT_c0 in_X5 tyX5 tyX5_ok nmX5 (Nat.le_of_ble_eq_true rfl : 8 < 40) q1479 rfl rfl rfl dX5_advance_200 (fun s_16 => ?_)
    refine v_goto (pc := 203) (tgt := 144) X dX5_advance_203 (by decide) ?_
    exact h144 s_16
theorem w_T_advance_144L {Γ : v_Ctx} {l : Launch} {g : v_G} (fu : Nat) (X : v_C Γ l rm_T_advance cX5_advance 2 RX5 none wT g)  : ∀ (n : Nat), ∀  (s : v_S), v_V Γ 2 wT g (fun z : v_S => ((none : Option Value), z)) 144 [(0, .ref (v_E g 0))] [] s (v_loop (t_T_advance_144B fu) n s) := by
  intro n
  induction n with
  | zero => exact fun _ => v_none
  | succ n ih => exact fun s => w_T_advance_144 fu X  _ ih s
theorem w_T_advance_117 {Γ : v_Ctx} {l : Launch} {g : v_G} (fu : Nat) (X : v_C Γ l rm_T_advance cX5_advance 2 RX5 none wT g)  (s : v_S) : v_V Γ 2 wT g (fun z : v_S => ((none : Option Value), z)) 117 [(0, .ref (v_E g 0))] [] s (t_T_advance_117 fu s) := by
  unfold t_T_advance_117
  refine v_aload_n (pc := 117) X dX5_advance_117 0 rfl ?_
  refine v_iconst (pc := 118) (v := 1) X dX5_advance_118 rfl ?_
  refine v_putI (pc := 119) X wT_n0 wT_l0 wT_c0 in_X5 tyX5 tyX5_ok nmX5 (Nat.le_of_ble_eq_true rfl : 10 < 40) q1481 rfl rfl rfl dX5_advance_119 (fun s_19 => ?_)
  refine v_goto (pc := 122) (tgt := 239) X dX5_advance_122 (by decide) ?_
  exact v_vret (pc := 239) X dX5_advance_239 rfl
theorem w_T_advance_83 {Γ : v_Ctx} {l : Launch} {g : v_G} (fu : Nat) (X : v_C Γ l rm_T_advance cX5_advance 2 RX5 none wT g) (r83 : v_S → Option v_S) (h83 : ∀  (s : v_S), v_V Γ 2 wT g (fun z : v_S => ((none : Option Value), z)) 83 [(0, .ref (v_E g 0))] [] s (r83 s)) (s : v_S) : v_V Γ 2 wT g (fun z : v_S => ((none : Option Value), z)) 83 [(0, .ref (v_E g 0))] [] s (t_T_advance_83 fu r83 s) := by
  unfold t_T_advance_83
  refine v_aload_n (pc := 83) X dX5_advance_83 0 rfl ?_
  refine v_aload_n (pc := 84) X dX5_advance_84 0 rfl ?_
  refine v_get (pc := 85) (kind := 0) (v := .int (s.1 0 8)) X wT_n0 wT_l0 wT_c0 in_X5 (Nat.le_of_ble_eq_true rfl : 8 < 40) q1479 rfl rfl dX5_advance_85 ?_
  refine v_cGi (pc := 88) X (m_T_see l g fu (s.1 0 8) _) (v_rc_n X wT_o0) (Or.inl q1625) hy_T_see rfl rfl rfl rfl dX5_advance_88 (fun z_17 _ => ?_)
  refine v_i2l (pc := 91) X dX5_advance_91 ?_
  refine v_ldc2 (pc := 92) X q1629 dX5_advance_92 ?_
  refine v_ldc2 (pc := 95) X q1630 dX5_advance_95 ?_
  refine v_cSi (pc := 98) X (m_T_in l g fu (Int32.toInt64 z_17) (97 : Int64) (122 : Int64) _) q1598 hy_T_in rfl rfl rfl rfl dX5_advance_98 (fun z_18 _ => ?_)
  refine v_if_eq (pc := 101) (tgt := 117) X dX5_advance_101 (by decide) (fun c101 => ?_) (fun c101 => ?_)
  · exact w_T_advance_117 fu X  s
  · refine v_aload_n (pc := 104) X dX5_advance_104 0 rfl ?_
    refine v_dup (pc := 105) X dX5_advance_105 rfl ?_
    refine v_get (pc := 106) (kind := 0) (v := .int (s.1 0 8)) X wT_n0 wT_l0 wT_c0 in_X5 (Nat.le_of_ble_eq_true rfl : 8 < 40) q1479 rfl rfl dX5_advance_106 ?_
    refine v_iconst (pc := 109) (v := 1) X dX5_advance_109 rfl ?_
    refine v_iadd (pc := 110) X dX5_advance_110 ?_
    refine v_putI (pc := 111) X wT_n0 wT_l0 wT_c0 in_X5 tyX5 tyX5_ok nmX5 (Nat.le_of_ble_eq_true rfl : 8 < 40) q1479 rfl rfl rfl dX5_advance_111 (fun s_20 => ?_)
    refine v_goto (pc := 114) (tgt := 83) X dX5_advance_114 (by decide) ?_
    exact h83 s_20
theorem w_T_advance_83L {Γ : v_Ctx} {l : Launch} {g : v_G} (fu : Nat) (X : v_C Γ l rm_T_advance cX5_advance 2 RX5 none wT g)  : ∀ (n : Nat), ∀  (s : v_S), v_V Γ 2 wT g (fun z : v_S => ((none : Option Value), z)) 83 [(0, .ref (v_E g 0))] [] s (v_loop (t_T_advance_83B fu) n s) := by
  intro n
  induction n with
  | zero => exact fun _ => v_none
  | succ n ih => exact fun s => w_T_advance_83 fu X  _ ih s
theorem w_T_advance_0 {Γ : v_Ctx} {l : Launch} {g : v_G} (fu : Nat) (X : v_C Γ l rm_T_advance cX5_advance 2 RX5 none wT g) (r0 : v_S → Option v_S) (h0 : ∀  (s : v_S), v_V Γ 2 wT g (fun z : v_S => ((none : Option Value), z)) 0 [(0, .ref (v_E g 0))] [] s (r0 s)) (s : v_S) : v_V Γ 2 wT g (fun z : v_S => ((none : Option Value), z)) 0 [(0, .ref (v_E g 0))] [] s (t_T_advance_0 fu r0 s) := by
  unfold t_T_advance_0
  refine v_aload_n (pc := 0) X dX5_advance_0 0 rfl ?_
  refine v_aload_n (pc := 1) X dX5_advance_1 0 rfl ?_
  refine v_get (pc := 2) (kind := 0) (v := .int (s.1 0 8)) X wT_n0 wT_l0 wT_c0 in_X5 (Nat.le_of_ble_eq_true rfl : 8 < 40) q1479 rfl rfl dX5_advance_2 ?_
  refine v_cGi (pc := 5) X (m_T_see l g fu (s.1 0 8) _) (v_rc_n X wT_o0) (Or.inl q1625) hy_T_see rfl rfl rfl rfl dX5_advance_5 (fun z_1 _ => ?_)
  refine v_bipush (pc := 8) (v := 32) X dX5_advance_8 rfl ?_
  refine v_icmp_eq (pc := 10) (tgt := 26) X dX5_advance_10 (by decide) (fun c10 => ?_) (fun c10 => ?_)
  · exact w_T_advance_26 fu X r0 h0 s
  · refine v_aload_n (pc := 13) X dX5_advance_13 0 rfl ?_
    refine v_aload_n (pc := 14) X dX5_advance_14 0 rfl ?_
    refine v_get (pc := 15) (kind := 0) (v := .int (s.1 0 8)) X wT_n0 wT_l0 wT_c0 in_X5 (Nat.le_of_ble_eq_true rfl : 8 < 40) q1479 rfl rfl dX5_advance_15 ?_
    refine v_cGi (pc := 18) X (m_T_see l g fu (s.1 0 8) _) (v_rc_n X wT_o0) (Or.inl q1625) hy_T_see rfl rfl rfl rfl dX5_advance_18 (fun z_3 _ => ?_)
    refine v_bipush (pc := 21) (v := 10) X dX5_advance_21 rfl ?_
    refine v_icmp_ne (pc := 23) (tgt := 39) X dX5_advance_23 (by decide) (fun c23 => ?_) (fun c23 => ?_)
    · refine v_aload_n (pc := 39) X dX5_advance_39 0 rfl ?_
      refine v_aload_n (pc := 40) X dX5_advance_40 0 rfl ?_
      refine v_get (pc := 41) (kind := 0) (v := .int (s.1 0 8)) X wT_n0 wT_l0 wT_c0 in_X5 (Nat.le_of_ble_eq_true rfl : 8 < 40) q1479 rfl rfl dX5_advance_41 ?_
      refine v_putI (pc := 44) X wT_n0 wT_l0 wT_c0 in_X5 tyX5 tyX5_ok nmX5 (Nat.le_of_ble_eq_true rfl : 9 < 40) q1480 rfl rfl rfl dX5_advance_44 (fun s_4 => ?_)
      refine v_aload_n (pc := 47) X dX5_advance_47 0 rfl ?_
      refine v_aload_n (pc := 48) X dX5_advance_48 0 rfl ?_
      refine v_get (pc := 49) (kind := 0) (v := .int (s_4.1 0 8)) X wT_n0 wT_l0 wT_c0 in_X5 (Nat.le_of_ble_eq_true rfl : 8 < 40) q1479 rfl rfl dX5_advance_49 ?_
      refine v_cGi (pc := 52) X (m_T_see l g fu (s_4.1 0 8) _) (v_rc_n X wT_o0) (Or.inl q1625) hy_T_see rfl rfl rfl rfl dX5_advance_52 (fun z_5 _ => ?_)
      refine v_istore_n (pc := 55) (lv' := [(1, .int z_5), (0, .ref (v_E g 0))]) X dX5_advance_55 rfl (Nat.le_of_ble_eq_true rfl) rfl ?_
      refine v_iload_n (pc := 56) X dX5_advance_56 0 rfl ?_
      refine v_iconst (pc := 57) (v := -1) X dX5_advance_57 rfl ?_
      refine v_icmp_ne (pc := 58) (tgt := 69) X dX5_advance_58 (by decide) (fun c58 => ?_) (fun c58 => ?_)
      · refine v_iload_n (pc := 69) X dX5_advance_69 0 rfl ?_
        refine v_i2l (pc := 70) X dX5_advance_70 ?_
        refine v_ldc2 (pc := 71) X q1629 dX5_advance_71 ?_
        refine v_ldc2 (pc := 74) X q1630 dX5_advance_74 ?_
        refine v_cSi (pc := 77) X (m_T_in l g fu (Int32.toInt64 z_5) (97 : Int64) (122 : Int64) _) q1598 hy_T_in rfl rfl rfl rfl dX5_advance_77 (fun z_6 _ => ?_)
        refine v_if_eq (pc := 80) (tgt := 125) X dX5_advance_80 (by decide) (fun c80 => ?_) (fun c80 => ?_)
        · refine v_iload_n (pc := 125) X dX5_advance_125 0 rfl ?_
          refine v_i2l (pc := 126) X dX5_advance_126 ?_
          refine v_ldc2 (pc := 127) X q1631 dX5_advance_127 ?_
          refine v_ldc2 (pc := 130) X q1632 dX5_advance_130 ?_
          refine v_cSi (pc := 133) X (m_T_in l g fu (Int32.toInt64 z_5) (48 : Int64) (57 : Int64) _) q1598 hy_T_in rfl rfl rfl rfl dX5_advance_133 (fun z_7 _ => ?_)
          refine v_if_eq (pc := 136) (tgt := 214) X dX5_advance_136 (by decide) (fun c136 => ?_) (fun c136 => ?_)
          · refine v_aload_n (pc := 214) X dX5_advance_214 1 rfl ?_
            refine v_iload_n (pc := 215) X dX5_advance_215 0 rfl ?_
            refine v_bipush (pc := 216) (v := 59) X dX5_advance_216 rfl ?_
            refine v_icmp_ne (pc := 218) (tgt := 225) X dX5_advance_218 (by decide) (fun c218 => ?_) (fun c218 => ?_)
            · refine v_iconst (pc := 225) (v := 4) X dX5_advance_225 rfl ?_
              refine v_sub [1] rfl ?_
              exact w_T_advance_226 fu X  (4 : Int32) s_4
            · refine v_iconst (pc := 221) (v := 3) X dX5_advance_221 rfl ?_
              refine v_goto (pc := 222) (tgt := 226) X dX5_advance_222 (by decide) ?_
              refine v_sub [1] rfl ?_
              exact w_T_advance_226 fu X  (3 : Int32) s_4
          · refine v_aload_n (pc := 139) X dX5_advance_139 1 rfl ?_
            refine v_iconst (pc := 140) (v := 0) X dX5_advance_140 rfl ?_
            refine v_putI (pc := 141) X wT_n0 wT_l0 wT_c0 in_X5 tyX5 tyX5_ok nmX5 (Nat.le_of_ble_eq_true rfl : 11 < 40) q1482 rfl rfl rfl dX5_advance_141 (fun s_10 => ?_)
            refine v_sub [1] rfl ?_
            exact w_T_advance_144L fu X  fu s_10
        · refine v_sub [1] rfl ?_
          exact w_T_advance_83L fu X  fu s_4
      · refine v_aload_n (pc := 61) X dX5_advance_61 1 rfl ?_
        refine v_iconst (pc := 62) (v := 0) X dX5_advance_62 rfl ?_
        refine v_putI (pc := 63) X wT_n0 wT_l0 wT_c0 in_X5 tyX5 tyX5_ok nmX5 (Nat.le_of_ble_eq_true rfl : 10 < 40) q1481 rfl rfl rfl dX5_advance_63 (fun s_21 => ?_)
        refine v_goto (pc := 66) (tgt := 239) X dX5_advance_66 (by decide) ?_
        exact v_vret (pc := 239) X dX5_advance_239 rfl
    · exact w_T_advance_26 fu X r0 h0 s
theorem w_T_advance_0L {Γ : v_Ctx} {l : Launch} {g : v_G} (fu : Nat) (X : v_C Γ l rm_T_advance cX5_advance 2 RX5 none wT g)  : ∀ (n : Nat), ∀  (s : v_S), v_V Γ 2 wT g (fun z : v_S => ((none : Option Value), z)) 0 [(0, .ref (v_E g 0))] [] s (v_loop (t_T_advance_0B fu) n s) := by
  intro n
  induction n with
  | zero => exact fun _ => v_none
  | succ n ih => exact fun s => w_T_advance_0 fu X  _ ih s
theorem m_T_advance (l : Launch) (g : v_G) (fu : Nat)  (s : v_S) : v_M l yX5_advance cX5_advance 2 none rm_T_advance wT g [.ref (v_E g 0)] s (fun z : v_S => ((none : Option Value), z)) (t_T_advance fu  s) := by
  refine v_met (by decide +kernel) (Nat.le_of_ble_eq_true rfl) (fun Γ X => ?_)
  refine v_lv (lv' := [(0, .ref (v_E g 0))]) rfl ?_
  unfold t_T_advance
  exact w_T_advance_0L fu X  fu s
/-! FloodLentModel.good()Z -/
abbrev rm_T_good : Room := { frames := 1, cells := 0, slots := 0, locals := 21 }
theorem hy_T_good : v_yV yX5_good cX5_good 1 (some .boolean) 0 := ⟨q1637, qs62, q141, q1638, by decide +kernel⟩
def t_T_good (fu : Nat)  (s : v_S) : Option Int32 :=
  if s.1 0 12 = 0 then (some (1 : Int32)) else (some (0 : Int32))
theorem m_T_good (l : Launch) (g : v_G) (fu : Nat)  (s : v_S) : v_M l yX5_good cX5_good 1 (some .boolean) rm_T_good wT g [.ref (v_E g 0)] s (fun z : Int32 => (some (.int z), s)) (t_T_good fu  s) := by
  refine v_met (by decide +kernel) (Nat.le_of_ble_eq_true rfl) (fun Γ X => ?_)
  refine v_lv (lv' := [(0, .ref (v_E g 0))]) rfl ?_
  unfold t_T_good
  refine v_aload_n (pc := 0) X dX5_good_0 0 rfl ?_
  refine v_get (pc := 1) (kind := 0) (v := .int (s.1 0 12)) X wT_n0 wT_l0 wT_c0 in_X5 (Nat.le_of_ble_eq_true rfl : 12 < 40) q1483 rfl rfl dX5_good_1 ?_
  refine v_if_ne (pc := 4) (tgt := 11) X dX5_good_4 (by decide) (fun c4 => ?_) (fun c4 => ?_)
  · refine v_iconst (pc := 11) (v := 0) X dX5_good_11 rfl ?_
    exact v_zret (pc := 12) X dX5_good_12 rfl rfl
  · refine v_iconst (pc := 7) (v := 1) X dX5_good_7 rfl ?_
    refine v_goto (pc := 8) (tgt := 12) X dX5_good_8 (by decide) ?_
    exact v_zret (pc := 12) X dX5_good_12 rfl rfl
/-! FloodLentModel.is(Ljava/lang/String;)Z -/
abbrev rm_T_is : Room := { frames := 5, cells := 0, slots := 0, locals := 106 }
theorem hy_T_is : v_yV yX5_is cX5_is 4 (some .boolean) 1 := ⟨q1654, qs66, q141, q1655, by decide +kernel⟩
def t_T_is_39 (fu : Nat) (p1 : Nat) (s : v_S) (r39 : Int32 × Int32 → Option Int32) (x2 : Int32) (x3 : Int32) : Option Int32 :=
if p1 < 48 then v_b1 (t_K_length fu p1 s) fun (z_3 : Int32) => (if z_3 ≤ x3 then (if x2 = 0 ∨ x2 = 1 then some x2 else none) else (if x2 = 0 then (if x2 = 0 ∨ x2 = 1 then some x2 else none) else (v_g ((s.1 0 9) + x3) 1600 <| if p1 < 48 then v_b1 (t_K_charAt fu p1 x3 s) fun (z_5 : Int32) => (if s.1 4 (Int32.toNatClampNeg ((s.1 0 9) + x3)) = z_5 then (r39 ((1 : Int32), x3 + (1 : Int32))) else (r39 ((0 : Int32), x3 + (1 : Int32)))) else none))) else none
def t_T_is_39B (fu : Nat) (p1 : Nat) (s : v_S) (r39 : Int32 × Int32 → Option Int32) (a : Int32 × Int32) : Option Int32 := t_T_is_39 fu p1 s r39 a.1 a.2
def t_T_is (fu : Nat) (p1 : Nat) (s : v_S) : Option Int32 :=
  v_b1 (t_T_good fu s) fun (z_1 : Int32) => if z_1 = 0 then (v_loop (t_T_is_39B fu p1 s) fu ((0 : Int32), (0 : Int32))) else (if s.1 0 10 = (1 : Int32) then (if p1 < 48 then v_b1 (t_K_length fu p1 s) fun (z_7 : Int32) => (if (s.1 0 8) - (s.1 0 9) = z_7 then (v_loop (t_T_is_39B fu p1 s) fu ((1 : Int32), (0 : Int32))) else (v_loop (t_T_is_39B fu p1 s) fu ((0 : Int32), (0 : Int32)))) else none) else (v_loop (t_T_is_39B fu p1 s) fu ((0 : Int32), (0 : Int32))))
theorem w_T_is_39 {Γ : v_Ctx} {l : Launch} {g : v_G} (fu : Nat) (p1 : Nat) (s : v_S) (X : v_C Γ l rm_T_is cX5_is 4 RX5 (some .boolean) wT g) (r39 : Int32 × Int32 → Option Int32) (h39 : ∀ (x2 : Int32) (x3 : Int32), v_V Γ 4 wT g (fun z : Int32 => (some (.int z), s)) 39 [(0, .ref (v_E g 0)), (1, .ref (v_K g p1)), (2, .int x2), (3, .int x3)] [] s (r39 (x2, x3))) (x2 : Int32) (x3 : Int32) : v_V Γ 4 wT g (fun z : Int32 => (some (.int z), s)) 39 [(0, .ref (v_E g 0)), (1, .ref (v_K g p1)), (2, .int x2), (3, .int x3)] [] s (t_T_is_39 fu p1 s r39 x2 x3) := by
  unfold t_T_is_39
  refine v_iload_n (pc := 39) X dX5_is_39 3 rfl ?_
  refine v_aload_n (pc := 40) X dX5_is_40 1 rfl ?_
  refine v_nzT (pc := 41) (fun h_2 => ?_)
  refine v_cGi (pc := 41) X (m_K_length l g fu p1 _) (v_rc_k X h_2) (Or.inl q1656) hy_K_length rfl rfl rfl rfl dX5_is_41 (fun z_3 _ => ?_)
  refine v_icmp_ge (pc := 44) (tgt := 82) X dX5_is_44 (by decide) (fun c44 => ?_) (fun c44 => ?_)
  · refine v_iload_n (pc := 82) X dX5_is_82 2 rfl ?_
    exact v_zretG (pc := 83) X dX5_is_83 rfl
  · refine v_iload_n (pc := 47) X dX5_is_47 2 rfl ?_
    refine v_if_eq (pc := 48) (tgt := 82) X dX5_is_48 (by decide) (fun c48 => ?_) (fun c48 => ?_)
    · refine v_iload_n (pc := 82) X dX5_is_82 2 rfl ?_
      exact v_zretG (pc := 83) X dX5_is_83 rfl
    · refine v_aload_n (pc := 51) X dX5_is_51 0 rfl ?_
      refine v_get (pc := 52) (kind := 7) (v := .ref (v_E g 4)) X wT_n0 wT_l0 wT_c0 in_X5 (Nat.le_of_ble_eq_true rfl : 4 < 40) q1475 rfl rfl dX5_is_52 ?_
      refine v_aload_n (pc := 55) X dX5_is_55 0 rfl ?_
      refine v_get (pc := 56) (kind := 0) (v := .int (s.1 0 9)) X wT_n0 wT_l0 wT_c0 in_X5 (Nat.le_of_ble_eq_true rfl : 9 < 40) q1480 rfl rfl dX5_is_56 ?_
      refine v_iload_n (pc := 59) X dX5_is_59 3 rfl ?_
      refine v_iadd (pc := 60) X dX5_is_60 ?_
      refine v_bald (pc := 61) X wT_n4 wT_l4 dX5_is_61 ?_
      refine v_aload_n (pc := 62) X dX5_is_62 1 rfl ?_
      refine v_iload_n (pc := 63) X dX5_is_63 3 rfl ?_
      refine v_nzT (pc := 64) (fun h_4 => ?_)
      refine v_cGi (pc := 64) X (m_K_charAt l g fu p1 x3 _) (v_rc_k X h_4) (Or.inl q1657) hy_K_charAt rfl rfl rfl rfl dX5_is_64 (fun z_5 _ => ?_)
      refine v_icmp_ne (pc := 67) (tgt := 74) X dX5_is_67 (by decide) (fun c67 => ?_) (fun c67 => ?_)
      · refine v_iconst (pc := 74) (v := 0) X dX5_is_74 rfl ?_
        refine v_istore_n (pc := 75) (lv' := [(2, .int (0 : Int32)), (0, .ref (v_E g 0)), (1, .ref (v_K g p1)), (3, .int x3)]) X dX5_is_75 rfl (Nat.le_of_ble_eq_true rfl) rfl ?_
        refine v_iinc (pc := 76) (v := x3 + (1 : Int32)) (lv' := [(3, .int (x3 + (1 : Int32))), (2, .int (0 : Int32)), (0, .ref (v_E g 0)), (1, .ref (v_K g p1))]) (k := 3) X dX5_is_76 rfl rfl (Nat.le_of_ble_eq_true rfl) rfl ?_
        refine v_goto (pc := 79) (tgt := 39) X dX5_is_79 (by decide) ?_
        refine v_sub [2, 3, 1, 0] rfl ?_
        exact h39 (0 : Int32) (x3 + (1 : Int32))
      · refine v_iconst (pc := 70) (v := 1) X dX5_is_70 rfl ?_
        refine v_goto (pc := 71) (tgt := 75) X dX5_is_71 (by decide) ?_
        refine v_istore_n (pc := 75) (lv' := [(2, .int (1 : Int32)), (0, .ref (v_E g 0)), (1, .ref (v_K g p1)), (3, .int x3)]) X dX5_is_75 rfl (Nat.le_of_ble_eq_true rfl) rfl ?_
        refine v_iinc (pc := 76) (v := x3 + (1 : Int32)) (lv' := [(3, .int (x3 + (1 : Int32))), (2, .int (1 : Int32)), (0, .ref (v_E g 0)), (1, .ref (v_K g p1))]) (k := 3) X dX5_is_76 rfl rfl (Nat.le_of_ble_eq_true rfl) rfl ?_
        refine v_goto (pc := 79) (tgt := 39) X dX5_is_79 (by decide) ?_
        refine v_sub [2, 3, 1, 0] rfl ?_
        exact h39 (1 : Int32) (x3 + (1 : Int32))
theorem w_T_is_39L {Γ : v_Ctx} {l : Launch} {g : v_G} (fu : Nat) (p1 : Nat) (s : v_S) (X : v_C Γ l rm_T_is cX5_is 4 RX5 (some .boolean) wT g)  : ∀ (n : Nat), ∀ (x2 : Int32) (x3 : Int32), v_V Γ 4 wT g (fun z : Int32 => (some (.int z), s)) 39 [(0, .ref (v_E g 0)), (1, .ref (v_K g p1)), (2, .int x2), (3, .int x3)] [] s (v_loop (t_T_is_39B fu p1 s) n (x2, x3)) := by
  intro n
  induction n with
  | zero => exact fun _ _ => v_none
  | succ n ih => exact fun x2 x3 => w_T_is_39 fu p1 s X  _ ih x2 x3
theorem m_T_is (l : Launch) (g : v_G) (fu : Nat) (p1 : Nat) (s : v_S) : v_M l yX5_is cX5_is 4 (some .boolean) rm_T_is wT g [.ref (v_E g 0), .ref (v_K g p1)] s (fun z : Int32 => (some (.int z), s)) (t_T_is fu p1 s) := by
  refine v_met (by decide +kernel) (Nat.le_of_ble_eq_true rfl) (fun Γ X => ?_)
  refine v_lv (lv' := [(0, .ref (v_E g 0)), (1, .ref (v_K g p1))]) rfl ?_
  unfold t_T_is
  refine v_aload_n (pc := 0) X dX5_is_0 0 rfl ?_
  refine v_cGi (pc := 1) X (m_T_good l g fu _) (v_rc_n X wT_o0) (Or.inl q1635) hy_T_good rfl rfl rfl rfl dX5_is_1 (fun z_1 _ => ?_)
  refine v_if_eq (pc := 4) (tgt := 35) X dX5_is_4 (by decide) (fun c4 => ?_) (fun c4 => ?_)
  · refine v_iconst (pc := 35) (v := 0) X dX5_is_35 rfl ?_
    refine v_istore_n (pc := 36) (lv' := [(2, .int (0 : Int32)), (0, .ref (v_E g 0)), (1, .ref (v_K g p1))]) X dX5_is_36 rfl (Nat.le_of_ble_eq_true rfl) rfl ?_
    refine v_iconst (pc := 37) (v := 0) X dX5_is_37 rfl ?_
    refine v_istore_n (pc := 38) (lv' := [(3, .int (0 : Int32)), (2, .int (0 : Int32)), (0, .ref (v_E g 0)), (1, .ref (v_K g p1))]) X dX5_is_38 rfl (Nat.le_of_ble_eq_true rfl) rfl ?_
    refine v_sub [2, 3, 1, 0] rfl ?_
    exact w_T_is_39L fu p1 s X  fu (0 : Int32) (0 : Int32)
  · refine v_aload_n (pc := 7) X dX5_is_7 0 rfl ?_
    refine v_get (pc := 8) (kind := 0) (v := .int (s.1 0 10)) X wT_n0 wT_l0 wT_c0 in_X5 (Nat.le_of_ble_eq_true rfl : 10 < 40) q1481 rfl rfl dX5_is_8 ?_
    refine v_iconst (pc := 11) (v := 1) X dX5_is_11 rfl ?_
    refine v_icmp_ne (pc := 12) (tgt := 35) X dX5_is_12 (by decide) (fun c12 => ?_) (fun c12 => ?_)
    · refine v_iconst (pc := 35) (v := 0) X dX5_is_35 rfl ?_
      refine v_istore_n (pc := 36) (lv' := [(2, .int (0 : Int32)), (0, .ref (v_E g 0)), (1, .ref (v_K g p1))]) X dX5_is_36 rfl (Nat.le_of_ble_eq_true rfl) rfl ?_
      refine v_iconst (pc := 37) (v := 0) X dX5_is_37 rfl ?_
      refine v_istore_n (pc := 38) (lv' := [(3, .int (0 : Int32)), (2, .int (0 : Int32)), (0, .ref (v_E g 0)), (1, .ref (v_K g p1))]) X dX5_is_38 rfl (Nat.le_of_ble_eq_true rfl) rfl ?_
      refine v_sub [2, 3, 1, 0] rfl ?_
      exact w_T_is_39L fu p1 s X  fu (0 : Int32) (0 : Int32)
    · refine v_aload_n (pc := 15) X dX5_is_15 0 rfl ?_
      refine v_get (pc := 16) (kind := 0) (v := .int (s.1 0 8)) X wT_n0 wT_l0 wT_c0 in_X5 (Nat.le_of_ble_eq_true rfl : 8 < 40) q1479 rfl rfl dX5_is_16 ?_
      refine v_aload_n (pc := 19) X dX5_is_19 0 rfl ?_
      refine v_get (pc := 20) (kind := 0) (v := .int (s.1 0 9)) X wT_n0 wT_l0 wT_c0 in_X5 (Nat.le_of_ble_eq_true rfl : 9 < 40) q1480 rfl rfl dX5_is_20 ?_
      refine v_isub (pc := 23) X dX5_is_23 ?_
      refine v_aload_n (pc := 24) X dX5_is_24 1 rfl ?_
      refine v_nzT (pc := 25) (fun h_6 => ?_)
      refine v_cGi (pc := 25) X (m_K_length l g fu p1 _) (v_rc_k X h_6) (Or.inl q1656) hy_K_length rfl rfl rfl rfl dX5_is_25 (fun z_7 _ => ?_)
      refine v_icmp_ne (pc := 28) (tgt := 35) X dX5_is_28 (by decide) (fun c28 => ?_) (fun c28 => ?_)
      · refine v_iconst (pc := 35) (v := 0) X dX5_is_35 rfl ?_
        refine v_istore_n (pc := 36) (lv' := [(2, .int (0 : Int32)), (0, .ref (v_E g 0)), (1, .ref (v_K g p1))]) X dX5_is_36 rfl (Nat.le_of_ble_eq_true rfl) rfl ?_
        refine v_iconst (pc := 37) (v := 0) X dX5_is_37 rfl ?_
        refine v_istore_n (pc := 38) (lv' := [(3, .int (0 : Int32)), (2, .int (0 : Int32)), (0, .ref (v_E g 0)), (1, .ref (v_K g p1))]) X dX5_is_38 rfl (Nat.le_of_ble_eq_true rfl) rfl ?_
        refine v_sub [2, 3, 1, 0] rfl ?_
        exact w_T_is_39L fu p1 s X  fu (0 : Int32) (0 : Int32)
      · refine v_iconst (pc := 31) (v := 1) X dX5_is_31 rfl ?_
        refine v_goto (pc := 32) (tgt := 36) X dX5_is_32 (by decide) ?_
        refine v_istore_n (pc := 36) (lv' := [(2, .int (1 : Int32)), (0, .ref (v_E g 0)), (1, .ref (v_K g p1))]) X dX5_is_36 rfl (Nat.le_of_ble_eq_true rfl) rfl ?_
        refine v_iconst (pc := 37) (v := 0) X dX5_is_37 rfl ?_
        refine v_istore_n (pc := 38) (lv' := [(3, .int (0 : Int32)), (2, .int (1 : Int32)), (0, .ref (v_E g 0)), (1, .ref (v_K g p1))]) X dX5_is_38 rfl (Nat.le_of_ble_eq_true rfl) rfl ?_
        refine v_sub [2, 3, 1, 0] rfl ?_
        exact w_T_is_39L fu p1 s X  fu (1 : Int32) (0 : Int32)
/-! FloodLentModel.takes(Ljava/lang/String;)Z -/
abbrev rm_T_takes : Room := { frames := 6, cells := 0, slots := 0, locals := 129 }
theorem hy_T_takes : v_yV yX5_takes cX5_takes 3 (some .boolean) 1 := ⟨q1650, qs65, q141, q1651, by decide +kernel⟩
def t_T_takes (fu : Nat) (p1 : Nat) (s : v_S) : Option (Int32 × v_S) :=
  v_b1 (t_T_is fu p1 s) fun (z_1 : Int32) => if z_1 = 0 then (if z_1 = 0 ∨ z_1 = 1 then some (z_1, s) else none) else (v_b1 (t_T_advance fu s) fun (s_2 : v_S) => if z_1 = 0 ∨ z_1 = 1 then some (z_1, s_2) else none)
theorem m_T_takes (l : Launch) (g : v_G) (fu : Nat) (p1 : Nat) (s : v_S) : v_M l yX5_takes cX5_takes 3 (some .boolean) rm_T_takes wT g [.ref (v_E g 0), .ref (v_K g p1)] s (fun z : Int32 × v_S => (some (.int z.1), z.2)) (t_T_takes fu p1 s) := by
  refine v_met (by decide +kernel) (Nat.le_of_ble_eq_true rfl) (fun Γ X => ?_)
  refine v_lv (lv' := [(0, .ref (v_E g 0)), (1, .ref (v_K g p1))]) rfl ?_
  unfold t_T_takes
  refine v_aload_n (pc := 0) X dX5_takes_0 0 rfl ?_
  refine v_aload_n (pc := 1) X dX5_takes_1 1 rfl ?_
  refine v_cGi (pc := 2) X (m_T_is l g fu p1 _) (v_rc_n X wT_o0) (Or.inl q1652) hy_T_is rfl rfl rfl rfl dX5_takes_2 (fun z_1 _ => ?_)
  refine v_istore_n (pc := 5) (lv' := [(2, .int z_1), (0, .ref (v_E g 0)), (1, .ref (v_K g p1))]) X dX5_takes_5 rfl (Nat.le_of_ble_eq_true rfl) rfl ?_
  refine v_iload_n (pc := 6) X dX5_takes_6 0 rfl ?_
  refine v_if_eq (pc := 7) (tgt := 14) X dX5_takes_7 (by decide) (fun c7 => ?_) (fun c7 => ?_)
  · refine v_iload_n (pc := 14) X dX5_takes_14 0 rfl ?_
    exact v_zretG (pc := 15) X dX5_takes_15 rfl
  · refine v_aload_n (pc := 10) X dX5_takes_10 1 rfl ?_
    refine v_cGs (pc := 11) X (m_T_advance l g fu _) (v_rc_n X wT_o0) (Or.inl q1621) hy_T_advance rfl rfl rfl rfl dX5_takes_11 (fun s_2 _ => ?_)
    refine v_iload_n (pc := 14) X dX5_takes_14 0 rfl ?_
    exact v_zretG (pc := 15) X dX5_takes_15 rfl
/-! FloodLentModel.errs(I)V -/
abbrev rm_T_errs : Room := { frames := 2, cells := 0, slots := 0, locals := 41 }
theorem hy_T_errs : v_yV yX5_errs cX5_errs 2 none 1 := ⟨q1660, qs67, q141, q1661, by decide +kernel⟩
def t_T_errs (fu : Nat) (p1 : Int32) (s : v_S) : Option v_S :=
  v_b1 (t_T_good fu s) fun (z_1 : Int32) => if z_1 = 0 then (some s) else (v_n (v_uI s 0 12 p1) fun (s_2 : v_S) => v_n (v_uI s_2 0 13 (s_2.1 0 9)) fun (s_3 : v_S) => some s_3)
theorem m_T_errs (l : Launch) (g : v_G) (fu : Nat) (p1 : Int32) (s : v_S) : v_M l yX5_errs cX5_errs 2 none rm_T_errs wT g [.ref (v_E g 0), .int p1] s (fun z : v_S => ((none : Option Value), z)) (t_T_errs fu p1 s) := by
  refine v_met (by decide +kernel) (Nat.le_of_ble_eq_true rfl) (fun Γ X => ?_)
  refine v_lv (lv' := [(0, .ref (v_E g 0)), (1, .int p1)]) rfl ?_
  unfold t_T_errs
  refine v_aload_n (pc := 0) X dX5_errs_0 0 rfl ?_
  refine v_cGi (pc := 1) X (m_T_good l g fu _) (v_rc_n X wT_o0) (Or.inl q1635) hy_T_good rfl rfl rfl rfl dX5_errs_1 (fun z_1 _ => ?_)
  refine v_if_ne (pc := 4) (tgt := 8) X dX5_errs_4 (by decide) (fun c4 => ?_) (fun c4 => ?_)
  · refine v_aload_n (pc := 8) X dX5_errs_8 0 rfl ?_
    refine v_iload_n (pc := 9) X dX5_errs_9 1 rfl ?_
    refine v_putI (pc := 10) X wT_n0 wT_l0 wT_c0 in_X5 tyX5 tyX5_ok nmX5 (Nat.le_of_ble_eq_true rfl : 12 < 40) q1483 rfl rfl rfl dX5_errs_10 (fun s_2 => ?_)
    refine v_aload_n (pc := 13) X dX5_errs_13 0 rfl ?_
    refine v_aload_n (pc := 14) X dX5_errs_14 0 rfl ?_
    refine v_get (pc := 15) (kind := 0) (v := .int (s_2.1 0 9)) X wT_n0 wT_l0 wT_c0 in_X5 (Nat.le_of_ble_eq_true rfl : 9 < 40) q1480 rfl rfl dX5_errs_15 ?_
    refine v_putI (pc := 18) X wT_n0 wT_l0 wT_c0 in_X5 tyX5 tyX5_ok nmX5 (Nat.le_of_ble_eq_true rfl : 13 < 40) q1484 rfl rfl rfl dX5_errs_18 (fun s_3 => ?_)
    exact v_vret (pc := 21) X dX5_errs_21 rfl
  · exact v_vret (pc := 7) X dX5_errs_7 rfl
/-! FloodLentModel.needs(Ljava/lang/String;)V -/
abbrev rm_T_needs : Room := { frames := 7, cells := 0, slots := 0, locals := 151 }
theorem hy_T_needs : v_yV yX5_needs cX5_needs 2 none 1 := ⟨q1646, qs64, q141, q1647, by decide +kernel⟩
def t_T_needs (fu : Nat) (p1 : Nat) (s : v_S) : Option v_S :=
  v_b2 (t_T_takes fu p1 s) fun (z_1 : Int32) (s_2 : v_S) => if z_1 = 0 then (v_b1 (t_T_errs fu (1 : Int32) s_2) fun (s_3 : v_S) => some s_3) else (some s_2)
theorem m_T_needs (l : Launch) (g : v_G) (fu : Nat) (p1 : Nat) (s : v_S) : v_M l yX5_needs cX5_needs 2 none rm_T_needs wT g [.ref (v_E g 0), .ref (v_K g p1)] s (fun z : v_S => ((none : Option Value), z)) (t_T_needs fu p1 s) := by
  refine v_met (by decide +kernel) (Nat.le_of_ble_eq_true rfl) (fun Γ X => ?_)
  refine v_lv (lv' := [(0, .ref (v_E g 0)), (1, .ref (v_K g p1))]) rfl ?_
  unfold t_T_needs
  refine v_aload_n (pc := 0) X dX5_needs_0 0 rfl ?_
  refine v_aload_n (pc := 1) X dX5_needs_1 1 rfl ?_
  refine v_cGis (pc := 2) X (m_T_takes l g fu p1 _) (v_rc_n X wT_o0) (Or.inl q1648) hy_T_takes rfl rfl rfl rfl dX5_needs_2 (fun z_1 s_2 _ => ?_)
  refine v_if_ne (pc := 5) (tgt := 13) X dX5_needs_5 (by decide) (fun c5 => ?_) (fun c5 => ?_)
  · exact v_vret (pc := 13) X dX5_needs_13 rfl
  · refine v_aload_n (pc := 8) X dX5_needs_8 0 rfl ?_
    refine v_iconst (pc := 9) (v := 1) X dX5_needs_9 rfl ?_
    refine v_cGs (pc := 10) X (m_T_errs l g fu (1 : Int32) _) (v_rc_n X wT_o0) (Or.inl q1658) hy_T_errs rfl rfl rfl rfl dX5_needs_10 (fun s_3 _ => ?_)
    exact v_vret (pc := 13) X dX5_needs_13 rfl
/-! FloodLentModel.number(II)I -/
abbrev rm_T_number : Room := { frames := 3, cells := 0, slots := 0, locals := 81 }
theorem hy_T_number : v_yV yX5_number cX5_number 4 (some .int) 2 := ⟨q1669, qs69, q141, q1670, by decide +kernel⟩
def t_T_number_47 (fu : Nat) (p1 : Int32) (p2 : Int32) (s : v_S) : Option (Int32 × v_S) :=
v_b1 (t_T_good fu s) fun (z_3 : Int32) => if z_3 = 0 then (some ((0 : Int32), s)) else (v_n (s.1 0 11) fun (x3_4 : Int32) => v_b1 (t_T_advance fu s) fun (s_5 : v_S) => some (x3_4, s_5))
def t_T_number_20 (fu : Nat) (p1 : Int32) (p2 : Int32) (s : v_S) : Option (Int32 × v_S) :=
v_b1 (t_T_good fu s) fun (z_2 : Int32) => if z_2 = 0 then (t_T_number_47 fu p1 p2 s) else (v_b1 (t_T_in fu (Int32.toInt64 (s.1 0 11)) (Int32.toInt64 p1) (Int32.toInt64 p2) s) fun (z_6 : Int32) => if z_6 = 0 then (v_b1 (t_T_errs fu (2 : Int32) s) fun (s_7 : v_S) => t_T_number_47 fu p1 p2 s_7) else (t_T_number_47 fu p1 p2 s))
def t_T_number (fu : Nat) (p1 : Int32) (p2 : Int32) (s : v_S) : Option (Int32 × v_S) :=
  v_b1 (t_T_good fu s) fun (z_1 : Int32) => if z_1 = 0 then (t_T_number_20 fu p1 p2 s) else (if s.1 0 10 = (2 : Int32) then (t_T_number_20 fu p1 p2 s) else (v_b1 (t_T_errs fu (1 : Int32) s) fun (s_8 : v_S) => t_T_number_20 fu p1 p2 s_8))
theorem w_T_number_47 {Γ : v_Ctx} {l : Launch} {g : v_G} (fu : Nat) (p1 : Int32) (p2 : Int32) (X : v_C Γ l rm_T_number cX5_number 4 RX5 (some .int) wT g)  (s : v_S) : v_V Γ 4 wT g (fun z : Int32 × v_S => (some (.int z.1), z.2)) 47 [(0, .ref (v_E g 0))] [] s (t_T_number_47 fu p1 p2 s) := by
  unfold t_T_number_47
  refine v_aload_n (pc := 47) X dX5_number_47 0 rfl ?_
  refine v_cGi (pc := 48) X (m_T_good l g fu _) (v_rc_n X wT_o0) (Or.inl q1635) hy_T_good rfl rfl rfl rfl dX5_number_48 (fun z_3 _ => ?_)
  refine v_if_ne (pc := 51) (tgt := 56) X dX5_number_51 (by decide) (fun c51 => ?_) (fun c51 => ?_)
  · refine v_aload_n (pc := 56) X dX5_number_56 0 rfl ?_
    refine v_get (pc := 57) (kind := 0) (v := .int (s.1 0 11)) X wT_n0 wT_l0 wT_c0 in_X5 (Nat.le_of_ble_eq_true rfl : 11 < 40) q1482 rfl rfl dX5_number_57 ?_
    refine v_istore_nN (pc := 60) (lvf := fun x3_4 => [(3, .int x3_4), (0, .ref (v_E g 0))]) X dX5_number_60 rfl (Nat.le_of_ble_eq_true rfl) (fun _ => rfl) (fun x3_4 => ?_)
    refine v_aload_n (pc := 61) X dX5_number_61 1 rfl ?_
    refine v_cGs (pc := 62) X (m_T_advance l g fu _) (v_rc_n X wT_o0) (Or.inl q1621) hy_T_advance rfl rfl rfl rfl dX5_number_62 (fun s_5 _ => ?_)
    refine v_iload_n (pc := 65) X dX5_number_65 0 rfl ?_
    exact v_iret (pc := 66) X dX5_number_66 rfl
  · refine v_iconst (pc := 54) (v := 0) X dX5_number_54 rfl ?_
    exact v_iret (pc := 55) X dX5_number_55 rfl
theorem w_T_number_20 {Γ : v_Ctx} {l : Launch} {g : v_G} (fu : Nat) (p1 : Int32) (p2 : Int32) (X : v_C Γ l rm_T_number cX5_number 4 RX5 (some .int) wT g)  (s : v_S) : v_V Γ 4 wT g (fun z : Int32 × v_S => (some (.int z.1), z.2)) 20 [(0, .ref (v_E g 0)), (1, .int p1), (2, .int p2)] [] s (t_T_number_20 fu p1 p2 s) := by
  unfold t_T_number_20
  refine v_aload_n (pc := 20) X dX5_number_20 0 rfl ?_
  refine v_cGi (pc := 21) X (m_T_good l g fu _) (v_rc_n X wT_o0) (Or.inl q1635) hy_T_good rfl rfl rfl rfl dX5_number_21 (fun z_2 _ => ?_)
  refine v_if_eq (pc := 24) (tgt := 47) X dX5_number_24 (by decide) (fun c24 => ?_) (fun c24 => ?_)
  · refine v_sub [0] rfl ?_
    exact w_T_number_47 fu p1 p2 X  s
  · refine v_aload_n (pc := 27) X dX5_number_27 0 rfl ?_
    refine v_get (pc := 28) (kind := 0) (v := .int (s.1 0 11)) X wT_n0 wT_l0 wT_c0 in_X5 (Nat.le_of_ble_eq_true rfl : 11 < 40) q1482 rfl rfl dX5_number_28 ?_
    refine v_i2l (pc := 31) X dX5_number_31 ?_
    refine v_iload_n (pc := 32) X dX5_number_32 1 rfl ?_
    refine v_i2l (pc := 33) X dX5_number_33 ?_
    refine v_iload_n (pc := 34) X dX5_number_34 2 rfl ?_
    refine v_i2l (pc := 35) X dX5_number_35 ?_
    refine v_cSi (pc := 36) X (m_T_in l g fu (Int32.toInt64 (s.1 0 11)) (Int32.toInt64 p1) (Int32.toInt64 p2) _) q1598 hy_T_in rfl rfl rfl rfl dX5_number_36 (fun z_6 _ => ?_)
    refine v_if_ne (pc := 39) (tgt := 47) X dX5_number_39 (by decide) (fun c39 => ?_) (fun c39 => ?_)
    · refine v_sub [0] rfl ?_
      exact w_T_number_47 fu p1 p2 X  s
    · refine v_aload_n (pc := 42) X dX5_number_42 0 rfl ?_
      refine v_iconst (pc := 43) (v := 2) X dX5_number_43 rfl ?_
      refine v_cGs (pc := 44) X (m_T_errs l g fu (2 : Int32) _) (v_rc_n X wT_o0) (Or.inl q1658) hy_T_errs rfl rfl rfl rfl dX5_number_44 (fun s_7 _ => ?_)
      refine v_sub [0] rfl ?_
      exact w_T_number_47 fu p1 p2 X  s_7
theorem m_T_number (l : Launch) (g : v_G) (fu : Nat) (p1 : Int32) (p2 : Int32) (s : v_S) : v_M l yX5_number cX5_number 4 (some .int) rm_T_number wT g [.ref (v_E g 0), .int p1, .int p2] s (fun z : Int32 × v_S => (some (.int z.1), z.2)) (t_T_number fu p1 p2 s) := by
  refine v_met (by decide +kernel) (Nat.le_of_ble_eq_true rfl) (fun Γ X => ?_)
  refine v_lv (lv' := [(0, .ref (v_E g 0)), (1, .int p1), (2, .int p2)]) rfl ?_
  unfold t_T_number
  refine v_aload_n (pc := 0) X dX5_number_0 0 rfl ?_
  refine v_cGi (pc := 1) X (m_T_good l g fu _) (v_rc_n X wT_o0) (Or.inl q1635) hy_T_good rfl rfl rfl rfl dX5_number_1 (fun z_1 _ => ?_)
  refine v_if_eq (pc := 4) (tgt := 20) X dX5_number_4 (by decide) (fun c4 => ?_) (fun c4 => ?_)
  · exact w_T_number_20 fu p1 p2 X  s
  · refine v_aload_n (pc := 7) X dX5_number_7 0 rfl ?_
    refine v_get (pc := 8) (kind := 0) (v := .int (s.1 0 10)) X wT_n0 wT_l0 wT_c0 in_X5 (Nat.le_of_ble_eq_true rfl : 10 < 40) q1481 rfl rfl dX5_number_8 ?_
    refine v_iconst (pc := 11) (v := 2) X dX5_number_11 rfl ?_
    refine v_icmp_eq (pc := 12) (tgt := 20) X dX5_number_12 (by decide) (fun c12 => ?_) (fun c12 => ?_)
    · exact w_T_number_20 fu p1 p2 X  s
    · refine v_aload_n (pc := 15) X dX5_number_15 0 rfl ?_
      refine v_iconst (pc := 16) (v := 1) X dX5_number_16 rfl ?_
      refine v_cGs (pc := 17) X (m_T_errs l g fu (1 : Int32) _) (v_rc_n X wT_o0) (Or.inl q1658) hy_T_errs rfl rfl rfl rfl dX5_number_17 (fun s_8 _ => ?_)
      exact w_T_number_20 fu p1 p2 X  s_8
/-! FloodLentModel.told(Ljava/lang/String;II)I -/
abbrev rm_T_told : Room := { frames := 8, cells := 0, slots := 0, locals := 172 }
theorem hy_T_told : v_yV yX5_told cX5_told 4 (some .int) 3 := ⟨q1665, qs68, q141, q1666, by decide +kernel⟩
def t_T_told (fu : Nat) (p1 : Nat) (p2 : Int32) (p3 : Int32) (s : v_S) : Option (Int32 × v_S) :=
  v_b1 (t_T_needs fu p1 s) fun (s_1 : v_S) => v_b2 (t_T_number fu p2 p3 s_1) fun (z_2 : Int32) (s_3 : v_S) => some (z_2, s_3)
theorem m_T_told (l : Launch) (g : v_G) (fu : Nat) (p1 : Nat) (p2 : Int32) (p3 : Int32) (s : v_S) : v_M l yX5_told cX5_told 4 (some .int) rm_T_told wT g [.ref (v_E g 0), .ref (v_K g p1), .int p2, .int p3] s (fun z : Int32 × v_S => (some (.int z.1), z.2)) (t_T_told fu p1 p2 p3 s) := by
  refine v_met (by decide +kernel) (Nat.le_of_ble_eq_true rfl) (fun Γ X => ?_)
  refine v_lv (lv' := [(0, .ref (v_E g 0)), (1, .ref (v_K g p1)), (2, .int p2), (3, .int p3)]) rfl ?_
  unfold t_T_told
  refine v_aload_n (pc := 0) X dX5_told_0 0 rfl ?_
  refine v_aload_n (pc := 1) X dX5_told_1 1 rfl ?_
  refine v_cGs (pc := 2) X (m_T_needs l g fu p1 _) (v_rc_n X wT_o0) (Or.inl q1644) hy_T_needs rfl rfl rfl rfl dX5_told_2 (fun s_1 _ => ?_)
  refine v_aload_n (pc := 5) X dX5_told_5 0 rfl ?_
  refine v_iload_n (pc := 6) X dX5_told_6 2 rfl ?_
  refine v_iload_n (pc := 7) X dX5_told_7 3 rfl ?_
  refine v_cGis (pc := 8) X (m_T_number l g fu p2 p3 _) (v_rc_n X wT_o0) (Or.inl q1667) hy_T_number rfl rfl rfl rfl dX5_told_8 (fun z_2 s_3 _ => ?_)
  exact v_iret (pc := 11) X dX5_told_11 rfl
/-! FloodLentModel.readVillage()V -/
abbrev rm_T_readVillage : Room := { frames := 9, cells := 0, slots := 0, locals := 195 }
theorem hy_T_readVillage : v_yV yX5_readVillage cX5_readVillage 2 none 0 := ⟨q1685, qs71, q141, q1686, by decide +kernel⟩
def t_T_readVillage (fu : Nat)  (s : v_S) : Option v_S :=
  v_n ((8 : Int32) + ((5 : Int32) * (s.1 6 0))) fun (x1_1 : Int32) => v_b2 (t_T_told fu (24) (0 : Int32) (9999 : Int32) s) fun (z_2 : Int32) (s_3 : v_S) => v_g (x1_1 + (0 : Int32)) 160 <| v_n (v_uI s_3 6 (Int32.toNatClampNeg (x1_1 + (0 : Int32))) z_2) fun (s_4 : v_S) => v_g (x1_1 + (0 : Int32)) 160 <| v_b2 (t_T_told fu (25) (0 : Int32) (s_4.1 6 (Int32.toNatClampNeg (x1_1 + (0 : Int32)))) s_4) fun (z_5 : Int32) (s_6 : v_S) => v_g (x1_1 + (1 : Int32)) 160 <| v_n (v_uI s_6 6 (Int32.toNatClampNeg (x1_1 + (1 : Int32))) z_5) fun (s_7 : v_S) => v_b2 (t_T_told fu (26) (0 : Int32) (99 : Int32) s_7) fun (z_8 : Int32) (s_9 : v_S) => v_g (x1_1 + (2 : Int32)) 160 <| v_n (v_uI s_9 6 (Int32.toNatClampNeg (x1_1 + (2 : Int32))) z_8) fun (s_10 : v_S) => v_b2 (t_T_told fu (27) (0 : Int32) (99 : Int32) s_10) fun (z_11 : Int32) (s_12 : v_S) => v_g (x1_1 + (3 : Int32)) 160 <| v_n (v_uI s_12 6 (Int32.toNatClampNeg (x1_1 + (3 : Int32))) z_11) fun (s_13 : v_S) => v_n (v_uI s_13 6 0 ((s_13.1 6 0) + (1 : Int32))) fun (s_14 : v_S) => some s_14
theorem m_T_readVillage (l : Launch) (g : v_G) (fu : Nat)  (s : v_S) : v_M l yX5_readVillage cX5_readVillage 2 none rm_T_readVillage wT g [.ref (v_E g 0)] s (fun z : v_S => ((none : Option Value), z)) (t_T_readVillage fu  s) := by
  refine v_met (by decide +kernel) (Nat.le_of_ble_eq_true rfl) (fun Γ X => ?_)
  refine v_lv (lv' := [(0, .ref (v_E g 0))]) rfl ?_
  unfold t_T_readVillage
  refine v_bipush (pc := 0) (v := 8) X dX5_readVillage_0 rfl ?_
  refine v_iconst (pc := 2) (v := 5) X dX5_readVillage_2 rfl ?_
  refine v_aload_n (pc := 3) X dX5_readVillage_3 0 rfl ?_
  refine v_get (pc := 4) (kind := 9) (v := .ref (v_E g 6)) X wT_n0 wT_l0 wT_c0 in_X5 (Nat.le_of_ble_eq_true rfl : 14 < 40) q1485 rfl rfl dX5_readVillage_4 ?_
  refine v_iconst (pc := 7) (v := 0) X dX5_readVillage_7 rfl ?_
  refine v_ialdC (pc := 8) (k := 0) X wT_n6 wT_l6 rfl dX5_readVillage_8 ?_
  refine v_imul (pc := 9) X dX5_readVillage_9 ?_
  refine v_iadd (pc := 10) X dX5_readVillage_10 ?_
  refine v_istore_nN (pc := 11) (lvf := fun x1_1 => [(1, .int x1_1), (0, .ref (v_E g 0))]) X dX5_readVillage_11 rfl (Nat.le_of_ble_eq_true rfl) (fun _ => rfl) (fun x1_1 => ?_)
  refine v_aload_n (pc := 12) X dX5_readVillage_12 1 rfl ?_
  refine v_get (pc := 13) (kind := 9) (v := .ref (v_E g 6)) X wT_n0 wT_l0 wT_c0 in_X5 (Nat.le_of_ble_eq_true rfl : 14 < 40) q1485 rfl rfl dX5_readVillage_13 ?_
  refine v_iload_n (pc := 16) X dX5_readVillage_16 0 rfl ?_
  refine v_iconst (pc := 17) (v := 0) X dX5_readVillage_17 rfl ?_
  refine v_iadd (pc := 18) X dX5_readVillage_18 ?_
  refine v_aload_n (pc := 19) X dX5_readVillage_19 1 rfl ?_
  refine v_ldcS (pc := 20) (i := 24) X (by decide) ⟨rfl, rfl⟩ q1687 dX5_readVillage_20 ?_
  refine v_iconst (pc := 22) (v := 0) X dX5_readVillage_22 rfl ?_
  refine v_sipush (pc := 23) (v := 9999) X dX5_readVillage_23 rfl ?_
  refine v_cGis (pc := 26) X (m_T_told l g fu (24) (0 : Int32) (9999 : Int32) _) (v_rc_n X wT_o0) (Or.inl q1663) hy_T_told rfl rfl rfl rfl dX5_readVillage_26 (fun z_2 s_3 _ => ?_)
  refine v_iast (pc := 29) X wT_n6 wT_l6 dX5_readVillage_29 (fun s_4 => ?_)
  refine v_aload_n (pc := 30) X dX5_readVillage_30 1 rfl ?_
  refine v_get (pc := 31) (kind := 9) (v := .ref (v_E g 6)) X wT_n0 wT_l0 wT_c0 in_X5 (Nat.le_of_ble_eq_true rfl : 14 < 40) q1485 rfl rfl dX5_readVillage_31 ?_
  refine v_iload_n (pc := 34) X dX5_readVillage_34 0 rfl ?_
  refine v_iconst (pc := 35) (v := 1) X dX5_readVillage_35 rfl ?_
  refine v_iadd (pc := 36) X dX5_readVillage_36 ?_
  refine v_aload_n (pc := 37) X dX5_readVillage_37 1 rfl ?_
  refine v_ldcS (pc := 38) (i := 25) X (by decide) ⟨rfl, rfl⟩ q1688 dX5_readVillage_38 ?_
  refine v_iconst (pc := 40) (v := 0) X dX5_readVillage_40 rfl ?_
  refine v_aload_n (pc := 41) X dX5_readVillage_41 1 rfl ?_
  refine v_get (pc := 42) (kind := 9) (v := .ref (v_E g 6)) X wT_n0 wT_l0 wT_c0 in_X5 (Nat.le_of_ble_eq_true rfl : 14 < 40) q1485 rfl rfl dX5_readVillage_42 ?_
  refine v_iload_n (pc := 45) X dX5_readVillage_45 0 rfl ?_
  refine v_iconst (pc := 46) (v := 0) X dX5_readVillage_46 rfl ?_
  refine v_iadd (pc := 47) X dX5_readVillage_47 ?_
  refine v_iald (pc := 48) X wT_n6 wT_l6 dX5_readVillage_48 ?_
  refine v_cGis (pc := 49) X (m_T_told l g fu (25) (0 : Int32) (s_4.1 6 (Int32.toNatClampNeg (x1_1 + (0 : Int32)))) _) (v_rc_n X wT_o0) (Or.inl q1663) hy_T_told rfl rfl rfl rfl dX5_readVillage_49 (fun z_5 s_6 _ => ?_)
  refine v_iast (pc := 52) X wT_n6 wT_l6 dX5_readVillage_52 (fun s_7 => ?_)
  refine v_aload_n (pc := 53) X dX5_readVillage_53 1 rfl ?_
  refine v_get (pc := 54) (kind := 9) (v := .ref (v_E g 6)) X wT_n0 wT_l0 wT_c0 in_X5 (Nat.le_of_ble_eq_true rfl : 14 < 40) q1485 rfl rfl dX5_readVillage_54 ?_
  refine v_iload_n (pc := 57) X dX5_readVillage_57 0 rfl ?_
  refine v_iconst (pc := 58) (v := 2) X dX5_readVillage_58 rfl ?_
  refine v_iadd (pc := 59) X dX5_readVillage_59 ?_
  refine v_aload_n (pc := 60) X dX5_readVillage_60 1 rfl ?_
  refine v_ldcS (pc := 61) (i := 26) X (by decide) ⟨rfl, rfl⟩ q1689 dX5_readVillage_61 ?_
  refine v_iconst (pc := 63) (v := 0) X dX5_readVillage_63 rfl ?_
  refine v_bipush (pc := 64) (v := 99) X dX5_readVillage_64 rfl ?_
  refine v_cGis (pc := 66) X (m_T_told l g fu (26) (0 : Int32) (99 : Int32) _) (v_rc_n X wT_o0) (Or.inl q1663) hy_T_told rfl rfl rfl rfl dX5_readVillage_66 (fun z_8 s_9 _ => ?_)
  refine v_iast (pc := 69) X wT_n6 wT_l6 dX5_readVillage_69 (fun s_10 => ?_)
  refine v_aload_n (pc := 70) X dX5_readVillage_70 1 rfl ?_
  refine v_get (pc := 71) (kind := 9) (v := .ref (v_E g 6)) X wT_n0 wT_l0 wT_c0 in_X5 (Nat.le_of_ble_eq_true rfl : 14 < 40) q1485 rfl rfl dX5_readVillage_71 ?_
  refine v_iload_n (pc := 74) X dX5_readVillage_74 0 rfl ?_
  refine v_iconst (pc := 75) (v := 3) X dX5_readVillage_75 rfl ?_
  refine v_iadd (pc := 76) X dX5_readVillage_76 ?_
  refine v_aload_n (pc := 77) X dX5_readVillage_77 1 rfl ?_
  refine v_ldcS (pc := 78) (i := 27) X (by decide) ⟨rfl, rfl⟩ q1690 dX5_readVillage_78 ?_
  refine v_iconst (pc := 80) (v := 0) X dX5_readVillage_80 rfl ?_
  refine v_bipush (pc := 81) (v := 99) X dX5_readVillage_81 rfl ?_
  refine v_cGis (pc := 83) X (m_T_told l g fu (27) (0 : Int32) (99 : Int32) _) (v_rc_n X wT_o0) (Or.inl q1663) hy_T_told rfl rfl rfl rfl dX5_readVillage_83 (fun z_11 s_12 _ => ?_)
  refine v_iast (pc := 86) X wT_n6 wT_l6 dX5_readVillage_86 (fun s_13 => ?_)
  refine v_aload_n (pc := 87) X dX5_readVillage_87 1 rfl ?_
  refine v_get (pc := 88) (kind := 9) (v := .ref (v_E g 6)) X wT_n0 wT_l0 wT_c0 in_X5 (Nat.le_of_ble_eq_true rfl : 14 < 40) q1485 rfl rfl dX5_readVillage_88 ?_
  refine v_iconst (pc := 91) (v := 0) X dX5_readVillage_91 rfl ?_
  refine v_dup2_11 (pc := 92) X dX5_readVillage_92 rfl rfl ?_
  refine v_ialdC (pc := 93) (k := 0) X wT_n6 wT_l6 rfl dX5_readVillage_93 ?_
  refine v_iconst (pc := 94) (v := 1) X dX5_readVillage_94 rfl ?_
  refine v_iadd (pc := 95) X dX5_readVillage_95 ?_
  refine v_iastC (pc := 96) (k := 0) X wT_n6 wT_l6 rfl dX5_readVillage_96 (fun s_14 => ?_)
  exact v_vret (pc := 97) X dX5_readVillage_97 rfl
/-! FloodLentModel.freshVillage()I -/
abbrev rm_T_freshVillage : Room := { frames := 4, cells := 0, slots := 0, locals := 104 }
theorem hy_T_freshVillage : v_yV yX5_freshVillage cX5_freshVillage 1 (some .int) 0 := ⟨q1697, qs73, q141, q1698, by decide +kernel⟩
def t_T_freshVillage (fu : Nat)  (s : v_S) : Option (Int32 × v_S) :=
  v_b2 (t_T_number fu (0 : Int32) ((s.1 6 0) - (1 : Int32)) s) fun (z_1 : Int32) (s_2 : v_S) => some (z_1, s_2)
theorem m_T_freshVillage (l : Launch) (g : v_G) (fu : Nat)  (s : v_S) : v_M l yX5_freshVillage cX5_freshVillage 1 (some .int) rm_T_freshVillage wT g [.ref (v_E g 0)] s (fun z : Int32 × v_S => (some (.int z.1), z.2)) (t_T_freshVillage fu  s) := by
  refine v_met (by decide +kernel) (Nat.le_of_ble_eq_true rfl) (fun Γ X => ?_)
  refine v_lv (lv' := [(0, .ref (v_E g 0))]) rfl ?_
  unfold t_T_freshVillage
  refine v_aload_n (pc := 0) X dX5_freshVillage_0 0 rfl ?_
  refine v_iconst (pc := 1) (v := 0) X dX5_freshVillage_1 rfl ?_
  refine v_aload_n (pc := 2) X dX5_freshVillage_2 0 rfl ?_
  refine v_get (pc := 3) (kind := 9) (v := .ref (v_E g 6)) X wT_n0 wT_l0 wT_c0 in_X5 (Nat.le_of_ble_eq_true rfl : 14 < 40) q1485 rfl rfl dX5_freshVillage_3 ?_
  refine v_iconst (pc := 6) (v := 0) X dX5_freshVillage_6 rfl ?_
  refine v_ialdC (pc := 7) (k := 0) X wT_n6 wT_l6 rfl dX5_freshVillage_7 ?_
  refine v_iconst (pc := 8) (v := 1) X dX5_freshVillage_8 rfl ?_
  refine v_isub (pc := 9) X dX5_freshVillage_9 ?_
  refine v_cGis (pc := 10) X (m_T_number l g fu (0 : Int32) ((s.1 6 0) - (1 : Int32)) _) (v_rc_n X wT_o0) (Or.inl q1667) hy_T_number rfl rfl rfl rfl dX5_freshVillage_10 (fun z_1 s_2 _ => ?_)
  exact v_iret (pc := 13) X dX5_freshVillage_13 rfl
/-! FloodLentModel.readCrop()V -/
abbrev rm_T_readCrop : Room := { frames := 9, cells := 0, slots := 0, locals := 195 }
theorem hy_T_readCrop : v_yV yX5_readCrop cX5_readCrop 2 none 0 := ⟨q1693, qs72, q141, q1694, by decide +kernel⟩
def t_T_readCrop (fu : Nat)  (s : v_S) : Option v_S :=
  v_n ((38 : Int32) + ((5 : Int32) * (s.1 6 1))) fun (x1_1 : Int32) => v_b2 (t_T_freshVillage fu s) fun (z_2 : Int32) (s_3 : v_S) => v_g (x1_1 + (0 : Int32)) 160 <| v_n (v_uI s_3 6 (Int32.toNatClampNeg (x1_1 + (0 : Int32))) z_2) fun (s_4 : v_S) => v_b2 (t_T_told fu (28) (1 : Int32) (99 : Int32) s_4) fun (z_5 : Int32) (s_6 : v_S) => v_g (x1_1 + (1 : Int32)) 160 <| v_n (v_uI s_6 6 (Int32.toNatClampNeg (x1_1 + (1 : Int32))) z_5) fun (s_7 : v_S) => v_b2 (t_T_told fu (29) (0 : Int32) (99 : Int32) s_7) fun (z_8 : Int32) (s_9 : v_S) => v_g (x1_1 + (2 : Int32)) 160 <| v_n (v_uI s_9 6 (Int32.toNatClampNeg (x1_1 + (2 : Int32))) z_8) fun (s_10 : v_S) => v_b2 (t_T_told fu (30) (0 : Int32) ((s_10.1 6 5) - (1 : Int32)) s_10) fun (z_11 : Int32) (s_12 : v_S) => v_g (x1_1 + (3 : Int32)) 160 <| v_n (v_uI s_12 6 (Int32.toNatClampNeg (x1_1 + (3 : Int32))) z_11) fun (s_13 : v_S) => v_g (x1_1 + (3 : Int32)) 160 <| v_b2 (t_T_told fu (31) (s_13.1 6 (Int32.toNatClampNeg (x1_1 + (3 : Int32)))) ((s_13.1 6 5) - (1 : Int32)) s_13) fun (z_14 : Int32) (s_15 : v_S) => v_g (x1_1 + (4 : Int32)) 160 <| v_n (v_uI s_15 6 (Int32.toNatClampNeg (x1_1 + (4 : Int32))) z_14) fun (s_16 : v_S) => v_n (v_uI s_16 6 1 ((s_16.1 6 1) + (1 : Int32))) fun (s_17 : v_S) => some s_17
theorem m_T_readCrop (l : Launch) (g : v_G) (fu : Nat)  (s : v_S) : v_M l yX5_readCrop cX5_readCrop 2 none rm_T_readCrop wT g [.ref (v_E g 0)] s (fun z : v_S => ((none : Option Value), z)) (t_T_readCrop fu  s) := by
  refine v_met (by decide +kernel) (Nat.le_of_ble_eq_true rfl) (fun Γ X => ?_)
  refine v_lv (lv' := [(0, .ref (v_E g 0))]) rfl ?_
  unfold t_T_readCrop
  refine v_bipush (pc := 0) (v := 38) X dX5_readCrop_0 rfl ?_
  refine v_iconst (pc := 2) (v := 5) X dX5_readCrop_2 rfl ?_
  refine v_aload_n (pc := 3) X dX5_readCrop_3 0 rfl ?_
  refine v_get (pc := 4) (kind := 9) (v := .ref (v_E g 6)) X wT_n0 wT_l0 wT_c0 in_X5 (Nat.le_of_ble_eq_true rfl : 14 < 40) q1485 rfl rfl dX5_readCrop_4 ?_
  refine v_iconst (pc := 7) (v := 1) X dX5_readCrop_7 rfl ?_
  refine v_ialdC (pc := 8) (k := 1) X wT_n6 wT_l6 rfl dX5_readCrop_8 ?_
  refine v_imul (pc := 9) X dX5_readCrop_9 ?_
  refine v_iadd (pc := 10) X dX5_readCrop_10 ?_
  refine v_istore_nN (pc := 11) (lvf := fun x1_1 => [(1, .int x1_1), (0, .ref (v_E g 0))]) X dX5_readCrop_11 rfl (Nat.le_of_ble_eq_true rfl) (fun _ => rfl) (fun x1_1 => ?_)
  refine v_aload_n (pc := 12) X dX5_readCrop_12 1 rfl ?_
  refine v_get (pc := 13) (kind := 9) (v := .ref (v_E g 6)) X wT_n0 wT_l0 wT_c0 in_X5 (Nat.le_of_ble_eq_true rfl : 14 < 40) q1485 rfl rfl dX5_readCrop_13 ?_
  refine v_iload_n (pc := 16) X dX5_readCrop_16 0 rfl ?_
  refine v_iconst (pc := 17) (v := 0) X dX5_readCrop_17 rfl ?_
  refine v_iadd (pc := 18) X dX5_readCrop_18 ?_
  refine v_aload_n (pc := 19) X dX5_readCrop_19 1 rfl ?_
  refine v_cGis (pc := 20) X (m_T_freshVillage l g fu _) (v_rc_n X wT_o0) (Or.inl q1695) hy_T_freshVillage rfl rfl rfl rfl dX5_readCrop_20 (fun z_2 s_3 _ => ?_)
  refine v_iast (pc := 23) X wT_n6 wT_l6 dX5_readCrop_23 (fun s_4 => ?_)
  refine v_aload_n (pc := 24) X dX5_readCrop_24 1 rfl ?_
  refine v_get (pc := 25) (kind := 9) (v := .ref (v_E g 6)) X wT_n0 wT_l0 wT_c0 in_X5 (Nat.le_of_ble_eq_true rfl : 14 < 40) q1485 rfl rfl dX5_readCrop_25 ?_
  refine v_iload_n (pc := 28) X dX5_readCrop_28 0 rfl ?_
  refine v_iconst (pc := 29) (v := 1) X dX5_readCrop_29 rfl ?_
  refine v_iadd (pc := 30) X dX5_readCrop_30 ?_
  refine v_aload_n (pc := 31) X dX5_readCrop_31 1 rfl ?_
  refine v_ldcS (pc := 32) (i := 28) X (by decide) ⟨rfl, rfl⟩ q1699 dX5_readCrop_32 ?_
  refine v_iconst (pc := 34) (v := 1) X dX5_readCrop_34 rfl ?_
  refine v_bipush (pc := 35) (v := 99) X dX5_readCrop_35 rfl ?_
  refine v_cGis (pc := 37) X (m_T_told l g fu (28) (1 : Int32) (99 : Int32) _) (v_rc_n X wT_o0) (Or.inl q1663) hy_T_told rfl rfl rfl rfl dX5_readCrop_37 (fun z_5 s_6 _ => ?_)
  refine v_iast (pc := 40) X wT_n6 wT_l6 dX5_readCrop_40 (fun s_7 => ?_)
  refine v_aload_n (pc := 41) X dX5_readCrop_41 1 rfl ?_
  refine v_get (pc := 42) (kind := 9) (v := .ref (v_E g 6)) X wT_n0 wT_l0 wT_c0 in_X5 (Nat.le_of_ble_eq_true rfl : 14 < 40) q1485 rfl rfl dX5_readCrop_42 ?_
  refine v_iload_n (pc := 45) X dX5_readCrop_45 0 rfl ?_
  refine v_iconst (pc := 46) (v := 2) X dX5_readCrop_46 rfl ?_
  refine v_iadd (pc := 47) X dX5_readCrop_47 ?_
  refine v_aload_n (pc := 48) X dX5_readCrop_48 1 rfl ?_
  refine v_ldcS (pc := 49) (i := 29) X (by decide) ⟨rfl, rfl⟩ q1700 dX5_readCrop_49 ?_
  refine v_iconst (pc := 51) (v := 0) X dX5_readCrop_51 rfl ?_
  refine v_bipush (pc := 52) (v := 99) X dX5_readCrop_52 rfl ?_
  refine v_cGis (pc := 54) X (m_T_told l g fu (29) (0 : Int32) (99 : Int32) _) (v_rc_n X wT_o0) (Or.inl q1663) hy_T_told rfl rfl rfl rfl dX5_readCrop_54 (fun z_8 s_9 _ => ?_)
  refine v_iast (pc := 57) X wT_n6 wT_l6 dX5_readCrop_57 (fun s_10 => ?_)
  refine v_aload_n (pc := 58) X dX5_readCrop_58 1 rfl ?_
  refine v_get (pc := 59) (kind := 9) (v := .ref (v_E g 6)) X wT_n0 wT_l0 wT_c0 in_X5 (Nat.le_of_ble_eq_true rfl : 14 < 40) q1485 rfl rfl dX5_readCrop_59 ?_
  refine v_iload_n (pc := 62) X dX5_readCrop_62 0 rfl ?_
  refine v_iconst (pc := 63) (v := 3) X dX5_readCrop_63 rfl ?_
  refine v_iadd (pc := 64) X dX5_readCrop_64 ?_
  refine v_aload_n (pc := 65) X dX5_readCrop_65 1 rfl ?_
  refine v_ldcS (pc := 66) (i := 30) X (by decide) ⟨rfl, rfl⟩ q1701 dX5_readCrop_66 ?_
  refine v_iconst (pc := 68) (v := 0) X dX5_readCrop_68 rfl ?_
  refine v_aload_n (pc := 69) X dX5_readCrop_69 1 rfl ?_
  refine v_get (pc := 70) (kind := 9) (v := .ref (v_E g 6)) X wT_n0 wT_l0 wT_c0 in_X5 (Nat.le_of_ble_eq_true rfl : 14 < 40) q1485 rfl rfl dX5_readCrop_70 ?_
  refine v_iconst (pc := 73) (v := 5) X dX5_readCrop_73 rfl ?_
  refine v_ialdC (pc := 74) (k := 5) X wT_n6 wT_l6 rfl dX5_readCrop_74 ?_
  refine v_iconst (pc := 75) (v := 1) X dX5_readCrop_75 rfl ?_
  refine v_isub (pc := 76) X dX5_readCrop_76 ?_
  refine v_cGis (pc := 77) X (m_T_told l g fu (30) (0 : Int32) ((s_10.1 6 5) - (1 : Int32)) _) (v_rc_n X wT_o0) (Or.inl q1663) hy_T_told rfl rfl rfl rfl dX5_readCrop_77 (fun z_11 s_12 _ => ?_)
  refine v_iast (pc := 80) X wT_n6 wT_l6 dX5_readCrop_80 (fun s_13 => ?_)
  refine v_aload_n (pc := 81) X dX5_readCrop_81 1 rfl ?_
  refine v_get (pc := 82) (kind := 9) (v := .ref (v_E g 6)) X wT_n0 wT_l0 wT_c0 in_X5 (Nat.le_of_ble_eq_true rfl : 14 < 40) q1485 rfl rfl dX5_readCrop_82 ?_
  refine v_iload_n (pc := 85) X dX5_readCrop_85 0 rfl ?_
  refine v_iconst (pc := 86) (v := 4) X dX5_readCrop_86 rfl ?_
  refine v_iadd (pc := 87) X dX5_readCrop_87 ?_
  refine v_aload_n (pc := 88) X dX5_readCrop_88 1 rfl ?_
  refine v_ldcS (pc := 89) (i := 31) X (by decide) ⟨rfl, rfl⟩ q1702 dX5_readCrop_89 ?_
  refine v_aload_n (pc := 91) X dX5_readCrop_91 1 rfl ?_
  refine v_get (pc := 92) (kind := 9) (v := .ref (v_E g 6)) X wT_n0 wT_l0 wT_c0 in_X5 (Nat.le_of_ble_eq_true rfl : 14 < 40) q1485 rfl rfl dX5_readCrop_92 ?_
  refine v_iload_n (pc := 95) X dX5_readCrop_95 0 rfl ?_
  refine v_iconst (pc := 96) (v := 3) X dX5_readCrop_96 rfl ?_
  refine v_iadd (pc := 97) X dX5_readCrop_97 ?_
  refine v_iald (pc := 98) X wT_n6 wT_l6 dX5_readCrop_98 ?_
  refine v_aload_n (pc := 99) X dX5_readCrop_99 1 rfl ?_
  refine v_get (pc := 100) (kind := 9) (v := .ref (v_E g 6)) X wT_n0 wT_l0 wT_c0 in_X5 (Nat.le_of_ble_eq_true rfl : 14 < 40) q1485 rfl rfl dX5_readCrop_100 ?_
  refine v_iconst (pc := 103) (v := 5) X dX5_readCrop_103 rfl ?_
  refine v_ialdC (pc := 104) (k := 5) X wT_n6 wT_l6 rfl dX5_readCrop_104 ?_
  refine v_iconst (pc := 105) (v := 1) X dX5_readCrop_105 rfl ?_
  refine v_isub (pc := 106) X dX5_readCrop_106 ?_
  refine v_cGis (pc := 107) X (m_T_told l g fu (31) (s_13.1 6 (Int32.toNatClampNeg (x1_1 + (3 : Int32)))) ((s_13.1 6 5) - (1 : Int32)) _) (v_rc_n X wT_o0) (Or.inl q1663) hy_T_told rfl rfl rfl rfl dX5_readCrop_107 (fun z_14 s_15 _ => ?_)
  refine v_iast (pc := 110) X wT_n6 wT_l6 dX5_readCrop_110 (fun s_16 => ?_)
  refine v_aload_n (pc := 111) X dX5_readCrop_111 1 rfl ?_
  refine v_get (pc := 112) (kind := 9) (v := .ref (v_E g 6)) X wT_n0 wT_l0 wT_c0 in_X5 (Nat.le_of_ble_eq_true rfl : 14 < 40) q1485 rfl rfl dX5_readCrop_112 ?_
  refine v_iconst (pc := 115) (v := 1) X dX5_readCrop_115 rfl ?_
  refine v_dup2_11 (pc := 116) X dX5_readCrop_116 rfl rfl ?_
  refine v_ialdC (pc := 117) (k := 1) X wT_n6 wT_l6 rfl dX5_readCrop_117 ?_
  refine v_iconst (pc := 118) (v := 1) X dX5_readCrop_118 rfl ?_
  refine v_iadd (pc := 119) X dX5_readCrop_119 ?_
  refine v_iastC (pc := 120) (k := 1) X wT_n6 wT_l6 rfl dX5_readCrop_120 (fun s_17 => ?_)
  exact v_vret (pc := 121) X dX5_readCrop_121 rfl
/-! FloodLentModel.readFlood()V -/
abbrev rm_T_readFlood : Room := { frames := 9, cells := 0, slots := 0, locals := 195 }
theorem hy_T_readFlood : v_yV yX5_readFlood cX5_readFlood 2 none 0 := ⟨q1706, qs74, q141, q1707, by decide +kernel⟩
def t_T_readFlood (fu : Nat)  (s : v_S) : Option v_S :=
  v_n ((108 : Int32) + ((3 : Int32) * (s.1 6 2))) fun (x1_1 : Int32) => v_b2 (t_T_number fu (0 : Int32) ((s.1 6 5) - (1 : Int32)) s) fun (z_2 : Int32) (s_3 : v_S) => v_g (x1_1 + (0 : Int32)) 160 <| v_n (v_uI s_3 6 (Int32.toNatClampNeg (x1_1 + (0 : Int32))) z_2) fun (s_4 : v_S) => v_b2 (t_T_told fu (29) (0 : Int32) (9999 : Int32) s_4) fun (z_5 : Int32) (s_6 : v_S) => v_g (x1_1 + (1 : Int32)) 160 <| v_n (v_uI s_6 6 (Int32.toNatClampNeg (x1_1 + (1 : Int32))) z_5) fun (s_7 : v_S) => v_b2 (t_T_told fu (32) (0 : Int32) (100 : Int32) s_7) fun (z_8 : Int32) (s_9 : v_S) => v_g (x1_1 + (2 : Int32)) 160 <| v_n (v_uI s_9 6 (Int32.toNatClampNeg (x1_1 + (2 : Int32))) z_8) fun (s_10 : v_S) => v_g ((157 : Int32) + (s_10.1 6 2)) 160 <| v_n (v_uI s_10 6 (Int32.toNatClampNeg ((157 : Int32) + (s_10.1 6 2))) (-1 : Int32)) fun (s_11 : v_S) => v_n (v_uI s_11 6 2 ((s_11.1 6 2) + (1 : Int32))) fun (s_12 : v_S) => some s_12
theorem m_T_readFlood (l : Launch) (g : v_G) (fu : Nat)  (s : v_S) : v_M l yX5_readFlood cX5_readFlood 2 none rm_T_readFlood wT g [.ref (v_E g 0)] s (fun z : v_S => ((none : Option Value), z)) (t_T_readFlood fu  s) := by
  refine v_met (by decide +kernel) (Nat.le_of_ble_eq_true rfl) (fun Γ X => ?_)
  refine v_lv (lv' := [(0, .ref (v_E g 0))]) rfl ?_
  unfold t_T_readFlood
  refine v_bipush (pc := 0) (v := 108) X dX5_readFlood_0 rfl ?_
  refine v_iconst (pc := 2) (v := 3) X dX5_readFlood_2 rfl ?_
  refine v_aload_n (pc := 3) X dX5_readFlood_3 0 rfl ?_
  refine v_get (pc := 4) (kind := 9) (v := .ref (v_E g 6)) X wT_n0 wT_l0 wT_c0 in_X5 (Nat.le_of_ble_eq_true rfl : 14 < 40) q1485 rfl rfl dX5_readFlood_4 ?_
  refine v_iconst (pc := 7) (v := 2) X dX5_readFlood_7 rfl ?_
  refine v_ialdC (pc := 8) (k := 2) X wT_n6 wT_l6 rfl dX5_readFlood_8 ?_
  refine v_imul (pc := 9) X dX5_readFlood_9 ?_
  refine v_iadd (pc := 10) X dX5_readFlood_10 ?_
  refine v_istore_nN (pc := 11) (lvf := fun x1_1 => [(1, .int x1_1), (0, .ref (v_E g 0))]) X dX5_readFlood_11 rfl (Nat.le_of_ble_eq_true rfl) (fun _ => rfl) (fun x1_1 => ?_)
  refine v_aload_n (pc := 12) X dX5_readFlood_12 1 rfl ?_
  refine v_get (pc := 13) (kind := 9) (v := .ref (v_E g 6)) X wT_n0 wT_l0 wT_c0 in_X5 (Nat.le_of_ble_eq_true rfl : 14 < 40) q1485 rfl rfl dX5_readFlood_13 ?_
  refine v_iload_n (pc := 16) X dX5_readFlood_16 0 rfl ?_
  refine v_iconst (pc := 17) (v := 0) X dX5_readFlood_17 rfl ?_
  refine v_iadd (pc := 18) X dX5_readFlood_18 ?_
  refine v_aload_n (pc := 19) X dX5_readFlood_19 1 rfl ?_
  refine v_iconst (pc := 20) (v := 0) X dX5_readFlood_20 rfl ?_
  refine v_aload_n (pc := 21) X dX5_readFlood_21 1 rfl ?_
  refine v_get (pc := 22) (kind := 9) (v := .ref (v_E g 6)) X wT_n0 wT_l0 wT_c0 in_X5 (Nat.le_of_ble_eq_true rfl : 14 < 40) q1485 rfl rfl dX5_readFlood_22 ?_
  refine v_iconst (pc := 25) (v := 5) X dX5_readFlood_25 rfl ?_
  refine v_ialdC (pc := 26) (k := 5) X wT_n6 wT_l6 rfl dX5_readFlood_26 ?_
  refine v_iconst (pc := 27) (v := 1) X dX5_readFlood_27 rfl ?_
  refine v_isub (pc := 28) X dX5_readFlood_28 ?_
  refine v_cGis (pc := 29) X (m_T_number l g fu (0 : Int32) ((s.1 6 5) - (1 : Int32)) _) (v_rc_n X wT_o0) (Or.inl q1667) hy_T_number rfl rfl rfl rfl dX5_readFlood_29 (fun z_2 s_3 _ => ?_)
  refine v_iast (pc := 32) X wT_n6 wT_l6 dX5_readFlood_32 (fun s_4 => ?_)
  refine v_aload_n (pc := 33) X dX5_readFlood_33 1 rfl ?_
  refine v_get (pc := 34) (kind := 9) (v := .ref (v_E g 6)) X wT_n0 wT_l0 wT_c0 in_X5 (Nat.le_of_ble_eq_true rfl : 14 < 40) q1485 rfl rfl dX5_readFlood_34 ?_
  refine v_iload_n (pc := 37) X dX5_readFlood_37 0 rfl ?_
  refine v_iconst (pc := 38) (v := 1) X dX5_readFlood_38 rfl ?_
  refine v_iadd (pc := 39) X dX5_readFlood_39 ?_
  refine v_aload_n (pc := 40) X dX5_readFlood_40 1 rfl ?_
  refine v_ldcS (pc := 41) (i := 29) X (by decide) ⟨rfl, rfl⟩ q1700 dX5_readFlood_41 ?_
  refine v_iconst (pc := 43) (v := 0) X dX5_readFlood_43 rfl ?_
  refine v_sipush (pc := 44) (v := 9999) X dX5_readFlood_44 rfl ?_
  refine v_cGis (pc := 47) X (m_T_told l g fu (29) (0 : Int32) (9999 : Int32) _) (v_rc_n X wT_o0) (Or.inl q1663) hy_T_told rfl rfl rfl rfl dX5_readFlood_47 (fun z_5 s_6 _ => ?_)
  refine v_iast (pc := 50) X wT_n6 wT_l6 dX5_readFlood_50 (fun s_7 => ?_)
  refine v_aload_n (pc := 51) X dX5_readFlood_51 1 rfl ?_
  refine v_get (pc := 52) (kind := 9) (v := .ref (v_E g 6)) X wT_n0 wT_l0 wT_c0 in_X5 (Nat.le_of_ble_eq_true rfl : 14 < 40) q1485 rfl rfl dX5_readFlood_52 ?_
  refine v_iload_n (pc := 55) X dX5_readFlood_55 0 rfl ?_
  refine v_iconst (pc := 56) (v := 2) X dX5_readFlood_56 rfl ?_
  refine v_iadd (pc := 57) X dX5_readFlood_57 ?_
  refine v_aload_n (pc := 58) X dX5_readFlood_58 1 rfl ?_
  refine v_ldcS (pc := 59) (i := 32) X (by decide) ⟨rfl, rfl⟩ q1708 dX5_readFlood_59 ?_
  refine v_iconst (pc := 61) (v := 0) X dX5_readFlood_61 rfl ?_
  refine v_bipush (pc := 62) (v := 100) X dX5_readFlood_62 rfl ?_
  refine v_cGis (pc := 64) X (m_T_told l g fu (32) (0 : Int32) (100 : Int32) _) (v_rc_n X wT_o0) (Or.inl q1663) hy_T_told rfl rfl rfl rfl dX5_readFlood_64 (fun z_8 s_9 _ => ?_)
  refine v_iast (pc := 67) X wT_n6 wT_l6 dX5_readFlood_67 (fun s_10 => ?_)
  refine v_aload_n (pc := 68) X dX5_readFlood_68 1 rfl ?_
  refine v_get (pc := 69) (kind := 9) (v := .ref (v_E g 6)) X wT_n0 wT_l0 wT_c0 in_X5 (Nat.le_of_ble_eq_true rfl : 14 < 40) q1485 rfl rfl dX5_readFlood_69 ?_
  refine v_sipush (pc := 72) (v := 157) X dX5_readFlood_72 rfl ?_
  refine v_aload_n (pc := 75) X dX5_readFlood_75 1 rfl ?_
  refine v_get (pc := 76) (kind := 9) (v := .ref (v_E g 6)) X wT_n0 wT_l0 wT_c0 in_X5 (Nat.le_of_ble_eq_true rfl : 14 < 40) q1485 rfl rfl dX5_readFlood_76 ?_
  refine v_iconst (pc := 79) (v := 2) X dX5_readFlood_79 rfl ?_
  refine v_ialdC (pc := 80) (k := 2) X wT_n6 wT_l6 rfl dX5_readFlood_80 ?_
  refine v_iadd (pc := 81) X dX5_readFlood_81 ?_
  refine v_iconst (pc := 82) (v := -1) X dX5_readFlood_82 rfl ?_
  refine v_iast (pc := 83) X wT_n6 wT_l6 dX5_readFlood_83 (fun s_11 => ?_)
  refine v_aload_n (pc := 84) X dX5_readFlood_84 1 rfl ?_
  refine v_get (pc := 85) (kind := 9) (v := .ref (v_E g 6)) X wT_n0 wT_l0 wT_c0 in_X5 (Nat.le_of_ble_eq_true rfl : 14 < 40) q1485 rfl rfl dX5_readFlood_85 ?_
  refine v_iconst (pc := 88) (v := 2) X dX5_readFlood_88 rfl ?_
  refine v_dup2_11 (pc := 89) X dX5_readFlood_89 rfl rfl ?_
  refine v_ialdC (pc := 90) (k := 2) X wT_n6 wT_l6 rfl dX5_readFlood_90 ?_
  refine v_iconst (pc := 91) (v := 1) X dX5_readFlood_91 rfl ?_
  refine v_iadd (pc := 92) X dX5_readFlood_92 ?_
  refine v_iastC (pc := 93) (k := 2) X wT_n6 wT_l6 rfl dX5_readFlood_93 (fun s_12 => ?_)
  exact v_vret (pc := 94) X dX5_readFlood_94 rfl
/-! FloodLentModel.readLoan()V -/
abbrev rm_T_readLoan : Room := { frames := 9, cells := 0, slots := 0, locals := 195 }
theorem hy_T_readLoan : v_yV yX5_readLoan cX5_readLoan 3 none 0 := ⟨q1711, qs75, q141, q1712, by decide +kernel⟩
def t_T_readLoan_51 (fu : Nat) (x1 : Int32) (x2 : Int32) (s : v_S) : Option v_S :=
v_g (x1 + (0 : Int32)) 160 <| v_n (v_uI s 6 (Int32.toNatClampNeg (x1 + (0 : Int32))) x2) fun (s_6 : v_S) => v_b2 (t_T_freshVillage fu s_6) fun (z_7 : Int32) (s_8 : v_S) => v_g (x1 + (1 : Int32)) 160 <| v_n (v_uI s_8 6 (Int32.toNatClampNeg (x1 + (1 : Int32))) z_7) fun (s_9 : v_S) => v_b2 (t_T_told fu (33) (1 : Int32) (9999 : Int32) s_9) fun (z_10 : Int32) (s_11 : v_S) => v_g (x1 + (2 : Int32)) 160 <| v_n (v_uI s_11 6 (Int32.toNatClampNeg (x1 + (2 : Int32))) z_10) fun (s_12 : v_S) => v_b2 (t_T_told fu (34) (0 : Int32) ((s_12.1 6 5) - (1 : Int32)) s_12) fun (z_13 : Int32) (s_14 : v_S) => v_g (x1 + (3 : Int32)) 160 <| v_n (v_uI s_14 6 (Int32.toNatClampNeg (x1 + (3 : Int32))) z_13) fun (s_15 : v_S) => v_g (x1 + (3 : Int32)) 160 <| v_b2 (t_T_told fu (35) ((s_15.1 6 (Int32.toNatClampNeg (x1 + (3 : Int32)))) + (1 : Int32)) ((s_15.1 6 5) - (1 : Int32)) s_15) fun (z_16 : Int32) (s_17 : v_S) => v_g (x1 + (4 : Int32)) 160 <| v_n (v_uI s_17 6 (Int32.toNatClampNeg (x1 + (4 : Int32))) z_16) fun (s_18 : v_S) => v_n (v_uI s_18 6 3 ((s_18.1 6 3) + (1 : Int32))) fun (s_19 : v_S) => some s_19
def t_T_readLoan (fu : Nat)  (s : v_S) : Option v_S :=
  v_n ((117 : Int32) + ((5 : Int32) * (s.1 6 3))) fun (x1_1 : Int32) => v_b2 (t_T_freshVillage fu s) fun (z_2 : Int32) (s_3 : v_S) => v_b1 (t_T_needs fu (31) s_3) fun (s_4 : v_S) => v_b1 (t_T_good fu s_4) fun (z_5 : Int32) => if z_5 = 0 then (t_T_readLoan_51 fu x1_1 z_2 s_4) else (if s_4.1 0 10 = (2 : Int32) then (if s_4.1 0 11 = z_2 then (v_b1 (t_T_errs fu (2 : Int32) s_4) fun (s_20 : v_S) => t_T_readLoan_51 fu x1_1 z_2 s_20) else (t_T_readLoan_51 fu x1_1 z_2 s_4)) else (t_T_readLoan_51 fu x1_1 z_2 s_4))
theorem w_T_readLoan_51 {Γ : v_Ctx} {l : Launch} {g : v_G} (fu : Nat) (X : v_C Γ l rm_T_readLoan cX5_readLoan 3 RX5 none wT g)  (x1 : Int32) (x2 : Int32) (s : v_S) : v_V Γ 3 wT g (fun z : v_S => ((none : Option Value), z)) 51 [(0, .ref (v_E g 0)), (1, .int x1), (2, .int x2)] [] s (t_T_readLoan_51 fu x1 x2 s) := by
  unfold t_T_readLoan_51
  refine v_aload_n (pc := 51) X dX5_readLoan_51 0 rfl ?_
  refine v_get (pc := 52) (kind := 9) (v := .ref (v_E g 6)) X wT_n0 wT_l0 wT_c0 in_X5 (Nat.le_of_ble_eq_true rfl : 14 < 40) q1485 rfl rfl dX5_readLoan_52 ?_
  refine v_iload_n (pc := 55) X dX5_readLoan_55 1 rfl ?_
  refine v_iconst (pc := 56) (v := 0) X dX5_readLoan_56 rfl ?_
  refine v_iadd (pc := 57) X dX5_readLoan_57 ?_
  refine v_iload_n (pc := 58) X dX5_readLoan_58 2 rfl ?_
  refine v_iast (pc := 59) X wT_n6 wT_l6 dX5_readLoan_59 (fun s_6 => ?_)
  refine v_aload_n (pc := 60) X dX5_readLoan_60 0 rfl ?_
  refine v_get (pc := 61) (kind := 9) (v := .ref (v_E g 6)) X wT_n0 wT_l0 wT_c0 in_X5 (Nat.le_of_ble_eq_true rfl : 14 < 40) q1485 rfl rfl dX5_readLoan_61 ?_
  refine v_iload_n (pc := 64) X dX5_readLoan_64 1 rfl ?_
  refine v_iconst (pc := 65) (v := 1) X dX5_readLoan_65 rfl ?_
  refine v_iadd (pc := 66) X dX5_readLoan_66 ?_
  refine v_aload_n (pc := 67) X dX5_readLoan_67 0 rfl ?_
  refine v_cGis (pc := 68) X (m_T_freshVillage l g fu _) (v_rc_n X wT_o0) (Or.inl q1695) hy_T_freshVillage rfl rfl rfl rfl dX5_readLoan_68 (fun z_7 s_8 _ => ?_)
  refine v_iast (pc := 71) X wT_n6 wT_l6 dX5_readLoan_71 (fun s_9 => ?_)
  refine v_aload_n (pc := 72) X dX5_readLoan_72 0 rfl ?_
  refine v_get (pc := 73) (kind := 9) (v := .ref (v_E g 6)) X wT_n0 wT_l0 wT_c0 in_X5 (Nat.le_of_ble_eq_true rfl : 14 < 40) q1485 rfl rfl dX5_readLoan_73 ?_
  refine v_iload_n (pc := 76) X dX5_readLoan_76 1 rfl ?_
  refine v_iconst (pc := 77) (v := 2) X dX5_readLoan_77 rfl ?_
  refine v_iadd (pc := 78) X dX5_readLoan_78 ?_
  refine v_aload_n (pc := 79) X dX5_readLoan_79 0 rfl ?_
  refine v_ldcS (pc := 80) (i := 33) X (by decide) ⟨rfl, rfl⟩ q1713 dX5_readLoan_80 ?_
  refine v_iconst (pc := 82) (v := 1) X dX5_readLoan_82 rfl ?_
  refine v_sipush (pc := 83) (v := 9999) X dX5_readLoan_83 rfl ?_
  refine v_cGis (pc := 86) X (m_T_told l g fu (33) (1 : Int32) (9999 : Int32) _) (v_rc_n X wT_o0) (Or.inl q1663) hy_T_told rfl rfl rfl rfl dX5_readLoan_86 (fun z_10 s_11 _ => ?_)
  refine v_iast (pc := 89) X wT_n6 wT_l6 dX5_readLoan_89 (fun s_12 => ?_)
  refine v_aload_n (pc := 90) X dX5_readLoan_90 0 rfl ?_
  refine v_get (pc := 91) (kind := 9) (v := .ref (v_E g 6)) X wT_n0 wT_l0 wT_c0 in_X5 (Nat.le_of_ble_eq_true rfl : 14 < 40) q1485 rfl rfl dX5_readLoan_91 ?_
  refine v_iload_n (pc := 94) X dX5_readLoan_94 1 rfl ?_
  refine v_iconst (pc := 95) (v := 3) X dX5_readLoan_95 rfl ?_
  refine v_iadd (pc := 96) X dX5_readLoan_96 ?_
  refine v_aload_n (pc := 97) X dX5_readLoan_97 0 rfl ?_
  refine v_ldcS (pc := 98) (i := 34) X (by decide) ⟨rfl, rfl⟩ q1714 dX5_readLoan_98 ?_
  refine v_iconst (pc := 100) (v := 0) X dX5_readLoan_100 rfl ?_
  refine v_aload_n (pc := 101) X dX5_readLoan_101 0 rfl ?_
  refine v_get (pc := 102) (kind := 9) (v := .ref (v_E g 6)) X wT_n0 wT_l0 wT_c0 in_X5 (Nat.le_of_ble_eq_true rfl : 14 < 40) q1485 rfl rfl dX5_readLoan_102 ?_
  refine v_iconst (pc := 105) (v := 5) X dX5_readLoan_105 rfl ?_
  refine v_ialdC (pc := 106) (k := 5) X wT_n6 wT_l6 rfl dX5_readLoan_106 ?_
  refine v_iconst (pc := 107) (v := 1) X dX5_readLoan_107 rfl ?_
  refine v_isub (pc := 108) X dX5_readLoan_108 ?_
  refine v_cGis (pc := 109) X (m_T_told l g fu (34) (0 : Int32) ((s_12.1 6 5) - (1 : Int32)) _) (v_rc_n X wT_o0) (Or.inl q1663) hy_T_told rfl rfl rfl rfl dX5_readLoan_109 (fun z_13 s_14 _ => ?_)
  refine v_iast (pc := 112) X wT_n6 wT_l6 dX5_readLoan_112 (fun s_15 => ?_)
  refine v_aload_n (pc := 113) X dX5_readLoan_113 0 rfl ?_
  refine v_get (pc := 114) (kind := 9) (v := .ref (v_E g 6)) X wT_n0 wT_l0 wT_c0 in_X5 (Nat.le_of_ble_eq_true rfl : 14 < 40) q1485 rfl rfl dX5_readLoan_114 ?_
  refine v_iload_n (pc := 117) X dX5_readLoan_117 1 rfl ?_
  refine v_iconst (pc := 118) (v := 4) X dX5_readLoan_118 rfl ?_
  refine v_iadd (pc := 119) X dX5_readLoan_119 ?_
  refine v_aload_n (pc := 120) X dX5_readLoan_120 0 rfl ?_
  refine v_ldcS (pc := 121) (i := 35) X (by decide) ⟨rfl, rfl⟩ q1715 dX5_readLoan_121 ?_
  refine v_aload_n (pc := 123) X dX5_readLoan_123 0 rfl ?_
  refine v_get (pc := 124) (kind := 9) (v := .ref (v_E g 6)) X wT_n0 wT_l0 wT_c0 in_X5 (Nat.le_of_ble_eq_true rfl : 14 < 40) q1485 rfl rfl dX5_readLoan_124 ?_
  refine v_iload_n (pc := 127) X dX5_readLoan_127 1 rfl ?_
  refine v_iconst (pc := 128) (v := 3) X dX5_readLoan_128 rfl ?_
  refine v_iadd (pc := 129) X dX5_readLoan_129 ?_
  refine v_iald (pc := 130) X wT_n6 wT_l6 dX5_readLoan_130 ?_
  refine v_iconst (pc := 131) (v := 1) X dX5_readLoan_131 rfl ?_
  refine v_iadd (pc := 132) X dX5_readLoan_132 ?_
  refine v_aload_n (pc := 133) X dX5_readLoan_133 0 rfl ?_
  refine v_get (pc := 134) (kind := 9) (v := .ref (v_E g 6)) X wT_n0 wT_l0 wT_c0 in_X5 (Nat.le_of_ble_eq_true rfl : 14 < 40) q1485 rfl rfl dX5_readLoan_134 ?_
  refine v_iconst (pc := 137) (v := 5) X dX5_readLoan_137 rfl ?_
  refine v_ialdC (pc := 138) (k := 5) X wT_n6 wT_l6 rfl dX5_readLoan_138 ?_
  refine v_iconst (pc := 139) (v := 1) X dX5_readLoan_139 rfl ?_
  refine v_isub (pc := 140) X dX5_readLoan_140 ?_
  refine v_cGis (pc := 141) X (m_T_told l g fu (35) ((s_15.1 6 (Int32.toNatClampNeg (x1 + (3 : Int32)))) + (1 : Int32)) ((s_15.1 6 5) - (1 : Int32)) _) (v_rc_n X wT_o0) (Or.inl q1663) hy_T_told rfl rfl rfl rfl dX5_readLoan_141 (fun z_16 s_17 _ => ?_)
  refine v_iast (pc := 144) X wT_n6 wT_l6 dX5_readLoan_144 (fun s_18 => ?_)
  refine v_aload_n (pc := 145) X dX5_readLoan_145 0 rfl ?_
  refine v_get (pc := 146) (kind := 9) (v := .ref (v_E g 6)) X wT_n0 wT_l0 wT_c0 in_X5 (Nat.le_of_ble_eq_true rfl : 14 < 40) q1485 rfl rfl dX5_readLoan_146 ?_
  refine v_iconst (pc := 149) (v := 3) X dX5_readLoan_149 rfl ?_
  refine v_dup2_11 (pc := 150) X dX5_readLoan_150 rfl rfl ?_
  refine v_ialdC (pc := 151) (k := 3) X wT_n6 wT_l6 rfl dX5_readLoan_151 ?_
  refine v_iconst (pc := 152) (v := 1) X dX5_readLoan_152 rfl ?_
  refine v_iadd (pc := 153) X dX5_readLoan_153 ?_
  refine v_iastC (pc := 154) (k := 3) X wT_n6 wT_l6 rfl dX5_readLoan_154 (fun s_19 => ?_)
  exact v_vret (pc := 155) X dX5_readLoan_155 rfl
theorem m_T_readLoan (l : Launch) (g : v_G) (fu : Nat)  (s : v_S) : v_M l yX5_readLoan cX5_readLoan 3 none rm_T_readLoan wT g [.ref (v_E g 0)] s (fun z : v_S => ((none : Option Value), z)) (t_T_readLoan fu  s) := by
  refine v_met (by decide +kernel) (Nat.le_of_ble_eq_true rfl) (fun Γ X => ?_)
  refine v_lv (lv' := [(0, .ref (v_E g 0))]) rfl ?_
  unfold t_T_readLoan
  refine v_bipush (pc := 0) (v := 117) X dX5_readLoan_0 rfl ?_
  refine v_iconst (pc := 2) (v := 5) X dX5_readLoan_2 rfl ?_
  refine v_aload_n (pc := 3) X dX5_readLoan_3 0 rfl ?_
  refine v_get (pc := 4) (kind := 9) (v := .ref (v_E g 6)) X wT_n0 wT_l0 wT_c0 in_X5 (Nat.le_of_ble_eq_true rfl : 14 < 40) q1485 rfl rfl dX5_readLoan_4 ?_
  refine v_iconst (pc := 7) (v := 3) X dX5_readLoan_7 rfl ?_
  refine v_ialdC (pc := 8) (k := 3) X wT_n6 wT_l6 rfl dX5_readLoan_8 ?_
  refine v_imul (pc := 9) X dX5_readLoan_9 ?_
  refine v_iadd (pc := 10) X dX5_readLoan_10 ?_
  refine v_istore_nN (pc := 11) (lvf := fun x1_1 => [(1, .int x1_1), (0, .ref (v_E g 0))]) X dX5_readLoan_11 rfl (Nat.le_of_ble_eq_true rfl) (fun _ => rfl) (fun x1_1 => ?_)
  refine v_aload_n (pc := 12) X dX5_readLoan_12 1 rfl ?_
  refine v_cGis (pc := 13) X (m_T_freshVillage l g fu _) (v_rc_n X wT_o0) (Or.inl q1695) hy_T_freshVillage rfl rfl rfl rfl dX5_readLoan_13 (fun z_2 s_3 _ => ?_)
  refine v_istore_n (pc := 16) (lv' := [(2, .int z_2), (1, .int x1_1), (0, .ref (v_E g 0))]) X dX5_readLoan_16 rfl (Nat.le_of_ble_eq_true rfl) rfl ?_
  refine v_aload_n (pc := 17) X dX5_readLoan_17 2 rfl ?_
  refine v_ldcS (pc := 18) (i := 31) X (by decide) ⟨rfl, rfl⟩ q1702 dX5_readLoan_18 ?_
  refine v_cGs (pc := 20) X (m_T_needs l g fu (31) _) (v_rc_n X wT_o0) (Or.inl q1644) hy_T_needs rfl rfl rfl rfl dX5_readLoan_20 (fun s_4 _ => ?_)
  refine v_aload_n (pc := 23) X dX5_readLoan_23 2 rfl ?_
  refine v_cGi (pc := 24) X (m_T_good l g fu _) (v_rc_n X wT_o0) (Or.inl q1635) hy_T_good rfl rfl rfl rfl dX5_readLoan_24 (fun z_5 _ => ?_)
  refine v_if_eq (pc := 27) (tgt := 51) X dX5_readLoan_27 (by decide) (fun c27 => ?_) (fun c27 => ?_)
  · refine v_sub [2, 1, 0] rfl ?_
    exact w_T_readLoan_51 fu X  x1_1 z_2 s_4
  · refine v_aload_n (pc := 30) X dX5_readLoan_30 2 rfl ?_
    refine v_get (pc := 31) (kind := 0) (v := .int (s_4.1 0 10)) X wT_n0 wT_l0 wT_c0 in_X5 (Nat.le_of_ble_eq_true rfl : 10 < 40) q1481 rfl rfl dX5_readLoan_31 ?_
    refine v_iconst (pc := 34) (v := 2) X dX5_readLoan_34 rfl ?_
    refine v_icmp_ne (pc := 35) (tgt := 51) X dX5_readLoan_35 (by decide) (fun c35 => ?_) (fun c35 => ?_)
    · refine v_sub [2, 1, 0] rfl ?_
      exact w_T_readLoan_51 fu X  x1_1 z_2 s_4
    · refine v_aload_n (pc := 38) X dX5_readLoan_38 2 rfl ?_
      refine v_get (pc := 39) (kind := 0) (v := .int (s_4.1 0 11)) X wT_n0 wT_l0 wT_c0 in_X5 (Nat.le_of_ble_eq_true rfl : 11 < 40) q1482 rfl rfl dX5_readLoan_39 ?_
      refine v_iload_n (pc := 42) X dX5_readLoan_42 0 rfl ?_
      refine v_icmp_ne (pc := 43) (tgt := 51) X dX5_readLoan_43 (by decide) (fun c43 => ?_) (fun c43 => ?_)
      · refine v_sub [2, 1, 0] rfl ?_
        exact w_T_readLoan_51 fu X  x1_1 z_2 s_4
      · refine v_aload_n (pc := 46) X dX5_readLoan_46 2 rfl ?_
        refine v_iconst (pc := 47) (v := 2) X dX5_readLoan_47 rfl ?_
        refine v_cGs (pc := 48) X (m_T_errs l g fu (2 : Int32) _) (v_rc_n X wT_o0) (Or.inl q1658) hy_T_errs rfl rfl rfl rfl dX5_readLoan_48 (fun s_20 _ => ?_)
        refine v_sub [2, 1, 0] rfl ?_
        exact w_T_readLoan_51 fu X  x1_1 z_2 s_20
/-! FloodLentModel.readNext()V -/
abbrev rm_T_readNext : Room := { frames := 10, cells := 0, slots := 0, locals := 217 }
theorem hy_T_readNext : v_yV yX5_readNext cX5_readNext 3 none 0 := ⟨q1675, qs70, q141, q1676, by decide +kernel⟩
def t_T_readNext_153 (fu : Nat) (s : v_S) : Option v_S :=
v_b1 (t_T_good fu s) fun (z_6 : Int32) => if z_6 = 0 then (some s) else (v_b2 (t_T_takes fu (36) s) fun (z_7 : Int32) (s_8 : v_S) => if z_7 = 0 then (v_b2 (t_T_takes fu (37) s_8) fun (z_9 : Int32) (s_10 : v_S) => if z_9 = 0 then (v_b2 (t_T_takes fu (38) s_10) fun (z_11 : Int32) (s_12 : v_S) => if z_11 = 0 then (v_b2 (t_T_takes fu (39) s_12) fun (z_13 : Int32) (s_14 : v_S) => if z_13 = 0 then (v_b2 (t_T_takes fu (40) s_14) fun (z_15 : Int32) (s_16 : v_S) => if z_15 = 0 then (v_b1 (t_T_advance fu s_16) fun (s_17 : v_S) => v_b2 (t_T_freshVillage fu s_17) fun (z_18 : Int32) (s_19 : v_S) => v_b2 (t_T_told fu (43) (0 : Int32) (9999 : Int32) s_19) fun (z_20 : Int32) (s_21 : v_S) => v_g (((8 : Int32) + ((5 : Int32) * z_18)) + (4 : Int32)) 160 <| v_n (v_uI s_21 6 (Int32.toNatClampNeg (((8 : Int32) + ((5 : Int32) * z_18)) + (4 : Int32))) z_20) fun (s_22 : v_S) => some s_22) else (v_b1 (t_T_readLoan fu s_16) fun (s_23 : v_S) => some s_23)) else (v_b1 (t_T_readFlood fu s_14) fun (s_24 : v_S) => some s_24)) else (v_b2 (t_T_number fu (0 : Int32) ((s_12.1 6 5) - (1 : Int32)) s_12) fun (z_25 : Int32) (s_26 : v_S) => v_b2 (t_T_told fu (42) (0 : Int32) (99 : Int32) s_26) fun (z_27 : Int32) (s_28 : v_S) => v_g ((78 : Int32) + z_25) 160 <| v_n (v_uI s_28 6 (Int32.toNatClampNeg ((78 : Int32) + z_25)) z_27) fun (s_29 : v_S) => some s_29)) else (v_b1 (t_T_readCrop fu s_10) fun (s_30 : v_S) => some s_30)) else (v_b1 (t_T_readVillage fu s_8) fun (s_31 : v_S) => some s_31))
def t_T_readNext_148 (fu : Nat) (s : v_S) : Option v_S :=
v_b1 (t_T_errs fu (3 : Int32) s) fun (s_32 : v_S) => t_T_readNext_153 fu s_32
def t_T_readNext_128 (fu : Nat) (s : v_S) : Option v_S :=
v_b1 (t_T_is fu (40) s) fun (z_5 : Int32) => if z_5 = 0 then (t_T_readNext_153 fu s) else (if s.1 6 3 = (8 : Int32) then (t_T_readNext_148 fu s) else (t_T_readNext_153 fu s))
def t_T_readNext_109 (fu : Nat) (s : v_S) : Option v_S :=
v_b1 (t_T_is fu (39) s) fun (z_4 : Int32) => if z_4 = 0 then (t_T_readNext_128 fu s) else (if s.1 6 2 = (3 : Int32) then (t_T_readNext_148 fu s) else (t_T_readNext_128 fu s))
def t_T_readNext_89 (fu : Nat) (s : v_S) : Option v_S :=
v_b1 (t_T_is fu (37) s) fun (z_3 : Int32) => if z_3 = 0 then (t_T_readNext_109 fu s) else (if s.1 6 1 = (8 : Int32) then (t_T_readNext_148 fu s) else (t_T_readNext_109 fu s))
def t_T_readNext_69 (fu : Nat) (s : v_S) : Option v_S :=
v_b1 (t_T_is fu (36) s) fun (z_2 : Int32) => if z_2 = 0 then (t_T_readNext_89 fu s) else (if s.1 6 0 = (6 : Int32) then (t_T_readNext_148 fu s) else (t_T_readNext_89 fu s))
def t_T_readNext_59 (fu : Nat) (y0 : Int32) (s : v_S) : Option v_S :=
if y0 = 0 then (v_b1 (t_T_errs fu (1 : Int32) s) fun (s_33 : v_S) => t_T_readNext_69 fu s_33) else (t_T_readNext_69 fu s)
def t_T_readNext_54 (fu : Nat) (s : v_S) : Option v_S :=
t_T_readNext_59 fu (1 : Int32) s
def t_T_readNext (fu : Nat)  (s : v_S) : Option v_S :=
  v_b1 (t_T_is fu (36) s) fun (z_1 : Int32) => if z_1 = 0 then (v_b1 (t_T_is fu (37) s) fun (z_34 : Int32) => if z_34 = 0 then (v_b1 (t_T_is fu (38) s) fun (z_35 : Int32) => if z_35 = 0 then (v_b1 (t_T_is fu (39) s) fun (z_36 : Int32) => if z_36 = 0 then (v_b1 (t_T_is fu (40) s) fun (z_37 : Int32) => if z_37 = 0 then (v_b1 (t_T_is fu (41) s) fun (z_38 : Int32) => if z_38 = 0 then (t_T_readNext_59 fu (0 : Int32) s) else (t_T_readNext_54 fu s)) else (t_T_readNext_54 fu s)) else (t_T_readNext_54 fu s)) else (t_T_readNext_54 fu s)) else (t_T_readNext_54 fu s)) else (t_T_readNext_54 fu s)
theorem w_T_readNext_153 {Γ : v_Ctx} {l : Launch} {g : v_G} (fu : Nat) (X : v_C Γ l rm_T_readNext cX5_readNext 3 RX5 none wT g)  (s : v_S) : v_V Γ 3 wT g (fun z : v_S => ((none : Option Value), z)) 153 [(0, .ref (v_E g 0))] [] s (t_T_readNext_153 fu s) := by
  unfold t_T_readNext_153
  refine v_aload_n (pc := 153) X dX5_readNext_153 0 rfl ?_
  refine v_cGi (pc := 154) X (m_T_good l g fu _) (v_rc_n X wT_o0) (Or.inl q1635) hy_T_good rfl rfl rfl rfl dX5_readNext_154 (fun z_6 _ => ?_)
  refine v_if_ne (pc := 157) (tgt := 161) X dX5_readNext_157 (by decide) (fun c157 => ?_) (fun c157 => ?_)
  · refine v_aload_n (pc := 161) X dX5_readNext_161 0 rfl ?_
    refine v_ldcS (pc := 162) (i := 36) X (by decide) ⟨rfl, rfl⟩ q1677 dX5_readNext_162 ?_
    refine v_cGis (pc := 164) X (m_T_takes l g fu (36) _) (v_rc_n X wT_o0) (Or.inl q1648) hy_T_takes rfl rfl rfl rfl dX5_readNext_164 (fun z_7 s_8 _ => ?_)
    refine v_if_eq (pc := 167) (tgt := 177) X dX5_readNext_167 (by decide) (fun c167 => ?_) (fun c167 => ?_)
    · refine v_aload_n (pc := 177) X dX5_readNext_177 0 rfl ?_
      refine v_ldcS (pc := 178) (i := 37) X (by decide) ⟨rfl, rfl⟩ q1678 dX5_readNext_178 ?_
      refine v_cGis (pc := 180) X (m_T_takes l g fu (37) _) (v_rc_n X wT_o0) (Or.inl q1648) hy_T_takes rfl rfl rfl rfl dX5_readNext_180 (fun z_9 s_10 _ => ?_)
      refine v_if_eq (pc := 183) (tgt := 193) X dX5_readNext_183 (by decide) (fun c183 => ?_) (fun c183 => ?_)
      · refine v_aload_n (pc := 193) X dX5_readNext_193 0 rfl ?_
        refine v_ldcS (pc := 194) (i := 38) X (by decide) ⟨rfl, rfl⟩ q1679 dX5_readNext_194 ?_
        refine v_cGis (pc := 196) X (m_T_takes l g fu (38) _) (v_rc_n X wT_o0) (Or.inl q1648) hy_T_takes rfl rfl rfl rfl dX5_readNext_196 (fun z_11 s_12 _ => ?_)
        refine v_if_eq (pc := 199) (tgt := 237) X dX5_readNext_199 (by decide) (fun c199 => ?_) (fun c199 => ?_)
        · refine v_aload_n (pc := 237) X dX5_readNext_237 0 rfl ?_
          refine v_ldcS (pc := 238) (i := 39) X (by decide) ⟨rfl, rfl⟩ q1680 dX5_readNext_238 ?_
          refine v_cGis (pc := 240) X (m_T_takes l g fu (39) _) (v_rc_n X wT_o0) (Or.inl q1648) hy_T_takes rfl rfl rfl rfl dX5_readNext_240 (fun z_13 s_14 _ => ?_)
          refine v_if_eq (pc := 243) (tgt := 253) X dX5_readNext_243 (by decide) (fun c243 => ?_) (fun c243 => ?_)
          · refine v_aload_n (pc := 253) X dX5_readNext_253 0 rfl ?_
            refine v_ldcS (pc := 254) (i := 40) X (by decide) ⟨rfl, rfl⟩ q1681 dX5_readNext_254 ?_
            refine v_cGis (pc := 256) X (m_T_takes l g fu (40) _) (v_rc_n X wT_o0) (Or.inl q1648) hy_T_takes rfl rfl rfl rfl dX5_readNext_256 (fun z_15 s_16 _ => ?_)
            refine v_if_eq (pc := 259) (tgt := 269) X dX5_readNext_259 (by decide) (fun c259 => ?_) (fun c259 => ?_)
            · refine v_aload_n (pc := 269) X dX5_readNext_269 0 rfl ?_
              refine v_cGs (pc := 270) X (m_T_advance l g fu _) (v_rc_n X wT_o0) (Or.inl q1621) hy_T_advance rfl rfl rfl rfl dX5_readNext_270 (fun s_17 _ => ?_)
              refine v_aload_n (pc := 273) X dX5_readNext_273 0 rfl ?_
              refine v_cGis (pc := 274) X (m_T_freshVillage l g fu _) (v_rc_n X wT_o0) (Or.inl q1695) hy_T_freshVillage rfl rfl rfl rfl dX5_readNext_274 (fun z_18 s_19 _ => ?_)
              refine v_istore_n (pc := 277) (lv' := [(2, .int z_18), (0, .ref (v_E g 0))]) X dX5_readNext_277 rfl (Nat.le_of_ble_eq_true rfl) rfl ?_
              refine v_aload_n (pc := 278) X dX5_readNext_278 1 rfl ?_
              refine v_get (pc := 279) (kind := 9) (v := .ref (v_E g 6)) X wT_n0 wT_l0 wT_c0 in_X5 (Nat.le_of_ble_eq_true rfl : 14 < 40) q1485 rfl rfl dX5_readNext_279 ?_
              refine v_bipush (pc := 282) (v := 8) X dX5_readNext_282 rfl ?_
              refine v_iconst (pc := 284) (v := 5) X dX5_readNext_284 rfl ?_
              refine v_iload_n (pc := 285) X dX5_readNext_285 0 rfl ?_
              refine v_imul (pc := 286) X dX5_readNext_286 ?_
              refine v_iadd (pc := 287) X dX5_readNext_287 ?_
              refine v_iconst (pc := 288) (v := 4) X dX5_readNext_288 rfl ?_
              refine v_iadd (pc := 289) X dX5_readNext_289 ?_
              refine v_aload_n (pc := 290) X dX5_readNext_290 1 rfl ?_
              refine v_ldcS (pc := 291) (i := 43) X (by decide) ⟨rfl, rfl⟩ q1716 dX5_readNext_291 ?_
              refine v_iconst (pc := 293) (v := 0) X dX5_readNext_293 rfl ?_
              refine v_sipush (pc := 294) (v := 9999) X dX5_readNext_294 rfl ?_
              refine v_cGis (pc := 297) X (m_T_told l g fu (43) (0 : Int32) (9999 : Int32) _) (v_rc_n X wT_o0) (Or.inl q1663) hy_T_told rfl rfl rfl rfl dX5_readNext_297 (fun z_20 s_21 _ => ?_)
              refine v_iast (pc := 300) X wT_n6 wT_l6 dX5_readNext_300 (fun s_22 => ?_)
              exact v_vret (pc := 301) X dX5_readNext_301 rfl
            · refine v_aload_n (pc := 262) X dX5_readNext_262 0 rfl ?_
              refine v_cGs (pc := 263) X (m_T_readLoan l g fu _) (v_rc_n X wT_o0) (Or.inl q1709) hy_T_readLoan rfl rfl rfl rfl dX5_readNext_263 (fun s_23 _ => ?_)
              refine v_goto (pc := 266) (tgt := 301) X dX5_readNext_266 (by decide) ?_
              exact v_vret (pc := 301) X dX5_readNext_301 rfl
          · refine v_aload_n (pc := 246) X dX5_readNext_246 0 rfl ?_
            refine v_cGs (pc := 247) X (m_T_readFlood l g fu _) (v_rc_n X wT_o0) (Or.inl q1704) hy_T_readFlood rfl rfl rfl rfl dX5_readNext_247 (fun s_24 _ => ?_)
            refine v_goto (pc := 250) (tgt := 301) X dX5_readNext_250 (by decide) ?_
            exact v_vret (pc := 301) X dX5_readNext_301 rfl
        · refine v_aload_n (pc := 202) X dX5_readNext_202 0 rfl ?_
          refine v_iconst (pc := 203) (v := 0) X dX5_readNext_203 rfl ?_
          refine v_aload_n (pc := 204) X dX5_readNext_204 0 rfl ?_
          refine v_get (pc := 205) (kind := 9) (v := .ref (v_E g 6)) X wT_n0 wT_l0 wT_c0 in_X5 (Nat.le_of_ble_eq_true rfl : 14 < 40) q1485 rfl rfl dX5_readNext_205 ?_
          refine v_iconst (pc := 208) (v := 5) X dX5_readNext_208 rfl ?_
          refine v_ialdC (pc := 209) (k := 5) X wT_n6 wT_l6 rfl dX5_readNext_209 ?_
          refine v_iconst (pc := 210) (v := 1) X dX5_readNext_210 rfl ?_
          refine v_isub (pc := 211) X dX5_readNext_211 ?_
          refine v_cGis (pc := 212) X (m_T_number l g fu (0 : Int32) ((s_12.1 6 5) - (1 : Int32)) _) (v_rc_n X wT_o0) (Or.inl q1667) hy_T_number rfl rfl rfl rfl dX5_readNext_212 (fun z_25 s_26 _ => ?_)
          refine v_istore_n (pc := 215) (lv' := [(2, .int z_25), (0, .ref (v_E g 0))]) X dX5_readNext_215 rfl (Nat.le_of_ble_eq_true rfl) rfl ?_
          refine v_aload_n (pc := 216) X dX5_readNext_216 1 rfl ?_
          refine v_get (pc := 217) (kind := 9) (v := .ref (v_E g 6)) X wT_n0 wT_l0 wT_c0 in_X5 (Nat.le_of_ble_eq_true rfl : 14 < 40) q1485 rfl rfl dX5_readNext_217 ?_
          refine v_bipush (pc := 220) (v := 78) X dX5_readNext_220 rfl ?_
          refine v_iload_n (pc := 222) X dX5_readNext_222 0 rfl ?_
          refine v_iadd (pc := 223) X dX5_readNext_223 ?_
          refine v_aload_n (pc := 224) X dX5_readNext_224 1 rfl ?_
          refine v_ldcS (pc := 225) (i := 42) X (by decide) ⟨rfl, rfl⟩ q1703 dX5_readNext_225 ?_
          refine v_iconst (pc := 227) (v := 0) X dX5_readNext_227 rfl ?_
          refine v_bipush (pc := 228) (v := 99) X dX5_readNext_228 rfl ?_
          refine v_cGis (pc := 230) X (m_T_told l g fu (42) (0 : Int32) (99 : Int32) _) (v_rc_n X wT_o0) (Or.inl q1663) hy_T_told rfl rfl rfl rfl dX5_readNext_230 (fun z_27 s_28 _ => ?_)
          refine v_iast (pc := 233) X wT_n6 wT_l6 dX5_readNext_233 (fun s_29 => ?_)
          refine v_goto (pc := 234) (tgt := 301) X dX5_readNext_234 (by decide) ?_
          exact v_vret (pc := 301) X dX5_readNext_301 rfl
      · refine v_aload_n (pc := 186) X dX5_readNext_186 0 rfl ?_
        refine v_cGs (pc := 187) X (m_T_readCrop l g fu _) (v_rc_n X wT_o0) (Or.inl q1691) hy_T_readCrop rfl rfl rfl rfl dX5_readNext_187 (fun s_30 _ => ?_)
        refine v_goto (pc := 190) (tgt := 301) X dX5_readNext_190 (by decide) ?_
        exact v_vret (pc := 301) X dX5_readNext_301 rfl
    · refine v_aload_n (pc := 170) X dX5_readNext_170 0 rfl ?_
      refine v_cGs (pc := 171) X (m_T_readVillage l g fu _) (v_rc_n X wT_o0) (Or.inl q1683) hy_T_readVillage rfl rfl rfl rfl dX5_readNext_171 (fun s_31 _ => ?_)
      refine v_goto (pc := 174) (tgt := 301) X dX5_readNext_174 (by decide) ?_
      exact v_vret (pc := 301) X dX5_readNext_301 rfl
  · exact v_vret (pc := 160) X dX5_readNext_160 rfl
theorem w_T_readNext_148 {Γ : v_Ctx} {l : Launch} {g : v_G} (fu : Nat) (X : v_C Γ l rm_T_readNext cX5_readNext 3 RX5 none wT g)  (s : v_S) : v_V Γ 3 wT g (fun z : v_S => ((none : Option Value), z)) 148 [(0, .ref (v_E g 0))] [] s (t_T_readNext_148 fu s) := by
  unfold t_T_readNext_148
  refine v_aload_n (pc := 148) X dX5_readNext_148 0 rfl ?_
  refine v_iconst (pc := 149) (v := 3) X dX5_readNext_149 rfl ?_
  refine v_cGs (pc := 150) X (m_T_errs l g fu (3 : Int32) _) (v_rc_n X wT_o0) (Or.inl q1658) hy_T_errs rfl rfl rfl rfl dX5_readNext_150 (fun s_32 _ => ?_)
  exact w_T_readNext_153 fu X  s_32
theorem w_T_readNext_128 {Γ : v_Ctx} {l : Launch} {g : v_G} (fu : Nat) (X : v_C Γ l rm_T_readNext cX5_readNext 3 RX5 none wT g)  (s : v_S) : v_V Γ 3 wT g (fun z : v_S => ((none : Option Value), z)) 128 [(0, .ref (v_E g 0))] [] s (t_T_readNext_128 fu s) := by
  unfold t_T_readNext_128
  refine v_aload_n (pc := 128) X dX5_readNext_128 0 rfl ?_
  refine v_ldcS (pc := 129) (i := 40) X (by decide) ⟨rfl, rfl⟩ q1681 dX5_readNext_129 ?_
  refine v_cGi (pc := 131) X (m_T_is l g fu (40) _) (v_rc_n X wT_o0) (Or.inl q1652) hy_T_is rfl rfl rfl rfl dX5_readNext_131 (fun z_5 _ => ?_)
  refine v_if_eq (pc := 134) (tgt := 153) X dX5_readNext_134 (by decide) (fun c134 => ?_) (fun c134 => ?_)
  · exact w_T_readNext_153 fu X  s
  · refine v_aload_n (pc := 137) X dX5_readNext_137 0 rfl ?_
    refine v_get (pc := 138) (kind := 9) (v := .ref (v_E g 6)) X wT_n0 wT_l0 wT_c0 in_X5 (Nat.le_of_ble_eq_true rfl : 14 < 40) q1485 rfl rfl dX5_readNext_138 ?_
    refine v_iconst (pc := 141) (v := 3) X dX5_readNext_141 rfl ?_
    refine v_ialdC (pc := 142) (k := 3) X wT_n6 wT_l6 rfl dX5_readNext_142 ?_
    refine v_bipush (pc := 143) (v := 8) X dX5_readNext_143 rfl ?_
    refine v_icmp_ne (pc := 145) (tgt := 153) X dX5_readNext_145 (by decide) (fun c145 => ?_) (fun c145 => ?_)
    · exact w_T_readNext_153 fu X  s
    · exact w_T_readNext_148 fu X  s
theorem w_T_readNext_109 {Γ : v_Ctx} {l : Launch} {g : v_G} (fu : Nat) (X : v_C Γ l rm_T_readNext cX5_readNext 3 RX5 none wT g)  (s : v_S) : v_V Γ 3 wT g (fun z : v_S => ((none : Option Value), z)) 109 [(0, .ref (v_E g 0))] [] s (t_T_readNext_109 fu s) := by
  unfold t_T_readNext_109
  refine v_aload_n (pc := 109) X dX5_readNext_109 0 rfl ?_
  refine v_ldcS (pc := 110) (i := 39) X (by decide) ⟨rfl, rfl⟩ q1680 dX5_readNext_110 ?_
  refine v_cGi (pc := 112) X (m_T_is l g fu (39) _) (v_rc_n X wT_o0) (Or.inl q1652) hy_T_is rfl rfl rfl rfl dX5_readNext_112 (fun z_4 _ => ?_)
  refine v_if_eq (pc := 115) (tgt := 128) X dX5_readNext_115 (by decide) (fun c115 => ?_) (fun c115 => ?_)
  · exact w_T_readNext_128 fu X  s
  · refine v_aload_n (pc := 118) X dX5_readNext_118 0 rfl ?_
    refine v_get (pc := 119) (kind := 9) (v := .ref (v_E g 6)) X wT_n0 wT_l0 wT_c0 in_X5 (Nat.le_of_ble_eq_true rfl : 14 < 40) q1485 rfl rfl dX5_readNext_119 ?_
    refine v_iconst (pc := 122) (v := 2) X dX5_readNext_122 rfl ?_
    refine v_ialdC (pc := 123) (k := 2) X wT_n6 wT_l6 rfl dX5_readNext_123 ?_
    refine v_iconst (pc := 124) (v := 3) X dX5_readNext_124 rfl ?_
    refine v_icmp_eq (pc := 125) (tgt := 148) X dX5_readNext_125 (by decide) (fun c125 => ?_) (fun c125 => ?_)
    · exact w_T_readNext_148 fu X  s
    · exact w_T_readNext_128 fu X  s
theorem w_T_readNext_89 {Γ : v_Ctx} {l : Launch} {g : v_G} (fu : Nat) (X : v_C Γ l rm_T_readNext cX5_readNext 3 RX5 none wT g)  (s : v_S) : v_V Γ 3 wT g (fun z : v_S => ((none : Option Value), z)) 89 [(0, .ref (v_E g 0))] [] s (t_T_readNext_89 fu s) := by
  unfold t_T_readNext_89
  refine v_aload_n (pc := 89) X dX5_readNext_89 0 rfl ?_
  refine v_ldcS (pc := 90) (i := 37) X (by decide) ⟨rfl, rfl⟩ q1678 dX5_readNext_90 ?_
  refine v_cGi (pc := 92) X (m_T_is l g fu (37) _) (v_rc_n X wT_o0) (Or.inl q1652) hy_T_is rfl rfl rfl rfl dX5_readNext_92 (fun z_3 _ => ?_)
  refine v_if_eq (pc := 95) (tgt := 109) X dX5_readNext_95 (by decide) (fun c95 => ?_) (fun c95 => ?_)
  · exact w_T_readNext_109 fu X  s
  · refine v_aload_n (pc := 98) X dX5_readNext_98 0 rfl ?_
    refine v_get (pc := 99) (kind := 9) (v := .ref (v_E g 6)) X wT_n0 wT_l0 wT_c0 in_X5 (Nat.le_of_ble_eq_true rfl : 14 < 40) q1485 rfl rfl dX5_readNext_99 ?_
    refine v_iconst (pc := 102) (v := 1) X dX5_readNext_102 rfl ?_
    refine v_ialdC (pc := 103) (k := 1) X wT_n6 wT_l6 rfl dX5_readNext_103 ?_
    refine v_bipush (pc := 104) (v := 8) X dX5_readNext_104 rfl ?_
    refine v_icmp_eq (pc := 106) (tgt := 148) X dX5_readNext_106 (by decide) (fun c106 => ?_) (fun c106 => ?_)
    · exact w_T_readNext_148 fu X  s
    · exact w_T_readNext_109 fu X  s
theorem w_T_readNext_69 {Γ : v_Ctx} {l : Launch} {g : v_G} (fu : Nat) (X : v_C Γ l rm_T_readNext cX5_readNext 3 RX5 none wT g)  (s : v_S) : v_V Γ 3 wT g (fun z : v_S => ((none : Option Value), z)) 69 [(0, .ref (v_E g 0))] [] s (t_T_readNext_69 fu s) := by
  unfold t_T_readNext_69
  refine v_aload_n (pc := 69) X dX5_readNext_69 0 rfl ?_
  refine v_ldcS (pc := 70) (i := 36) X (by decide) ⟨rfl, rfl⟩ q1677 dX5_readNext_70 ?_
  refine v_cGi (pc := 72) X (m_T_is l g fu (36) _) (v_rc_n X wT_o0) (Or.inl q1652) hy_T_is rfl rfl rfl rfl dX5_readNext_72 (fun z_2 _ => ?_)
  refine v_if_eq (pc := 75) (tgt := 89) X dX5_readNext_75 (by decide) (fun c75 => ?_) (fun c75 => ?_)
  · exact w_T_readNext_89 fu X  s
  · refine v_aload_n (pc := 78) X dX5_readNext_78 0 rfl ?_
    refine v_get (pc := 79) (kind := 9) (v := .ref (v_E g 6)) X wT_n0 wT_l0 wT_c0 in_X5 (Nat.le_of_ble_eq_true rfl : 14 < 40) q1485 rfl rfl dX5_readNext_79 ?_
    refine v_iconst (pc := 82) (v := 0) X dX5_readNext_82 rfl ?_
    refine v_ialdC (pc := 83) (k := 0) X wT_n6 wT_l6 rfl dX5_readNext_83 ?_
    refine v_bipush (pc := 84) (v := 6) X dX5_readNext_84 rfl ?_
    refine v_icmp_eq (pc := 86) (tgt := 148) X dX5_readNext_86 (by decide) (fun c86 => ?_) (fun c86 => ?_)
    · exact w_T_readNext_148 fu X  s
    · exact w_T_readNext_89 fu X  s
theorem w_T_readNext_59 {Γ : v_Ctx} {l : Launch} {g : v_G} (fu : Nat) (X : v_C Γ l rm_T_readNext cX5_readNext 3 RX5 none wT g)  (y0 : Int32) (s : v_S) : v_V Γ 3 wT g (fun z : v_S => ((none : Option Value), z)) 59 [(0, .ref (v_E g 0))] [.int y0] s (t_T_readNext_59 fu y0 s) := by
  unfold t_T_readNext_59
  refine v_istore_n (pc := 59) (lv' := [(1, .int y0), (0, .ref (v_E g 0))]) X dX5_readNext_59 rfl (Nat.le_of_ble_eq_true rfl) rfl ?_
  refine v_iload_n (pc := 60) X dX5_readNext_60 0 rfl ?_
  refine v_if_ne (pc := 61) (tgt := 69) X dX5_readNext_61 (by decide) (fun c61 => ?_) (fun c61 => ?_)
  · refine v_sub [1] rfl ?_
    exact w_T_readNext_69 fu X  s
  · refine v_aload_n (pc := 64) X dX5_readNext_64 1 rfl ?_
    refine v_iconst (pc := 65) (v := 1) X dX5_readNext_65 rfl ?_
    refine v_cGs (pc := 66) X (m_T_errs l g fu (1 : Int32) _) (v_rc_n X wT_o0) (Or.inl q1658) hy_T_errs rfl rfl rfl rfl dX5_readNext_66 (fun s_33 _ => ?_)
    refine v_sub [1] rfl ?_
    exact w_T_readNext_69 fu X  s_33
theorem w_T_readNext_54 {Γ : v_Ctx} {l : Launch} {g : v_G} (fu : Nat) (X : v_C Γ l rm_T_readNext cX5_readNext 3 RX5 none wT g)  (s : v_S) : v_V Γ 3 wT g (fun z : v_S => ((none : Option Value), z)) 54 [(0, .ref (v_E g 0))] [] s (t_T_readNext_54 fu s) := by
  unfold t_T_readNext_54
  refine v_iconst (pc := 54) (v := 1) X dX5_readNext_54 rfl ?_
  refine v_goto (pc := 55) (tgt := 59) X dX5_readNext_55 (by decide) ?_
  exact w_T_readNext_59 fu X  (1 : Int32) s
theorem m_T_readNext (l : Launch) (g : v_G) (fu : Nat)  (s : v_S) : v_M l yX5_readNext cX5_readNext 3 none rm_T_readNext wT g [.ref (v_E g 0)] s (fun z : v_S => ((none : Option Value), z)) (t_T_readNext fu  s) := by
  refine v_met (by decide +kernel) (Nat.le_of_ble_eq_true rfl) (fun Γ X => ?_)
  refine v_lv (lv' := [(0, .ref (v_E g 0))]) rfl ?_
  unfold t_T_readNext
  refine v_aload_n (pc := 0) X dX5_readNext_0 0 rfl ?_
  refine v_ldcS (pc := 1) (i := 36) X (by decide) ⟨rfl, rfl⟩ q1677 dX5_readNext_1 ?_
  refine v_cGi (pc := 3) X (m_T_is l g fu (36) _) (v_rc_n X wT_o0) (Or.inl q1652) hy_T_is rfl rfl rfl rfl dX5_readNext_3 (fun z_1 _ => ?_)
  refine v_if_ne (pc := 6) (tgt := 54) X dX5_readNext_6 (by decide) (fun c6 => ?_) (fun c6 => ?_)
  · exact w_T_readNext_54 fu X  s
  · refine v_aload_n (pc := 9) X dX5_readNext_9 0 rfl ?_
    refine v_ldcS (pc := 10) (i := 37) X (by decide) ⟨rfl, rfl⟩ q1678 dX5_readNext_10 ?_
    refine v_cGi (pc := 12) X (m_T_is l g fu (37) _) (v_rc_n X wT_o0) (Or.inl q1652) hy_T_is rfl rfl rfl rfl dX5_readNext_12 (fun z_34 _ => ?_)
    refine v_if_ne (pc := 15) (tgt := 54) X dX5_readNext_15 (by decide) (fun c15 => ?_) (fun c15 => ?_)
    · exact w_T_readNext_54 fu X  s
    · refine v_aload_n (pc := 18) X dX5_readNext_18 0 rfl ?_
      refine v_ldcS (pc := 19) (i := 38) X (by decide) ⟨rfl, rfl⟩ q1679 dX5_readNext_19 ?_
      refine v_cGi (pc := 21) X (m_T_is l g fu (38) _) (v_rc_n X wT_o0) (Or.inl q1652) hy_T_is rfl rfl rfl rfl dX5_readNext_21 (fun z_35 _ => ?_)
      refine v_if_ne (pc := 24) (tgt := 54) X dX5_readNext_24 (by decide) (fun c24 => ?_) (fun c24 => ?_)
      · exact w_T_readNext_54 fu X  s
      · refine v_aload_n (pc := 27) X dX5_readNext_27 0 rfl ?_
        refine v_ldcS (pc := 28) (i := 39) X (by decide) ⟨rfl, rfl⟩ q1680 dX5_readNext_28 ?_
        refine v_cGi (pc := 30) X (m_T_is l g fu (39) _) (v_rc_n X wT_o0) (Or.inl q1652) hy_T_is rfl rfl rfl rfl dX5_readNext_30 (fun z_36 _ => ?_)
        refine v_if_ne (pc := 33) (tgt := 54) X dX5_readNext_33 (by decide) (fun c33 => ?_) (fun c33 => ?_)
        · exact w_T_readNext_54 fu X  s
        · refine v_aload_n (pc := 36) X dX5_readNext_36 0 rfl ?_
          refine v_ldcS (pc := 37) (i := 40) X (by decide) ⟨rfl, rfl⟩ q1681 dX5_readNext_37 ?_
          refine v_cGi (pc := 39) X (m_T_is l g fu (40) _) (v_rc_n X wT_o0) (Or.inl q1652) hy_T_is rfl rfl rfl rfl dX5_readNext_39 (fun z_37 _ => ?_)
          refine v_if_ne (pc := 42) (tgt := 54) X dX5_readNext_42 (by decide) (fun c42 => ?_) (fun c42 => ?_)
          · exact w_T_readNext_54 fu X  s
          · refine v_aload_n (pc := 45) X dX5_readNext_45 0 rfl ?_
            refine v_ldcS (pc := 46) (i := 41) X (by decide) ⟨rfl, rfl⟩ q1682 dX5_readNext_46 ?_
            refine v_cGi (pc := 48) X (m_T_is l g fu (41) _) (v_rc_n X wT_o0) (Or.inl q1652) hy_T_is rfl rfl rfl rfl dX5_readNext_48 (fun z_38 _ => ?_)
            refine v_if_eq (pc := 51) (tgt := 58) X dX5_readNext_51 (by decide) (fun c51 => ?_) (fun c51 => ?_)
            · refine v_iconst (pc := 58) (v := 0) X dX5_readNext_58 rfl ?_
              exact w_T_readNext_59 fu X  (0 : Int32) s
            · exact w_T_readNext_54 fu X  s
/-! FloodLentModel.readLine()V -/
abbrev rm_T_readLine : Room := { frames := 11, cells := 0, slots := 0, locals := 239 }
theorem hy_T_readLine : v_yV yX5_readLine cX5_readLine 1 none 0 := ⟨q1641, qs63, q141, q1642, by decide +kernel⟩
def t_T_readLine_106 (fu : Nat) (s : v_S) : Option v_S :=
v_n (v_uI s 6 4 ((s.1 6 4) + (1 : Int32))) fun (s_4 : v_S) => some s_4
def t_T_readLine_95 (fu : Nat) (s : v_S) : Option v_S :=
v_b1 (t_T_good fu s) fun (z_3 : Int32) => if z_3 = 0 then (t_T_readLine_106 fu s) else (v_b1 (t_T_advance fu s) fun (s_5 : v_S) => t_T_readLine_106 fu s_5)
def t_T_readLine_75 (fu : Nat) (s : v_S) : Option v_S :=
v_b1 (t_T_good fu s) fun (z_2 : Int32) => if z_2 = 0 then (t_T_readLine_95 fu s) else (if s.1 0 10 = (3 : Int32) then (t_T_readLine_95 fu s) else (v_b1 (t_T_errs fu (1 : Int32) s) fun (s_6 : v_S) => t_T_readLine_95 fu s_6))
def t_T_readLine (fu : Nat)  (s : v_S) : Option v_S :=
  if s.1 6 4 = 0 then (v_b1 (t_T_needs fu (44) s) fun (s_7 : v_S) => v_b2 (t_T_told fu (45) (4 : Int32) (30 : Int32) s_7) fun (z_8 : Int32) (s_9 : v_S) => v_n (v_uI s_9 6 5 z_8) fun (s_10 : v_S) => v_b2 (t_T_told fu (46) (0 : Int32) (100 : Int32) s_10) fun (z_11 : Int32) (s_12 : v_S) => v_n (v_uI s_12 6 6 z_11) fun (s_13 : v_S) => v_b2 (t_T_told fu (47) (0 : Int32) ((s_13.1 6 5) - (1 : Int32)) s_13) fun (z_14 : Int32) (s_15 : v_S) => v_n (v_uI s_15 6 7 z_14) fun (s_16 : v_S) => t_T_readLine_75 fu s_16) else (v_b1 (t_T_readNext fu s) fun (s_1 : v_S) => t_T_readLine_75 fu s_1)
theorem w_T_readLine_106 {Γ : v_Ctx} {l : Launch} {g : v_G} (fu : Nat) (X : v_C Γ l rm_T_readLine cX5_readLine 1 RX5 none wT g)  (s : v_S) : v_V Γ 1 wT g (fun z : v_S => ((none : Option Value), z)) 106 [(0, .ref (v_E g 0))] [] s (t_T_readLine_106 fu s) := by
  unfold t_T_readLine_106
  refine v_aload_n (pc := 106) X dX5_readLine_106 0 rfl ?_
  refine v_get (pc := 107) (kind := 9) (v := .ref (v_E g 6)) X wT_n0 wT_l0 wT_c0 in_X5 (Nat.le_of_ble_eq_true rfl : 14 < 40) q1485 rfl rfl dX5_readLine_107 ?_
  refine v_iconst (pc := 110) (v := 4) X dX5_readLine_110 rfl ?_
  refine v_dup2_11 (pc := 111) X dX5_readLine_111 rfl rfl ?_
  refine v_ialdC (pc := 112) (k := 4) X wT_n6 wT_l6 rfl dX5_readLine_112 ?_
  refine v_iconst (pc := 113) (v := 1) X dX5_readLine_113 rfl ?_
  refine v_iadd (pc := 114) X dX5_readLine_114 ?_
  refine v_iastC (pc := 115) (k := 4) X wT_n6 wT_l6 rfl dX5_readLine_115 (fun s_4 => ?_)
  exact v_vret (pc := 116) X dX5_readLine_116 rfl
theorem w_T_readLine_95 {Γ : v_Ctx} {l : Launch} {g : v_G} (fu : Nat) (X : v_C Γ l rm_T_readLine cX5_readLine 1 RX5 none wT g)  (s : v_S) : v_V Γ 1 wT g (fun z : v_S => ((none : Option Value), z)) 95 [(0, .ref (v_E g 0))] [] s (t_T_readLine_95 fu s) := by
  unfold t_T_readLine_95
  refine v_aload_n (pc := 95) X dX5_readLine_95 0 rfl ?_
  refine v_cGi (pc := 96) X (m_T_good l g fu _) (v_rc_n X wT_o0) (Or.inl q1635) hy_T_good rfl rfl rfl rfl dX5_readLine_96 (fun z_3 _ => ?_)
  refine v_if_eq (pc := 99) (tgt := 106) X dX5_readLine_99 (by decide) (fun c99 => ?_) (fun c99 => ?_)
  · exact w_T_readLine_106 fu X  s
  · refine v_aload_n (pc := 102) X dX5_readLine_102 0 rfl ?_
    refine v_cGs (pc := 103) X (m_T_advance l g fu _) (v_rc_n X wT_o0) (Or.inl q1621) hy_T_advance rfl rfl rfl rfl dX5_readLine_103 (fun s_5 _ => ?_)
    exact w_T_readLine_106 fu X  s_5
theorem w_T_readLine_75 {Γ : v_Ctx} {l : Launch} {g : v_G} (fu : Nat) (X : v_C Γ l rm_T_readLine cX5_readLine 1 RX5 none wT g)  (s : v_S) : v_V Γ 1 wT g (fun z : v_S => ((none : Option Value), z)) 75 [(0, .ref (v_E g 0))] [] s (t_T_readLine_75 fu s) := by
  unfold t_T_readLine_75
  refine v_aload_n (pc := 75) X dX5_readLine_75 0 rfl ?_
  refine v_cGi (pc := 76) X (m_T_good l g fu _) (v_rc_n X wT_o0) (Or.inl q1635) hy_T_good rfl rfl rfl rfl dX5_readLine_76 (fun z_2 _ => ?_)
  refine v_if_eq (pc := 79) (tgt := 95) X dX5_readLine_79 (by decide) (fun c79 => ?_) (fun c79 => ?_)
  · exact w_T_readLine_95 fu X  s
  · refine v_aload_n (pc := 82) X dX5_readLine_82 0 rfl ?_
    refine v_get (pc := 83) (kind := 0) (v := .int (s.1 0 10)) X wT_n0 wT_l0 wT_c0 in_X5 (Nat.le_of_ble_eq_true rfl : 10 < 40) q1481 rfl rfl dX5_readLine_83 ?_
    refine v_iconst (pc := 86) (v := 3) X dX5_readLine_86 rfl ?_
    refine v_icmp_eq (pc := 87) (tgt := 95) X dX5_readLine_87 (by decide) (fun c87 => ?_) (fun c87 => ?_)
    · exact w_T_readLine_95 fu X  s
    · refine v_aload_n (pc := 90) X dX5_readLine_90 0 rfl ?_
      refine v_iconst (pc := 91) (v := 1) X dX5_readLine_91 rfl ?_
      refine v_cGs (pc := 92) X (m_T_errs l g fu (1 : Int32) _) (v_rc_n X wT_o0) (Or.inl q1658) hy_T_errs rfl rfl rfl rfl dX5_readLine_92 (fun s_6 _ => ?_)
      exact w_T_readLine_95 fu X  s_6
theorem m_T_readLine (l : Launch) (g : v_G) (fu : Nat)  (s : v_S) : v_M l yX5_readLine cX5_readLine 1 none rm_T_readLine wT g [.ref (v_E g 0)] s (fun z : v_S => ((none : Option Value), z)) (t_T_readLine fu  s) := by
  refine v_met (by decide +kernel) (Nat.le_of_ble_eq_true rfl) (fun Γ X => ?_)
  refine v_lv (lv' := [(0, .ref (v_E g 0))]) rfl ?_
  unfold t_T_readLine
  refine v_aload_n (pc := 0) X dX5_readLine_0 0 rfl ?_
  refine v_get (pc := 1) (kind := 9) (v := .ref (v_E g 6)) X wT_n0 wT_l0 wT_c0 in_X5 (Nat.le_of_ble_eq_true rfl : 14 < 40) q1485 rfl rfl dX5_readLine_1 ?_
  refine v_iconst (pc := 4) (v := 4) X dX5_readLine_4 rfl ?_
  refine v_ialdC (pc := 5) (k := 4) X wT_n6 wT_l6 rfl dX5_readLine_5 ?_
  refine v_if_ne (pc := 6) (tgt := 71) X dX5_readLine_6 (by decide) (fun c6 => ?_) (fun c6 => ?_)
  · refine v_aload_n (pc := 71) X dX5_readLine_71 0 rfl ?_
    refine v_cGs (pc := 72) X (m_T_readNext l g fu _) (v_rc_n X wT_o0) (Or.inl q1673) hy_T_readNext rfl rfl rfl rfl dX5_readLine_72 (fun s_1 _ => ?_)
    exact w_T_readLine_75 fu X  s_1
  · refine v_aload_n (pc := 9) X dX5_readLine_9 0 rfl ?_
    refine v_ldcS (pc := 10) (i := 44) X (by decide) ⟨rfl, rfl⟩ q1643 dX5_readLine_10 ?_
    refine v_cGs (pc := 12) X (m_T_needs l g fu (44) _) (v_rc_n X wT_o0) (Or.inl q1644) hy_T_needs rfl rfl rfl rfl dX5_readLine_12 (fun s_7 _ => ?_)
    refine v_aload_n (pc := 15) X dX5_readLine_15 0 rfl ?_
    refine v_get (pc := 16) (kind := 9) (v := .ref (v_E g 6)) X wT_n0 wT_l0 wT_c0 in_X5 (Nat.le_of_ble_eq_true rfl : 14 < 40) q1485 rfl rfl dX5_readLine_16 ?_
    refine v_iconst (pc := 19) (v := 5) X dX5_readLine_19 rfl ?_
    refine v_aload_n (pc := 20) X dX5_readLine_20 0 rfl ?_
    refine v_ldcS (pc := 21) (i := 45) X (by decide) ⟨rfl, rfl⟩ q1662 dX5_readLine_21 ?_
    refine v_iconst (pc := 23) (v := 4) X dX5_readLine_23 rfl ?_
    refine v_bipush (pc := 24) (v := 30) X dX5_readLine_24 rfl ?_
    refine v_cGis (pc := 26) X (m_T_told l g fu (45) (4 : Int32) (30 : Int32) _) (v_rc_n X wT_o0) (Or.inl q1663) hy_T_told rfl rfl rfl rfl dX5_readLine_26 (fun z_8 s_9 _ => ?_)
    refine v_iastC (pc := 29) (k := 5) X wT_n6 wT_l6 rfl dX5_readLine_29 (fun s_10 => ?_)
    refine v_aload_n (pc := 30) X dX5_readLine_30 0 rfl ?_
    refine v_get (pc := 31) (kind := 9) (v := .ref (v_E g 6)) X wT_n0 wT_l0 wT_c0 in_X5 (Nat.le_of_ble_eq_true rfl : 14 < 40) q1485 rfl rfl dX5_readLine_31 ?_
    refine v_bipush (pc := 34) (v := 6) X dX5_readLine_34 rfl ?_
    refine v_aload_n (pc := 36) X dX5_readLine_36 0 rfl ?_
    refine v_ldcS (pc := 37) (i := 46) X (by decide) ⟨rfl, rfl⟩ q1671 dX5_readLine_37 ?_
    refine v_iconst (pc := 39) (v := 0) X dX5_readLine_39 rfl ?_
    refine v_bipush (pc := 40) (v := 100) X dX5_readLine_40 rfl ?_
    refine v_cGis (pc := 42) X (m_T_told l g fu (46) (0 : Int32) (100 : Int32) _) (v_rc_n X wT_o0) (Or.inl q1663) hy_T_told rfl rfl rfl rfl dX5_readLine_42 (fun z_11 s_12 _ => ?_)
    refine v_iastC (pc := 45) (k := 6) X wT_n6 wT_l6 rfl dX5_readLine_45 (fun s_13 => ?_)
    refine v_aload_n (pc := 46) X dX5_readLine_46 0 rfl ?_
    refine v_get (pc := 47) (kind := 9) (v := .ref (v_E g 6)) X wT_n0 wT_l0 wT_c0 in_X5 (Nat.le_of_ble_eq_true rfl : 14 < 40) q1485 rfl rfl dX5_readLine_47 ?_
    refine v_bipush (pc := 50) (v := 7) X dX5_readLine_50 rfl ?_
    refine v_aload_n (pc := 52) X dX5_readLine_52 0 rfl ?_
    refine v_ldcS (pc := 53) (i := 47) X (by decide) ⟨rfl, rfl⟩ q1672 dX5_readLine_53 ?_
    refine v_iconst (pc := 55) (v := 0) X dX5_readLine_55 rfl ?_
    refine v_aload_n (pc := 56) X dX5_readLine_56 0 rfl ?_
    refine v_get (pc := 57) (kind := 9) (v := .ref (v_E g 6)) X wT_n0 wT_l0 wT_c0 in_X5 (Nat.le_of_ble_eq_true rfl : 14 < 40) q1485 rfl rfl dX5_readLine_57 ?_
    refine v_iconst (pc := 60) (v := 5) X dX5_readLine_60 rfl ?_
    refine v_ialdC (pc := 61) (k := 5) X wT_n6 wT_l6 rfl dX5_readLine_61 ?_
    refine v_iconst (pc := 62) (v := 1) X dX5_readLine_62 rfl ?_
    refine v_isub (pc := 63) X dX5_readLine_63 ?_
    refine v_cGis (pc := 64) X (m_T_told l g fu (47) (0 : Int32) ((s_13.1 6 5) - (1 : Int32)) _) (v_rc_n X wT_o0) (Or.inl q1663) hy_T_told rfl rfl rfl rfl dX5_readLine_64 (fun z_14 s_15 _ => ?_)
    refine v_iastC (pc := 67) (k := 7) X wT_n6 wT_l6 rfl dX5_readLine_67 (fun s_16 => ?_)
    refine v_goto (pc := 68) (tgt := 75) X dX5_readLine_68 (by decide) ?_
    exact w_T_readLine_75 fu X  s_16
/-! FloodLentModel.plain()I -/
abbrev rm_T_plain : Room := { frames := 12, cells := 0, slots := 0, locals := 259 }
theorem hy_T_plain : v_yV yX5_plain cX5_plain 2 (some .int) 0 := ⟨q1618, q1619, q141, q1620, by decide +kernel⟩
def t_T_plain_112 (fu : Nat) (s : v_S) : Option (Int32 × v_S) :=
some (s.1 1 4, s)
def t_T_plain_87 (fu : Nat) (r87 : Int32 × v_S → Option (Int32 × v_S)) (x1 : Int32) (s : v_S) : Option (Int32 × v_S) :=
if (160 : Int32) ≤ x1 then (t_T_plain_112 fu s) else (v_g x1 160 <| v_g x1 160 <| v_n (v_uI s 1 (Int32.toNatClampNeg x1) (s.1 6 (Int32.toNatClampNeg x1))) fun (s_9 : v_S) => r87 (x1 + (1 : Int32), s_9))
def t_T_plain_87B (fu : Nat) (r87 : Int32 × v_S → Option (Int32 × v_S)) (a : Int32 × v_S) : Option (Int32 × v_S) := t_T_plain_87 fu r87 a.1 a.2
def t_T_plain_75 (fu : Nat) (s : v_S) : Option (Int32 × v_S) :=
v_b1 (t_T_good fu s) fun (z_8 : Int32) => if z_8 = 0 then (some ((-4 : Int32), s)) else (v_loop (t_T_plain_87B fu) fu ((0 : Int32), s))
def t_T_plain_54 (fu : Nat) (r54 : v_S → Option (Int32 × v_S)) (s : v_S) : Option (Int32 × v_S) :=
v_b1 (t_T_good fu s) fun (z_7 : Int32) => if z_7 = 0 then (t_T_plain_75 fu s) else (if s.1 0 10 = 0 then (t_T_plain_75 fu s) else (v_b1 (t_T_readLine fu s) fun (s_10 : v_S) => r54 s_10))
def t_T_plain_54B (fu : Nat) (r54 : v_S → Option (Int32 × v_S)) (a : v_S) : Option (Int32 × v_S) := t_T_plain_54 fu r54 a
def t_T_plain_50 (fu : Nat) (s : v_S) : Option (Int32 × v_S) :=
v_b1 (t_T_advance fu s) fun (s_6 : v_S) => v_loop (t_T_plain_54B fu) fu s_6
def t_T_plain_30 (fu : Nat) (r30 : Int32 × v_S → Option (Int32 × v_S)) (x1 : Int32) (s : v_S) : Option (Int32 × v_S) :=
if (160 : Int32) ≤ x1 then (t_T_plain_50 fu s) else (v_g x1 160 <| v_n (v_uI s 6 (Int32.toNatClampNeg x1) (0 : Int32)) fun (s_11 : v_S) => r30 (x1 + (1 : Int32), s_11))
def t_T_plain_30B (fu : Nat) (r30 : Int32 × v_S → Option (Int32 × v_S)) (a : Int32 × v_S) : Option (Int32 × v_S) := t_T_plain_30 fu r30 a.1 a.2
def t_T_plain (fu : Nat)  (s : v_S) : Option (Int32 × v_S) :=
  v_n (v_uI s 0 7 (s.1 0 5)) fun (s_1 : v_S) => v_n (v_uI s_1 0 5 (0 : Int32)) fun (s_2 : v_S) => v_n (v_uI s_2 0 8 (0 : Int32)) fun (s_3 : v_S) => v_n (v_uI s_3 0 12 (0 : Int32)) fun (s_4 : v_S) => v_n (v_uI s_4 0 13 (-1 : Int32)) fun (s_5 : v_S) => v_loop (t_T_plain_30B fu) fu ((0 : Int32), s_5)
theorem w_T_plain_112 {Γ : v_Ctx} {l : Launch} {g : v_G} (fu : Nat) (X : v_C Γ l rm_T_plain cX5_plain 2 RX5 (some .int) wT g)  (s : v_S) : v_V Γ 2 wT g (fun z : Int32 × v_S => (some (.int z.1), z.2)) 112 [(0, .ref (v_E g 0))] [] s (t_T_plain_112 fu s) := by
  unfold t_T_plain_112
  refine v_aload_n (pc := 112) X dX5_plain_112 0 rfl ?_
  refine v_get (pc := 113) (kind := 4) (v := .ref (v_E g 1)) X wT_n0 wT_l0 wT_c0 in_X5 (Nat.le_of_ble_eq_true rfl : 1 < 40) q1472 rfl rfl dX5_plain_113 ?_
  refine v_iconst (pc := 116) (v := 4) X dX5_plain_116 rfl ?_
  refine v_ialdC (pc := 117) (k := 4) X wT_n1 wT_l1 rfl dX5_plain_117 ?_
  exact v_iret (pc := 118) X dX5_plain_118 rfl
theorem w_T_plain_87 {Γ : v_Ctx} {l : Launch} {g : v_G} (fu : Nat) (X : v_C Γ l rm_T_plain cX5_plain 2 RX5 (some .int) wT g) (r87 : Int32 × v_S → Option (Int32 × v_S)) (h87 : ∀ (x1 : Int32) (s : v_S), v_V Γ 2 wT g (fun z : Int32 × v_S => (some (.int z.1), z.2)) 87 [(0, .ref (v_E g 0)), (1, .int x1)] [] s (r87 (x1, s))) (x1 : Int32) (s : v_S) : v_V Γ 2 wT g (fun z : Int32 × v_S => (some (.int z.1), z.2)) 87 [(0, .ref (v_E g 0)), (1, .int x1)] [] s (t_T_plain_87 fu r87 x1 s) := by
  unfold t_T_plain_87
  refine v_iload_n (pc := 87) X dX5_plain_87 1 rfl ?_
  refine v_sipush (pc := 88) (v := 160) X dX5_plain_88 rfl ?_
  refine v_icmp_ge (pc := 91) (tgt := 112) X dX5_plain_91 (by decide) (fun c91 => ?_) (fun c91 => ?_)
  · refine v_sub [0] rfl ?_
    exact w_T_plain_112 fu X  s
  · refine v_aload_n (pc := 94) X dX5_plain_94 0 rfl ?_
    refine v_get (pc := 95) (kind := 4) (v := .ref (v_E g 1)) X wT_n0 wT_l0 wT_c0 in_X5 (Nat.le_of_ble_eq_true rfl : 1 < 40) q1472 rfl rfl dX5_plain_95 ?_
    refine v_iload_n (pc := 98) X dX5_plain_98 1 rfl ?_
    refine v_aload_n (pc := 99) X dX5_plain_99 0 rfl ?_
    refine v_get (pc := 100) (kind := 9) (v := .ref (v_E g 6)) X wT_n0 wT_l0 wT_c0 in_X5 (Nat.le_of_ble_eq_true rfl : 14 < 40) q1485 rfl rfl dX5_plain_100 ?_
    refine v_iload_n (pc := 103) X dX5_plain_103 1 rfl ?_
    refine v_iald (pc := 104) X wT_n6 wT_l6 dX5_plain_104 ?_
    refine v_iast (pc := 105) X wT_n1 wT_l1 dX5_plain_105 (fun s_9 => ?_)
    refine v_iinc (pc := 106) (v := x1 + (1 : Int32)) (lv' := [(1, .int (x1 + (1 : Int32))), (0, .ref (v_E g 0))]) (k := 1) X dX5_plain_106 rfl rfl (Nat.le_of_ble_eq_true rfl) rfl ?_
    refine v_goto (pc := 109) (tgt := 87) X dX5_plain_109 (by decide) ?_
    refine v_sub [1, 0] rfl ?_
    exact h87 (x1 + (1 : Int32)) s_9
theorem w_T_plain_87L {Γ : v_Ctx} {l : Launch} {g : v_G} (fu : Nat) (X : v_C Γ l rm_T_plain cX5_plain 2 RX5 (some .int) wT g)  : ∀ (n : Nat), ∀ (x1 : Int32) (s : v_S), v_V Γ 2 wT g (fun z : Int32 × v_S => (some (.int z.1), z.2)) 87 [(0, .ref (v_E g 0)), (1, .int x1)] [] s (v_loop (t_T_plain_87B fu) n (x1, s)) := by
  intro n
  induction n with
  | zero => exact fun _ _ => v_none
  | succ n ih => exact fun x1 s => w_T_plain_87 fu X  _ ih x1 s
theorem w_T_plain_75 {Γ : v_Ctx} {l : Launch} {g : v_G} (fu : Nat) (X : v_C Γ l rm_T_plain cX5_plain 2 RX5 (some .int) wT g)  (s : v_S) : v_V Γ 2 wT g (fun z : Int32 × v_S => (some (.int z.1), z.2)) 75 [(0, .ref (v_E g 0))] [] s (t_T_plain_75 fu s) := by
  unfold t_T_plain_75
  refine v_aload_n (pc := 75) X dX5_plain_75 0 rfl ?_
  refine v_cGi (pc := 76) X (m_T_good l g fu _) (v_rc_n X wT_o0) (Or.inl q1635) hy_T_good rfl rfl rfl rfl dX5_plain_76 (fun z_8 _ => ?_)
  refine v_if_ne (pc := 79) (tgt := 85) X dX5_plain_79 (by decide) (fun c79 => ?_) (fun c79 => ?_)
  · refine v_iconst (pc := 85) (v := 0) X dX5_plain_85 rfl ?_
    refine v_istore_n (pc := 86) (lv' := [(1, .int (0 : Int32)), (0, .ref (v_E g 0))]) X dX5_plain_86 rfl (Nat.le_of_ble_eq_true rfl) rfl ?_
    refine v_sub [1, 0] rfl ?_
    exact w_T_plain_87L fu X  fu (0 : Int32) s
  · refine v_bipush (pc := 82) (v := -4) X dX5_plain_82 rfl ?_
    exact v_iret (pc := 84) X dX5_plain_84 rfl
theorem w_T_plain_54 {Γ : v_Ctx} {l : Launch} {g : v_G} (fu : Nat) (X : v_C Γ l rm_T_plain cX5_plain 2 RX5 (some .int) wT g) (r54 : v_S → Option (Int32 × v_S)) (h54 : ∀  (s : v_S), v_V Γ 2 wT g (fun z : Int32 × v_S => (some (.int z.1), z.2)) 54 [(0, .ref (v_E g 0))] [] s (r54 s)) (s : v_S) : v_V Γ 2 wT g (fun z : Int32 × v_S => (some (.int z.1), z.2)) 54 [(0, .ref (v_E g 0))] [] s (t_T_plain_54 fu r54 s) := by
  unfold t_T_plain_54
  refine v_aload_n (pc := 54) X dX5_plain_54 0 rfl ?_
  refine v_cGi (pc := 55) X (m_T_good l g fu _) (v_rc_n X wT_o0) (Or.inl q1635) hy_T_good rfl rfl rfl rfl dX5_plain_55 (fun z_7 _ => ?_)
  refine v_if_eq (pc := 58) (tgt := 75) X dX5_plain_58 (by decide) (fun c58 => ?_) (fun c58 => ?_)
  · exact w_T_plain_75 fu X  s
  · refine v_aload_n (pc := 61) X dX5_plain_61 0 rfl ?_
    refine v_get (pc := 62) (kind := 0) (v := .int (s.1 0 10)) X wT_n0 wT_l0 wT_c0 in_X5 (Nat.le_of_ble_eq_true rfl : 10 < 40) q1481 rfl rfl dX5_plain_62 ?_
    refine v_if_eq (pc := 65) (tgt := 75) X dX5_plain_65 (by decide) (fun c65 => ?_) (fun c65 => ?_)
    · exact w_T_plain_75 fu X  s
    · refine v_aload_n (pc := 68) X dX5_plain_68 0 rfl ?_
      refine v_cGs (pc := 69) X (m_T_readLine l g fu _) (v_rc_n X wT_o0) (Or.inl q1639) hy_T_readLine rfl rfl rfl rfl dX5_plain_69 (fun s_10 _ => ?_)
      refine v_goto (pc := 72) (tgt := 54) X dX5_plain_72 (by decide) ?_
      exact h54 s_10
theorem w_T_plain_54L {Γ : v_Ctx} {l : Launch} {g : v_G} (fu : Nat) (X : v_C Γ l rm_T_plain cX5_plain 2 RX5 (some .int) wT g)  : ∀ (n : Nat), ∀  (s : v_S), v_V Γ 2 wT g (fun z : Int32 × v_S => (some (.int z.1), z.2)) 54 [(0, .ref (v_E g 0))] [] s (v_loop (t_T_plain_54B fu) n s) := by
  intro n
  induction n with
  | zero => exact fun _ => v_none
  | succ n ih => exact fun s => w_T_plain_54 fu X  _ ih s
theorem w_T_plain_50 {Γ : v_Ctx} {l : Launch} {g : v_G} (fu : Nat) (X : v_C Γ l rm_T_plain cX5_plain 2 RX5 (some .int) wT g)  (s : v_S) : v_V Γ 2 wT g (fun z : Int32 × v_S => (some (.int z.1), z.2)) 50 [(0, .ref (v_E g 0))] [] s (t_T_plain_50 fu s) := by
  unfold t_T_plain_50
  refine v_aload_n (pc := 50) X dX5_plain_50 0 rfl ?_
  refine v_cGs (pc := 51) X (m_T_advance l g fu _) (v_rc_n X wT_o0) (Or.inl q1621) hy_T_advance rfl rfl rfl rfl dX5_plain_51 (fun s_6 _ => ?_)
  exact w_T_plain_54L fu X  fu s_6
theorem w_T_plain_30 {Γ : v_Ctx} {l : Launch} {g : v_G} (fu : Nat) (X : v_C Γ l rm_T_plain cX5_plain 2 RX5 (some .int) wT g) (r30 : Int32 × v_S → Option (Int32 × v_S)) (h30 : ∀ (x1 : Int32) (s : v_S), v_V Γ 2 wT g (fun z : Int32 × v_S => (some (.int z.1), z.2)) 30 [(0, .ref (v_E g 0)), (1, .int x1)] [] s (r30 (x1, s))) (x1 : Int32) (s : v_S) : v_V Γ 2 wT g (fun z : Int32 × v_S => (some (.int z.1), z.2)) 30 [(0, .ref (v_E g 0)), (1, .int x1)] [] s (t_T_plain_30 fu r30 x1 s) := by
  unfold t_T_plain_30
  refine v_iload_n (pc := 30) X dX5_plain_30 1 rfl ?_
  refine v_sipush (pc := 31) (v := 160) X dX5_plain_31 rfl ?_
  refine v_icmp_ge (pc := 34) (tgt := 50) X dX5_plain_34 (by decide) (fun c34 => ?_) (fun c34 => ?_)
  · refine v_sub [0] rfl ?_
    exact w_T_plain_50 fu X  s
  · refine v_aload_n (pc := 37) X dX5_plain_37 0 rfl ?_
    refine v_get (pc := 38) (kind := 9) (v := .ref (v_E g 6)) X wT_n0 wT_l0 wT_c0 in_X5 (Nat.le_of_ble_eq_true rfl : 14 < 40) q1485 rfl rfl dX5_plain_38 ?_
    refine v_iload_n (pc := 41) X dX5_plain_41 1 rfl ?_
    refine v_iconst (pc := 42) (v := 0) X dX5_plain_42 rfl ?_
    refine v_iast (pc := 43) X wT_n6 wT_l6 dX5_plain_43 (fun s_11 => ?_)
    refine v_iinc (pc := 44) (v := x1 + (1 : Int32)) (lv' := [(1, .int (x1 + (1 : Int32))), (0, .ref (v_E g 0))]) (k := 1) X dX5_plain_44 rfl rfl (Nat.le_of_ble_eq_true rfl) rfl ?_
    refine v_goto (pc := 47) (tgt := 30) X dX5_plain_47 (by decide) ?_
    refine v_sub [1, 0] rfl ?_
    exact h30 (x1 + (1 : Int32)) s_11
theorem w_T_plain_30L {Γ : v_Ctx} {l : Launch} {g : v_G} (fu : Nat) (X : v_C Γ l rm_T_plain cX5_plain 2 RX5 (some .int) wT g)  : ∀ (n : Nat), ∀ (x1 : Int32) (s : v_S), v_V Γ 2 wT g (fun z : Int32 × v_S => (some (.int z.1), z.2)) 30 [(0, .ref (v_E g 0)), (1, .int x1)] [] s (v_loop (t_T_plain_30B fu) n (x1, s)) := by
  intro n
  induction n with
  | zero => exact fun _ _ => v_none
  | succ n ih => exact fun x1 s => w_T_plain_30 fu X  _ ih x1 s
theorem m_T_plain (l : Launch) (g : v_G) (fu : Nat)  (s : v_S) : v_M l yX5_plain cX5_plain 2 (some .int) rm_T_plain wT g [.ref (v_E g 0)] s (fun z : Int32 × v_S => (some (.int z.1), z.2)) (t_T_plain fu  s) := by
  refine v_met (by decide +kernel) (Nat.le_of_ble_eq_true rfl) (fun Γ X => ?_)
  refine v_lv (lv' := [(0, .ref (v_E g 0))]) rfl ?_
  unfold t_T_plain
  refine v_aload_n (pc := 0) X dX5_plain_0 0 rfl ?_
  refine v_aload_n (pc := 1) X dX5_plain_1 0 rfl ?_
  refine v_get (pc := 2) (kind := 0) (v := .int (s.1 0 5)) X wT_n0 wT_l0 wT_c0 in_X5 (Nat.le_of_ble_eq_true rfl : 5 < 40) q1476 rfl rfl dX5_plain_2 ?_
  refine v_putI (pc := 5) X wT_n0 wT_l0 wT_c0 in_X5 tyX5 tyX5_ok nmX5 (Nat.le_of_ble_eq_true rfl : 7 < 40) q1478 rfl rfl rfl dX5_plain_5 (fun s_1 => ?_)
  refine v_aload_n (pc := 8) X dX5_plain_8 0 rfl ?_
  refine v_iconst (pc := 9) (v := 0) X dX5_plain_9 rfl ?_
  refine v_putI (pc := 10) X wT_n0 wT_l0 wT_c0 in_X5 tyX5 tyX5_ok nmX5 (Nat.le_of_ble_eq_true rfl : 5 < 40) q1476 rfl rfl rfl dX5_plain_10 (fun s_2 => ?_)
  refine v_aload_n (pc := 13) X dX5_plain_13 0 rfl ?_
  refine v_iconst (pc := 14) (v := 0) X dX5_plain_14 rfl ?_
  refine v_putI (pc := 15) X wT_n0 wT_l0 wT_c0 in_X5 tyX5 tyX5_ok nmX5 (Nat.le_of_ble_eq_true rfl : 8 < 40) q1479 rfl rfl rfl dX5_plain_15 (fun s_3 => ?_)
  refine v_aload_n (pc := 18) X dX5_plain_18 0 rfl ?_
  refine v_iconst (pc := 19) (v := 0) X dX5_plain_19 rfl ?_
  refine v_putI (pc := 20) X wT_n0 wT_l0 wT_c0 in_X5 tyX5 tyX5_ok nmX5 (Nat.le_of_ble_eq_true rfl : 12 < 40) q1483 rfl rfl rfl dX5_plain_20 (fun s_4 => ?_)
  refine v_aload_n (pc := 23) X dX5_plain_23 0 rfl ?_
  refine v_iconst (pc := 24) (v := -1) X dX5_plain_24 rfl ?_
  refine v_putI (pc := 25) X wT_n0 wT_l0 wT_c0 in_X5 tyX5 tyX5_ok nmX5 (Nat.le_of_ble_eq_true rfl : 13 < 40) q1484 rfl rfl rfl dX5_plain_25 (fun s_5 => ?_)
  refine v_iconst (pc := 28) (v := 0) X dX5_plain_28 rfl ?_
  refine v_istore_n (pc := 29) (lv' := [(1, .int (0 : Int32)), (0, .ref (v_E g 0))]) X dX5_plain_29 rfl (Nat.le_of_ble_eq_true rfl) rfl ?_
  refine v_sub [1, 0] rfl ?_
  exact w_T_plain_30L fu X  fu (0 : Int32) s_5
/-! FloodLentModel.villages()I -/
abbrev rm_T_villages : Room := { frames := 1, cells := 0, slots := 0, locals := 21 }
theorem hy_T_villages : v_yV yX5_villages cX5_villages 1 (some .int) 0 := ⟨q1727, qs77, q141, q1728, by decide +kernel⟩
def t_T_villages (fu : Nat)  (s : v_S) : Option Int32 :=
  some (s.1 1 0)
theorem m_T_villages (l : Launch) (g : v_G) (fu : Nat)  (s : v_S) : v_M l yX5_villages cX5_villages 1 (some .int) rm_T_villages wT g [.ref (v_E g 0)] s (fun z : Int32 => (some (.int z), s)) (t_T_villages fu  s) := by
  refine v_met (by decide +kernel) (Nat.le_of_ble_eq_true rfl) (fun Γ X => ?_)
  refine v_lv (lv' := [(0, .ref (v_E g 0))]) rfl ?_
  unfold t_T_villages
  refine v_aload_n (pc := 0) X dX5_villages_0 0 rfl ?_
  refine v_get (pc := 1) (kind := 4) (v := .ref (v_E g 1)) X wT_n0 wT_l0 wT_c0 in_X5 (Nat.le_of_ble_eq_true rfl : 1 < 40) q1472 rfl rfl dX5_villages_1 ?_
  refine v_iconst (pc := 4) (v := 0) X dX5_villages_4 rfl ?_
  refine v_ialdC (pc := 5) (k := 0) X wT_n1 wT_l1 rfl dX5_villages_5 ?_
  exact v_iret (pc := 6) X dX5_villages_6 rfl
/-! FloodLentModel.isVillage(I)Z -/
abbrev rm_T_isVillage : Room := { frames := 2, cells := 0, slots := 0, locals := 46 }
theorem hy_T_isVillage : v_yV yX5_isVillage cX5_isVillage 2 (some .boolean) 1 := ⟨q1723, qs76, q141, q1724, by decide +kernel⟩
def t_T_isVillage (fu : Nat) (p1 : Int32) (s : v_S) : Option Int32 :=
  v_b1 (t_T_villages fu s) fun (z_1 : Int32) => v_b1 (t_T_in fu (Int32.toInt64 p1) (0 : Int64) (Int32.toInt64 (z_1 - (1 : Int32))) s) fun (z_2 : Int32) => if z_2 = 0 ∨ z_2 = 1 then some z_2 else none
theorem m_T_isVillage (l : Launch) (g : v_G) (fu : Nat) (p1 : Int32) (s : v_S) : v_M l yX5_isVillage cX5_isVillage 2 (some .boolean) rm_T_isVillage wT g [.ref (v_E g 0), .int p1] s (fun z : Int32 => (some (.int z), s)) (t_T_isVillage fu p1 s) := by
  refine v_met (by decide +kernel) (Nat.le_of_ble_eq_true rfl) (fun Γ X => ?_)
  refine v_lv (lv' := [(0, .ref (v_E g 0)), (1, .int p1)]) rfl ?_
  unfold t_T_isVillage
  refine v_iload_n (pc := 0) X dX5_isVillage_0 1 rfl ?_
  refine v_i2l (pc := 1) X dX5_isVillage_1 ?_
  refine v_lconst (pc := 2) (v := 0) X dX5_isVillage_2 rfl ?_
  refine v_aload_n (pc := 3) X dX5_isVillage_3 0 rfl ?_
  refine v_cGi (pc := 4) X (m_T_villages l g fu _) (v_rc_n X wT_o0) (Or.inl q1725) hy_T_villages rfl rfl rfl rfl dX5_isVillage_4 (fun z_1 _ => ?_)
  refine v_iconst (pc := 7) (v := 1) X dX5_isVillage_7 rfl ?_
  refine v_isub (pc := 8) X dX5_isVillage_8 ?_
  refine v_i2l (pc := 9) X dX5_isVillage_9 ?_
  refine v_cSi (pc := 10) X (m_T_in l g fu (Int32.toInt64 p1) (0 : Int64) (Int32.toInt64 (z_1 - (1 : Int32))) _) q1598 hy_T_in rfl rfl rfl rfl dX5_isVillage_10 (fun z_2 _ => ?_)
  exact v_zretG (pc := 13) X dX5_isVillage_13 rfl
/-! FloodLentModel.of(II)I -/
abbrev rm_T_of : Room := { frames := 1, cells := 0, slots := 0, locals := 21 }
theorem hy_T_of : v_yV yX5_of cX5_of 3 (some .int) 2 := ⟨q1732, qs78, q141, q1733, by decide +kernel⟩
def t_T_of (fu : Nat) (p1 : Int32) (p2 : Int32) (s : v_S) : Option Int32 :=
  v_g (((8 : Int32) + ((5 : Int32) * p1)) + p2) 160 <| some (s.1 1 (Int32.toNatClampNeg (((8 : Int32) + ((5 : Int32) * p1)) + p2)))
theorem m_T_of (l : Launch) (g : v_G) (fu : Nat) (p1 : Int32) (p2 : Int32) (s : v_S) : v_M l yX5_of cX5_of 3 (some .int) rm_T_of wT g [.ref (v_E g 0), .int p1, .int p2] s (fun z : Int32 => (some (.int z), s)) (t_T_of fu p1 p2 s) := by
  refine v_met (by decide +kernel) (Nat.le_of_ble_eq_true rfl) (fun Γ X => ?_)
  refine v_lv (lv' := [(0, .ref (v_E g 0)), (1, .int p1), (2, .int p2)]) rfl ?_
  unfold t_T_of
  refine v_aload_n (pc := 0) X dX5_of_0 0 rfl ?_
  refine v_get (pc := 1) (kind := 4) (v := .ref (v_E g 1)) X wT_n0 wT_l0 wT_c0 in_X5 (Nat.le_of_ble_eq_true rfl : 1 < 40) q1472 rfl rfl dX5_of_1 ?_
  refine v_bipush (pc := 4) (v := 8) X dX5_of_4 rfl ?_
  refine v_iconst (pc := 6) (v := 5) X dX5_of_6 rfl ?_
  refine v_iload_n (pc := 7) X dX5_of_7 1 rfl ?_
  refine v_imul (pc := 8) X dX5_of_8 ?_
  refine v_iadd (pc := 9) X dX5_of_9 ?_
  refine v_iload_n (pc := 10) X dX5_of_10 2 rfl ?_
  refine v_iadd (pc := 11) X dX5_of_11 ?_
  refine v_iald (pc := 12) X wT_n1 wT_l1 dX5_of_12 ?_
  exact v_iret (pc := 13) X dX5_of_13 rfl
/-! FloodLentModel.village(II)I -/
abbrev rm_T_village : Room := { frames := 3, cells := 0, slots := 0, locals := 67 }
theorem hy_T_village : v_yV yX5_village cX5_village 3 (some .int) 2 := ⟨q1718, q1719, q141, q1720, by decide +kernel⟩
def t_T_village (fu : Nat) (p1 : Int32) (p2 : Int32) (s : v_S) : Option Int32 :=
  v_b1 (t_T_isVillage fu p1 s) fun (z_1 : Int32) => if z_1 = 0 then (some (-2 : Int32)) else (v_b1 (t_T_in fu (Int32.toInt64 p2) (0 : Int64) (4 : Int64) s) fun (z_2 : Int32) => if z_2 = 0 then (some (-2 : Int32)) else (v_b1 (t_T_of fu p1 p2 s) fun (z_3 : Int32) => some z_3))
theorem m_T_village (l : Launch) (g : v_G) (fu : Nat) (p1 : Int32) (p2 : Int32) (s : v_S) : v_M l yX5_village cX5_village 3 (some .int) rm_T_village wT g [.ref (v_E g 0), .int p1, .int p2] s (fun z : Int32 => (some (.int z), s)) (t_T_village fu p1 p2 s) := by
  refine v_met (by decide +kernel) (Nat.le_of_ble_eq_true rfl) (fun Γ X => ?_)
  refine v_lv (lv' := [(0, .ref (v_E g 0)), (1, .int p1), (2, .int p2)]) rfl ?_
  unfold t_T_village
  refine v_aload_n (pc := 0) X dX5_village_0 0 rfl ?_
  refine v_iload_n (pc := 1) X dX5_village_1 1 rfl ?_
  refine v_cGi (pc := 2) X (m_T_isVillage l g fu p1 _) (v_rc_n X wT_o0) (Or.inl q1721) hy_T_isVillage rfl rfl rfl rfl dX5_village_2 (fun z_1 _ => ?_)
  refine v_if_eq (pc := 5) (tgt := 29) X dX5_village_5 (by decide) (fun c5 => ?_) (fun c5 => ?_)
  · refine v_bipush (pc := 29) (v := -2) X dX5_village_29 rfl ?_
    exact v_iret (pc := 31) X dX5_village_31 rfl
  · refine v_iload_n (pc := 8) X dX5_village_8 2 rfl ?_
    refine v_i2l (pc := 9) X dX5_village_9 ?_
    refine v_lconst (pc := 10) (v := 0) X dX5_village_10 rfl ?_
    refine v_ldc2 (pc := 11) X q1729 dX5_village_11 ?_
    refine v_cSi (pc := 14) X (m_T_in l g fu (Int32.toInt64 p2) (0 : Int64) (4 : Int64) _) q1598 hy_T_in rfl rfl rfl rfl dX5_village_14 (fun z_2 _ => ?_)
    refine v_if_eq (pc := 17) (tgt := 29) X dX5_village_17 (by decide) (fun c17 => ?_) (fun c17 => ?_)
    · refine v_bipush (pc := 29) (v := -2) X dX5_village_29 rfl ?_
      exact v_iret (pc := 31) X dX5_village_31 rfl
    · refine v_aload_n (pc := 20) X dX5_village_20 0 rfl ?_
      refine v_iload_n (pc := 21) X dX5_village_21 1 rfl ?_
      refine v_iload_n (pc := 22) X dX5_village_22 2 rfl ?_
      refine v_cGi (pc := 23) X (m_T_of l g fu p1 p2 _) (v_rc_n X wT_o0) (Or.inl q1730) hy_T_of rfl rfl rfl rfl dX5_village_23 (fun z_3 _ => ?_)
      refine v_goto (pc := 26) (tgt := 31) X dX5_village_26 (by decide) ?_
      exact v_iret (pc := 31) X dX5_village_31 rfl
/-! FloodLentModel.isFlood(I)Z -/
abbrev rm_T_isFlood : Room := { frames := 2, cells := 0, slots := 0, locals := 46 }
theorem hy_T_isFlood : v_yV yX5_isFlood cX5_isFlood 2 (some .boolean) 1 := ⟨q1740, qs79, q141, q1741, by decide +kernel⟩
def t_T_isFlood (fu : Nat) (p1 : Int32) (s : v_S) : Option Int32 :=
  v_b1 (t_T_in fu (Int32.toInt64 p1) (0 : Int64) (Int32.toInt64 ((s.1 1 2) - (1 : Int32))) s) fun (z_1 : Int32) => if z_1 = 0 ∨ z_1 = 1 then some z_1 else none
theorem m_T_isFlood (l : Launch) (g : v_G) (fu : Nat) (p1 : Int32) (s : v_S) : v_M l yX5_isFlood cX5_isFlood 2 (some .boolean) rm_T_isFlood wT g [.ref (v_E g 0), .int p1] s (fun z : Int32 => (some (.int z), s)) (t_T_isFlood fu p1 s) := by
  refine v_met (by decide +kernel) (Nat.le_of_ble_eq_true rfl) (fun Γ X => ?_)
  refine v_lv (lv' := [(0, .ref (v_E g 0)), (1, .int p1)]) rfl ?_
  unfold t_T_isFlood
  refine v_iload_n (pc := 0) X dX5_isFlood_0 1 rfl ?_
  refine v_i2l (pc := 1) X dX5_isFlood_1 ?_
  refine v_lconst (pc := 2) (v := 0) X dX5_isFlood_2 rfl ?_
  refine v_aload_n (pc := 3) X dX5_isFlood_3 0 rfl ?_
  refine v_get (pc := 4) (kind := 4) (v := .ref (v_E g 1)) X wT_n0 wT_l0 wT_c0 in_X5 (Nat.le_of_ble_eq_true rfl : 1 < 40) q1472 rfl rfl dX5_isFlood_4 ?_
  refine v_iconst (pc := 7) (v := 2) X dX5_isFlood_7 rfl ?_
  refine v_ialdC (pc := 8) (k := 2) X wT_n1 wT_l1 rfl dX5_isFlood_8 ?_
  refine v_iconst (pc := 9) (v := 1) X dX5_isFlood_9 rfl ?_
  refine v_isub (pc := 10) X dX5_isFlood_10 ?_
  refine v_i2l (pc := 11) X dX5_isFlood_11 ?_
  refine v_cSi (pc := 12) X (m_T_in l g fu (Int32.toInt64 p1) (0 : Int64) (Int32.toInt64 ((s.1 1 2) - (1 : Int32))) _) q1598 hy_T_in rfl rfl rfl rfl dX5_isFlood_12 (fun z_1 _ => ?_)
  exact v_zretG (pc := 15) X dX5_isFlood_15 rfl
/-! FloodLentModel.takes(II)I -/
abbrev rm_T_takes_2 : Room := { frames := 3, cells := 0, slots := 0, locals := 67 }
theorem hy_T_takes_2 : v_yV yX5_takes_2 cX5_takes_2 4 (some .int) 2 := ⟨q1735, q1736, q141, q1737, by decide +kernel⟩
def t_T_takes_2_24 (fu : Nat) (p1 : Int32) (p2 : Int32) (s : v_S) : Option (Int32 × v_S) :=
v_g ((157 : Int32) + p1) 160 <| v_n (s.1 1 (Int32.toNatClampNeg ((157 : Int32) + p1))) fun (x3_2 : Int32) => v_g ((157 : Int32) + p1) 160 <| v_n (v_uI s 1 (Int32.toNatClampNeg ((157 : Int32) + p1)) p2) fun (s_3 : v_S) => some (x3_2, s_3)
def t_T_takes_2 (fu : Nat) (p1 : Int32) (p2 : Int32) (s : v_S) : Option (Int32 × v_S) :=
  v_b1 (t_T_isFlood fu p1 s) fun (z_1 : Int32) => if z_1 = 0 then (some ((-2 : Int32), s)) else (if p2 = (-1 : Int32) then (t_T_takes_2_24 fu p1 p2 s) else (v_b1 (t_T_isVillage fu p2 s) fun (z_4 : Int32) => if z_4 = 0 then (some ((-2 : Int32), s)) else (t_T_takes_2_24 fu p1 p2 s)))
theorem w_T_takes_2_24 {Γ : v_Ctx} {l : Launch} {g : v_G} (fu : Nat) (p1 : Int32) (p2 : Int32) (X : v_C Γ l rm_T_takes_2 cX5_takes_2 4 RX5 (some .int) wT g)  (s : v_S) : v_V Γ 4 wT g (fun z : Int32 × v_S => (some (.int z.1), z.2)) 24 [(0, .ref (v_E g 0)), (1, .int p1), (2, .int p2)] [] s (t_T_takes_2_24 fu p1 p2 s) := by
  unfold t_T_takes_2_24
  refine v_aload_n (pc := 24) X dX5_takes_2_24 0 rfl ?_
  refine v_get (pc := 25) (kind := 4) (v := .ref (v_E g 1)) X wT_n0 wT_l0 wT_c0 in_X5 (Nat.le_of_ble_eq_true rfl : 1 < 40) q1472 rfl rfl dX5_takes_2_25 ?_
  refine v_sipush (pc := 28) (v := 157) X dX5_takes_2_28 rfl ?_
  refine v_iload_n (pc := 31) X dX5_takes_2_31 1 rfl ?_
  refine v_iadd (pc := 32) X dX5_takes_2_32 ?_
  refine v_iald (pc := 33) X wT_n1 wT_l1 dX5_takes_2_33 ?_
  refine v_istore_nN (pc := 34) (lvf := fun x3_2 => [(3, .int x3_2), (0, .ref (v_E g 0)), (1, .int p1), (2, .int p2)]) X dX5_takes_2_34 rfl (Nat.le_of_ble_eq_true rfl) (fun _ => rfl) (fun x3_2 => ?_)
  refine v_aload_n (pc := 35) X dX5_takes_2_35 1 rfl ?_
  refine v_get (pc := 36) (kind := 4) (v := .ref (v_E g 1)) X wT_n0 wT_l0 wT_c0 in_X5 (Nat.le_of_ble_eq_true rfl : 1 < 40) q1472 rfl rfl dX5_takes_2_36 ?_
  refine v_sipush (pc := 39) (v := 157) X dX5_takes_2_39 rfl ?_
  refine v_iload_n (pc := 42) X dX5_takes_2_42 2 rfl ?_
  refine v_iadd (pc := 43) X dX5_takes_2_43 ?_
  refine v_iload_n (pc := 44) X dX5_takes_2_44 3 rfl ?_
  refine v_iast (pc := 45) X wT_n1 wT_l1 dX5_takes_2_45 (fun s_3 => ?_)
  refine v_iload_n (pc := 46) X dX5_takes_2_46 0 rfl ?_
  exact v_iret (pc := 47) X dX5_takes_2_47 rfl
theorem m_T_takes_2 (l : Launch) (g : v_G) (fu : Nat) (p1 : Int32) (p2 : Int32) (s : v_S) : v_M l yX5_takes_2 cX5_takes_2 4 (some .int) rm_T_takes_2 wT g [.ref (v_E g 0), .int p1, .int p2] s (fun z : Int32 × v_S => (some (.int z.1), z.2)) (t_T_takes_2 fu p1 p2 s) := by
  refine v_met (by decide +kernel) (Nat.le_of_ble_eq_true rfl) (fun Γ X => ?_)
  refine v_lv (lv' := [(0, .ref (v_E g 0)), (1, .int p1), (2, .int p2)]) rfl ?_
  unfold t_T_takes_2
  refine v_aload_n (pc := 0) X dX5_takes_2_0 0 rfl ?_
  refine v_iload_n (pc := 1) X dX5_takes_2_1 1 rfl ?_
  refine v_cGi (pc := 2) X (m_T_isFlood l g fu p1 _) (v_rc_n X wT_o0) (Or.inl q1738) hy_T_isFlood rfl rfl rfl rfl dX5_takes_2_2 (fun z_1 _ => ?_)
  refine v_if_eq (pc := 5) (tgt := 21) X dX5_takes_2_5 (by decide) (fun c5 => ?_) (fun c5 => ?_)
  · refine v_bipush (pc := 21) (v := -2) X dX5_takes_2_21 rfl ?_
    exact v_iret (pc := 23) X dX5_takes_2_23 rfl
  · refine v_iload_n (pc := 8) X dX5_takes_2_8 2 rfl ?_
    refine v_iconst (pc := 9) (v := -1) X dX5_takes_2_9 rfl ?_
    refine v_icmp_eq (pc := 10) (tgt := 24) X dX5_takes_2_10 (by decide) (fun c10 => ?_) (fun c10 => ?_)
    · exact w_T_takes_2_24 fu p1 p2 X  s
    · refine v_aload_n (pc := 13) X dX5_takes_2_13 0 rfl ?_
      refine v_iload_n (pc := 14) X dX5_takes_2_14 2 rfl ?_
      refine v_cGi (pc := 15) X (m_T_isVillage l g fu p2 _) (v_rc_n X wT_o0) (Or.inl q1721) hy_T_isVillage rfl rfl rfl rfl dX5_takes_2_15 (fun z_4 _ => ?_)
      refine v_if_ne (pc := 18) (tgt := 24) X dX5_takes_2_18 (by decide) (fun c18 => ?_) (fun c18 => ?_)
      · exact w_T_takes_2_24 fu p1 p2 X  s
      · refine v_bipush (pc := 21) (v := -2) X dX5_takes_2_21 rfl ?_
        exact v_iret (pc := 23) X dX5_takes_2_23 rfl
/-! FloodLentModel.isWeek(I)Z -/
abbrev rm_T_isWeek : Room := { frames := 2, cells := 0, slots := 0, locals := 46 }
theorem hy_T_isWeek : v_yV yX5_isWeek cX5_isWeek 2 (some .boolean) 1 := ⟨q1748, qs80, q141, q1749, by decide +kernel⟩
def t_T_isWeek (fu : Nat) (p1 : Int32) (s : v_S) : Option Int32 :=
  v_b1 (t_T_in fu (Int32.toInt64 p1) (0 : Int64) (Int32.toInt64 ((s.1 1 5) - (1 : Int32))) s) fun (z_1 : Int32) => if z_1 = 0 ∨ z_1 = 1 then some z_1 else none
theorem m_T_isWeek (l : Launch) (g : v_G) (fu : Nat) (p1 : Int32) (s : v_S) : v_M l yX5_isWeek cX5_isWeek 2 (some .boolean) rm_T_isWeek wT g [.ref (v_E g 0), .int p1] s (fun z : Int32 => (some (.int z), s)) (t_T_isWeek fu p1 s) := by
  refine v_met (by decide +kernel) (Nat.le_of_ble_eq_true rfl) (fun Γ X => ?_)
  refine v_lv (lv' := [(0, .ref (v_E g 0)), (1, .int p1)]) rfl ?_
  unfold t_T_isWeek
  refine v_iload_n (pc := 0) X dX5_isWeek_0 1 rfl ?_
  refine v_i2l (pc := 1) X dX5_isWeek_1 ?_
  refine v_lconst (pc := 2) (v := 0) X dX5_isWeek_2 rfl ?_
  refine v_aload_n (pc := 3) X dX5_isWeek_3 0 rfl ?_
  refine v_get (pc := 4) (kind := 4) (v := .ref (v_E g 1)) X wT_n0 wT_l0 wT_c0 in_X5 (Nat.le_of_ble_eq_true rfl : 1 < 40) q1472 rfl rfl dX5_isWeek_4 ?_
  refine v_iconst (pc := 7) (v := 5) X dX5_isWeek_7 rfl ?_
  refine v_ialdC (pc := 8) (k := 5) X wT_n1 wT_l1 rfl dX5_isWeek_8 ?_
  refine v_iconst (pc := 9) (v := 1) X dX5_isWeek_9 rfl ?_
  refine v_isub (pc := 10) X dX5_isWeek_10 ?_
  refine v_i2l (pc := 11) X dX5_isWeek_11 ?_
  refine v_cSi (pc := 12) X (m_T_in l g fu (Int32.toInt64 p1) (0 : Int64) (Int32.toInt64 ((s.1 1 5) - (1 : Int32))) _) q1598 hy_T_in rfl rfl rfl rfl dX5_isWeek_12 (fun z_1 _ => ?_)
  exact v_zretG (pc := 15) X dX5_isWeek_15 rfl
/-! FloodLentModel.takerNow(I)I -/
abbrev rm_T_takerNow : Room := { frames := 1, cells := 0, slots := 0, locals := 21 }
theorem hy_T_takerNow : v_yV yX5_takerNow cX5_takerNow 2 (some .int) 1 := ⟨q1764, qs84, q141, q1765, by decide +kernel⟩
def t_T_takerNow (fu : Nat) (p1 : Int32) (s : v_S) : Option Int32 :=
  if ((s.1 0 24) >>> (p1 &&& 31)) &&& (1 : Int32) = 0 then (some (-1 : Int32)) else (v_g ((157 : Int32) + p1) 160 <| some (s.1 1 (Int32.toNatClampNeg ((157 : Int32) + p1))))
theorem m_T_takerNow (l : Launch) (g : v_G) (fu : Nat) (p1 : Int32) (s : v_S) : v_M l yX5_takerNow cX5_takerNow 2 (some .int) rm_T_takerNow wT g [.ref (v_E g 0), .int p1] s (fun z : Int32 => (some (.int z), s)) (t_T_takerNow fu p1 s) := by
  refine v_met (by decide +kernel) (Nat.le_of_ble_eq_true rfl) (fun Γ X => ?_)
  refine v_lv (lv' := [(0, .ref (v_E g 0)), (1, .int p1)]) rfl ?_
  unfold t_T_takerNow
  refine v_aload_n (pc := 0) X dX5_takerNow_0 0 rfl ?_
  refine v_get (pc := 1) (kind := 0) (v := .int (s.1 0 24)) X wT_n0 wT_l0 wT_c0 in_X5 (Nat.le_of_ble_eq_true rfl : 24 < 40) q1495 rfl rfl dX5_takerNow_1 ?_
  refine v_iload_n (pc := 4) X dX5_takerNow_4 1 rfl ?_
  refine v_ishr (pc := 5) X dX5_takerNow_5 ?_
  refine v_iconst (pc := 6) (v := 1) X dX5_takerNow_6 rfl ?_
  refine v_iand (pc := 7) X dX5_takerNow_7 ?_
  refine v_if_ne (pc := 8) (tgt := 15) X dX5_takerNow_8 (by decide) (fun c8 => ?_) (fun c8 => ?_)
  · refine v_aload_n (pc := 15) X dX5_takerNow_15 0 rfl ?_
    refine v_get (pc := 16) (kind := 4) (v := .ref (v_E g 1)) X wT_n0 wT_l0 wT_c0 in_X5 (Nat.le_of_ble_eq_true rfl : 1 < 40) q1472 rfl rfl dX5_takerNow_16 ?_
    refine v_sipush (pc := 19) (v := 157) X dX5_takerNow_19 rfl ?_
    refine v_iload_n (pc := 22) X dX5_takerNow_22 1 rfl ?_
    refine v_iadd (pc := 23) X dX5_takerNow_23 ?_
    refine v_iald (pc := 24) X wT_n1 wT_l1 dX5_takerNow_24 ?_
    exact v_iret (pc := 25) X dX5_takerNow_25 rfl
  · refine v_iconst (pc := 11) (v := -1) X dX5_takerNow_11 rfl ?_
    refine v_goto (pc := 12) (tgt := 25) X dX5_takerNow_12 (by decide) ?_
    exact v_iret (pc := 25) X dX5_takerNow_25 rfl
/-! FloodLentModel.ofFlood(II)I -/
abbrev rm_T_ofFlood : Room := { frames := 1, cells := 0, slots := 0, locals := 21 }
theorem hy_T_ofFlood : v_yV yX5_ofFlood cX5_ofFlood 3 (some .int) 2 := ⟨q1768, qs85, q141, q1769, by decide +kernel⟩
def t_T_ofFlood (fu : Nat) (p1 : Int32) (p2 : Int32) (s : v_S) : Option Int32 :=
  v_g (((108 : Int32) + ((3 : Int32) * p1)) + p2) 160 <| some (s.1 1 (Int32.toNatClampNeg (((108 : Int32) + ((3 : Int32) * p1)) + p2)))
theorem m_T_ofFlood (l : Launch) (g : v_G) (fu : Nat) (p1 : Int32) (p2 : Int32) (s : v_S) : v_M l yX5_ofFlood cX5_ofFlood 3 (some .int) rm_T_ofFlood wT g [.ref (v_E g 0), .int p1, .int p2] s (fun z : Int32 => (some (.int z), s)) (t_T_ofFlood fu p1 p2 s) := by
  refine v_met (by decide +kernel) (Nat.le_of_ble_eq_true rfl) (fun Γ X => ?_)
  refine v_lv (lv' := [(0, .ref (v_E g 0)), (1, .int p1), (2, .int p2)]) rfl ?_
  unfold t_T_ofFlood
  refine v_aload_n (pc := 0) X dX5_ofFlood_0 0 rfl ?_
  refine v_get (pc := 1) (kind := 4) (v := .ref (v_E g 1)) X wT_n0 wT_l0 wT_c0 in_X5 (Nat.le_of_ble_eq_true rfl : 1 < 40) q1472 rfl rfl dX5_ofFlood_1 ?_
  refine v_bipush (pc := 4) (v := 108) X dX5_ofFlood_4 rfl ?_
  refine v_iconst (pc := 6) (v := 3) X dX5_ofFlood_6 rfl ?_
  refine v_iload_n (pc := 7) X dX5_ofFlood_7 1 rfl ?_
  refine v_imul (pc := 8) X dX5_ofFlood_8 ?_
  refine v_iadd (pc := 9) X dX5_ofFlood_9 ?_
  refine v_iload_n (pc := 10) X dX5_ofFlood_10 2 rfl ?_
  refine v_iadd (pc := 11) X dX5_ofFlood_11 ?_
  refine v_iald (pc := 12) X wT_n1 wT_l1 dX5_ofFlood_12 ?_
  exact v_iret (pc := 13) X dX5_ofFlood_13 rfl
/-! FloodLentModel.room(I)I -/
abbrev rm_T_room : Room := { frames := 2, cells := 0, slots := 0, locals := 43 }
theorem hy_T_room : v_yV yX5_room cX5_room 2 (some .int) 1 := ⟨q1772, qs86, q141, q1773, by decide +kernel⟩
def t_T_room (fu : Nat) (p1 : Int32) (s : v_S) : Option Int32 :=
  v_b1 (t_T_of fu p1 (0 : Int32) s) fun (z_1 : Int32) => v_g p1 6 <| some (z_1 - (s.1 7 (Int32.toNatClampNeg p1)))
theorem m_T_room (l : Launch) (g : v_G) (fu : Nat) (p1 : Int32) (s : v_S) : v_M l yX5_room cX5_room 2 (some .int) rm_T_room wT g [.ref (v_E g 0), .int p1] s (fun z : Int32 => (some (.int z), s)) (t_T_room fu p1 s) := by
  refine v_met (by decide +kernel) (Nat.le_of_ble_eq_true rfl) (fun Γ X => ?_)
  refine v_lv (lv' := [(0, .ref (v_E g 0)), (1, .int p1)]) rfl ?_
  unfold t_T_room
  refine v_aload_n (pc := 0) X dX5_room_0 0 rfl ?_
  refine v_iload_n (pc := 1) X dX5_room_1 1 rfl ?_
  refine v_iconst (pc := 2) (v := 0) X dX5_room_2 rfl ?_
  refine v_cGi (pc := 3) X (m_T_of l g fu p1 (0 : Int32) _) (v_rc_n X wT_o0) (Or.inl q1730) hy_T_of rfl rfl rfl rfl dX5_room_3 (fun z_1 _ => ?_)
  refine v_aload_n (pc := 6) X dX5_room_6 0 rfl ?_
  refine v_get (pc := 7) (kind := 10) (v := .ref (v_E g 7)) X wT_n0 wT_l0 wT_c0 in_X5 (Nat.le_of_ble_eq_true rfl : 15 < 40) q1486 rfl rfl dX5_room_7 ?_
  refine v_iload_n (pc := 10) X dX5_room_10 1 rfl ?_
  refine v_iald (pc := 11) X wT_n7 wT_l7 dX5_room_11 ?_
  refine v_isub (pc := 12) X dX5_room_12 ?_
  exact v_iret (pc := 13) X dX5_room_13 rfl
/-! FloodLentModel.owed(I)I -/
abbrev rm_T_owed : Room := { frames := 1, cells := 0, slots := 0, locals := 21 }
theorem hy_T_owed : v_yV yX5_owed cX5_owed 2 (some .int) 1 := ⟨q1776, qs87, q141, q1777, by decide +kernel⟩
def t_T_owed (fu : Nat) (p1 : Int32) (s : v_S) : Option Int32 :=
  some (p1 + (((p1 * (s.1 1 6)) + (99 : Int32)) / (100 : Int32)))
theorem m_T_owed (l : Launch) (g : v_G) (fu : Nat) (p1 : Int32) (s : v_S) : v_M l yX5_owed cX5_owed 2 (some .int) rm_T_owed wT g [.ref (v_E g 0), .int p1] s (fun z : Int32 => (some (.int z), s)) (t_T_owed fu p1 s) := by
  refine v_met (by decide +kernel) (Nat.le_of_ble_eq_true rfl) (fun Γ X => ?_)
  refine v_lv (lv' := [(0, .ref (v_E g 0)), (1, .int p1)]) rfl ?_
  unfold t_T_owed
  refine v_iload_n (pc := 0) X dX5_owed_0 1 rfl ?_
  refine v_iload_n (pc := 1) X dX5_owed_1 1 rfl ?_
  refine v_aload_n (pc := 2) X dX5_owed_2 0 rfl ?_
  refine v_get (pc := 3) (kind := 4) (v := .ref (v_E g 1)) X wT_n0 wT_l0 wT_c0 in_X5 (Nat.le_of_ble_eq_true rfl : 1 < 40) q1472 rfl rfl dX5_owed_3 ?_
  refine v_bipush (pc := 6) (v := 6) X dX5_owed_6 rfl ?_
  refine v_ialdC (pc := 8) (k := 6) X wT_n1 wT_l1 rfl dX5_owed_8 ?_
  refine v_imul (pc := 9) X dX5_owed_9 ?_
  refine v_bipush (pc := 10) (v := 99) X dX5_owed_10 rfl ?_
  refine v_iadd (pc := 12) X dX5_owed_12 ?_
  refine v_bipush (pc := 13) (v := 100) X dX5_owed_13 rfl ?_
  refine v_idivC (pc := 15) X (by decide) dX5_owed_15 ?_
  refine v_iadd (pc := 16) X dX5_owed_16 ?_
  exact v_iret (pc := 17) X dX5_owed_17 rfl
/-! FloodLentModel.floodsIn(I)V -/
abbrev rm_T_floodsIn : Room := { frames := 3, cells := 0, slots := 0, locals := 64 }
theorem hy_T_floodsIn : v_yV yX5_floodsIn cX5_floodsIn 4 none 1 := ⟨q1760, qs83, q141, q1761, by decide +kernel⟩
def t_T_floodsIn_2 (fu : Nat) (p1 : Int32) (r2 : Int32 × v_S → Option v_S) (x2 : Int32) (s : v_S) : Option v_S :=
if s.1 1 2 ≤ x2 then (some s) else (v_b1 (t_T_takerNow fu x2 s) fun (z_1 : Int32) => v_b1 (t_T_ofFlood fu x2 (0 : Int32) s) fun (z_2 : Int32) => if z_2 = p1 then (if z_1 = (-1 : Int32) then (r2 (x2 + (1 : Int32), s)) else (v_b1 (t_T_ofFlood fu x2 (1 : Int32) s) fun (z_3 : Int32) => v_b1 (t_T_room fu z_1 s) fun (z_4 : Int32) => v_g (((3 : Int32) * x2) + (0 : Int32)) 9 <| v_n (v_uI s 9 (Int32.toNatClampNeg (((3 : Int32) * x2) + (0 : Int32))) (if z_4 < z_3 then z_4 else z_3)) fun (s_5 : v_S) => v_g (((3 : Int32) * x2) + (0 : Int32)) 9 <| v_b1 (t_T_owed fu (s_5.1 9 (Int32.toNatClampNeg (((3 : Int32) * x2) + (0 : Int32)))) s_5) fun (z_6 : Int32) => v_g (((3 : Int32) * x2) + (1 : Int32)) 9 <| v_n (v_uI s_5 9 (Int32.toNatClampNeg (((3 : Int32) * x2) + (1 : Int32))) z_6) fun (s_7 : v_S) => v_g z_1 6 <| v_g (((3 : Int32) * x2) + (0 : Int32)) 9 <| v_g z_1 6 <| v_n (v_uI s_7 7 (Int32.toNatClampNeg z_1) ((s_7.1 7 (Int32.toNatClampNeg z_1)) + (s_7.1 9 (Int32.toNatClampNeg (((3 : Int32) * x2) + (0 : Int32)))))) fun (s_8 : v_S) => r2 (x2 + (1 : Int32), s_8))) else (r2 (x2 + (1 : Int32), s)))
def t_T_floodsIn_2B (fu : Nat) (p1 : Int32) (r2 : Int32 × v_S → Option v_S) (a : Int32 × v_S) : Option v_S := t_T_floodsIn_2 fu p1 r2 a.1 a.2
def t_T_floodsIn (fu : Nat) (p1 : Int32) (s : v_S) : Option v_S :=
  v_loop (t_T_floodsIn_2B fu p1) fu ((0 : Int32), s)
theorem w_T_floodsIn_2 {Γ : v_Ctx} {l : Launch} {g : v_G} (fu : Nat) (p1 : Int32) (X : v_C Γ l rm_T_floodsIn cX5_floodsIn 4 RX5 none wT g) (r2 : Int32 × v_S → Option v_S) (h2 : ∀ (x2 : Int32) (s : v_S), v_V Γ 4 wT g (fun z : v_S => ((none : Option Value), z)) 2 [(0, .ref (v_E g 0)), (1, .int p1), (2, .int x2)] [] s (r2 (x2, s))) (x2 : Int32) (s : v_S) : v_V Γ 4 wT g (fun z : v_S => ((none : Option Value), z)) 2 [(0, .ref (v_E g 0)), (1, .int p1), (2, .int x2)] [] s (t_T_floodsIn_2 fu p1 r2 x2 s) := by
  unfold t_T_floodsIn_2
  refine v_iload_n (pc := 2) X dX5_floodsIn_2 2 rfl ?_
  refine v_aload_n (pc := 3) X dX5_floodsIn_3 0 rfl ?_
  refine v_get (pc := 4) (kind := 4) (v := .ref (v_E g 1)) X wT_n0 wT_l0 wT_c0 in_X5 (Nat.le_of_ble_eq_true rfl : 1 < 40) q1472 rfl rfl dX5_floodsIn_4 ?_
  refine v_iconst (pc := 7) (v := 2) X dX5_floodsIn_7 rfl ?_
  refine v_ialdC (pc := 8) (k := 2) X wT_n1 wT_l1 rfl dX5_floodsIn_8 ?_
  refine v_icmp_ge (pc := 9) (tgt := 109) X dX5_floodsIn_9 (by decide) (fun c9 => ?_) (fun c9 => ?_)
  · exact v_vret (pc := 109) X dX5_floodsIn_109 rfl
  · refine v_aload_n (pc := 12) X dX5_floodsIn_12 0 rfl ?_
    refine v_iload_n (pc := 13) X dX5_floodsIn_13 2 rfl ?_
    refine v_cGi (pc := 14) X (m_T_takerNow l g fu x2 _) (v_rc_n X wT_o0) (Or.inl q1762) hy_T_takerNow rfl rfl rfl rfl dX5_floodsIn_14 (fun z_1 _ => ?_)
    refine v_istore_n (pc := 17) (lv' := [(3, .int z_1), (0, .ref (v_E g 0)), (1, .int p1), (2, .int x2)]) X dX5_floodsIn_17 rfl (Nat.le_of_ble_eq_true rfl) rfl ?_
    refine v_aload_n (pc := 18) X dX5_floodsIn_18 1 rfl ?_
    refine v_iload_n (pc := 19) X dX5_floodsIn_19 3 rfl ?_
    refine v_iconst (pc := 20) (v := 0) X dX5_floodsIn_20 rfl ?_
    refine v_cGi (pc := 21) X (m_T_ofFlood l g fu x2 (0 : Int32) _) (v_rc_n X wT_o0) (Or.inl q1766) hy_T_ofFlood rfl rfl rfl rfl dX5_floodsIn_21 (fun z_2 _ => ?_)
    refine v_iload_n (pc := 24) X dX5_floodsIn_24 2 rfl ?_
    refine v_icmp_ne (pc := 25) (tgt := 103) X dX5_floodsIn_25 (by decide) (fun c25 => ?_) (fun c25 => ?_)
    · refine v_iinc (pc := 103) (v := x2 + (1 : Int32)) (lv' := [(2, .int (x2 + (1 : Int32))), (3, .int z_1), (0, .ref (v_E g 0)), (1, .int p1)]) (k := 3) X dX5_floodsIn_103 rfl rfl (Nat.le_of_ble_eq_true rfl) rfl ?_
      refine v_goto (pc := 106) (tgt := 2) X dX5_floodsIn_106 (by decide) ?_
      refine v_sub [2, 3, 0] rfl ?_
      exact h2 (x2 + (1 : Int32)) s
    · refine v_iload_n (pc := 28) X dX5_floodsIn_28 0 rfl ?_
      refine v_iconst (pc := 29) (v := -1) X dX5_floodsIn_29 rfl ?_
      refine v_icmp_ne (pc := 30) (tgt := 36) X dX5_floodsIn_30 (by decide) (fun c30 => ?_) (fun c30 => ?_)
      · refine v_aload_n (pc := 36) X dX5_floodsIn_36 1 rfl ?_
        refine v_get (pc := 37) (kind := 12) (v := .ref (v_E g 9)) X wT_n0 wT_l0 wT_c0 in_X5 (Nat.le_of_ble_eq_true rfl : 17 < 40) q1488 rfl rfl dX5_floodsIn_37 ?_
        refine v_iconst (pc := 40) (v := 3) X dX5_floodsIn_40 rfl ?_
        refine v_iload_n (pc := 41) X dX5_floodsIn_41 3 rfl ?_
        refine v_imul (pc := 42) X dX5_floodsIn_42 ?_
        refine v_iconst (pc := 43) (v := 0) X dX5_floodsIn_43 rfl ?_
        refine v_iadd (pc := 44) X dX5_floodsIn_44 ?_
        refine v_aload_n (pc := 45) X dX5_floodsIn_45 1 rfl ?_
        refine v_iload_n (pc := 46) X dX5_floodsIn_46 3 rfl ?_
        refine v_iconst (pc := 47) (v := 1) X dX5_floodsIn_47 rfl ?_
        refine v_cGi (pc := 48) X (m_T_ofFlood l g fu x2 (1 : Int32) _) (v_rc_n X wT_o0) (Or.inl q1766) hy_T_ofFlood rfl rfl rfl rfl dX5_floodsIn_48 (fun z_3 _ => ?_)
        refine v_aload_n (pc := 51) X dX5_floodsIn_51 1 rfl ?_
        refine v_iload_n (pc := 52) X dX5_floodsIn_52 0 rfl ?_
        refine v_cGi (pc := 53) X (m_T_room l g fu z_1 _) (v_rc_n X wT_o0) (Or.inl q1770) hy_T_room rfl rfl rfl rfl dX5_floodsIn_53 (fun z_4 _ => ?_)
        refine v_mmin (pc := 56) X q1634 q681 q143 q682 rfl dX5_floodsIn_56 ?_
        refine v_iast (pc := 59) X wT_n9 wT_l9 dX5_floodsIn_59 (fun s_5 => ?_)
        refine v_aload_n (pc := 60) X dX5_floodsIn_60 1 rfl ?_
        refine v_get (pc := 61) (kind := 12) (v := .ref (v_E g 9)) X wT_n0 wT_l0 wT_c0 in_X5 (Nat.le_of_ble_eq_true rfl : 17 < 40) q1488 rfl rfl dX5_floodsIn_61 ?_
        refine v_iconst (pc := 64) (v := 3) X dX5_floodsIn_64 rfl ?_
        refine v_iload_n (pc := 65) X dX5_floodsIn_65 3 rfl ?_
        refine v_imul (pc := 66) X dX5_floodsIn_66 ?_
        refine v_iconst (pc := 67) (v := 1) X dX5_floodsIn_67 rfl ?_
        refine v_iadd (pc := 68) X dX5_floodsIn_68 ?_
        refine v_aload_n (pc := 69) X dX5_floodsIn_69 1 rfl ?_
        refine v_aload_n (pc := 70) X dX5_floodsIn_70 1 rfl ?_
        refine v_get (pc := 71) (kind := 12) (v := .ref (v_E g 9)) X wT_n0 wT_l0 wT_c0 in_X5 (Nat.le_of_ble_eq_true rfl : 17 < 40) q1488 rfl rfl dX5_floodsIn_71 ?_
        refine v_iconst (pc := 74) (v := 3) X dX5_floodsIn_74 rfl ?_
        refine v_iload_n (pc := 75) X dX5_floodsIn_75 3 rfl ?_
        refine v_imul (pc := 76) X dX5_floodsIn_76 ?_
        refine v_iconst (pc := 77) (v := 0) X dX5_floodsIn_77 rfl ?_
        refine v_iadd (pc := 78) X dX5_floodsIn_78 ?_
        refine v_iald (pc := 79) X wT_n9 wT_l9 dX5_floodsIn_79 ?_
        refine v_cGi (pc := 80) X (m_T_owed l g fu (s_5.1 9 (Int32.toNatClampNeg (((3 : Int32) * x2) + (0 : Int32)))) _) (v_rc_n X wT_o0) (Or.inl q1774) hy_T_owed rfl rfl rfl rfl dX5_floodsIn_80 (fun z_6 _ => ?_)
        refine v_iast (pc := 83) X wT_n9 wT_l9 dX5_floodsIn_83 (fun s_7 => ?_)
        refine v_aload_n (pc := 84) X dX5_floodsIn_84 1 rfl ?_
        refine v_get (pc := 85) (kind := 10) (v := .ref (v_E g 7)) X wT_n0 wT_l0 wT_c0 in_X5 (Nat.le_of_ble_eq_true rfl : 15 < 40) q1486 rfl rfl dX5_floodsIn_85 ?_
        refine v_iload_n (pc := 88) X dX5_floodsIn_88 0 rfl ?_
        refine v_dup2_11 (pc := 89) X dX5_floodsIn_89 rfl rfl ?_
        refine v_iald (pc := 90) X wT_n7 wT_l7 dX5_floodsIn_90 ?_
        refine v_aload_n (pc := 91) X dX5_floodsIn_91 1 rfl ?_
        refine v_get (pc := 92) (kind := 12) (v := .ref (v_E g 9)) X wT_n0 wT_l0 wT_c0 in_X5 (Nat.le_of_ble_eq_true rfl : 17 < 40) q1488 rfl rfl dX5_floodsIn_92 ?_
        refine v_iconst (pc := 95) (v := 3) X dX5_floodsIn_95 rfl ?_
        refine v_iload_n (pc := 96) X dX5_floodsIn_96 3 rfl ?_
        refine v_imul (pc := 97) X dX5_floodsIn_97 ?_
        refine v_iconst (pc := 98) (v := 0) X dX5_floodsIn_98 rfl ?_
        refine v_iadd (pc := 99) X dX5_floodsIn_99 ?_
        refine v_iald (pc := 100) X wT_n9 wT_l9 dX5_floodsIn_100 ?_
        refine v_iadd (pc := 101) X dX5_floodsIn_101 ?_
        refine v_iast (pc := 102) X wT_n7 wT_l7 dX5_floodsIn_102 (fun s_8 => ?_)
        refine v_iinc (pc := 103) (v := x2 + (1 : Int32)) (lv' := [(2, .int (x2 + (1 : Int32))), (3, .int z_1), (0, .ref (v_E g 0)), (1, .int p1)]) (k := 3) X dX5_floodsIn_103 rfl rfl (Nat.le_of_ble_eq_true rfl) rfl ?_
        refine v_goto (pc := 106) (tgt := 2) X dX5_floodsIn_106 (by decide) ?_
        refine v_sub [2, 3, 0] rfl ?_
        exact h2 (x2 + (1 : Int32)) s_8
      · refine v_goto (pc := 33) (tgt := 103) X dX5_floodsIn_33 (by decide) ?_
        refine v_iinc (pc := 103) (v := x2 + (1 : Int32)) (lv' := [(2, .int (x2 + (1 : Int32))), (3, .int z_1), (0, .ref (v_E g 0)), (1, .int p1)]) (k := 3) X dX5_floodsIn_103 rfl rfl (Nat.le_of_ble_eq_true rfl) rfl ?_
        refine v_goto (pc := 106) (tgt := 2) X dX5_floodsIn_106 (by decide) ?_
        refine v_sub [2, 3, 0] rfl ?_
        exact h2 (x2 + (1 : Int32)) s
theorem w_T_floodsIn_2L {Γ : v_Ctx} {l : Launch} {g : v_G} (fu : Nat) (p1 : Int32) (X : v_C Γ l rm_T_floodsIn cX5_floodsIn 4 RX5 none wT g)  : ∀ (n : Nat), ∀ (x2 : Int32) (s : v_S), v_V Γ 4 wT g (fun z : v_S => ((none : Option Value), z)) 2 [(0, .ref (v_E g 0)), (1, .int p1), (2, .int x2)] [] s (v_loop (t_T_floodsIn_2B fu p1) n (x2, s)) := by
  intro n
  induction n with
  | zero => exact fun _ _ => v_none
  | succ n ih => exact fun x2 s => w_T_floodsIn_2 fu p1 X  _ ih x2 s
theorem m_T_floodsIn (l : Launch) (g : v_G) (fu : Nat) (p1 : Int32) (s : v_S) : v_M l yX5_floodsIn cX5_floodsIn 4 none rm_T_floodsIn wT g [.ref (v_E g 0), .int p1] s (fun z : v_S => ((none : Option Value), z)) (t_T_floodsIn fu p1 s) := by
  refine v_met (by decide +kernel) (Nat.le_of_ble_eq_true rfl) (fun Γ X => ?_)
  refine v_lv (lv' := [(0, .ref (v_E g 0)), (1, .int p1)]) rfl ?_
  unfold t_T_floodsIn
  refine v_iconst (pc := 0) (v := 0) X dX5_floodsIn_0 rfl ?_
  refine v_istore_n (pc := 1) (lv' := [(2, .int (0 : Int32)), (0, .ref (v_E g 0)), (1, .int p1)]) X dX5_floodsIn_1 rfl (Nat.le_of_ble_eq_true rfl) rfl ?_
  refine v_sub [1, 2, 0] rfl ?_
  exact w_T_floodsIn_2L fu p1 X  fu (0 : Int32) s
/-! FloodLentModel.ofLoan(II)I -/
abbrev rm_T_ofLoan : Room := { frames := 1, cells := 0, slots := 0, locals := 21 }
theorem hy_T_ofLoan : v_yV yX5_ofLoan cX5_ofLoan 3 (some .int) 2 := ⟨q1784, qs89, q141, q1785, by decide +kernel⟩
def t_T_ofLoan (fu : Nat) (p1 : Int32) (p2 : Int32) (s : v_S) : Option Int32 :=
  v_g (((117 : Int32) + ((5 : Int32) * p1)) + p2) 160 <| some (s.1 1 (Int32.toNatClampNeg (((117 : Int32) + ((5 : Int32) * p1)) + p2)))
theorem m_T_ofLoan (l : Launch) (g : v_G) (fu : Nat) (p1 : Int32) (p2 : Int32) (s : v_S) : v_M l yX5_ofLoan cX5_ofLoan 3 (some .int) rm_T_ofLoan wT g [.ref (v_E g 0), .int p1, .int p2] s (fun z : Int32 => (some (.int z), s)) (t_T_ofLoan fu p1 p2 s) := by
  refine v_met (by decide +kernel) (Nat.le_of_ble_eq_true rfl) (fun Γ X => ?_)
  refine v_lv (lv' := [(0, .ref (v_E g 0)), (1, .int p1), (2, .int p2)]) rfl ?_
  unfold t_T_ofLoan
  refine v_aload_n (pc := 0) X dX5_ofLoan_0 0 rfl ?_
  refine v_get (pc := 1) (kind := 4) (v := .ref (v_E g 1)) X wT_n0 wT_l0 wT_c0 in_X5 (Nat.le_of_ble_eq_true rfl : 1 < 40) q1472 rfl rfl dX5_ofLoan_1 ?_
  refine v_bipush (pc := 4) (v := 117) X dX5_ofLoan_4 rfl ?_
  refine v_iconst (pc := 6) (v := 5) X dX5_ofLoan_6 rfl ?_
  refine v_iload_n (pc := 7) X dX5_ofLoan_7 1 rfl ?_
  refine v_imul (pc := 8) X dX5_ofLoan_8 ?_
  refine v_iadd (pc := 9) X dX5_ofLoan_9 ?_
  refine v_iload_n (pc := 10) X dX5_ofLoan_10 2 rfl ?_
  refine v_iadd (pc := 11) X dX5_ofLoan_11 ?_
  refine v_iald (pc := 12) X wT_n1 wT_l1 dX5_ofLoan_12 ?_
  exact v_iret (pc := 13) X dX5_ofLoan_13 rfl
/-! FloodLentModel.loansIn(I)V -/
abbrev rm_T_loansIn : Room := { frames := 3, cells := 0, slots := 0, locals := 64 }
theorem hy_T_loansIn : v_yV yX5_loansIn cX5_loansIn 6 none 1 := ⟨q1780, qs88, q141, q1781, by decide +kernel⟩
def t_T_loansIn_2 (fu : Nat) (p1 : Int32) (r2 : Int32 × v_S → Option v_S) (x2 : Int32) (s : v_S) : Option v_S :=
if s.1 1 3 ≤ x2 then (some s) else (v_b1 (t_T_ofLoan fu x2 (0 : Int32) s) fun (z_1 : Int32) => v_b1 (t_T_ofLoan fu x2 (1 : Int32) s) fun (z_2 : Int32) => v_b1 (t_T_ofLoan fu x2 (3 : Int32) s) fun (z_3 : Int32) => if z_3 = p1 then (if z_1 = s.1 0 25 then (r2 (x2 + (1 : Int32), s)) else (v_b1 (t_T_ofLoan fu x2 (2 : Int32) s) fun (z_4 : Int32) => v_g z_1 6 <| v_b1 (t_T_room fu z_2 s) fun (z_5 : Int32) => v_n (if (if z_5 < (s.1 7 (Int32.toNatClampNeg z_1)) then z_5 else s.1 7 (Int32.toNatClampNeg z_1)) < z_4 then if z_5 < (s.1 7 (Int32.toNatClampNeg z_1)) then z_5 else s.1 7 (Int32.toNatClampNeg z_1) else z_4) fun (x5_6 : Int32) => v_g (((3 : Int32) * x2) + (0 : Int32)) 24 <| v_n (v_uI s 10 (Int32.toNatClampNeg (((3 : Int32) * x2) + (0 : Int32))) x5_6) fun (s_7 : v_S) => v_b1 (t_T_owed fu x5_6 s_7) fun (z_8 : Int32) => v_g (((3 : Int32) * x2) + (1 : Int32)) 24 <| v_n (v_uI s_7 10 (Int32.toNatClampNeg (((3 : Int32) * x2) + (1 : Int32))) z_8) fun (s_9 : v_S) => v_g z_1 6 <| v_g z_1 6 <| v_n (v_uI s_9 7 (Int32.toNatClampNeg z_1) ((s_9.1 7 (Int32.toNatClampNeg z_1)) - x5_6)) fun (s_10 : v_S) => v_g z_2 6 <| v_g z_2 6 <| v_n (v_uI s_10 7 (Int32.toNatClampNeg z_2) ((s_10.1 7 (Int32.toNatClampNeg z_2)) + x5_6)) fun (s_11 : v_S) => r2 (x2 + (1 : Int32), s_11))) else (r2 (x2 + (1 : Int32), s)))
def t_T_loansIn_2B (fu : Nat) (p1 : Int32) (r2 : Int32 × v_S → Option v_S) (a : Int32 × v_S) : Option v_S := t_T_loansIn_2 fu p1 r2 a.1 a.2
def t_T_loansIn (fu : Nat) (p1 : Int32) (s : v_S) : Option v_S :=
  v_loop (t_T_loansIn_2B fu p1) fu ((0 : Int32), s)
theorem w_T_loansIn_2 {Γ : v_Ctx} {l : Launch} {g : v_G} (fu : Nat) (p1 : Int32) (X : v_C Γ l rm_T_loansIn cX5_loansIn 6 RX5 none wT g) (r2 : Int32 × v_S → Option v_S) (h2 : ∀ (x2 : Int32) (s : v_S), v_V Γ 6 wT g (fun z : v_S => ((none : Option Value), z)) 2 [(0, .ref (v_E g 0)), (1, .int p1), (2, .int x2)] [] s (r2 (x2, s))) (x2 : Int32) (s : v_S) : v_V Γ 6 wT g (fun z : v_S => ((none : Option Value), z)) 2 [(0, .ref (v_E g 0)), (1, .int p1), (2, .int x2)] [] s (t_T_loansIn_2 fu p1 r2 x2 s) := by
  unfold t_T_loansIn_2
  refine v_iload_n (pc := 2) X dX5_loansIn_2 2 rfl ?_
  refine v_aload_n (pc := 3) X dX5_loansIn_3 0 rfl ?_
  refine v_get (pc := 4) (kind := 4) (v := .ref (v_E g 1)) X wT_n0 wT_l0 wT_c0 in_X5 (Nat.le_of_ble_eq_true rfl : 1 < 40) q1472 rfl rfl dX5_loansIn_4 ?_
  refine v_iconst (pc := 7) (v := 3) X dX5_loansIn_7 rfl ?_
  refine v_ialdC (pc := 8) (k := 3) X wT_n1 wT_l1 rfl dX5_loansIn_8 ?_
  refine v_icmp_ge (pc := 9) (tgt := 131) X dX5_loansIn_9 (by decide) (fun c9 => ?_) (fun c9 => ?_)
  · exact v_vret (pc := 131) X dX5_loansIn_131 rfl
  · refine v_aload_n (pc := 12) X dX5_loansIn_12 0 rfl ?_
    refine v_iload_n (pc := 13) X dX5_loansIn_13 2 rfl ?_
    refine v_iconst (pc := 14) (v := 0) X dX5_loansIn_14 rfl ?_
    refine v_cGi (pc := 15) X (m_T_ofLoan l g fu x2 (0 : Int32) _) (v_rc_n X wT_o0) (Or.inl q1782) hy_T_ofLoan rfl rfl rfl rfl dX5_loansIn_15 (fun z_1 _ => ?_)
    refine v_istore_n (pc := 18) (lv' := [(3, .int z_1), (0, .ref (v_E g 0)), (1, .int p1), (2, .int x2)]) X dX5_loansIn_18 rfl (Nat.le_of_ble_eq_true rfl) rfl ?_
    refine v_aload_n (pc := 19) X dX5_loansIn_19 1 rfl ?_
    refine v_iload_n (pc := 20) X dX5_loansIn_20 3 rfl ?_
    refine v_iconst (pc := 21) (v := 1) X dX5_loansIn_21 rfl ?_
    refine v_cGi (pc := 22) X (m_T_ofLoan l g fu x2 (1 : Int32) _) (v_rc_n X wT_o0) (Or.inl q1782) hy_T_ofLoan rfl rfl rfl rfl dX5_loansIn_22 (fun z_2 _ => ?_)
    refine v_istore (pc := 25) (lv' := [(4, .int z_2), (3, .int z_1), (0, .ref (v_E g 0)), (1, .int p1), (2, .int x2)]) X dX5_loansIn_25 (Nat.le_of_ble_eq_true rfl) rfl ?_
    refine v_aload_n (pc := 27) X dX5_loansIn_27 2 rfl ?_
    refine v_iload_n (pc := 28) X dX5_loansIn_28 4 rfl ?_
    refine v_iconst (pc := 29) (v := 3) X dX5_loansIn_29 rfl ?_
    refine v_cGi (pc := 30) X (m_T_ofLoan l g fu x2 (3 : Int32) _) (v_rc_n X wT_o0) (Or.inl q1782) hy_T_ofLoan rfl rfl rfl rfl dX5_loansIn_30 (fun z_3 _ => ?_)
    refine v_iload_n (pc := 33) X dX5_loansIn_33 3 rfl ?_
    refine v_icmp_ne (pc := 34) (tgt := 125) X dX5_loansIn_34 (by decide) (fun c34 => ?_) (fun c34 => ?_)
    · refine v_iinc (pc := 125) (v := x2 + (1 : Int32)) (lv' := [(2, .int (x2 + (1 : Int32))), (4, .int z_2), (3, .int z_1), (0, .ref (v_E g 0)), (1, .int p1)]) (k := 4) X dX5_loansIn_125 rfl rfl (Nat.le_of_ble_eq_true rfl) rfl ?_
      refine v_goto (pc := 128) (tgt := 2) X dX5_loansIn_128 (by decide) ?_
      refine v_sub [3, 4, 0] rfl ?_
      exact h2 (x2 + (1 : Int32)) s
    · refine v_iload_n (pc := 37) X dX5_loansIn_37 1 rfl ?_
      refine v_aload_n (pc := 38) X dX5_loansIn_38 2 rfl ?_
      refine v_get (pc := 39) (kind := 0) (v := .int (s.1 0 25)) X wT_n0 wT_l0 wT_c0 in_X5 (Nat.le_of_ble_eq_true rfl : 25 < 40) q1496 rfl rfl dX5_loansIn_39 ?_
      refine v_icmp_ne (pc := 42) (tgt := 48) X dX5_loansIn_42 (by decide) (fun c42 => ?_) (fun c42 => ?_)
      · refine v_aload_n (pc := 48) X dX5_loansIn_48 2 rfl ?_
        refine v_iload_n (pc := 49) X dX5_loansIn_49 4 rfl ?_
        refine v_iconst (pc := 50) (v := 2) X dX5_loansIn_50 rfl ?_
        refine v_cGi (pc := 51) X (m_T_ofLoan l g fu x2 (2 : Int32) _) (v_rc_n X wT_o0) (Or.inl q1782) hy_T_ofLoan rfl rfl rfl rfl dX5_loansIn_51 (fun z_4 _ => ?_)
        refine v_aload_n (pc := 54) X dX5_loansIn_54 2 rfl ?_
        refine v_get (pc := 55) (kind := 10) (v := .ref (v_E g 7)) X wT_n0 wT_l0 wT_c0 in_X5 (Nat.le_of_ble_eq_true rfl : 15 < 40) q1486 rfl rfl dX5_loansIn_55 ?_
        refine v_iload_n (pc := 58) X dX5_loansIn_58 1 rfl ?_
        refine v_iald (pc := 59) X wT_n7 wT_l7 dX5_loansIn_59 ?_
        refine v_aload_n (pc := 60) X dX5_loansIn_60 2 rfl ?_
        refine v_iload (pc := 61) X dX5_loansIn_61 0 rfl ?_
        refine v_cGi (pc := 63) X (m_T_room l g fu z_2 _) (v_rc_n X wT_o0) (Or.inl q1770) hy_T_room rfl rfl rfl rfl dX5_loansIn_63 (fun z_5 _ => ?_)
        refine v_mmin (pc := 66) X q1634 q681 q143 q682 rfl dX5_loansIn_66 ?_
        refine v_mmin (pc := 69) X q1634 q681 q143 q682 rfl dX5_loansIn_69 ?_
        refine v_istoreN (pc := 72) (lvf := fun x5_6 => [(5, .int x5_6), (4, .int z_2), (3, .int z_1), (0, .ref (v_E g 0)), (1, .int p1), (2, .int x2)]) X dX5_loansIn_72 (Nat.le_of_ble_eq_true rfl) (fun _ => rfl) (fun x5_6 => ?_)
        refine v_aload_n (pc := 74) X dX5_loansIn_74 3 rfl ?_
        refine v_get (pc := 75) (kind := 13) (v := .ref (v_E g 10)) X wT_n0 wT_l0 wT_c0 in_X5 (Nat.le_of_ble_eq_true rfl : 18 < 40) q1489 rfl rfl dX5_loansIn_75 ?_
        refine v_iconst (pc := 78) (v := 3) X dX5_loansIn_78 rfl ?_
        refine v_iload_n (pc := 79) X dX5_loansIn_79 5 rfl ?_
        refine v_imul (pc := 80) X dX5_loansIn_80 ?_
        refine v_iconst (pc := 81) (v := 0) X dX5_loansIn_81 rfl ?_
        refine v_iadd (pc := 82) X dX5_loansIn_82 ?_
        refine v_iload (pc := 83) X dX5_loansIn_83 0 rfl ?_
        refine v_iast (pc := 85) X wT_n10 wT_l10 dX5_loansIn_85 (fun s_7 => ?_)
        refine v_aload_n (pc := 86) X dX5_loansIn_86 3 rfl ?_
        refine v_get (pc := 87) (kind := 13) (v := .ref (v_E g 10)) X wT_n0 wT_l0 wT_c0 in_X5 (Nat.le_of_ble_eq_true rfl : 18 < 40) q1489 rfl rfl dX5_loansIn_87 ?_
        refine v_iconst (pc := 90) (v := 3) X dX5_loansIn_90 rfl ?_
        refine v_iload_n (pc := 91) X dX5_loansIn_91 5 rfl ?_
        refine v_imul (pc := 92) X dX5_loansIn_92 ?_
        refine v_iconst (pc := 93) (v := 1) X dX5_loansIn_93 rfl ?_
        refine v_iadd (pc := 94) X dX5_loansIn_94 ?_
        refine v_aload_n (pc := 95) X dX5_loansIn_95 3 rfl ?_
        refine v_iload (pc := 96) X dX5_loansIn_96 0 rfl ?_
        refine v_cGi (pc := 98) X (m_T_owed l g fu x5_6 _) (v_rc_n X wT_o0) (Or.inl q1774) hy_T_owed rfl rfl rfl rfl dX5_loansIn_98 (fun z_8 _ => ?_)
        refine v_iast (pc := 101) X wT_n10 wT_l10 dX5_loansIn_101 (fun s_9 => ?_)
        refine v_aload_n (pc := 102) X dX5_loansIn_102 3 rfl ?_
        refine v_get (pc := 103) (kind := 10) (v := .ref (v_E g 7)) X wT_n0 wT_l0 wT_c0 in_X5 (Nat.le_of_ble_eq_true rfl : 15 < 40) q1486 rfl rfl dX5_loansIn_103 ?_
        refine v_iload_n (pc := 106) X dX5_loansIn_106 2 rfl ?_
        refine v_dup2_11 (pc := 107) X dX5_loansIn_107 rfl rfl ?_
        refine v_iald (pc := 108) X wT_n7 wT_l7 dX5_loansIn_108 ?_
        refine v_iload (pc := 109) X dX5_loansIn_109 0 rfl ?_
        refine v_isub (pc := 111) X dX5_loansIn_111 ?_
        refine v_iast (pc := 112) X wT_n7 wT_l7 dX5_loansIn_112 (fun s_10 => ?_)
        refine v_aload_n (pc := 113) X dX5_loansIn_113 3 rfl ?_
        refine v_get (pc := 114) (kind := 10) (v := .ref (v_E g 7)) X wT_n0 wT_l0 wT_c0 in_X5 (Nat.le_of_ble_eq_true rfl : 15 < 40) q1486 rfl rfl dX5_loansIn_114 ?_
        refine v_iload (pc := 117) X dX5_loansIn_117 1 rfl ?_
        refine v_dup2_11 (pc := 119) X dX5_loansIn_119 rfl rfl ?_
        refine v_iald (pc := 120) X wT_n7 wT_l7 dX5_loansIn_120 ?_
        refine v_iload (pc := 121) X dX5_loansIn_121 0 rfl ?_
        refine v_iadd (pc := 123) X dX5_loansIn_123 ?_
        refine v_iast (pc := 124) X wT_n7 wT_l7 dX5_loansIn_124 (fun s_11 => ?_)
        refine v_iinc (pc := 125) (v := x2 + (1 : Int32)) (lv' := [(2, .int (x2 + (1 : Int32))), (5, .int x5_6), (4, .int z_2), (3, .int z_1), (0, .ref (v_E g 0)), (1, .int p1)]) (k := 5) X dX5_loansIn_125 rfl rfl (Nat.le_of_ble_eq_true rfl) rfl ?_
        refine v_goto (pc := 128) (tgt := 2) X dX5_loansIn_128 (by decide) ?_
        refine v_sub [4, 5, 0] rfl ?_
        exact h2 (x2 + (1 : Int32)) s_11
      · refine v_goto (pc := 45) (tgt := 125) X dX5_loansIn_45 (by decide) ?_
        refine v_iinc (pc := 125) (v := x2 + (1 : Int32)) (lv' := [(2, .int (x2 + (1 : Int32))), (4, .int z_2), (3, .int z_1), (0, .ref (v_E g 0)), (1, .int p1)]) (k := 4) X dX5_loansIn_125 rfl rfl (Nat.le_of_ble_eq_true rfl) rfl ?_
        refine v_goto (pc := 128) (tgt := 2) X dX5_loansIn_128 (by decide) ?_
        refine v_sub [3, 4, 0] rfl ?_
        exact h2 (x2 + (1 : Int32)) s
theorem w_T_loansIn_2L {Γ : v_Ctx} {l : Launch} {g : v_G} (fu : Nat) (p1 : Int32) (X : v_C Γ l rm_T_loansIn cX5_loansIn 6 RX5 none wT g)  : ∀ (n : Nat), ∀ (x2 : Int32) (s : v_S), v_V Γ 6 wT g (fun z : v_S => ((none : Option Value), z)) 2 [(0, .ref (v_E g 0)), (1, .int p1), (2, .int x2)] [] s (v_loop (t_T_loansIn_2B fu p1) n (x2, s)) := by
  intro n
  induction n with
  | zero => exact fun _ _ => v_none
  | succ n ih => exact fun x2 s => w_T_loansIn_2 fu p1 X  _ ih x2 s
theorem m_T_loansIn (l : Launch) (g : v_G) (fu : Nat) (p1 : Int32) (s : v_S) : v_M l yX5_loansIn cX5_loansIn 6 none rm_T_loansIn wT g [.ref (v_E g 0), .int p1] s (fun z : v_S => ((none : Option Value), z)) (t_T_loansIn fu p1 s) := by
  refine v_met (by decide +kernel) (Nat.le_of_ble_eq_true rfl) (fun Γ X => ?_)
  refine v_lv (lv' := [(0, .ref (v_E g 0)), (1, .int p1)]) rfl ?_
  unfold t_T_loansIn
  refine v_iconst (pc := 0) (v := 0) X dX5_loansIn_0 rfl ?_
  refine v_istore_n (pc := 1) (lv' := [(2, .int (0 : Int32)), (0, .ref (v_E g 0)), (1, .int p1)]) X dX5_loansIn_1 rfl (Nat.le_of_ble_eq_true rfl) rfl ?_
  refine v_sub [1, 2, 0] rfl ?_
  exact w_T_loansIn_2L fu p1 X  fu (0 : Int32) s
/-! FloodLentModel.wrongIn(I)V -/
abbrev rm_T_wrongIn : Room := { frames := 1, cells := 0, slots := 0, locals := 21 }
theorem hy_T_wrongIn : v_yV yX5_wrongIn cX5_wrongIn 2 none 1 := ⟨q1792, qs91, q141, q1793, by decide +kernel⟩
def t_T_wrongIn (fu : Nat) (p1 : Int32) (s : v_S) : Option v_S :=
  if s.1 0 23 = (-1 : Int32) then (v_n (v_uI s 0 23 p1) fun (s_2 : v_S) => some s_2) else (v_n (v_uI s 0 23 (s.1 0 23)) fun (s_1 : v_S) => some s_1)
theorem m_T_wrongIn (l : Launch) (g : v_G) (fu : Nat) (p1 : Int32) (s : v_S) : v_M l yX5_wrongIn cX5_wrongIn 2 none rm_T_wrongIn wT g [.ref (v_E g 0), .int p1] s (fun z : v_S => ((none : Option Value), z)) (t_T_wrongIn fu p1 s) := by
  refine v_met (by decide +kernel) (Nat.le_of_ble_eq_true rfl) (fun Γ X => ?_)
  refine v_lv (lv' := [(0, .ref (v_E g 0)), (1, .int p1)]) rfl ?_
  unfold t_T_wrongIn
  refine v_aload_n (pc := 0) X dX5_wrongIn_0 0 rfl ?_
  refine v_aload_n (pc := 1) X dX5_wrongIn_1 0 rfl ?_
  refine v_get (pc := 2) (kind := 0) (v := .int (s.1 0 23)) X wT_n0 wT_l0 wT_c0 in_X5 (Nat.le_of_ble_eq_true rfl : 23 < 40) q1494 rfl rfl dX5_wrongIn_2 ?_
  refine v_iconst (pc := 5) (v := -1) X dX5_wrongIn_5 rfl ?_
  refine v_icmp_ne (pc := 6) (tgt := 13) X dX5_wrongIn_6 (by decide) (fun c6 => ?_) (fun c6 => ?_)
  · refine v_aload_n (pc := 13) X dX5_wrongIn_13 0 rfl ?_
    refine v_get (pc := 14) (kind := 0) (v := .int (s.1 0 23)) X wT_n0 wT_l0 wT_c0 in_X5 (Nat.le_of_ble_eq_true rfl : 23 < 40) q1494 rfl rfl dX5_wrongIn_14 ?_
    refine v_putI (pc := 17) X wT_n0 wT_l0 wT_c0 in_X5 tyX5 tyX5_ok nmX5 (Nat.le_of_ble_eq_true rfl : 23 < 40) q1494 rfl rfl rfl dX5_wrongIn_17 (fun s_1 => ?_)
    exact v_vret (pc := 20) X dX5_wrongIn_20 rfl
  · refine v_iload_n (pc := 9) X dX5_wrongIn_9 1 rfl ?_
    refine v_goto (pc := 10) (tgt := 17) X dX5_wrongIn_10 (by decide) ?_
    refine v_putI (pc := 17) X wT_n0 wT_l0 wT_c0 in_X5 tyX5 tyX5_ok nmX5 (Nat.le_of_ble_eq_true rfl : 23 < 40) q1494 rfl rfl rfl dX5_wrongIn_17 (fun s_2 => ?_)
    exact v_vret (pc := 20) X dX5_wrongIn_20 rfl
/-! FloodLentModel.dueIn(I)V -/
abbrev rm_T_dueIn : Room := { frames := 3, cells := 0, slots := 0, locals := 64 }
theorem hy_T_dueIn : v_yV yX5_dueIn cX5_dueIn 6 none 1 := ⟨q1788, qs90, q141, q1789, by decide +kernel⟩
def t_T_dueIn_133 (fu : Nat) (p1 : Int32) (r133 : Int32 × v_S → Option v_S) (x2 : Int32) (s : v_S) : Option v_S :=
if s.1 1 2 ≤ x2 then (some s) else (if p1 = s.1 1 7 then (v_b1 (t_T_takerNow fu x2 s) fun (z_1 : Int32) => if z_1 = (-1 : Int32) then (r133 (x2 + (1 : Int32), s)) else (v_b1 (t_T_ofFlood fu x2 (0 : Int32) s) fun (z_2 : Int32) => if z_2 ≤ p1 then (v_g (((3 : Int32) * x2) + (1 : Int32)) 9 <| v_g z_1 6 <| v_n (if (s.1 7 (Int32.toNatClampNeg z_1)) < (s.1 9 (Int32.toNatClampNeg (((3 : Int32) * x2) + (1 : Int32)))) then s.1 7 (Int32.toNatClampNeg z_1) else s.1 9 (Int32.toNatClampNeg (((3 : Int32) * x2) + (1 : Int32)))) fun (x4_3 : Int32) => v_g (((3 : Int32) * x2) + (2 : Int32)) 9 <| v_n (v_uI s 9 (Int32.toNatClampNeg (((3 : Int32) * x2) + (2 : Int32))) x4_3) fun (s_4 : v_S) => v_g z_1 6 <| v_g z_1 6 <| v_n (v_uI s_4 7 (Int32.toNatClampNeg z_1) ((s_4.1 7 (Int32.toNatClampNeg z_1)) - x4_3)) fun (s_5 : v_S) => v_g (((3 : Int32) * x2) + (1 : Int32)) 9 <| if s_5.1 9 (Int32.toNatClampNeg (((3 : Int32) * x2) + (1 : Int32))) ≤ x4_3 then (r133 (x2 + (1 : Int32), s_5)) else (v_b1 (t_T_wrongIn fu p1 s_5) fun (s_6 : v_S) => r133 (x2 + (1 : Int32), s_6))) else (r133 (x2 + (1 : Int32), s)))) else (some s))
def t_T_dueIn_133B (fu : Nat) (p1 : Int32) (r133 : Int32 × v_S → Option v_S) (a : Int32 × v_S) : Option v_S := t_T_dueIn_133 fu p1 r133 a.1 a.2
def t_T_dueIn_2 (fu : Nat) (p1 : Int32) (r2 : Int32 × v_S → Option v_S) (x2 : Int32) (s : v_S) : Option v_S :=
if s.1 1 3 ≤ x2 then (v_loop (t_T_dueIn_133B fu p1) fu ((0 : Int32), s)) else (v_b1 (t_T_ofLoan fu x2 (4 : Int32) s) fun (z_7 : Int32) => if z_7 = p1 then (v_b1 (t_T_ofLoan fu x2 (0 : Int32) s) fun (z_8 : Int32) => v_b1 (t_T_ofLoan fu x2 (1 : Int32) s) fun (z_9 : Int32) => v_g (((3 : Int32) * x2) + (1 : Int32)) 24 <| v_g z_9 6 <| v_b1 (t_T_room fu z_8 s) fun (z_10 : Int32) => v_n (if (if z_10 < (s.1 7 (Int32.toNatClampNeg z_9)) then z_10 else s.1 7 (Int32.toNatClampNeg z_9)) < (s.1 10 (Int32.toNatClampNeg (((3 : Int32) * x2) + (1 : Int32)))) then if z_10 < (s.1 7 (Int32.toNatClampNeg z_9)) then z_10 else s.1 7 (Int32.toNatClampNeg z_9) else s.1 10 (Int32.toNatClampNeg (((3 : Int32) * x2) + (1 : Int32)))) fun (x5_11 : Int32) => v_g (((3 : Int32) * x2) + (2 : Int32)) 24 <| v_n (v_uI s 10 (Int32.toNatClampNeg (((3 : Int32) * x2) + (2 : Int32))) x5_11) fun (s_12 : v_S) => v_g z_9 6 <| v_g z_9 6 <| v_n (v_uI s_12 7 (Int32.toNatClampNeg z_9) ((s_12.1 7 (Int32.toNatClampNeg z_9)) - x5_11)) fun (s_13 : v_S) => v_g z_8 6 <| v_g z_8 6 <| v_n (v_uI s_13 7 (Int32.toNatClampNeg z_8) ((s_13.1 7 (Int32.toNatClampNeg z_8)) + x5_11)) fun (s_14 : v_S) => v_g (((3 : Int32) * x2) + (1 : Int32)) 24 <| if s_14.1 10 (Int32.toNatClampNeg (((3 : Int32) * x2) + (1 : Int32))) ≤ x5_11 then (r2 (x2 + (1 : Int32), s_14)) else (v_b1 (t_T_wrongIn fu p1 s_14) fun (s_15 : v_S) => r2 (x2 + (1 : Int32), s_15))) else (r2 (x2 + (1 : Int32), s)))
def t_T_dueIn_2B (fu : Nat) (p1 : Int32) (r2 : Int32 × v_S → Option v_S) (a : Int32 × v_S) : Option v_S := t_T_dueIn_2 fu p1 r2 a.1 a.2
def t_T_dueIn (fu : Nat) (p1 : Int32) (s : v_S) : Option v_S :=
  v_loop (t_T_dueIn_2B fu p1) fu ((0 : Int32), s)
theorem w_T_dueIn_133 {Γ : v_Ctx} {l : Launch} {g : v_G} (fu : Nat) (p1 : Int32) (X : v_C Γ l rm_T_dueIn cX5_dueIn 6 RX5 none wT g) (r133 : Int32 × v_S → Option v_S) (h133 : ∀ (x2 : Int32) (s : v_S), v_V Γ 6 wT g (fun z : v_S => ((none : Option Value), z)) 133 [(0, .ref (v_E g 0)), (1, .int p1), (2, .int x2)] [] s (r133 (x2, s))) (x2 : Int32) (s : v_S) : v_V Γ 6 wT g (fun z : v_S => ((none : Option Value), z)) 133 [(0, .ref (v_E g 0)), (1, .int p1), (2, .int x2)] [] s (t_T_dueIn_133 fu p1 r133 x2 s) := by
  unfold t_T_dueIn_133
  refine v_iload_n (pc := 133) X dX5_dueIn_133 2 rfl ?_
  refine v_aload_n (pc := 134) X dX5_dueIn_134 0 rfl ?_
  refine v_get (pc := 135) (kind := 4) (v := .ref (v_E g 1)) X wT_n0 wT_l0 wT_c0 in_X5 (Nat.le_of_ble_eq_true rfl : 1 < 40) q1472 rfl rfl dX5_dueIn_135 ?_
  refine v_iconst (pc := 138) (v := 2) X dX5_dueIn_138 rfl ?_
  refine v_ialdC (pc := 139) (k := 2) X wT_n1 wT_l1 rfl dX5_dueIn_139 ?_
  refine v_icmp_ge (pc := 140) (tgt := 248) X dX5_dueIn_140 (by decide) (fun c140 => ?_) (fun c140 => ?_)
  · exact v_vret (pc := 248) X dX5_dueIn_248 rfl
  · refine v_iload_n (pc := 143) X dX5_dueIn_143 1 rfl ?_
    refine v_aload_n (pc := 144) X dX5_dueIn_144 0 rfl ?_
    refine v_get (pc := 145) (kind := 4) (v := .ref (v_E g 1)) X wT_n0 wT_l0 wT_c0 in_X5 (Nat.le_of_ble_eq_true rfl : 1 < 40) q1472 rfl rfl dX5_dueIn_145 ?_
    refine v_bipush (pc := 148) (v := 7) X dX5_dueIn_148 rfl ?_
    refine v_ialdC (pc := 150) (k := 7) X wT_n1 wT_l1 rfl dX5_dueIn_150 ?_
    refine v_icmp_ne (pc := 151) (tgt := 248) X dX5_dueIn_151 (by decide) (fun c151 => ?_) (fun c151 => ?_)
    · exact v_vret (pc := 248) X dX5_dueIn_248 rfl
    · refine v_aload_n (pc := 154) X dX5_dueIn_154 0 rfl ?_
      refine v_iload_n (pc := 155) X dX5_dueIn_155 2 rfl ?_
      refine v_cGi (pc := 156) X (m_T_takerNow l g fu x2 _) (v_rc_n X wT_o0) (Or.inl q1762) hy_T_takerNow rfl rfl rfl rfl dX5_dueIn_156 (fun z_1 _ => ?_)
      refine v_istore_n (pc := 159) (lv' := [(3, .int z_1), (0, .ref (v_E g 0)), (1, .int p1), (2, .int x2)]) X dX5_dueIn_159 rfl (Nat.le_of_ble_eq_true rfl) rfl ?_
      refine v_iload_n (pc := 160) X dX5_dueIn_160 0 rfl ?_
      refine v_iconst (pc := 161) (v := -1) X dX5_dueIn_161 rfl ?_
      refine v_icmp_eq (pc := 162) (tgt := 242) X dX5_dueIn_162 (by decide) (fun c162 => ?_) (fun c162 => ?_)
      · refine v_iinc (pc := 242) (v := x2 + (1 : Int32)) (lv' := [(2, .int (x2 + (1 : Int32))), (3, .int z_1), (0, .ref (v_E g 0)), (1, .int p1)]) (k := 3) X dX5_dueIn_242 rfl rfl (Nat.le_of_ble_eq_true rfl) rfl ?_
        refine v_goto (pc := 245) (tgt := 133) X dX5_dueIn_245 (by decide) ?_
        refine v_sub [2, 3, 0] rfl ?_
        exact h133 (x2 + (1 : Int32)) s
      · refine v_aload_n (pc := 165) X dX5_dueIn_165 1 rfl ?_
        refine v_iload_n (pc := 166) X dX5_dueIn_166 3 rfl ?_
        refine v_iconst (pc := 167) (v := 0) X dX5_dueIn_167 rfl ?_
        refine v_cGi (pc := 168) X (m_T_ofFlood l g fu x2 (0 : Int32) _) (v_rc_n X wT_o0) (Or.inl q1766) hy_T_ofFlood rfl rfl rfl rfl dX5_dueIn_168 (fun z_2 _ => ?_)
        refine v_iload_n (pc := 171) X dX5_dueIn_171 2 rfl ?_
        refine v_icmp_le (pc := 172) (tgt := 178) X dX5_dueIn_172 (by decide) (fun c172 => ?_) (fun c172 => ?_)
        · refine v_aload_n (pc := 178) X dX5_dueIn_178 1 rfl ?_
          refine v_get (pc := 179) (kind := 12) (v := .ref (v_E g 9)) X wT_n0 wT_l0 wT_c0 in_X5 (Nat.le_of_ble_eq_true rfl : 17 < 40) q1488 rfl rfl dX5_dueIn_179 ?_
          refine v_iconst (pc := 182) (v := 3) X dX5_dueIn_182 rfl ?_
          refine v_iload_n (pc := 183) X dX5_dueIn_183 3 rfl ?_
          refine v_imul (pc := 184) X dX5_dueIn_184 ?_
          refine v_iconst (pc := 185) (v := 1) X dX5_dueIn_185 rfl ?_
          refine v_iadd (pc := 186) X dX5_dueIn_186 ?_
          refine v_iald (pc := 187) X wT_n9 wT_l9 dX5_dueIn_187 ?_
          refine v_aload_n (pc := 188) X dX5_dueIn_188 1 rfl ?_
          refine v_get (pc := 189) (kind := 10) (v := .ref (v_E g 7)) X wT_n0 wT_l0 wT_c0 in_X5 (Nat.le_of_ble_eq_true rfl : 15 < 40) q1486 rfl rfl dX5_dueIn_189 ?_
          refine v_iload_n (pc := 192) X dX5_dueIn_192 0 rfl ?_
          refine v_iald (pc := 193) X wT_n7 wT_l7 dX5_dueIn_193 ?_
          refine v_mmin (pc := 194) X q1634 q681 q143 q682 rfl dX5_dueIn_194 ?_
          refine v_istoreN (pc := 197) (lvf := fun x4_3 => [(4, .int x4_3), (3, .int z_1), (0, .ref (v_E g 0)), (1, .int p1), (2, .int x2)]) X dX5_dueIn_197 (Nat.le_of_ble_eq_true rfl) (fun _ => rfl) (fun x4_3 => ?_)
          refine v_aload_n (pc := 199) X dX5_dueIn_199 2 rfl ?_
          refine v_get (pc := 200) (kind := 12) (v := .ref (v_E g 9)) X wT_n0 wT_l0 wT_c0 in_X5 (Nat.le_of_ble_eq_true rfl : 17 < 40) q1488 rfl rfl dX5_dueIn_200 ?_
          refine v_iconst (pc := 203) (v := 3) X dX5_dueIn_203 rfl ?_
          refine v_iload_n (pc := 204) X dX5_dueIn_204 4 rfl ?_
          refine v_imul (pc := 205) X dX5_dueIn_205 ?_
          refine v_iconst (pc := 206) (v := 2) X dX5_dueIn_206 rfl ?_
          refine v_iadd (pc := 207) X dX5_dueIn_207 ?_
          refine v_iload (pc := 208) X dX5_dueIn_208 0 rfl ?_
          refine v_iast (pc := 210) X wT_n9 wT_l9 dX5_dueIn_210 (fun s_4 => ?_)
          refine v_aload_n (pc := 211) X dX5_dueIn_211 2 rfl ?_
          refine v_get (pc := 212) (kind := 10) (v := .ref (v_E g 7)) X wT_n0 wT_l0 wT_c0 in_X5 (Nat.le_of_ble_eq_true rfl : 15 < 40) q1486 rfl rfl dX5_dueIn_212 ?_
          refine v_iload_n (pc := 215) X dX5_dueIn_215 1 rfl ?_
          refine v_dup2_11 (pc := 216) X dX5_dueIn_216 rfl rfl ?_
          refine v_iald (pc := 217) X wT_n7 wT_l7 dX5_dueIn_217 ?_
          refine v_iload (pc := 218) X dX5_dueIn_218 0 rfl ?_
          refine v_isub (pc := 220) X dX5_dueIn_220 ?_
          refine v_iast (pc := 221) X wT_n7 wT_l7 dX5_dueIn_221 (fun s_5 => ?_)
          refine v_iload (pc := 222) X dX5_dueIn_222 0 rfl ?_
          refine v_aload_n (pc := 224) X dX5_dueIn_224 2 rfl ?_
          refine v_get (pc := 225) (kind := 12) (v := .ref (v_E g 9)) X wT_n0 wT_l0 wT_c0 in_X5 (Nat.le_of_ble_eq_true rfl : 17 < 40) q1488 rfl rfl dX5_dueIn_225 ?_
          refine v_iconst (pc := 228) (v := 3) X dX5_dueIn_228 rfl ?_
          refine v_iload_n (pc := 229) X dX5_dueIn_229 4 rfl ?_
          refine v_imul (pc := 230) X dX5_dueIn_230 ?_
          refine v_iconst (pc := 231) (v := 1) X dX5_dueIn_231 rfl ?_
          refine v_iadd (pc := 232) X dX5_dueIn_232 ?_
          refine v_iald (pc := 233) X wT_n9 wT_l9 dX5_dueIn_233 ?_
          refine v_icmp_ge (pc := 234) (tgt := 242) X dX5_dueIn_234 (by decide) (fun c234 => ?_) (fun c234 => ?_)
          · refine v_iinc (pc := 242) (v := x2 + (1 : Int32)) (lv' := [(2, .int (x2 + (1 : Int32))), (4, .int x4_3), (3, .int z_1), (0, .ref (v_E g 0)), (1, .int p1)]) (k := 4) X dX5_dueIn_242 rfl rfl (Nat.le_of_ble_eq_true rfl) rfl ?_
            refine v_goto (pc := 245) (tgt := 133) X dX5_dueIn_245 (by decide) ?_
            refine v_sub [3, 4, 0] rfl ?_
            exact h133 (x2 + (1 : Int32)) s_5
          · refine v_aload_n (pc := 237) X dX5_dueIn_237 2 rfl ?_
            refine v_iload_n (pc := 238) X dX5_dueIn_238 3 rfl ?_
            refine v_cGs (pc := 239) X (m_T_wrongIn l g fu p1 _) (v_rc_n X wT_o0) (Or.inl q1790) hy_T_wrongIn rfl rfl rfl rfl dX5_dueIn_239 (fun s_6 _ => ?_)
            refine v_iinc (pc := 242) (v := x2 + (1 : Int32)) (lv' := [(2, .int (x2 + (1 : Int32))), (4, .int x4_3), (3, .int z_1), (0, .ref (v_E g 0)), (1, .int p1)]) (k := 4) X dX5_dueIn_242 rfl rfl (Nat.le_of_ble_eq_true rfl) rfl ?_
            refine v_goto (pc := 245) (tgt := 133) X dX5_dueIn_245 (by decide) ?_
            refine v_sub [3, 4, 0] rfl ?_
            exact h133 (x2 + (1 : Int32)) s_6
        · refine v_goto (pc := 175) (tgt := 242) X dX5_dueIn_175 (by decide) ?_
          refine v_iinc (pc := 242) (v := x2 + (1 : Int32)) (lv' := [(2, .int (x2 + (1 : Int32))), (3, .int z_1), (0, .ref (v_E g 0)), (1, .int p1)]) (k := 3) X dX5_dueIn_242 rfl rfl (Nat.le_of_ble_eq_true rfl) rfl ?_
          refine v_goto (pc := 245) (tgt := 133) X dX5_dueIn_245 (by decide) ?_
          refine v_sub [2, 3, 0] rfl ?_
          exact h133 (x2 + (1 : Int32)) s
theorem w_T_dueIn_133L {Γ : v_Ctx} {l : Launch} {g : v_G} (fu : Nat) (p1 : Int32) (X : v_C Γ l rm_T_dueIn cX5_dueIn 6 RX5 none wT g)  : ∀ (n : Nat), ∀ (x2 : Int32) (s : v_S), v_V Γ 6 wT g (fun z : v_S => ((none : Option Value), z)) 133 [(0, .ref (v_E g 0)), (1, .int p1), (2, .int x2)] [] s (v_loop (t_T_dueIn_133B fu p1) n (x2, s)) := by
  intro n
  induction n with
  | zero => exact fun _ _ => v_none
  | succ n ih => exact fun x2 s => w_T_dueIn_133 fu p1 X  _ ih x2 s
theorem w_T_dueIn_2 {Γ : v_Ctx} {l : Launch} {g : v_G} (fu : Nat) (p1 : Int32) (X : v_C Γ l rm_T_dueIn cX5_dueIn 6 RX5 none wT g) (r2 : Int32 × v_S → Option v_S) (h2 : ∀ (x2 : Int32) (s : v_S), v_V Γ 6 wT g (fun z : v_S => ((none : Option Value), z)) 2 [(0, .ref (v_E g 0)), (1, .int p1), (2, .int x2)] [] s (r2 (x2, s))) (x2 : Int32) (s : v_S) : v_V Γ 6 wT g (fun z : v_S => ((none : Option Value), z)) 2 [(0, .ref (v_E g 0)), (1, .int p1), (2, .int x2)] [] s (t_T_dueIn_2 fu p1 r2 x2 s) := by
  unfold t_T_dueIn_2
  refine v_iload_n (pc := 2) X dX5_dueIn_2 2 rfl ?_
  refine v_aload_n (pc := 3) X dX5_dueIn_3 0 rfl ?_
  refine v_get (pc := 4) (kind := 4) (v := .ref (v_E g 1)) X wT_n0 wT_l0 wT_c0 in_X5 (Nat.le_of_ble_eq_true rfl : 1 < 40) q1472 rfl rfl dX5_dueIn_4 ?_
  refine v_iconst (pc := 7) (v := 3) X dX5_dueIn_7 rfl ?_
  refine v_ialdC (pc := 8) (k := 3) X wT_n1 wT_l1 rfl dX5_dueIn_8 ?_
  refine v_icmp_ge (pc := 9) (tgt := 131) X dX5_dueIn_9 (by decide) (fun c9 => ?_) (fun c9 => ?_)
  · refine v_iconst (pc := 131) (v := 0) X dX5_dueIn_131 rfl ?_
    refine v_istore_n (pc := 132) (lv' := [(2, .int (0 : Int32)), (0, .ref (v_E g 0)), (1, .int p1)]) X dX5_dueIn_132 rfl (Nat.le_of_ble_eq_true rfl) rfl ?_
    refine v_sub [1, 2, 0] rfl ?_
    exact w_T_dueIn_133L fu p1 X  fu (0 : Int32) s
  · refine v_aload_n (pc := 12) X dX5_dueIn_12 0 rfl ?_
    refine v_iload_n (pc := 13) X dX5_dueIn_13 2 rfl ?_
    refine v_iconst (pc := 14) (v := 4) X dX5_dueIn_14 rfl ?_
    refine v_cGi (pc := 15) X (m_T_ofLoan l g fu x2 (4 : Int32) _) (v_rc_n X wT_o0) (Or.inl q1782) hy_T_ofLoan rfl rfl rfl rfl dX5_dueIn_15 (fun z_7 _ => ?_)
    refine v_iload_n (pc := 18) X dX5_dueIn_18 1 rfl ?_
    refine v_icmp_eq (pc := 19) (tgt := 25) X dX5_dueIn_19 (by decide) (fun c19 => ?_) (fun c19 => ?_)
    · refine v_aload_n (pc := 25) X dX5_dueIn_25 0 rfl ?_
      refine v_iload_n (pc := 26) X dX5_dueIn_26 2 rfl ?_
      refine v_iconst (pc := 27) (v := 0) X dX5_dueIn_27 rfl ?_
      refine v_cGi (pc := 28) X (m_T_ofLoan l g fu x2 (0 : Int32) _) (v_rc_n X wT_o0) (Or.inl q1782) hy_T_ofLoan rfl rfl rfl rfl dX5_dueIn_28 (fun z_8 _ => ?_)
      refine v_istore_n (pc := 31) (lv' := [(3, .int z_8), (0, .ref (v_E g 0)), (1, .int p1), (2, .int x2)]) X dX5_dueIn_31 rfl (Nat.le_of_ble_eq_true rfl) rfl ?_
      refine v_aload_n (pc := 32) X dX5_dueIn_32 1 rfl ?_
      refine v_iload_n (pc := 33) X dX5_dueIn_33 3 rfl ?_
      refine v_iconst (pc := 34) (v := 1) X dX5_dueIn_34 rfl ?_
      refine v_cGi (pc := 35) X (m_T_ofLoan l g fu x2 (1 : Int32) _) (v_rc_n X wT_o0) (Or.inl q1782) hy_T_ofLoan rfl rfl rfl rfl dX5_dueIn_35 (fun z_9 _ => ?_)
      refine v_istore (pc := 38) (lv' := [(4, .int z_9), (3, .int z_8), (0, .ref (v_E g 0)), (1, .int p1), (2, .int x2)]) X dX5_dueIn_38 (Nat.le_of_ble_eq_true rfl) rfl ?_
      refine v_aload_n (pc := 40) X dX5_dueIn_40 2 rfl ?_
      refine v_get (pc := 41) (kind := 13) (v := .ref (v_E g 10)) X wT_n0 wT_l0 wT_c0 in_X5 (Nat.le_of_ble_eq_true rfl : 18 < 40) q1489 rfl rfl dX5_dueIn_41 ?_
      refine v_iconst (pc := 44) (v := 3) X dX5_dueIn_44 rfl ?_
      refine v_iload_n (pc := 45) X dX5_dueIn_45 4 rfl ?_
      refine v_imul (pc := 46) X dX5_dueIn_46 ?_
      refine v_iconst (pc := 47) (v := 1) X dX5_dueIn_47 rfl ?_
      refine v_iadd (pc := 48) X dX5_dueIn_48 ?_
      refine v_iald (pc := 49) X wT_n10 wT_l10 dX5_dueIn_49 ?_
      refine v_aload_n (pc := 50) X dX5_dueIn_50 2 rfl ?_
      refine v_get (pc := 51) (kind := 10) (v := .ref (v_E g 7)) X wT_n0 wT_l0 wT_c0 in_X5 (Nat.le_of_ble_eq_true rfl : 15 < 40) q1486 rfl rfl dX5_dueIn_51 ?_
      refine v_iload (pc := 54) X dX5_dueIn_54 0 rfl ?_
      refine v_iald (pc := 56) X wT_n7 wT_l7 dX5_dueIn_56 ?_
      refine v_aload_n (pc := 57) X dX5_dueIn_57 2 rfl ?_
      refine v_iload_n (pc := 58) X dX5_dueIn_58 1 rfl ?_
      refine v_cGi (pc := 59) X (m_T_room l g fu z_8 _) (v_rc_n X wT_o0) (Or.inl q1770) hy_T_room rfl rfl rfl rfl dX5_dueIn_59 (fun z_10 _ => ?_)
      refine v_mmin (pc := 62) X q1634 q681 q143 q682 rfl dX5_dueIn_62 ?_
      refine v_mmin (pc := 65) X q1634 q681 q143 q682 rfl dX5_dueIn_65 ?_
      refine v_istoreN (pc := 68) (lvf := fun x5_11 => [(5, .int x5_11), (4, .int z_9), (3, .int z_8), (0, .ref (v_E g 0)), (1, .int p1), (2, .int x2)]) X dX5_dueIn_68 (Nat.le_of_ble_eq_true rfl) (fun _ => rfl) (fun x5_11 => ?_)
      refine v_aload_n (pc := 70) X dX5_dueIn_70 3 rfl ?_
      refine v_get (pc := 71) (kind := 13) (v := .ref (v_E g 10)) X wT_n0 wT_l0 wT_c0 in_X5 (Nat.le_of_ble_eq_true rfl : 18 < 40) q1489 rfl rfl dX5_dueIn_71 ?_
      refine v_iconst (pc := 74) (v := 3) X dX5_dueIn_74 rfl ?_
      refine v_iload_n (pc := 75) X dX5_dueIn_75 5 rfl ?_
      refine v_imul (pc := 76) X dX5_dueIn_76 ?_
      refine v_iconst (pc := 77) (v := 2) X dX5_dueIn_77 rfl ?_
      refine v_iadd (pc := 78) X dX5_dueIn_78 ?_
      refine v_iload (pc := 79) X dX5_dueIn_79 0 rfl ?_
      refine v_iast (pc := 81) X wT_n10 wT_l10 dX5_dueIn_81 (fun s_12 => ?_)
      refine v_aload_n (pc := 82) X dX5_dueIn_82 3 rfl ?_
      refine v_get (pc := 83) (kind := 10) (v := .ref (v_E g 7)) X wT_n0 wT_l0 wT_c0 in_X5 (Nat.le_of_ble_eq_true rfl : 15 < 40) q1486 rfl rfl dX5_dueIn_83 ?_
      refine v_iload (pc := 86) X dX5_dueIn_86 1 rfl ?_
      refine v_dup2_11 (pc := 88) X dX5_dueIn_88 rfl rfl ?_
      refine v_iald (pc := 89) X wT_n7 wT_l7 dX5_dueIn_89 ?_
      refine v_iload (pc := 90) X dX5_dueIn_90 0 rfl ?_
      refine v_isub (pc := 92) X dX5_dueIn_92 ?_
      refine v_iast (pc := 93) X wT_n7 wT_l7 dX5_dueIn_93 (fun s_13 => ?_)
      refine v_aload_n (pc := 94) X dX5_dueIn_94 3 rfl ?_
      refine v_get (pc := 95) (kind := 10) (v := .ref (v_E g 7)) X wT_n0 wT_l0 wT_c0 in_X5 (Nat.le_of_ble_eq_true rfl : 15 < 40) q1486 rfl rfl dX5_dueIn_95 ?_
      refine v_iload_n (pc := 98) X dX5_dueIn_98 2 rfl ?_
      refine v_dup2_11 (pc := 99) X dX5_dueIn_99 rfl rfl ?_
      refine v_iald (pc := 100) X wT_n7 wT_l7 dX5_dueIn_100 ?_
      refine v_iload (pc := 101) X dX5_dueIn_101 0 rfl ?_
      refine v_iadd (pc := 103) X dX5_dueIn_103 ?_
      refine v_iast (pc := 104) X wT_n7 wT_l7 dX5_dueIn_104 (fun s_14 => ?_)
      refine v_iload (pc := 105) X dX5_dueIn_105 0 rfl ?_
      refine v_aload_n (pc := 107) X dX5_dueIn_107 3 rfl ?_
      refine v_get (pc := 108) (kind := 13) (v := .ref (v_E g 10)) X wT_n0 wT_l0 wT_c0 in_X5 (Nat.le_of_ble_eq_true rfl : 18 < 40) q1489 rfl rfl dX5_dueIn_108 ?_
      refine v_iconst (pc := 111) (v := 3) X dX5_dueIn_111 rfl ?_
      refine v_iload_n (pc := 112) X dX5_dueIn_112 5 rfl ?_
      refine v_imul (pc := 113) X dX5_dueIn_113 ?_
      refine v_iconst (pc := 114) (v := 1) X dX5_dueIn_114 rfl ?_
      refine v_iadd (pc := 115) X dX5_dueIn_115 ?_
      refine v_iald (pc := 116) X wT_n10 wT_l10 dX5_dueIn_116 ?_
      refine v_icmp_ge (pc := 117) (tgt := 125) X dX5_dueIn_117 (by decide) (fun c117 => ?_) (fun c117 => ?_)
      · refine v_iinc (pc := 125) (v := x2 + (1 : Int32)) (lv' := [(2, .int (x2 + (1 : Int32))), (5, .int x5_11), (4, .int z_9), (3, .int z_8), (0, .ref (v_E g 0)), (1, .int p1)]) (k := 5) X dX5_dueIn_125 rfl rfl (Nat.le_of_ble_eq_true rfl) rfl ?_
        refine v_goto (pc := 128) (tgt := 2) X dX5_dueIn_128 (by decide) ?_
        refine v_sub [4, 5, 0] rfl ?_
        exact h2 (x2 + (1 : Int32)) s_14
      · refine v_aload_n (pc := 120) X dX5_dueIn_120 3 rfl ?_
        refine v_iload_n (pc := 121) X dX5_dueIn_121 4 rfl ?_
        refine v_cGs (pc := 122) X (m_T_wrongIn l g fu p1 _) (v_rc_n X wT_o0) (Or.inl q1790) hy_T_wrongIn rfl rfl rfl rfl dX5_dueIn_122 (fun s_15 _ => ?_)
        refine v_iinc (pc := 125) (v := x2 + (1 : Int32)) (lv' := [(2, .int (x2 + (1 : Int32))), (5, .int x5_11), (4, .int z_9), (3, .int z_8), (0, .ref (v_E g 0)), (1, .int p1)]) (k := 5) X dX5_dueIn_125 rfl rfl (Nat.le_of_ble_eq_true rfl) rfl ?_
        refine v_goto (pc := 128) (tgt := 2) X dX5_dueIn_128 (by decide) ?_
        refine v_sub [4, 5, 0] rfl ?_
        exact h2 (x2 + (1 : Int32)) s_15
    · refine v_goto (pc := 22) (tgt := 125) X dX5_dueIn_22 (by decide) ?_
      refine v_iinc (pc := 125) (v := x2 + (1 : Int32)) (lv' := [(2, .int (x2 + (1 : Int32))), (0, .ref (v_E g 0)), (1, .int p1)]) (k := 2) X dX5_dueIn_125 rfl rfl (Nat.le_of_ble_eq_true rfl) rfl ?_
      refine v_goto (pc := 128) (tgt := 2) X dX5_dueIn_128 (by decide) ?_
      refine v_sub [1, 2, 0] rfl ?_
      exact h2 (x2 + (1 : Int32)) s
theorem w_T_dueIn_2L {Γ : v_Ctx} {l : Launch} {g : v_G} (fu : Nat) (p1 : Int32) (X : v_C Γ l rm_T_dueIn cX5_dueIn 6 RX5 none wT g)  : ∀ (n : Nat), ∀ (x2 : Int32) (s : v_S), v_V Γ 6 wT g (fun z : v_S => ((none : Option Value), z)) 2 [(0, .ref (v_E g 0)), (1, .int p1), (2, .int x2)] [] s (v_loop (t_T_dueIn_2B fu p1) n (x2, s)) := by
  intro n
  induction n with
  | zero => exact fun _ _ => v_none
  | succ n ih => exact fun x2 s => w_T_dueIn_2 fu p1 X  _ ih x2 s
theorem m_T_dueIn (l : Launch) (g : v_G) (fu : Nat) (p1 : Int32) (s : v_S) : v_M l yX5_dueIn cX5_dueIn 6 none rm_T_dueIn wT g [.ref (v_E g 0), .int p1] s (fun z : v_S => ((none : Option Value), z)) (t_T_dueIn fu p1 s) := by
  refine v_met (by decide +kernel) (Nat.le_of_ble_eq_true rfl) (fun Γ X => ?_)
  refine v_lv (lv' := [(0, .ref (v_E g 0)), (1, .int p1)]) rfl ?_
  unfold t_T_dueIn
  refine v_iconst (pc := 0) (v := 0) X dX5_dueIn_0 rfl ?_
  refine v_istore_n (pc := 1) (lv' := [(2, .int (0 : Int32)), (0, .ref (v_E g 0)), (1, .int p1)]) X dX5_dueIn_1 rfl (Nat.le_of_ble_eq_true rfl) rfl ?_
  refine v_sub [1, 2, 0] rfl ?_
  exact w_T_dueIn_2L fu p1 X  fu (0 : Int32) s
/-! FloodLentModel.ofCrop(II)I -/
abbrev rm_T_ofCrop : Room := { frames := 1, cells := 0, slots := 0, locals := 21 }
theorem hy_T_ofCrop : v_yV yX5_ofCrop cX5_ofCrop 3 (some .int) 2 := ⟨q1800, qs93, q141, q1801, by decide +kernel⟩
def t_T_ofCrop (fu : Nat) (p1 : Int32) (p2 : Int32) (s : v_S) : Option Int32 :=
  v_g (((38 : Int32) + ((5 : Int32) * p1)) + p2) 160 <| some (s.1 1 (Int32.toNatClampNeg (((38 : Int32) + ((5 : Int32) * p1)) + p2)))
theorem m_T_ofCrop (l : Launch) (g : v_G) (fu : Nat) (p1 : Int32) (p2 : Int32) (s : v_S) : v_M l yX5_ofCrop cX5_ofCrop 3 (some .int) rm_T_ofCrop wT g [.ref (v_E g 0), .int p1, .int p2] s (fun z : Int32 => (some (.int z), s)) (t_T_ofCrop fu p1 p2 s) := by
  refine v_met (by decide +kernel) (Nat.le_of_ble_eq_true rfl) (fun Γ X => ?_)
  refine v_lv (lv' := [(0, .ref (v_E g 0)), (1, .int p1), (2, .int p2)]) rfl ?_
  unfold t_T_ofCrop
  refine v_aload_n (pc := 0) X dX5_ofCrop_0 0 rfl ?_
  refine v_get (pc := 1) (kind := 4) (v := .ref (v_E g 1)) X wT_n0 wT_l0 wT_c0 in_X5 (Nat.le_of_ble_eq_true rfl : 1 < 40) q1472 rfl rfl dX5_ofCrop_1 ?_
  refine v_bipush (pc := 4) (v := 38) X dX5_ofCrop_4 rfl ?_
  refine v_iconst (pc := 6) (v := 5) X dX5_ofCrop_6 rfl ?_
  refine v_iload_n (pc := 7) X dX5_ofCrop_7 1 rfl ?_
  refine v_imul (pc := 8) X dX5_ofCrop_8 ?_
  refine v_iadd (pc := 9) X dX5_ofCrop_9 ?_
  refine v_iload_n (pc := 10) X dX5_ofCrop_10 2 rfl ?_
  refine v_iadd (pc := 11) X dX5_ofCrop_11 ?_
  refine v_iald (pc := 12) X wT_n1 wT_l1 dX5_ofCrop_12 ?_
  exact v_iret (pc := 13) X dX5_ofCrop_13 rfl
/-! FloodLentModel.cropsIn(I)V -/
abbrev rm_T_cropsIn : Room := { frames := 2, cells := 0, slots := 0, locals := 46 }
theorem hy_T_cropsIn : v_yV yX5_cropsIn cX5_cropsIn 4 none 1 := ⟨q1796, qs92, q141, q1797, by decide +kernel⟩
def t_T_cropsIn_162 (fu : Nat) (p1 : Int32) (r2 : Int32 × v_S → Option v_S) (x2 : Int32) (y0 : Int32) (y1 : Int32) (s : v_S) : Option v_S :=
v_g y1 24 <| v_n (v_uI s 11 (Int32.toNatClampNeg y1) y0) fun (s_7 : v_S) => v_b1 (t_T_wrongIn fu p1 s_7) fun (s_8 : v_S) => r2 (x2 + (1 : Int32), s_8)
def t_T_cropsIn_2 (fu : Nat) (p1 : Int32) (r2 : Int32 × v_S → Option v_S) (x2 : Int32) (s : v_S) : Option v_S :=
if s.1 1 1 ≤ x2 then (some s) else (v_b1 (t_T_ofCrop fu x2 (3 : Int32) s) fun (z_1 : Int32) => v_b1 (t_T_ofCrop fu x2 (4 : Int32) s) fun (z_2 : Int32) => v_b1 (t_T_in fu (Int32.toInt64 p1) (Int32.toInt64 z_1) (Int32.toInt64 z_2) s) fun (z_3 : Int32) => if z_3 = 0 then (r2 (x2 + (1 : Int32), s)) else (v_b1 (t_T_ofCrop fu x2 (0 : Int32) s) fun (z_4 : Int32) => v_g z_4 6 <| v_b1 (t_T_ofCrop fu x2 (1 : Int32) s) fun (z_5 : Int32) => if s.1 7 (Int32.toNatClampNeg z_4) < z_5 then (v_g (((3 : Int32) * x2) + (1 : Int32)) 24 <| v_g (((3 : Int32) * x2) + (1 : Int32)) 24 <| v_n (v_uI s 11 (Int32.toNatClampNeg (((3 : Int32) * x2) + (1 : Int32))) ((s.1 11 (Int32.toNatClampNeg (((3 : Int32) * x2) + (1 : Int32)))) + (1 : Int32))) fun (s_6 : v_S) => v_g (((3 : Int32) * x2) + (2 : Int32)) 24 <| if s_6.1 11 (Int32.toNatClampNeg (((3 : Int32) * x2) + (2 : Int32))) = (-1 : Int32) then (t_T_cropsIn_162 fu p1 r2 x2 p1 (((3 : Int32) * x2) + (2 : Int32)) s_6) else (v_g (((3 : Int32) * x2) + (2 : Int32)) 24 <| t_T_cropsIn_162 fu p1 r2 x2 (s_6.1 11 (Int32.toNatClampNeg (((3 : Int32) * x2) + (2 : Int32)))) (((3 : Int32) * x2) + (2 : Int32)) s_6)) else (v_g z_4 6 <| v_b1 (t_T_ofCrop fu x2 (1 : Int32) s) fun (z_9 : Int32) => v_g z_4 6 <| v_n (v_uI s 7 (Int32.toNatClampNeg z_4) ((s.1 7 (Int32.toNatClampNeg z_4)) - z_9)) fun (s_10 : v_S) => v_b1 (t_T_ofCrop fu x2 (1 : Int32) s_10) fun (z_11 : Int32) => v_n (v_uI s_10 0 22 ((s_10.1 0 22) + z_11)) fun (s_12 : v_S) => v_g (((3 : Int32) * x2) + (0 : Int32)) 24 <| v_b1 (t_T_ofCrop fu x2 (2 : Int32) s_12) fun (z_13 : Int32) => v_g (((3 : Int32) * x2) + (0 : Int32)) 24 <| v_n (v_uI s_12 11 (Int32.toNatClampNeg (((3 : Int32) * x2) + (0 : Int32))) ((s_12.1 11 (Int32.toNatClampNeg (((3 : Int32) * x2) + (0 : Int32)))) + z_13)) fun (s_14 : v_S) => r2 (x2 + (1 : Int32), s_14))))
def t_T_cropsIn_2B (fu : Nat) (p1 : Int32) (r2 : Int32 × v_S → Option v_S) (a : Int32 × v_S) : Option v_S := t_T_cropsIn_2 fu p1 r2 a.1 a.2
def t_T_cropsIn (fu : Nat) (p1 : Int32) (s : v_S) : Option v_S :=
  v_loop (t_T_cropsIn_2B fu p1) fu ((0 : Int32), s)
theorem w_T_cropsIn_162 {Γ : v_Ctx} {l : Launch} {g : v_G} (fu : Nat) (p1 : Int32) (X : v_C Γ l rm_T_cropsIn cX5_cropsIn 4 RX5 none wT g) (r2 : Int32 × v_S → Option v_S) (h2 : ∀ (x2 : Int32) (s : v_S), v_V Γ 4 wT g (fun z : v_S => ((none : Option Value), z)) 2 [(0, .ref (v_E g 0)), (1, .int p1), (2, .int x2)] [] s (r2 (x2, s))) (x2 : Int32) (y0 : Int32) (y1 : Int32) (s : v_S) : v_V Γ 4 wT g (fun z : v_S => ((none : Option Value), z)) 162 [(0, .ref (v_E g 0)), (1, .int p1), (2, .int x2)] [.int y0, .int y1, .ref (v_E g 11)] s (t_T_cropsIn_162 fu p1 r2 x2 y0 y1 s) := by
  unfold t_T_cropsIn_162
  refine v_iast (pc := 162) X wT_n11 wT_l11 dX5_cropsIn_162 (fun s_7 => ?_)
  refine v_aload_n (pc := 163) X dX5_cropsIn_163 0 rfl ?_
  refine v_iload_n (pc := 164) X dX5_cropsIn_164 1 rfl ?_
  refine v_cGs (pc := 165) X (m_T_wrongIn l g fu p1 _) (v_rc_n X wT_o0) (Or.inl q1790) hy_T_wrongIn rfl rfl rfl rfl dX5_cropsIn_165 (fun s_8 _ => ?_)
  refine v_iinc (pc := 168) (v := x2 + (1 : Int32)) (lv' := [(2, .int (x2 + (1 : Int32))), (0, .ref (v_E g 0)), (1, .int p1)]) (k := 2) X dX5_cropsIn_168 rfl rfl (Nat.le_of_ble_eq_true rfl) rfl ?_
  refine v_goto (pc := 171) (tgt := 2) X dX5_cropsIn_171 (by decide) ?_
  refine v_sub [1, 2, 0] rfl ?_
  exact h2 (x2 + (1 : Int32)) s_8
theorem w_T_cropsIn_2 {Γ : v_Ctx} {l : Launch} {g : v_G} (fu : Nat) (p1 : Int32) (X : v_C Γ l rm_T_cropsIn cX5_cropsIn 4 RX5 none wT g) (r2 : Int32 × v_S → Option v_S) (h2 : ∀ (x2 : Int32) (s : v_S), v_V Γ 4 wT g (fun z : v_S => ((none : Option Value), z)) 2 [(0, .ref (v_E g 0)), (1, .int p1), (2, .int x2)] [] s (r2 (x2, s))) (x2 : Int32) (s : v_S) : v_V Γ 4 wT g (fun z : v_S => ((none : Option Value), z)) 2 [(0, .ref (v_E g 0)), (1, .int p1), (2, .int x2)] [] s (t_T_cropsIn_2 fu p1 r2 x2 s) := by
  unfold t_T_cropsIn_2
  refine v_iload_n (pc := 2) X dX5_cropsIn_2 2 rfl ?_
  refine v_aload_n (pc := 3) X dX5_cropsIn_3 0 rfl ?_
  refine v_get (pc := 4) (kind := 4) (v := .ref (v_E g 1)) X wT_n0 wT_l0 wT_c0 in_X5 (Nat.le_of_ble_eq_true rfl : 1 < 40) q1472 rfl rfl dX5_cropsIn_4 ?_
  refine v_iconst (pc := 7) (v := 1) X dX5_cropsIn_7 rfl ?_
  refine v_ialdC (pc := 8) (k := 1) X wT_n1 wT_l1 rfl dX5_cropsIn_8 ?_
  refine v_icmp_ge (pc := 9) (tgt := 174) X dX5_cropsIn_9 (by decide) (fun c9 => ?_) (fun c9 => ?_)
  · exact v_vret (pc := 174) X dX5_cropsIn_174 rfl
  · refine v_iload_n (pc := 12) X dX5_cropsIn_12 1 rfl ?_
    refine v_i2l (pc := 13) X dX5_cropsIn_13 ?_
    refine v_aload_n (pc := 14) X dX5_cropsIn_14 0 rfl ?_
    refine v_iload_n (pc := 15) X dX5_cropsIn_15 2 rfl ?_
    refine v_iconst (pc := 16) (v := 3) X dX5_cropsIn_16 rfl ?_
    refine v_cGi (pc := 17) X (m_T_ofCrop l g fu x2 (3 : Int32) _) (v_rc_n X wT_o0) (Or.inl q1798) hy_T_ofCrop rfl rfl rfl rfl dX5_cropsIn_17 (fun z_1 _ => ?_)
    refine v_i2l (pc := 20) X dX5_cropsIn_20 ?_
    refine v_aload_n (pc := 21) X dX5_cropsIn_21 0 rfl ?_
    refine v_iload_n (pc := 22) X dX5_cropsIn_22 2 rfl ?_
    refine v_iconst (pc := 23) (v := 4) X dX5_cropsIn_23 rfl ?_
    refine v_cGi (pc := 24) X (m_T_ofCrop l g fu x2 (4 : Int32) _) (v_rc_n X wT_o0) (Or.inl q1798) hy_T_ofCrop rfl rfl rfl rfl dX5_cropsIn_24 (fun z_2 _ => ?_)
    refine v_i2l (pc := 27) X dX5_cropsIn_27 ?_
    refine v_cSi (pc := 28) X (m_T_in l g fu (Int32.toInt64 p1) (Int32.toInt64 z_1) (Int32.toInt64 z_2) _) q1598 hy_T_in rfl rfl rfl rfl dX5_cropsIn_28 (fun z_3 _ => ?_)
    refine v_if_ne (pc := 31) (tgt := 37) X dX5_cropsIn_31 (by decide) (fun c31 => ?_) (fun c31 => ?_)
    · refine v_aload_n (pc := 37) X dX5_cropsIn_37 0 rfl ?_
      refine v_iload_n (pc := 38) X dX5_cropsIn_38 2 rfl ?_
      refine v_iconst (pc := 39) (v := 0) X dX5_cropsIn_39 rfl ?_
      refine v_cGi (pc := 40) X (m_T_ofCrop l g fu x2 (0 : Int32) _) (v_rc_n X wT_o0) (Or.inl q1798) hy_T_ofCrop rfl rfl rfl rfl dX5_cropsIn_40 (fun z_4 _ => ?_)
      refine v_istore_n (pc := 43) (lv' := [(3, .int z_4), (0, .ref (v_E g 0)), (1, .int p1), (2, .int x2)]) X dX5_cropsIn_43 rfl (Nat.le_of_ble_eq_true rfl) rfl ?_
      refine v_aload_n (pc := 44) X dX5_cropsIn_44 1 rfl ?_
      refine v_get (pc := 45) (kind := 10) (v := .ref (v_E g 7)) X wT_n0 wT_l0 wT_c0 in_X5 (Nat.le_of_ble_eq_true rfl : 15 < 40) q1486 rfl rfl dX5_cropsIn_45 ?_
      refine v_iload_n (pc := 48) X dX5_cropsIn_48 0 rfl ?_
      refine v_iald (pc := 49) X wT_n7 wT_l7 dX5_cropsIn_49 ?_
      refine v_aload_n (pc := 50) X dX5_cropsIn_50 1 rfl ?_
      refine v_iload_n (pc := 51) X dX5_cropsIn_51 3 rfl ?_
      refine v_iconst (pc := 52) (v := 1) X dX5_cropsIn_52 rfl ?_
      refine v_cGi (pc := 53) X (m_T_ofCrop l g fu x2 (1 : Int32) _) (v_rc_n X wT_o0) (Or.inl q1798) hy_T_ofCrop rfl rfl rfl rfl dX5_cropsIn_53 (fun z_5 _ => ?_)
      refine v_icmp_lt (pc := 56) (tgt := 111) X dX5_cropsIn_56 (by decide) (fun c56 => ?_) (fun c56 => ?_)
      · refine v_aload_n (pc := 111) X dX5_cropsIn_111 1 rfl ?_
        refine v_get (pc := 112) (kind := 14) (v := .ref (v_E g 11)) X wT_n0 wT_l0 wT_c0 in_X5 (Nat.le_of_ble_eq_true rfl : 19 < 40) q1490 rfl rfl dX5_cropsIn_112 ?_
        refine v_iconst (pc := 115) (v := 3) X dX5_cropsIn_115 rfl ?_
        refine v_iload_n (pc := 116) X dX5_cropsIn_116 3 rfl ?_
        refine v_imul (pc := 117) X dX5_cropsIn_117 ?_
        refine v_iconst (pc := 118) (v := 1) X dX5_cropsIn_118 rfl ?_
        refine v_iadd (pc := 119) X dX5_cropsIn_119 ?_
        refine v_dup2_11 (pc := 120) X dX5_cropsIn_120 rfl rfl ?_
        refine v_iald (pc := 121) X wT_n11 wT_l11 dX5_cropsIn_121 ?_
        refine v_iconst (pc := 122) (v := 1) X dX5_cropsIn_122 rfl ?_
        refine v_iadd (pc := 123) X dX5_cropsIn_123 ?_
        refine v_iast (pc := 124) X wT_n11 wT_l11 dX5_cropsIn_124 (fun s_6 => ?_)
        refine v_aload_n (pc := 125) X dX5_cropsIn_125 1 rfl ?_
        refine v_get (pc := 126) (kind := 14) (v := .ref (v_E g 11)) X wT_n0 wT_l0 wT_c0 in_X5 (Nat.le_of_ble_eq_true rfl : 19 < 40) q1490 rfl rfl dX5_cropsIn_126 ?_
        refine v_iconst (pc := 129) (v := 3) X dX5_cropsIn_129 rfl ?_
        refine v_iload_n (pc := 130) X dX5_cropsIn_130 3 rfl ?_
        refine v_imul (pc := 131) X dX5_cropsIn_131 ?_
        refine v_iconst (pc := 132) (v := 2) X dX5_cropsIn_132 rfl ?_
        refine v_iadd (pc := 133) X dX5_cropsIn_133 ?_
        refine v_aload_n (pc := 134) X dX5_cropsIn_134 1 rfl ?_
        refine v_get (pc := 135) (kind := 14) (v := .ref (v_E g 11)) X wT_n0 wT_l0 wT_c0 in_X5 (Nat.le_of_ble_eq_true rfl : 19 < 40) q1490 rfl rfl dX5_cropsIn_135 ?_
        refine v_iconst (pc := 138) (v := 3) X dX5_cropsIn_138 rfl ?_
        refine v_iload_n (pc := 139) X dX5_cropsIn_139 3 rfl ?_
        refine v_imul (pc := 140) X dX5_cropsIn_140 ?_
        refine v_iconst (pc := 141) (v := 2) X dX5_cropsIn_141 rfl ?_
        refine v_iadd (pc := 142) X dX5_cropsIn_142 ?_
        refine v_iald (pc := 143) X wT_n11 wT_l11 dX5_cropsIn_143 ?_
        refine v_iconst (pc := 144) (v := -1) X dX5_cropsIn_144 rfl ?_
        refine v_icmp_ne (pc := 145) (tgt := 152) X dX5_cropsIn_145 (by decide) (fun c145 => ?_) (fun c145 => ?_)
        · refine v_aload_n (pc := 152) X dX5_cropsIn_152 1 rfl ?_
          refine v_get (pc := 153) (kind := 14) (v := .ref (v_E g 11)) X wT_n0 wT_l0 wT_c0 in_X5 (Nat.le_of_ble_eq_true rfl : 19 < 40) q1490 rfl rfl dX5_cropsIn_153 ?_
          refine v_iconst (pc := 156) (v := 3) X dX5_cropsIn_156 rfl ?_
          refine v_iload_n (pc := 157) X dX5_cropsIn_157 3 rfl ?_
          refine v_imul (pc := 158) X dX5_cropsIn_158 ?_
          refine v_iconst (pc := 159) (v := 2) X dX5_cropsIn_159 rfl ?_
          refine v_iadd (pc := 160) X dX5_cropsIn_160 ?_
          refine v_iald (pc := 161) X wT_n11 wT_l11 dX5_cropsIn_161 ?_
          refine v_sub [1, 2, 3] rfl ?_
          exact w_T_cropsIn_162 fu p1 X r2 h2 x2 (s_6.1 11 (Int32.toNatClampNeg (((3 : Int32) * x2) + (2 : Int32)))) (((3 : Int32) * x2) + (2 : Int32)) s_6
        · refine v_iload_n (pc := 148) X dX5_cropsIn_148 2 rfl ?_
          refine v_goto (pc := 149) (tgt := 162) X dX5_cropsIn_149 (by decide) ?_
          refine v_sub [1, 2, 3] rfl ?_
          exact w_T_cropsIn_162 fu p1 X r2 h2 x2 p1 (((3 : Int32) * x2) + (2 : Int32)) s_6
      · refine v_aload_n (pc := 59) X dX5_cropsIn_59 1 rfl ?_
        refine v_get (pc := 60) (kind := 10) (v := .ref (v_E g 7)) X wT_n0 wT_l0 wT_c0 in_X5 (Nat.le_of_ble_eq_true rfl : 15 < 40) q1486 rfl rfl dX5_cropsIn_60 ?_
        refine v_iload_n (pc := 63) X dX5_cropsIn_63 0 rfl ?_
        refine v_dup2_11 (pc := 64) X dX5_cropsIn_64 rfl rfl ?_
        refine v_iald (pc := 65) X wT_n7 wT_l7 dX5_cropsIn_65 ?_
        refine v_aload_n (pc := 66) X dX5_cropsIn_66 1 rfl ?_
        refine v_iload_n (pc := 67) X dX5_cropsIn_67 3 rfl ?_
        refine v_iconst (pc := 68) (v := 1) X dX5_cropsIn_68 rfl ?_
        refine v_cGi (pc := 69) X (m_T_ofCrop l g fu x2 (1 : Int32) _) (v_rc_n X wT_o0) (Or.inl q1798) hy_T_ofCrop rfl rfl rfl rfl dX5_cropsIn_69 (fun z_9 _ => ?_)
        refine v_isub (pc := 72) X dX5_cropsIn_72 ?_
        refine v_iast (pc := 73) X wT_n7 wT_l7 dX5_cropsIn_73 (fun s_10 => ?_)
        refine v_aload_n (pc := 74) X dX5_cropsIn_74 1 rfl ?_
        refine v_dup (pc := 75) X dX5_cropsIn_75 rfl ?_
        refine v_get (pc := 76) (kind := 0) (v := .int (s_10.1 0 22)) X wT_n0 wT_l0 wT_c0 in_X5 (Nat.le_of_ble_eq_true rfl : 22 < 40) q1493 rfl rfl dX5_cropsIn_76 ?_
        refine v_aload_n (pc := 79) X dX5_cropsIn_79 1 rfl ?_
        refine v_iload_n (pc := 80) X dX5_cropsIn_80 3 rfl ?_
        refine v_iconst (pc := 81) (v := 1) X dX5_cropsIn_81 rfl ?_
        refine v_cGi (pc := 82) X (m_T_ofCrop l g fu x2 (1 : Int32) _) (v_rc_n X wT_o0) (Or.inl q1798) hy_T_ofCrop rfl rfl rfl rfl dX5_cropsIn_82 (fun z_11 _ => ?_)
        refine v_iadd (pc := 85) X dX5_cropsIn_85 ?_
        refine v_putI (pc := 86) X wT_n0 wT_l0 wT_c0 in_X5 tyX5 tyX5_ok nmX5 (Nat.le_of_ble_eq_true rfl : 22 < 40) q1493 rfl rfl rfl dX5_cropsIn_86 (fun s_12 => ?_)
        refine v_aload_n (pc := 89) X dX5_cropsIn_89 1 rfl ?_
        refine v_get (pc := 90) (kind := 14) (v := .ref (v_E g 11)) X wT_n0 wT_l0 wT_c0 in_X5 (Nat.le_of_ble_eq_true rfl : 19 < 40) q1490 rfl rfl dX5_cropsIn_90 ?_
        refine v_iconst (pc := 93) (v := 3) X dX5_cropsIn_93 rfl ?_
        refine v_iload_n (pc := 94) X dX5_cropsIn_94 3 rfl ?_
        refine v_imul (pc := 95) X dX5_cropsIn_95 ?_
        refine v_iconst (pc := 96) (v := 0) X dX5_cropsIn_96 rfl ?_
        refine v_iadd (pc := 97) X dX5_cropsIn_97 ?_
        refine v_dup2_11 (pc := 98) X dX5_cropsIn_98 rfl rfl ?_
        refine v_iald (pc := 99) X wT_n11 wT_l11 dX5_cropsIn_99 ?_
        refine v_aload_n (pc := 100) X dX5_cropsIn_100 1 rfl ?_
        refine v_iload_n (pc := 101) X dX5_cropsIn_101 3 rfl ?_
        refine v_iconst (pc := 102) (v := 2) X dX5_cropsIn_102 rfl ?_
        refine v_cGi (pc := 103) X (m_T_ofCrop l g fu x2 (2 : Int32) _) (v_rc_n X wT_o0) (Or.inl q1798) hy_T_ofCrop rfl rfl rfl rfl dX5_cropsIn_103 (fun z_13 _ => ?_)
        refine v_iadd (pc := 106) X dX5_cropsIn_106 ?_
        refine v_iast (pc := 107) X wT_n11 wT_l11 dX5_cropsIn_107 (fun s_14 => ?_)
        refine v_goto (pc := 108) (tgt := 168) X dX5_cropsIn_108 (by decide) ?_
        refine v_iinc (pc := 168) (v := x2 + (1 : Int32)) (lv' := [(2, .int (x2 + (1 : Int32))), (3, .int z_4), (0, .ref (v_E g 0)), (1, .int p1)]) (k := 3) X dX5_cropsIn_168 rfl rfl (Nat.le_of_ble_eq_true rfl) rfl ?_
        refine v_goto (pc := 171) (tgt := 2) X dX5_cropsIn_171 (by decide) ?_
        refine v_sub [2, 3, 0] rfl ?_
        exact h2 (x2 + (1 : Int32)) s_14
    · refine v_goto (pc := 34) (tgt := 168) X dX5_cropsIn_34 (by decide) ?_
      refine v_iinc (pc := 168) (v := x2 + (1 : Int32)) (lv' := [(2, .int (x2 + (1 : Int32))), (0, .ref (v_E g 0)), (1, .int p1)]) (k := 2) X dX5_cropsIn_168 rfl rfl (Nat.le_of_ble_eq_true rfl) rfl ?_
      refine v_goto (pc := 171) (tgt := 2) X dX5_cropsIn_171 (by decide) ?_
      refine v_sub [1, 2, 0] rfl ?_
      exact h2 (x2 + (1 : Int32)) s
theorem w_T_cropsIn_2L {Γ : v_Ctx} {l : Launch} {g : v_G} (fu : Nat) (p1 : Int32) (X : v_C Γ l rm_T_cropsIn cX5_cropsIn 4 RX5 none wT g)  : ∀ (n : Nat), ∀ (x2 : Int32) (s : v_S), v_V Γ 4 wT g (fun z : v_S => ((none : Option Value), z)) 2 [(0, .ref (v_E g 0)), (1, .int p1), (2, .int x2)] [] s (v_loop (t_T_cropsIn_2B fu p1) n (x2, s)) := by
  intro n
  induction n with
  | zero => exact fun _ _ => v_none
  | succ n ih => exact fun x2 s => w_T_cropsIn_2 fu p1 X  _ ih x2 s
theorem m_T_cropsIn (l : Launch) (g : v_G) (fu : Nat) (p1 : Int32) (s : v_S) : v_M l yX5_cropsIn cX5_cropsIn 4 none rm_T_cropsIn wT g [.ref (v_E g 0), .int p1] s (fun z : v_S => ((none : Option Value), z)) (t_T_cropsIn fu p1 s) := by
  refine v_met (by decide +kernel) (Nat.le_of_ble_eq_true rfl) (fun Γ X => ?_)
  refine v_lv (lv' := [(0, .ref (v_E g 0)), (1, .int p1)]) rfl ?_
  unfold t_T_cropsIn
  refine v_iconst (pc := 0) (v := 0) X dX5_cropsIn_0 rfl ?_
  refine v_istore_n (pc := 1) (lv' := [(2, .int (0 : Int32)), (0, .ref (v_E g 0)), (1, .int p1)]) X dX5_cropsIn_1 rfl (Nat.le_of_ble_eq_true rfl) rfl ?_
  refine v_sub [1, 2, 0] rfl ?_
  exact w_T_cropsIn_2L fu p1 X  fu (0 : Int32) s
/-! FloodLentModel.losesIn(I)V -/
abbrev rm_T_losesIn : Room := { frames := 3, cells := 0, slots := 0, locals := 64 }
theorem hy_T_losesIn : v_yV yX5_losesIn cX5_losesIn 5 none 1 := ⟨q1804, qs94, q141, q1805, by decide +kernel⟩
def t_T_losesIn_147 (fu : Nat) (p1 : Int32) (r72 : Int32 × v_S → Option v_S) (x2 : Int32) (x3 : Int32) (x4 : Int32) (s : v_S) : Option v_S :=
v_n (v_uI s 0 21 ((s.1 0 21) + (x3 - x4))) fun (s_9 : v_S) => r72 (x2 + (-1 : Int32), s_9)
def t_T_losesIn_127 (fu : Nat) (p1 : Int32) (r72 : Int32 × v_S → Option v_S) (x2 : Int32) (x3 : Int32) (y0 : Int32) (s : v_S) : Option v_S :=
if y0 ≤ 0 then (t_T_losesIn_147 fu p1 r72 x2 x3 y0 s) else (v_g (x2 + (1 : Int32)) 6 <| v_g (x2 + (1 : Int32)) 6 <| v_n (v_uI s 7 (Int32.toNatClampNeg (x2 + (1 : Int32))) ((s.1 7 (Int32.toNatClampNeg (x2 + (1 : Int32)))) + y0)) fun (s_10 : v_S) => t_T_losesIn_147 fu p1 r72 x2 x3 y0 s_10)
def t_T_losesIn_72 (fu : Nat) (p1 : Int32) (r72 : Int32 × v_S → Option v_S) (x2 : Int32) (s : v_S) : Option v_S :=
if x2 < 0 then (some s) else (v_g x2 6 <| v_b1 (t_T_of fu x2 (3 : Int32) s) fun (z_4 : Int32) => v_n (if z_4 < (s.1 7 (Int32.toNatClampNeg x2)) then z_4 else s.1 7 (Int32.toNatClampNeg x2)) fun (x3_5 : Int32) => v_g x2 6 <| v_g x2 6 <| v_n (v_uI s 7 (Int32.toNatClampNeg x2) ((s.1 7 (Int32.toNatClampNeg x2)) - x3_5)) fun (s_6 : v_S) => v_b1 (t_T_villages fu s_6) fun (z_7 : Int32) => if x2 = z_7 - (1 : Int32) then (t_T_losesIn_127 fu p1 r72 x2 x3_5 (0 : Int32) s_6) else (v_b1 (t_T_room fu (x2 + (1 : Int32)) s_6) fun (z_8 : Int32) => t_T_losesIn_127 fu p1 r72 x2 x3_5 (if z_8 < x3_5 then z_8 else x3_5) s_6))
def t_T_losesIn_72B (fu : Nat) (p1 : Int32) (r72 : Int32 × v_S → Option v_S) (a : Int32 × v_S) : Option v_S := t_T_losesIn_72 fu p1 r72 a.1 a.2
def t_T_losesIn_65 (fu : Nat) (p1 : Int32) (s : v_S) : Option v_S :=
v_b1 (t_T_villages fu s) fun (z_2 : Int32) => v_n (z_2 - (1 : Int32)) fun (x2_3 : Int32) => v_loop (t_T_losesIn_72B fu p1) fu (x2_3, s)
def t_T_losesIn_2 (fu : Nat) (p1 : Int32) (r2 : Int32 × v_S → Option v_S) (x2 : Int32) (s : v_S) : Option v_S :=
v_b1 (t_T_villages fu s) fun (z_1 : Int32) => if z_1 ≤ x2 then (t_T_losesIn_65 fu p1 s) else (v_g x2 6 <| v_b1 (t_T_of fu x2 (2 : Int32) s) fun (z_11 : Int32) => v_g ((78 : Int32) + p1) 160 <| v_n (if ((z_11 * (s.1 1 (Int32.toNatClampNeg ((78 : Int32) + p1)))) / (100 : Int32)) < (s.1 7 (Int32.toNatClampNeg x2)) then (z_11 * (s.1 1 (Int32.toNatClampNeg ((78 : Int32) + p1)))) / (100 : Int32) else s.1 7 (Int32.toNatClampNeg x2)) fun (x3_12 : Int32) => v_g x2 6 <| v_g x2 6 <| v_n (v_uI s 7 (Int32.toNatClampNeg x2) ((s.1 7 (Int32.toNatClampNeg x2)) - x3_12)) fun (s_13 : v_S) => v_n (v_uI s_13 0 20 ((s_13.1 0 20) + x3_12)) fun (s_14 : v_S) => r2 (x2 + (1 : Int32), s_14))
def t_T_losesIn_2B (fu : Nat) (p1 : Int32) (r2 : Int32 × v_S → Option v_S) (a : Int32 × v_S) : Option v_S := t_T_losesIn_2 fu p1 r2 a.1 a.2
def t_T_losesIn (fu : Nat) (p1 : Int32) (s : v_S) : Option v_S :=
  v_loop (t_T_losesIn_2B fu p1) fu ((0 : Int32), s)
theorem w_T_losesIn_147 {Γ : v_Ctx} {l : Launch} {g : v_G} (fu : Nat) (p1 : Int32) (X : v_C Γ l rm_T_losesIn cX5_losesIn 5 RX5 none wT g) (r72 : Int32 × v_S → Option v_S) (h72 : ∀ (x2 : Int32) (s : v_S), v_V Γ 5 wT g (fun z : v_S => ((none : Option Value), z)) 72 [(0, .ref (v_E g 0)), (2, .int x2)] [] s (r72 (x2, s))) (x2 : Int32) (x3 : Int32) (x4 : Int32) (s : v_S) : v_V Γ 5 wT g (fun z : v_S => ((none : Option Value), z)) 147 [(0, .ref (v_E g 0)), (2, .int x2), (3, .int x3), (4, .int x4)] [] s (t_T_losesIn_147 fu p1 r72 x2 x3 x4 s) := by
  unfold t_T_losesIn_147
  refine v_aload_n (pc := 147) X dX5_losesIn_147 0 rfl ?_
  refine v_dup (pc := 148) X dX5_losesIn_148 rfl ?_
  refine v_get (pc := 149) (kind := 0) (v := .int (s.1 0 21)) X wT_n0 wT_l0 wT_c0 in_X5 (Nat.le_of_ble_eq_true rfl : 21 < 40) q1492 rfl rfl dX5_losesIn_149 ?_
  refine v_iload_n (pc := 152) X dX5_losesIn_152 2 rfl ?_
  refine v_iload (pc := 153) X dX5_losesIn_153 3 rfl ?_
  refine v_isub (pc := 155) X dX5_losesIn_155 ?_
  refine v_iadd (pc := 156) X dX5_losesIn_156 ?_
  refine v_putI (pc := 157) X wT_n0 wT_l0 wT_c0 in_X5 tyX5 tyX5_ok nmX5 (Nat.le_of_ble_eq_true rfl : 21 < 40) q1492 rfl rfl rfl dX5_losesIn_157 (fun s_9 => ?_)
  refine v_iinc (pc := 160) (v := x2 + (-1 : Int32)) (lv' := [(2, .int (x2 + (-1 : Int32))), (0, .ref (v_E g 0)), (3, .int x3), (4, .int x4)]) (k := 1) X dX5_losesIn_160 rfl rfl (Nat.le_of_ble_eq_true rfl) rfl ?_
  refine v_goto (pc := 163) (tgt := 72) X dX5_losesIn_163 (by decide) ?_
  refine v_sub [1, 0] rfl ?_
  exact h72 (x2 + (-1 : Int32)) s_9
theorem w_T_losesIn_127 {Γ : v_Ctx} {l : Launch} {g : v_G} (fu : Nat) (p1 : Int32) (X : v_C Γ l rm_T_losesIn cX5_losesIn 5 RX5 none wT g) (r72 : Int32 × v_S → Option v_S) (h72 : ∀ (x2 : Int32) (s : v_S), v_V Γ 5 wT g (fun z : v_S => ((none : Option Value), z)) 72 [(0, .ref (v_E g 0)), (2, .int x2)] [] s (r72 (x2, s))) (x2 : Int32) (x3 : Int32) (y0 : Int32) (s : v_S) : v_V Γ 5 wT g (fun z : v_S => ((none : Option Value), z)) 127 [(0, .ref (v_E g 0)), (2, .int x2), (3, .int x3)] [.int y0] s (t_T_losesIn_127 fu p1 r72 x2 x3 y0 s) := by
  unfold t_T_losesIn_127
  refine v_istore (pc := 127) (lv' := [(4, .int y0), (0, .ref (v_E g 0)), (2, .int x2), (3, .int x3)]) X dX5_losesIn_127 (Nat.le_of_ble_eq_true rfl) rfl ?_
  refine v_iload (pc := 129) X dX5_losesIn_129 0 rfl ?_
  refine v_if_le (pc := 131) (tgt := 147) X dX5_losesIn_131 (by decide) (fun c131 => ?_) (fun c131 => ?_)
  · refine v_sub [1, 2, 3, 0] rfl ?_
    exact w_T_losesIn_147 fu p1 X r72 h72 x2 x3 y0 s
  · refine v_aload_n (pc := 134) X dX5_losesIn_134 1 rfl ?_
    refine v_get (pc := 135) (kind := 10) (v := .ref (v_E g 7)) X wT_n0 wT_l0 wT_c0 in_X5 (Nat.le_of_ble_eq_true rfl : 15 < 40) q1486 rfl rfl dX5_losesIn_135 ?_
    refine v_iload_n (pc := 138) X dX5_losesIn_138 2 rfl ?_
    refine v_iconst (pc := 139) (v := 1) X dX5_losesIn_139 rfl ?_
    refine v_iadd (pc := 140) X dX5_losesIn_140 ?_
    refine v_dup2_11 (pc := 141) X dX5_losesIn_141 rfl rfl ?_
    refine v_iald (pc := 142) X wT_n7 wT_l7 dX5_losesIn_142 ?_
    refine v_iload (pc := 143) X dX5_losesIn_143 0 rfl ?_
    refine v_iadd (pc := 145) X dX5_losesIn_145 ?_
    refine v_iast (pc := 146) X wT_n7 wT_l7 dX5_losesIn_146 (fun s_10 => ?_)
    refine v_sub [1, 2, 3, 0] rfl ?_
    exact w_T_losesIn_147 fu p1 X r72 h72 x2 x3 y0 s_10
theorem w_T_losesIn_72 {Γ : v_Ctx} {l : Launch} {g : v_G} (fu : Nat) (p1 : Int32) (X : v_C Γ l rm_T_losesIn cX5_losesIn 5 RX5 none wT g) (r72 : Int32 × v_S → Option v_S) (h72 : ∀ (x2 : Int32) (s : v_S), v_V Γ 5 wT g (fun z : v_S => ((none : Option Value), z)) 72 [(0, .ref (v_E g 0)), (2, .int x2)] [] s (r72 (x2, s))) (x2 : Int32) (s : v_S) : v_V Γ 5 wT g (fun z : v_S => ((none : Option Value), z)) 72 [(0, .ref (v_E g 0)), (2, .int x2)] [] s (t_T_losesIn_72 fu p1 r72 x2 s) := by
  unfold t_T_losesIn_72
  refine v_iload_n (pc := 72) X dX5_losesIn_72 1 rfl ?_
  refine v_if_lt (pc := 73) (tgt := 166) X dX5_losesIn_73 (by decide) (fun c73 => ?_) (fun c73 => ?_)
  · exact v_vret (pc := 166) X dX5_losesIn_166 rfl
  · refine v_aload_n (pc := 76) X dX5_losesIn_76 0 rfl ?_
    refine v_get (pc := 77) (kind := 10) (v := .ref (v_E g 7)) X wT_n0 wT_l0 wT_c0 in_X5 (Nat.le_of_ble_eq_true rfl : 15 < 40) q1486 rfl rfl dX5_losesIn_77 ?_
    refine v_iload_n (pc := 80) X dX5_losesIn_80 1 rfl ?_
    refine v_iald (pc := 81) X wT_n7 wT_l7 dX5_losesIn_81 ?_
    refine v_aload_n (pc := 82) X dX5_losesIn_82 0 rfl ?_
    refine v_iload_n (pc := 83) X dX5_losesIn_83 1 rfl ?_
    refine v_iconst (pc := 84) (v := 3) X dX5_losesIn_84 rfl ?_
    refine v_cGi (pc := 85) X (m_T_of l g fu x2 (3 : Int32) _) (v_rc_n X wT_o0) (Or.inl q1730) hy_T_of rfl rfl rfl rfl dX5_losesIn_85 (fun z_4 _ => ?_)
    refine v_mmin (pc := 88) X q1634 q681 q143 q682 rfl dX5_losesIn_88 ?_
    refine v_istore_nN (pc := 91) (lvf := fun x3_5 => [(3, .int x3_5), (0, .ref (v_E g 0)), (2, .int x2)]) X dX5_losesIn_91 rfl (Nat.le_of_ble_eq_true rfl) (fun _ => rfl) (fun x3_5 => ?_)
    refine v_aload_n (pc := 92) X dX5_losesIn_92 1 rfl ?_
    refine v_get (pc := 93) (kind := 10) (v := .ref (v_E g 7)) X wT_n0 wT_l0 wT_c0 in_X5 (Nat.le_of_ble_eq_true rfl : 15 < 40) q1486 rfl rfl dX5_losesIn_93 ?_
    refine v_iload_n (pc := 96) X dX5_losesIn_96 2 rfl ?_
    refine v_dup2_11 (pc := 97) X dX5_losesIn_97 rfl rfl ?_
    refine v_iald (pc := 98) X wT_n7 wT_l7 dX5_losesIn_98 ?_
    refine v_iload_n (pc := 99) X dX5_losesIn_99 0 rfl ?_
    refine v_isub (pc := 100) X dX5_losesIn_100 ?_
    refine v_iast (pc := 101) X wT_n7 wT_l7 dX5_losesIn_101 (fun s_6 => ?_)
    refine v_iload_n (pc := 102) X dX5_losesIn_102 2 rfl ?_
    refine v_aload_n (pc := 103) X dX5_losesIn_103 1 rfl ?_
    refine v_cGi (pc := 104) X (m_T_villages l g fu _) (v_rc_n X wT_o0) (Or.inl q1725) hy_T_villages rfl rfl rfl rfl dX5_losesIn_104 (fun z_7 _ => ?_)
    refine v_iconst (pc := 107) (v := 1) X dX5_losesIn_107 rfl ?_
    refine v_isub (pc := 108) X dX5_losesIn_108 ?_
    refine v_icmp_ne (pc := 109) (tgt := 116) X dX5_losesIn_109 (by decide) (fun c109 => ?_) (fun c109 => ?_)
    · refine v_iload_n (pc := 116) X dX5_losesIn_116 0 rfl ?_
      refine v_aload_n (pc := 117) X dX5_losesIn_117 1 rfl ?_
      refine v_iload_n (pc := 118) X dX5_losesIn_118 2 rfl ?_
      refine v_iconst (pc := 119) (v := 1) X dX5_losesIn_119 rfl ?_
      refine v_iadd (pc := 120) X dX5_losesIn_120 ?_
      refine v_cGi (pc := 121) X (m_T_room l g fu (x2 + (1 : Int32)) _) (v_rc_n X wT_o0) (Or.inl q1770) hy_T_room rfl rfl rfl rfl dX5_losesIn_121 (fun z_8 _ => ?_)
      refine v_mmin (pc := 124) X q1634 q681 q143 q682 rfl dX5_losesIn_124 ?_
      refine v_sub [1, 2, 0] rfl ?_
      exact w_T_losesIn_127 fu p1 X r72 h72 x2 x3_5 (if z_8 < x3_5 then z_8 else x3_5) s_6
    · refine v_iconst (pc := 112) (v := 0) X dX5_losesIn_112 rfl ?_
      refine v_goto (pc := 113) (tgt := 127) X dX5_losesIn_113 (by decide) ?_
      refine v_sub [1, 2, 0] rfl ?_
      exact w_T_losesIn_127 fu p1 X r72 h72 x2 x3_5 (0 : Int32) s_6
theorem w_T_losesIn_72L {Γ : v_Ctx} {l : Launch} {g : v_G} (fu : Nat) (p1 : Int32) (X : v_C Γ l rm_T_losesIn cX5_losesIn 5 RX5 none wT g)  : ∀ (n : Nat), ∀ (x2 : Int32) (s : v_S), v_V Γ 5 wT g (fun z : v_S => ((none : Option Value), z)) 72 [(0, .ref (v_E g 0)), (2, .int x2)] [] s (v_loop (t_T_losesIn_72B fu p1) n (x2, s)) := by
  intro n
  induction n with
  | zero => exact fun _ _ => v_none
  | succ n ih => exact fun x2 s => w_T_losesIn_72 fu p1 X  _ ih x2 s
theorem w_T_losesIn_65 {Γ : v_Ctx} {l : Launch} {g : v_G} (fu : Nat) (p1 : Int32) (X : v_C Γ l rm_T_losesIn cX5_losesIn 5 RX5 none wT g)  (s : v_S) : v_V Γ 5 wT g (fun z : v_S => ((none : Option Value), z)) 65 [(0, .ref (v_E g 0))] [] s (t_T_losesIn_65 fu p1 s) := by
  unfold t_T_losesIn_65
  refine v_aload_n (pc := 65) X dX5_losesIn_65 0 rfl ?_
  refine v_cGi (pc := 66) X (m_T_villages l g fu _) (v_rc_n X wT_o0) (Or.inl q1725) hy_T_villages rfl rfl rfl rfl dX5_losesIn_66 (fun z_2 _ => ?_)
  refine v_iconst (pc := 69) (v := 1) X dX5_losesIn_69 rfl ?_
  refine v_isub (pc := 70) X dX5_losesIn_70 ?_
  refine v_istore_nN (pc := 71) (lvf := fun x2_3 => [(2, .int x2_3), (0, .ref (v_E g 0))]) X dX5_losesIn_71 rfl (Nat.le_of_ble_eq_true rfl) (fun _ => rfl) (fun x2_3 => ?_)
  refine v_sub [1, 0] rfl ?_
  exact w_T_losesIn_72L fu p1 X  fu x2_3 s
theorem w_T_losesIn_2 {Γ : v_Ctx} {l : Launch} {g : v_G} (fu : Nat) (p1 : Int32) (X : v_C Γ l rm_T_losesIn cX5_losesIn 5 RX5 none wT g) (r2 : Int32 × v_S → Option v_S) (h2 : ∀ (x2 : Int32) (s : v_S), v_V Γ 5 wT g (fun z : v_S => ((none : Option Value), z)) 2 [(0, .ref (v_E g 0)), (1, .int p1), (2, .int x2)] [] s (r2 (x2, s))) (x2 : Int32) (s : v_S) : v_V Γ 5 wT g (fun z : v_S => ((none : Option Value), z)) 2 [(0, .ref (v_E g 0)), (1, .int p1), (2, .int x2)] [] s (t_T_losesIn_2 fu p1 r2 x2 s) := by
  unfold t_T_losesIn_2
  refine v_iload_n (pc := 2) X dX5_losesIn_2 2 rfl ?_
  refine v_aload_n (pc := 3) X dX5_losesIn_3 0 rfl ?_
  refine v_cGi (pc := 4) X (m_T_villages l g fu _) (v_rc_n X wT_o0) (Or.inl q1725) hy_T_villages rfl rfl rfl rfl dX5_losesIn_4 (fun z_1 _ => ?_)
  refine v_icmp_ge (pc := 7) (tgt := 65) X dX5_losesIn_7 (by decide) (fun c7 => ?_) (fun c7 => ?_)
  · refine v_sub [0] rfl ?_
    exact w_T_losesIn_65 fu p1 X  s
  · refine v_aload_n (pc := 10) X dX5_losesIn_10 0 rfl ?_
    refine v_get (pc := 11) (kind := 10) (v := .ref (v_E g 7)) X wT_n0 wT_l0 wT_c0 in_X5 (Nat.le_of_ble_eq_true rfl : 15 < 40) q1486 rfl rfl dX5_losesIn_11 ?_
    refine v_iload_n (pc := 14) X dX5_losesIn_14 2 rfl ?_
    refine v_iald (pc := 15) X wT_n7 wT_l7 dX5_losesIn_15 ?_
    refine v_aload_n (pc := 16) X dX5_losesIn_16 0 rfl ?_
    refine v_iload_n (pc := 17) X dX5_losesIn_17 2 rfl ?_
    refine v_iconst (pc := 18) (v := 2) X dX5_losesIn_18 rfl ?_
    refine v_cGi (pc := 19) X (m_T_of l g fu x2 (2 : Int32) _) (v_rc_n X wT_o0) (Or.inl q1730) hy_T_of rfl rfl rfl rfl dX5_losesIn_19 (fun z_11 _ => ?_)
    refine v_aload_n (pc := 22) X dX5_losesIn_22 0 rfl ?_
    refine v_get (pc := 23) (kind := 4) (v := .ref (v_E g 1)) X wT_n0 wT_l0 wT_c0 in_X5 (Nat.le_of_ble_eq_true rfl : 1 < 40) q1472 rfl rfl dX5_losesIn_23 ?_
    refine v_bipush (pc := 26) (v := 78) X dX5_losesIn_26 rfl ?_
    refine v_iload_n (pc := 28) X dX5_losesIn_28 1 rfl ?_
    refine v_iadd (pc := 29) X dX5_losesIn_29 ?_
    refine v_iald (pc := 30) X wT_n1 wT_l1 dX5_losesIn_30 ?_
    refine v_imul (pc := 31) X dX5_losesIn_31 ?_
    refine v_bipush (pc := 32) (v := 100) X dX5_losesIn_32 rfl ?_
    refine v_idivC (pc := 34) X (by decide) dX5_losesIn_34 ?_
    refine v_mmin (pc := 35) X q1634 q681 q143 q682 rfl dX5_losesIn_35 ?_
    refine v_istore_nN (pc := 38) (lvf := fun x3_12 => [(3, .int x3_12), (0, .ref (v_E g 0)), (1, .int p1), (2, .int x2)]) X dX5_losesIn_38 rfl (Nat.le_of_ble_eq_true rfl) (fun _ => rfl) (fun x3_12 => ?_)
    refine v_aload_n (pc := 39) X dX5_losesIn_39 1 rfl ?_
    refine v_get (pc := 40) (kind := 10) (v := .ref (v_E g 7)) X wT_n0 wT_l0 wT_c0 in_X5 (Nat.le_of_ble_eq_true rfl : 15 < 40) q1486 rfl rfl dX5_losesIn_40 ?_
    refine v_iload_n (pc := 43) X dX5_losesIn_43 3 rfl ?_
    refine v_dup2_11 (pc := 44) X dX5_losesIn_44 rfl rfl ?_
    refine v_iald (pc := 45) X wT_n7 wT_l7 dX5_losesIn_45 ?_
    refine v_iload_n (pc := 46) X dX5_losesIn_46 0 rfl ?_
    refine v_isub (pc := 47) X dX5_losesIn_47 ?_
    refine v_iast (pc := 48) X wT_n7 wT_l7 dX5_losesIn_48 (fun s_13 => ?_)
    refine v_aload_n (pc := 49) X dX5_losesIn_49 1 rfl ?_
    refine v_dup (pc := 50) X dX5_losesIn_50 rfl ?_
    refine v_get (pc := 51) (kind := 0) (v := .int (s_13.1 0 20)) X wT_n0 wT_l0 wT_c0 in_X5 (Nat.le_of_ble_eq_true rfl : 20 < 40) q1491 rfl rfl dX5_losesIn_51 ?_
    refine v_iload_n (pc := 54) X dX5_losesIn_54 0 rfl ?_
    refine v_iadd (pc := 55) X dX5_losesIn_55 ?_
    refine v_putI (pc := 56) X wT_n0 wT_l0 wT_c0 in_X5 tyX5 tyX5_ok nmX5 (Nat.le_of_ble_eq_true rfl : 20 < 40) q1491 rfl rfl rfl dX5_losesIn_56 (fun s_14 => ?_)
    refine v_iinc (pc := 59) (v := x2 + (1 : Int32)) (lv' := [(2, .int (x2 + (1 : Int32))), (3, .int x3_12), (0, .ref (v_E g 0)), (1, .int p1)]) (k := 3) X dX5_losesIn_59 rfl rfl (Nat.le_of_ble_eq_true rfl) rfl ?_
    refine v_goto (pc := 62) (tgt := 2) X dX5_losesIn_62 (by decide) ?_
    refine v_sub [2, 3, 0] rfl ?_
    exact h2 (x2 + (1 : Int32)) s_14
theorem w_T_losesIn_2L {Γ : v_Ctx} {l : Launch} {g : v_G} (fu : Nat) (p1 : Int32) (X : v_C Γ l rm_T_losesIn cX5_losesIn 5 RX5 none wT g)  : ∀ (n : Nat), ∀ (x2 : Int32) (s : v_S), v_V Γ 5 wT g (fun z : v_S => ((none : Option Value), z)) 2 [(0, .ref (v_E g 0)), (1, .int p1), (2, .int x2)] [] s (v_loop (t_T_losesIn_2B fu p1) n (x2, s)) := by
  intro n
  induction n with
  | zero => exact fun _ _ => v_none
  | succ n ih => exact fun x2 s => w_T_losesIn_2 fu p1 X  _ ih x2 s
theorem m_T_losesIn (l : Launch) (g : v_G) (fu : Nat) (p1 : Int32) (s : v_S) : v_M l yX5_losesIn cX5_losesIn 5 none rm_T_losesIn wT g [.ref (v_E g 0), .int p1] s (fun z : v_S => ((none : Option Value), z)) (t_T_losesIn fu p1 s) := by
  refine v_met (by decide +kernel) (Nat.le_of_ble_eq_true rfl) (fun Γ X => ?_)
  refine v_lv (lv' := [(0, .ref (v_E g 0)), (1, .int p1)]) rfl ?_
  unfold t_T_losesIn
  refine v_iconst (pc := 0) (v := 0) X dX5_losesIn_0 rfl ?_
  refine v_istore_n (pc := 1) (lv' := [(2, .int (0 : Int32)), (0, .ref (v_E g 0)), (1, .int p1)]) X dX5_losesIn_1 rfl (Nat.le_of_ble_eq_true rfl) rfl ?_
  refine v_sub [1, 2, 0] rfl ?_
  exact w_T_losesIn_2L fu p1 X  fu (0 : Int32) s
/-! FloodLentModel.runs(I)V -/
abbrev rm_T_runs : Room := { frames := 4, cells := 0, slots := 0, locals := 89 }
theorem hy_T_runs : v_yV yX5_runs cX5_runs 4 none 1 := ⟨q1756, qs82, q141, q1757, by decide +kernel⟩
def t_T_runs_166 (fu : Nat) (p1 : Int32) (r129 : Int32 × v_S → Option v_S) (r166 : Int32 × Int32 × v_S → Option v_S) (x2 : Int32) (x3 : Int32) (s : v_S) : Option v_S :=
v_b1 (t_T_villages fu s) fun (z_12 : Int32) => if z_12 ≤ x3 then (r129 (x2 + (1 : Int32), s)) else (v_g x3 6 <| v_g (((30 : Int32) * x3) + x2) 180 <| v_n (v_uI s 8 (Int32.toNatClampNeg (((30 : Int32) * x3) + x2)) (s.1 7 (Int32.toNatClampNeg x3))) fun (s_13 : v_S) => r166 (x2, x3 + (1 : Int32), s_13))
def t_T_runs_166B (fu : Nat) (p1 : Int32) (r129 : Int32 × v_S → Option v_S) (r166 : Int32 × Int32 × v_S → Option v_S) (a : Int32 × Int32 × v_S) : Option v_S := t_T_runs_166 fu p1 r129 r166 a.1 a.2.1 a.2.2
def t_T_runs_129 (fu : Nat) (p1 : Int32) (r129 : Int32 × v_S → Option v_S) (x2 : Int32) (s : v_S) : Option v_S :=
if s.1 1 5 ≤ x2 then (some s) else (v_b1 (t_T_floodsIn fu x2 s) fun (s_7 : v_S) => v_b1 (t_T_loansIn fu x2 s_7) fun (s_8 : v_S) => v_b1 (t_T_dueIn fu x2 s_8) fun (s_9 : v_S) => v_b1 (t_T_cropsIn fu x2 s_9) fun (s_10 : v_S) => v_b1 (t_T_losesIn fu x2 s_10) fun (s_11 : v_S) => v_loop (t_T_runs_166B fu p1 r129) fu (x2, (0 : Int32), s_11))
def t_T_runs_129B (fu : Nat) (p1 : Int32) (r129 : Int32 × v_S → Option v_S) (a : Int32 × v_S) : Option v_S := t_T_runs_129 fu p1 r129 a.1 a.2
def t_T_runs_107 (fu : Nat) (p1 : Int32) (s : v_S) : Option v_S :=
v_n (v_uI s 0 20 (0 : Int32)) fun (s_3 : v_S) => v_n (v_uI s_3 0 21 (0 : Int32)) fun (s_4 : v_S) => v_n (v_uI s_4 0 22 (0 : Int32)) fun (s_5 : v_S) => v_n (v_uI s_5 0 23 (-1 : Int32)) fun (s_6 : v_S) => v_loop (t_T_runs_129B fu p1) fu ((0 : Int32), s_6)
def t_T_runs_77 (fu : Nat) (p1 : Int32) (r77 : Int32 × v_S → Option v_S) (x2 : Int32) (s : v_S) : Option v_S :=
if (24 : Int32) ≤ x2 then (t_T_runs_107 fu p1 s) else (if x2 - x2 / (3 : Int32) * (3 : Int32) = (2 : Int32) then (v_g x2 24 <| v_n (v_uI s 11 (Int32.toNatClampNeg x2) (-1 : Int32)) fun (s_15 : v_S) => r77 (x2 + (1 : Int32), s_15)) else (v_g x2 24 <| v_n (v_uI s 11 (Int32.toNatClampNeg x2) (0 : Int32)) fun (s_14 : v_S) => r77 (x2 + (1 : Int32), s_14)))
def t_T_runs_77B (fu : Nat) (p1 : Int32) (r77 : Int32 × v_S → Option v_S) (a : Int32 × v_S) : Option v_S := t_T_runs_77 fu p1 r77 a.1 a.2
def t_T_runs_56 (fu : Nat) (p1 : Int32) (r56 : Int32 × v_S → Option v_S) (x2 : Int32) (s : v_S) : Option v_S :=
if (24 : Int32) ≤ x2 then (v_loop (t_T_runs_77B fu p1) fu ((0 : Int32), s)) else (v_g x2 24 <| v_n (v_uI s 10 (Int32.toNatClampNeg x2) (0 : Int32)) fun (s_16 : v_S) => r56 (x2 + (1 : Int32), s_16))
def t_T_runs_56B (fu : Nat) (p1 : Int32) (r56 : Int32 × v_S → Option v_S) (a : Int32 × v_S) : Option v_S := t_T_runs_56 fu p1 r56 a.1 a.2
def t_T_runs_35 (fu : Nat) (p1 : Int32) (r35 : Int32 × v_S → Option v_S) (x2 : Int32) (s : v_S) : Option v_S :=
if (9 : Int32) ≤ x2 then (v_loop (t_T_runs_56B fu p1) fu ((0 : Int32), s)) else (v_g x2 9 <| v_n (v_uI s 9 (Int32.toNatClampNeg x2) (0 : Int32)) fun (s_17 : v_S) => r35 (x2 + (1 : Int32), s_17))
def t_T_runs_35B (fu : Nat) (p1 : Int32) (r35 : Int32 × v_S → Option v_S) (a : Int32 × v_S) : Option v_S := t_T_runs_35 fu p1 r35 a.1 a.2
def t_T_runs_7 (fu : Nat) (p1 : Int32) (r7 : Int32 × v_S → Option v_S) (x2 : Int32) (s : v_S) : Option v_S :=
v_b1 (t_T_villages fu s) fun (z_2 : Int32) => if z_2 ≤ x2 then (v_loop (t_T_runs_35B fu p1) fu ((0 : Int32), s)) else (v_b1 (t_T_of fu x2 (1 : Int32) s) fun (z_18 : Int32) => v_g x2 6 <| v_n (v_uI s 7 (Int32.toNatClampNeg x2) z_18) fun (s_19 : v_S) => r7 (x2 + (1 : Int32), s_19))
def t_T_runs_7B (fu : Nat) (p1 : Int32) (r7 : Int32 × v_S → Option v_S) (a : Int32 × v_S) : Option v_S := t_T_runs_7 fu p1 r7 a.1 a.2
def t_T_runs (fu : Nat) (p1 : Int32) (s : v_S) : Option v_S :=
  v_n (v_uI s 0 24 p1) fun (s_1 : v_S) => v_loop (t_T_runs_7B fu p1) fu ((0 : Int32), s_1)
theorem w_T_runs_166 {Γ : v_Ctx} {l : Launch} {g : v_G} (fu : Nat) (p1 : Int32) (X : v_C Γ l rm_T_runs cX5_runs 4 RX5 none wT g) (r129 : Int32 × v_S → Option v_S) (h129 : ∀ (x2 : Int32) (s : v_S), v_V Γ 4 wT g (fun z : v_S => ((none : Option Value), z)) 129 [(0, .ref (v_E g 0)), (2, .int x2)] [] s (r129 (x2, s))) (r166 : Int32 × Int32 × v_S → Option v_S) (h166 : ∀ (x2 : Int32) (x3 : Int32) (s : v_S), v_V Γ 4 wT g (fun z : v_S => ((none : Option Value), z)) 166 [(0, .ref (v_E g 0)), (2, .int x2), (3, .int x3)] [] s (r166 (x2, x3, s))) (x2 : Int32) (x3 : Int32) (s : v_S) : v_V Γ 4 wT g (fun z : v_S => ((none : Option Value), z)) 166 [(0, .ref (v_E g 0)), (2, .int x2), (3, .int x3)] [] s (t_T_runs_166 fu p1 r129 r166 x2 x3 s) := by
  unfold t_T_runs_166
  refine v_iload_n (pc := 166) X dX5_runs_166 2 rfl ?_
  refine v_aload_n (pc := 167) X dX5_runs_167 0 rfl ?_
  refine v_cGi (pc := 168) X (m_T_villages l g fu _) (v_rc_n X wT_o0) (Or.inl q1725) hy_T_villages rfl rfl rfl rfl dX5_runs_168 (fun z_12 _ => ?_)
  refine v_icmp_ge (pc := 171) (tgt := 197) X dX5_runs_171 (by decide) (fun c171 => ?_) (fun c171 => ?_)
  · refine v_iinc (pc := 197) (v := x2 + (1 : Int32)) (lv' := [(2, .int (x2 + (1 : Int32))), (0, .ref (v_E g 0)), (3, .int x3)]) (k := 1) X dX5_runs_197 rfl rfl (Nat.le_of_ble_eq_true rfl) rfl ?_
    refine v_goto (pc := 200) (tgt := 129) X dX5_runs_200 (by decide) ?_
    refine v_sub [1, 0] rfl ?_
    exact h129 (x2 + (1 : Int32)) s
  · refine v_aload_n (pc := 174) X dX5_runs_174 0 rfl ?_
    refine v_get (pc := 175) (kind := 11) (v := .ref (v_E g 8)) X wT_n0 wT_l0 wT_c0 in_X5 (Nat.le_of_ble_eq_true rfl : 16 < 40) q1487 rfl rfl dX5_runs_175 ?_
    refine v_bipush (pc := 178) (v := 30) X dX5_runs_178 rfl ?_
    refine v_iload_n (pc := 180) X dX5_runs_180 2 rfl ?_
    refine v_imul (pc := 181) X dX5_runs_181 ?_
    refine v_iload_n (pc := 182) X dX5_runs_182 1 rfl ?_
    refine v_iadd (pc := 183) X dX5_runs_183 ?_
    refine v_aload_n (pc := 184) X dX5_runs_184 0 rfl ?_
    refine v_get (pc := 185) (kind := 10) (v := .ref (v_E g 7)) X wT_n0 wT_l0 wT_c0 in_X5 (Nat.le_of_ble_eq_true rfl : 15 < 40) q1486 rfl rfl dX5_runs_185 ?_
    refine v_iload_n (pc := 188) X dX5_runs_188 2 rfl ?_
    refine v_iald (pc := 189) X wT_n7 wT_l7 dX5_runs_189 ?_
    refine v_iast (pc := 190) X wT_n8 wT_l8 dX5_runs_190 (fun s_13 => ?_)
    refine v_iinc (pc := 191) (v := x3 + (1 : Int32)) (lv' := [(3, .int (x3 + (1 : Int32))), (0, .ref (v_E g 0)), (2, .int x2)]) (k := 2) X dX5_runs_191 rfl rfl (Nat.le_of_ble_eq_true rfl) rfl ?_
    refine v_goto (pc := 194) (tgt := 166) X dX5_runs_194 (by decide) ?_
    refine v_sub [1, 2, 0] rfl ?_
    exact h166 x2 (x3 + (1 : Int32)) s_13
theorem w_T_runs_166L {Γ : v_Ctx} {l : Launch} {g : v_G} (fu : Nat) (p1 : Int32) (X : v_C Γ l rm_T_runs cX5_runs 4 RX5 none wT g) (r129 : Int32 × v_S → Option v_S) (h129 : ∀ (x2 : Int32) (s : v_S), v_V Γ 4 wT g (fun z : v_S => ((none : Option Value), z)) 129 [(0, .ref (v_E g 0)), (2, .int x2)] [] s (r129 (x2, s))) : ∀ (n : Nat), ∀ (x2 : Int32) (x3 : Int32) (s : v_S), v_V Γ 4 wT g (fun z : v_S => ((none : Option Value), z)) 166 [(0, .ref (v_E g 0)), (2, .int x2), (3, .int x3)] [] s (v_loop (t_T_runs_166B fu p1 r129) n (x2, x3, s)) := by
  intro n
  induction n with
  | zero => exact fun _ _ _ => v_none
  | succ n ih => exact fun x2 x3 s => w_T_runs_166 fu p1 X r129 h129 _ ih x2 x3 s
theorem w_T_runs_129 {Γ : v_Ctx} {l : Launch} {g : v_G} (fu : Nat) (p1 : Int32) (X : v_C Γ l rm_T_runs cX5_runs 4 RX5 none wT g) (r129 : Int32 × v_S → Option v_S) (h129 : ∀ (x2 : Int32) (s : v_S), v_V Γ 4 wT g (fun z : v_S => ((none : Option Value), z)) 129 [(0, .ref (v_E g 0)), (2, .int x2)] [] s (r129 (x2, s))) (x2 : Int32) (s : v_S) : v_V Γ 4 wT g (fun z : v_S => ((none : Option Value), z)) 129 [(0, .ref (v_E g 0)), (2, .int x2)] [] s (t_T_runs_129 fu p1 r129 x2 s) := by
  unfold t_T_runs_129
  refine v_iload_n (pc := 129) X dX5_runs_129 1 rfl ?_
  refine v_aload_n (pc := 130) X dX5_runs_130 0 rfl ?_
  refine v_get (pc := 131) (kind := 4) (v := .ref (v_E g 1)) X wT_n0 wT_l0 wT_c0 in_X5 (Nat.le_of_ble_eq_true rfl : 1 < 40) q1472 rfl rfl dX5_runs_131 ?_
  refine v_iconst (pc := 134) (v := 5) X dX5_runs_134 rfl ?_
  refine v_ialdC (pc := 135) (k := 5) X wT_n1 wT_l1 rfl dX5_runs_135 ?_
  refine v_icmp_ge (pc := 136) (tgt := 203) X dX5_runs_136 (by decide) (fun c136 => ?_) (fun c136 => ?_)
  · exact v_vret (pc := 203) X dX5_runs_203 rfl
  · refine v_aload_n (pc := 139) X dX5_runs_139 0 rfl ?_
    refine v_iload_n (pc := 140) X dX5_runs_140 1 rfl ?_
    refine v_cGs (pc := 141) X (m_T_floodsIn l g fu x2 _) (v_rc_n X wT_o0) (Or.inl q1758) hy_T_floodsIn rfl rfl rfl rfl dX5_runs_141 (fun s_7 _ => ?_)
    refine v_aload_n (pc := 144) X dX5_runs_144 0 rfl ?_
    refine v_iload_n (pc := 145) X dX5_runs_145 1 rfl ?_
    refine v_cGs (pc := 146) X (m_T_loansIn l g fu x2 _) (v_rc_n X wT_o0) (Or.inl q1778) hy_T_loansIn rfl rfl rfl rfl dX5_runs_146 (fun s_8 _ => ?_)
    refine v_aload_n (pc := 149) X dX5_runs_149 0 rfl ?_
    refine v_iload_n (pc := 150) X dX5_runs_150 1 rfl ?_
    refine v_cGs (pc := 151) X (m_T_dueIn l g fu x2 _) (v_rc_n X wT_o0) (Or.inl q1786) hy_T_dueIn rfl rfl rfl rfl dX5_runs_151 (fun s_9 _ => ?_)
    refine v_aload_n (pc := 154) X dX5_runs_154 0 rfl ?_
    refine v_iload_n (pc := 155) X dX5_runs_155 1 rfl ?_
    refine v_cGs (pc := 156) X (m_T_cropsIn l g fu x2 _) (v_rc_n X wT_o0) (Or.inl q1794) hy_T_cropsIn rfl rfl rfl rfl dX5_runs_156 (fun s_10 _ => ?_)
    refine v_aload_n (pc := 159) X dX5_runs_159 0 rfl ?_
    refine v_iload_n (pc := 160) X dX5_runs_160 1 rfl ?_
    refine v_cGs (pc := 161) X (m_T_losesIn l g fu x2 _) (v_rc_n X wT_o0) (Or.inl q1802) hy_T_losesIn rfl rfl rfl rfl dX5_runs_161 (fun s_11 _ => ?_)
    refine v_iconst (pc := 164) (v := 0) X dX5_runs_164 rfl ?_
    refine v_istore_n (pc := 165) (lv' := [(3, .int (0 : Int32)), (0, .ref (v_E g 0)), (2, .int x2)]) X dX5_runs_165 rfl (Nat.le_of_ble_eq_true rfl) rfl ?_
    refine v_sub [1, 2, 0] rfl ?_
    exact w_T_runs_166L fu p1 X r129 h129 fu x2 (0 : Int32) s_11
theorem w_T_runs_129L {Γ : v_Ctx} {l : Launch} {g : v_G} (fu : Nat) (p1 : Int32) (X : v_C Γ l rm_T_runs cX5_runs 4 RX5 none wT g)  : ∀ (n : Nat), ∀ (x2 : Int32) (s : v_S), v_V Γ 4 wT g (fun z : v_S => ((none : Option Value), z)) 129 [(0, .ref (v_E g 0)), (2, .int x2)] [] s (v_loop (t_T_runs_129B fu p1) n (x2, s)) := by
  intro n
  induction n with
  | zero => exact fun _ _ => v_none
  | succ n ih => exact fun x2 s => w_T_runs_129 fu p1 X  _ ih x2 s
theorem w_T_runs_107 {Γ : v_Ctx} {l : Launch} {g : v_G} (fu : Nat) (p1 : Int32) (X : v_C Γ l rm_T_runs cX5_runs 4 RX5 none wT g)  (s : v_S) : v_V Γ 4 wT g (fun z : v_S => ((none : Option Value), z)) 107 [(0, .ref (v_E g 0))] [] s (t_T_runs_107 fu p1 s) := by
  unfold t_T_runs_107
  refine v_aload_n (pc := 107) X dX5_runs_107 0 rfl ?_
  refine v_iconst (pc := 108) (v := 0) X dX5_runs_108 rfl ?_
  refine v_putI (pc := 109) X wT_n0 wT_l0 wT_c0 in_X5 tyX5 tyX5_ok nmX5 (Nat.le_of_ble_eq_true rfl : 20 < 40) q1491 rfl rfl rfl dX5_runs_109 (fun s_3 => ?_)
  refine v_aload_n (pc := 112) X dX5_runs_112 0 rfl ?_
  refine v_iconst (pc := 113) (v := 0) X dX5_runs_113 rfl ?_
  refine v_putI (pc := 114) X wT_n0 wT_l0 wT_c0 in_X5 tyX5 tyX5_ok nmX5 (Nat.le_of_ble_eq_true rfl : 21 < 40) q1492 rfl rfl rfl dX5_runs_114 (fun s_4 => ?_)
  refine v_aload_n (pc := 117) X dX5_runs_117 0 rfl ?_
  refine v_iconst (pc := 118) (v := 0) X dX5_runs_118 rfl ?_
  refine v_putI (pc := 119) X wT_n0 wT_l0 wT_c0 in_X5 tyX5 tyX5_ok nmX5 (Nat.le_of_ble_eq_true rfl : 22 < 40) q1493 rfl rfl rfl dX5_runs_119 (fun s_5 => ?_)
  refine v_aload_n (pc := 122) X dX5_runs_122 0 rfl ?_
  refine v_iconst (pc := 123) (v := -1) X dX5_runs_123 rfl ?_
  refine v_putI (pc := 124) X wT_n0 wT_l0 wT_c0 in_X5 tyX5 tyX5_ok nmX5 (Nat.le_of_ble_eq_true rfl : 23 < 40) q1494 rfl rfl rfl dX5_runs_124 (fun s_6 => ?_)
  refine v_iconst (pc := 127) (v := 0) X dX5_runs_127 rfl ?_
  refine v_istore_n (pc := 128) (lv' := [(2, .int (0 : Int32)), (0, .ref (v_E g 0))]) X dX5_runs_128 rfl (Nat.le_of_ble_eq_true rfl) rfl ?_
  refine v_sub [1, 0] rfl ?_
  exact w_T_runs_129L fu p1 X  fu (0 : Int32) s_6
theorem w_T_runs_77 {Γ : v_Ctx} {l : Launch} {g : v_G} (fu : Nat) (p1 : Int32) (X : v_C Γ l rm_T_runs cX5_runs 4 RX5 none wT g) (r77 : Int32 × v_S → Option v_S) (h77 : ∀ (x2 : Int32) (s : v_S), v_V Γ 4 wT g (fun z : v_S => ((none : Option Value), z)) 77 [(0, .ref (v_E g 0)), (2, .int x2)] [] s (r77 (x2, s))) (x2 : Int32) (s : v_S) : v_V Γ 4 wT g (fun z : v_S => ((none : Option Value), z)) 77 [(0, .ref (v_E g 0)), (2, .int x2)] [] s (t_T_runs_77 fu p1 r77 x2 s) := by
  unfold t_T_runs_77
  refine v_iload_n (pc := 77) X dX5_runs_77 1 rfl ?_
  refine v_bipush (pc := 78) (v := 24) X dX5_runs_78 rfl ?_
  refine v_icmp_ge (pc := 80) (tgt := 107) X dX5_runs_80 (by decide) (fun c80 => ?_) (fun c80 => ?_)
  · refine v_sub [0] rfl ?_
    exact w_T_runs_107 fu p1 X  s
  · refine v_aload_n (pc := 83) X dX5_runs_83 0 rfl ?_
    refine v_get (pc := 84) (kind := 14) (v := .ref (v_E g 11)) X wT_n0 wT_l0 wT_c0 in_X5 (Nat.le_of_ble_eq_true rfl : 19 < 40) q1490 rfl rfl dX5_runs_84 ?_
    refine v_iload_n (pc := 87) X dX5_runs_87 1 rfl ?_
    refine v_iload_n (pc := 88) X dX5_runs_88 1 rfl ?_
    refine v_iconst (pc := 89) (v := 3) X dX5_runs_89 rfl ?_
    refine v_iremC (pc := 90) X (by decide) dX5_runs_90 ?_
    refine v_iconst (pc := 91) (v := 2) X dX5_runs_91 rfl ?_
    refine v_icmp_ne (pc := 92) (tgt := 99) X dX5_runs_92 (by decide) (fun c92 => ?_) (fun c92 => ?_)
    · refine v_iconst (pc := 99) (v := 0) X dX5_runs_99 rfl ?_
      refine v_iast (pc := 100) X wT_n11 wT_l11 dX5_runs_100 (fun s_14 => ?_)
      refine v_iinc (pc := 101) (v := x2 + (1 : Int32)) (lv' := [(2, .int (x2 + (1 : Int32))), (0, .ref (v_E g 0))]) (k := 1) X dX5_runs_101 rfl rfl (Nat.le_of_ble_eq_true rfl) rfl ?_
      refine v_goto (pc := 104) (tgt := 77) X dX5_runs_104 (by decide) ?_
      refine v_sub [1, 0] rfl ?_
      exact h77 (x2 + (1 : Int32)) s_14
    · refine v_iconst (pc := 95) (v := -1) X dX5_runs_95 rfl ?_
      refine v_goto (pc := 96) (tgt := 100) X dX5_runs_96 (by decide) ?_
      refine v_iast (pc := 100) X wT_n11 wT_l11 dX5_runs_100 (fun s_15 => ?_)
      refine v_iinc (pc := 101) (v := x2 + (1 : Int32)) (lv' := [(2, .int (x2 + (1 : Int32))), (0, .ref (v_E g 0))]) (k := 1) X dX5_runs_101 rfl rfl (Nat.le_of_ble_eq_true rfl) rfl ?_
      refine v_goto (pc := 104) (tgt := 77) X dX5_runs_104 (by decide) ?_
      refine v_sub [1, 0] rfl ?_
      exact h77 (x2 + (1 : Int32)) s_15
theorem w_T_runs_77L {Γ : v_Ctx} {l : Launch} {g : v_G} (fu : Nat) (p1 : Int32) (X : v_C Γ l rm_T_runs cX5_runs 4 RX5 none wT g)  : ∀ (n : Nat), ∀ (x2 : Int32) (s : v_S), v_V Γ 4 wT g (fun z : v_S => ((none : Option Value), z)) 77 [(0, .ref (v_E g 0)), (2, .int x2)] [] s (v_loop (t_T_runs_77B fu p1) n (x2, s)) := by
  intro n
  induction n with
  | zero => exact fun _ _ => v_none
  | succ n ih => exact fun x2 s => w_T_runs_77 fu p1 X  _ ih x2 s
theorem w_T_runs_56 {Γ : v_Ctx} {l : Launch} {g : v_G} (fu : Nat) (p1 : Int32) (X : v_C Γ l rm_T_runs cX5_runs 4 RX5 none wT g) (r56 : Int32 × v_S → Option v_S) (h56 : ∀ (x2 : Int32) (s : v_S), v_V Γ 4 wT g (fun z : v_S => ((none : Option Value), z)) 56 [(0, .ref (v_E g 0)), (2, .int x2)] [] s (r56 (x2, s))) (x2 : Int32) (s : v_S) : v_V Γ 4 wT g (fun z : v_S => ((none : Option Value), z)) 56 [(0, .ref (v_E g 0)), (2, .int x2)] [] s (t_T_runs_56 fu p1 r56 x2 s) := by
  unfold t_T_runs_56
  refine v_iload_n (pc := 56) X dX5_runs_56 1 rfl ?_
  refine v_bipush (pc := 57) (v := 24) X dX5_runs_57 rfl ?_
  refine v_icmp_ge (pc := 59) (tgt := 75) X dX5_runs_59 (by decide) (fun c59 => ?_) (fun c59 => ?_)
  · refine v_iconst (pc := 75) (v := 0) X dX5_runs_75 rfl ?_
    refine v_istore_n (pc := 76) (lv' := [(2, .int (0 : Int32)), (0, .ref (v_E g 0))]) X dX5_runs_76 rfl (Nat.le_of_ble_eq_true rfl) rfl ?_
    refine v_sub [1, 0] rfl ?_
    exact w_T_runs_77L fu p1 X  fu (0 : Int32) s
  · refine v_aload_n (pc := 62) X dX5_runs_62 0 rfl ?_
    refine v_get (pc := 63) (kind := 13) (v := .ref (v_E g 10)) X wT_n0 wT_l0 wT_c0 in_X5 (Nat.le_of_ble_eq_true rfl : 18 < 40) q1489 rfl rfl dX5_runs_63 ?_
    refine v_iload_n (pc := 66) X dX5_runs_66 1 rfl ?_
    refine v_iconst (pc := 67) (v := 0) X dX5_runs_67 rfl ?_
    refine v_iast (pc := 68) X wT_n10 wT_l10 dX5_runs_68 (fun s_16 => ?_)
    refine v_iinc (pc := 69) (v := x2 + (1 : Int32)) (lv' := [(2, .int (x2 + (1 : Int32))), (0, .ref (v_E g 0))]) (k := 1) X dX5_runs_69 rfl rfl (Nat.le_of_ble_eq_true rfl) rfl ?_
    refine v_goto (pc := 72) (tgt := 56) X dX5_runs_72 (by decide) ?_
    refine v_sub [1, 0] rfl ?_
    exact h56 (x2 + (1 : Int32)) s_16
theorem w_T_runs_56L {Γ : v_Ctx} {l : Launch} {g : v_G} (fu : Nat) (p1 : Int32) (X : v_C Γ l rm_T_runs cX5_runs 4 RX5 none wT g)  : ∀ (n : Nat), ∀ (x2 : Int32) (s : v_S), v_V Γ 4 wT g (fun z : v_S => ((none : Option Value), z)) 56 [(0, .ref (v_E g 0)), (2, .int x2)] [] s (v_loop (t_T_runs_56B fu p1) n (x2, s)) := by
  intro n
  induction n with
  | zero => exact fun _ _ => v_none
  | succ n ih => exact fun x2 s => w_T_runs_56 fu p1 X  _ ih x2 s
theorem w_T_runs_35 {Γ : v_Ctx} {l : Launch} {g : v_G} (fu : Nat) (p1 : Int32) (X : v_C Γ l rm_T_runs cX5_runs 4 RX5 none wT g) (r35 : Int32 × v_S → Option v_S) (h35 : ∀ (x2 : Int32) (s : v_S), v_V Γ 4 wT g (fun z : v_S => ((none : Option Value), z)) 35 [(0, .ref (v_E g 0)), (2, .int x2)] [] s (r35 (x2, s))) (x2 : Int32) (s : v_S) : v_V Γ 4 wT g (fun z : v_S => ((none : Option Value), z)) 35 [(0, .ref (v_E g 0)), (2, .int x2)] [] s (t_T_runs_35 fu p1 r35 x2 s) := by
  unfold t_T_runs_35
  refine v_iload_n (pc := 35) X dX5_runs_35 1 rfl ?_
  refine v_bipush (pc := 36) (v := 9) X dX5_runs_36 rfl ?_
  refine v_icmp_ge (pc := 38) (tgt := 54) X dX5_runs_38 (by decide) (fun c38 => ?_) (fun c38 => ?_)
  · refine v_iconst (pc := 54) (v := 0) X dX5_runs_54 rfl ?_
    refine v_istore_n (pc := 55) (lv' := [(2, .int (0 : Int32)), (0, .ref (v_E g 0))]) X dX5_runs_55 rfl (Nat.le_of_ble_eq_true rfl) rfl ?_
    refine v_sub [1, 0] rfl ?_
    exact w_T_runs_56L fu p1 X  fu (0 : Int32) s
  · refine v_aload_n (pc := 41) X dX5_runs_41 0 rfl ?_
    refine v_get (pc := 42) (kind := 12) (v := .ref (v_E g 9)) X wT_n0 wT_l0 wT_c0 in_X5 (Nat.le_of_ble_eq_true rfl : 17 < 40) q1488 rfl rfl dX5_runs_42 ?_
    refine v_iload_n (pc := 45) X dX5_runs_45 1 rfl ?_
    refine v_iconst (pc := 46) (v := 0) X dX5_runs_46 rfl ?_
    refine v_iast (pc := 47) X wT_n9 wT_l9 dX5_runs_47 (fun s_17 => ?_)
    refine v_iinc (pc := 48) (v := x2 + (1 : Int32)) (lv' := [(2, .int (x2 + (1 : Int32))), (0, .ref (v_E g 0))]) (k := 1) X dX5_runs_48 rfl rfl (Nat.le_of_ble_eq_true rfl) rfl ?_
    refine v_goto (pc := 51) (tgt := 35) X dX5_runs_51 (by decide) ?_
    refine v_sub [1, 0] rfl ?_
    exact h35 (x2 + (1 : Int32)) s_17
theorem w_T_runs_35L {Γ : v_Ctx} {l : Launch} {g : v_G} (fu : Nat) (p1 : Int32) (X : v_C Γ l rm_T_runs cX5_runs 4 RX5 none wT g)  : ∀ (n : Nat), ∀ (x2 : Int32) (s : v_S), v_V Γ 4 wT g (fun z : v_S => ((none : Option Value), z)) 35 [(0, .ref (v_E g 0)), (2, .int x2)] [] s (v_loop (t_T_runs_35B fu p1) n (x2, s)) := by
  intro n
  induction n with
  | zero => exact fun _ _ => v_none
  | succ n ih => exact fun x2 s => w_T_runs_35 fu p1 X  _ ih x2 s
theorem w_T_runs_7 {Γ : v_Ctx} {l : Launch} {g : v_G} (fu : Nat) (p1 : Int32) (X : v_C Γ l rm_T_runs cX5_runs 4 RX5 none wT g) (r7 : Int32 × v_S → Option v_S) (h7 : ∀ (x2 : Int32) (s : v_S), v_V Γ 4 wT g (fun z : v_S => ((none : Option Value), z)) 7 [(0, .ref (v_E g 0)), (2, .int x2)] [] s (r7 (x2, s))) (x2 : Int32) (s : v_S) : v_V Γ 4 wT g (fun z : v_S => ((none : Option Value), z)) 7 [(0, .ref (v_E g 0)), (2, .int x2)] [] s (t_T_runs_7 fu p1 r7 x2 s) := by
  unfold t_T_runs_7
  refine v_iload_n (pc := 7) X dX5_runs_7 1 rfl ?_
  refine v_aload_n (pc := 8) X dX5_runs_8 0 rfl ?_
  refine v_cGi (pc := 9) X (m_T_villages l g fu _) (v_rc_n X wT_o0) (Or.inl q1725) hy_T_villages rfl rfl rfl rfl dX5_runs_9 (fun z_2 _ => ?_)
  refine v_icmp_ge (pc := 12) (tgt := 33) X dX5_runs_12 (by decide) (fun c12 => ?_) (fun c12 => ?_)
  · refine v_iconst (pc := 33) (v := 0) X dX5_runs_33 rfl ?_
    refine v_istore_n (pc := 34) (lv' := [(2, .int (0 : Int32)), (0, .ref (v_E g 0))]) X dX5_runs_34 rfl (Nat.le_of_ble_eq_true rfl) rfl ?_
    refine v_sub [1, 0] rfl ?_
    exact w_T_runs_35L fu p1 X  fu (0 : Int32) s
  · refine v_aload_n (pc := 15) X dX5_runs_15 0 rfl ?_
    refine v_get (pc := 16) (kind := 10) (v := .ref (v_E g 7)) X wT_n0 wT_l0 wT_c0 in_X5 (Nat.le_of_ble_eq_true rfl : 15 < 40) q1486 rfl rfl dX5_runs_16 ?_
    refine v_iload_n (pc := 19) X dX5_runs_19 1 rfl ?_
    refine v_aload_n (pc := 20) X dX5_runs_20 0 rfl ?_
    refine v_iload_n (pc := 21) X dX5_runs_21 1 rfl ?_
    refine v_iconst (pc := 22) (v := 1) X dX5_runs_22 rfl ?_
    refine v_cGi (pc := 23) X (m_T_of l g fu x2 (1 : Int32) _) (v_rc_n X wT_o0) (Or.inl q1730) hy_T_of rfl rfl rfl rfl dX5_runs_23 (fun z_18 _ => ?_)
    refine v_iast (pc := 26) X wT_n7 wT_l7 dX5_runs_26 (fun s_19 => ?_)
    refine v_iinc (pc := 27) (v := x2 + (1 : Int32)) (lv' := [(2, .int (x2 + (1 : Int32))), (0, .ref (v_E g 0))]) (k := 1) X dX5_runs_27 rfl rfl (Nat.le_of_ble_eq_true rfl) rfl ?_
    refine v_goto (pc := 30) (tgt := 7) X dX5_runs_30 (by decide) ?_
    refine v_sub [1, 0] rfl ?_
    exact h7 (x2 + (1 : Int32)) s_19
theorem w_T_runs_7L {Γ : v_Ctx} {l : Launch} {g : v_G} (fu : Nat) (p1 : Int32) (X : v_C Γ l rm_T_runs cX5_runs 4 RX5 none wT g)  : ∀ (n : Nat), ∀ (x2 : Int32) (s : v_S), v_V Γ 4 wT g (fun z : v_S => ((none : Option Value), z)) 7 [(0, .ref (v_E g 0)), (2, .int x2)] [] s (v_loop (t_T_runs_7B fu p1) n (x2, s)) := by
  intro n
  induction n with
  | zero => exact fun _ _ => v_none
  | succ n ih => exact fun x2 s => w_T_runs_7 fu p1 X  _ ih x2 s
theorem m_T_runs (l : Launch) (g : v_G) (fu : Nat) (p1 : Int32) (s : v_S) : v_M l yX5_runs cX5_runs 4 none rm_T_runs wT g [.ref (v_E g 0), .int p1] s (fun z : v_S => ((none : Option Value), z)) (t_T_runs fu p1 s) := by
  refine v_met (by decide +kernel) (Nat.le_of_ble_eq_true rfl) (fun Γ X => ?_)
  refine v_lv (lv' := [(0, .ref (v_E g 0)), (1, .int p1)]) rfl ?_
  unfold t_T_runs
  refine v_aload_n (pc := 0) X dX5_runs_0 0 rfl ?_
  refine v_iload_n (pc := 1) X dX5_runs_1 1 rfl ?_
  refine v_putI (pc := 2) X wT_n0 wT_l0 wT_c0 in_X5 tyX5 tyX5_ok nmX5 (Nat.le_of_ble_eq_true rfl : 24 < 40) q1495 rfl rfl rfl dX5_runs_2 (fun s_1 => ?_)
  refine v_iconst (pc := 5) (v := 0) X dX5_runs_5 rfl ?_
  refine v_istore_n (pc := 6) (lv' := [(2, .int (0 : Int32)), (0, .ref (v_E g 0)), (1, .int p1)]) X dX5_runs_6 rfl (Nat.le_of_ble_eq_true rfl) rfl ?_
  refine v_sub [1, 0] rfl ?_
  exact w_T_runs_7L fu p1 X  fu (0 : Int32) s_1
/-! FloodLentModel.year()V -/
abbrev rm_T_year : Room := { frames := 5, cells := 0, slots := 0, locals := 112 }
theorem hy_T_year : v_yV yX5_year cX5_year 1 none 0 := ⟨q1752, qs81, q141, q1753, by decide +kernel⟩
def t_T_year (fu : Nat)  (s : v_S) : Option v_S :=
  v_b1 (t_T_runs fu (7 : Int32) s) fun (s_1 : v_S) => some s_1
theorem m_T_year (l : Launch) (g : v_G) (fu : Nat)  (s : v_S) : v_M l yX5_year cX5_year 1 none rm_T_year wT g [.ref (v_E g 0)] s (fun z : v_S => ((none : Option Value), z)) (t_T_year fu  s) := by
  refine v_met (by decide +kernel) (Nat.le_of_ble_eq_true rfl) (fun Γ X => ?_)
  refine v_lv (lv' := [(0, .ref (v_E g 0))]) rfl ?_
  unfold t_T_year
  refine v_aload_n (pc := 0) X dX5_year_0 0 rfl ?_
  refine v_bipush (pc := 1) (v := 7) X dX5_year_1 rfl ?_
  refine v_cGs (pc := 3) X (m_T_runs l g fu (7 : Int32) _) (v_rc_n X wT_o0) (Or.inl q1754) hy_T_runs rfl rfl rfl rfl dX5_year_3 (fun s_1 _ => ?_)
  exact v_vret (pc := 6) X dX5_year_6 rfl
/-! FloodLentModel.water(II)I -/
abbrev rm_T_water : Room := { frames := 6, cells := 0, slots := 0, locals := 132 }
theorem hy_T_water : v_yV yX5_water cX5_water 3 (some .int) 2 := ⟨q1743, q1744, q141, q1745, by decide +kernel⟩
def t_T_water (fu : Nat) (p1 : Int32) (p2 : Int32) (s : v_S) : Option (Int32 × v_S) :=
  v_b1 (t_T_isVillage fu p1 s) fun (z_1 : Int32) => if z_1 = 0 then (some ((-2 : Int32), s)) else (v_b1 (t_T_isWeek fu p2 s) fun (z_2 : Int32) => if z_2 = 0 then (some ((-2 : Int32), s)) else (v_b1 (t_T_year fu s) fun (s_3 : v_S) => v_g (((30 : Int32) * p1) + p2) 180 <| some (s_3.1 8 (Int32.toNatClampNeg (((30 : Int32) * p1) + p2)), s_3)))
theorem m_T_water (l : Launch) (g : v_G) (fu : Nat) (p1 : Int32) (p2 : Int32) (s : v_S) : v_M l yX5_water cX5_water 3 (some .int) rm_T_water wT g [.ref (v_E g 0), .int p1, .int p2] s (fun z : Int32 × v_S => (some (.int z.1), z.2)) (t_T_water fu p1 p2 s) := by
  refine v_met (by decide +kernel) (Nat.le_of_ble_eq_true rfl) (fun Γ X => ?_)
  refine v_lv (lv' := [(0, .ref (v_E g 0)), (1, .int p1), (2, .int p2)]) rfl ?_
  unfold t_T_water
  refine v_aload_n (pc := 0) X dX5_water_0 0 rfl ?_
  refine v_iload_n (pc := 1) X dX5_water_1 1 rfl ?_
  refine v_cGi (pc := 2) X (m_T_isVillage l g fu p1 _) (v_rc_n X wT_o0) (Or.inl q1721) hy_T_isVillage rfl rfl rfl rfl dX5_water_2 (fun z_1 _ => ?_)
  refine v_if_eq (pc := 5) (tgt := 16) X dX5_water_5 (by decide) (fun c5 => ?_) (fun c5 => ?_)
  · refine v_bipush (pc := 16) (v := -2) X dX5_water_16 rfl ?_
    exact v_iret (pc := 18) X dX5_water_18 rfl
  · refine v_aload_n (pc := 8) X dX5_water_8 0 rfl ?_
    refine v_iload_n (pc := 9) X dX5_water_9 2 rfl ?_
    refine v_cGi (pc := 10) X (m_T_isWeek l g fu p2 _) (v_rc_n X wT_o0) (Or.inl q1746) hy_T_isWeek rfl rfl rfl rfl dX5_water_10 (fun z_2 _ => ?_)
    refine v_if_ne (pc := 13) (tgt := 19) X dX5_water_13 (by decide) (fun c13 => ?_) (fun c13 => ?_)
    · refine v_aload_n (pc := 19) X dX5_water_19 0 rfl ?_
      refine v_cGs (pc := 20) X (m_T_year l g fu _) (v_rc_n X wT_o0) (Or.inl q1750) hy_T_year rfl rfl rfl rfl dX5_water_20 (fun s_3 _ => ?_)
      refine v_aload_n (pc := 23) X dX5_water_23 0 rfl ?_
      refine v_get (pc := 24) (kind := 11) (v := .ref (v_E g 8)) X wT_n0 wT_l0 wT_c0 in_X5 (Nat.le_of_ble_eq_true rfl : 16 < 40) q1487 rfl rfl dX5_water_24 ?_
      refine v_bipush (pc := 27) (v := 30) X dX5_water_27 rfl ?_
      refine v_iload_n (pc := 29) X dX5_water_29 1 rfl ?_
      refine v_imul (pc := 30) X dX5_water_30 ?_
      refine v_iload_n (pc := 31) X dX5_water_31 2 rfl ?_
      refine v_iadd (pc := 32) X dX5_water_32 ?_
      refine v_iald (pc := 33) X wT_n8 wT_l8 dX5_water_33 ?_
      exact v_iret (pc := 34) X dX5_water_34 rfl
    · refine v_bipush (pc := 16) (v := -2) X dX5_water_16 rfl ?_
      exact v_iret (pc := 18) X dX5_water_18 rfl
/-! FloodLentModel.shortOfFlood(I)I -/
abbrev rm_T_shortOfFlood : Room := { frames := 1, cells := 0, slots := 0, locals := 21 }
theorem hy_T_shortOfFlood : v_yV yX5_shortOfFlood cX5_shortOfFlood 2 (some .int) 1 := ⟨q1813, qs95, q141, q1814, by decide +kernel⟩
def t_T_shortOfFlood (fu : Nat) (p1 : Int32) (s : v_S) : Option Int32 :=
  v_g (((3 : Int32) * p1) + (1 : Int32)) 9 <| v_g (((3 : Int32) * p1) + (2 : Int32)) 9 <| some ((s.1 9 (Int32.toNatClampNeg (((3 : Int32) * p1) + (1 : Int32)))) - (s.1 9 (Int32.toNatClampNeg (((3 : Int32) * p1) + (2 : Int32)))))
theorem m_T_shortOfFlood (l : Launch) (g : v_G) (fu : Nat) (p1 : Int32) (s : v_S) : v_M l yX5_shortOfFlood cX5_shortOfFlood 2 (some .int) rm_T_shortOfFlood wT g [.ref (v_E g 0), .int p1] s (fun z : Int32 => (some (.int z), s)) (t_T_shortOfFlood fu p1 s) := by
  refine v_met (by decide +kernel) (Nat.le_of_ble_eq_true rfl) (fun Γ X => ?_)
  refine v_lv (lv' := [(0, .ref (v_E g 0)), (1, .int p1)]) rfl ?_
  unfold t_T_shortOfFlood
  refine v_aload_n (pc := 0) X dX5_shortOfFlood_0 0 rfl ?_
  refine v_get (pc := 1) (kind := 12) (v := .ref (v_E g 9)) X wT_n0 wT_l0 wT_c0 in_X5 (Nat.le_of_ble_eq_true rfl : 17 < 40) q1488 rfl rfl dX5_shortOfFlood_1 ?_
  refine v_iconst (pc := 4) (v := 3) X dX5_shortOfFlood_4 rfl ?_
  refine v_iload_n (pc := 5) X dX5_shortOfFlood_5 1 rfl ?_
  refine v_imul (pc := 6) X dX5_shortOfFlood_6 ?_
  refine v_iconst (pc := 7) (v := 1) X dX5_shortOfFlood_7 rfl ?_
  refine v_iadd (pc := 8) X dX5_shortOfFlood_8 ?_
  refine v_iald (pc := 9) X wT_n9 wT_l9 dX5_shortOfFlood_9 ?_
  refine v_aload_n (pc := 10) X dX5_shortOfFlood_10 0 rfl ?_
  refine v_get (pc := 11) (kind := 12) (v := .ref (v_E g 9)) X wT_n0 wT_l0 wT_c0 in_X5 (Nat.le_of_ble_eq_true rfl : 17 < 40) q1488 rfl rfl dX5_shortOfFlood_11 ?_
  refine v_iconst (pc := 14) (v := 3) X dX5_shortOfFlood_14 rfl ?_
  refine v_iload_n (pc := 15) X dX5_shortOfFlood_15 1 rfl ?_
  refine v_imul (pc := 16) X dX5_shortOfFlood_16 ?_
  refine v_iconst (pc := 17) (v := 2) X dX5_shortOfFlood_17 rfl ?_
  refine v_iadd (pc := 18) X dX5_shortOfFlood_18 ?_
  refine v_iald (pc := 19) X wT_n9 wT_l9 dX5_shortOfFlood_19 ?_
  refine v_isub (pc := 20) X dX5_shortOfFlood_20 ?_
  exact v_iret (pc := 21) X dX5_shortOfFlood_21 rfl
/-! FloodLentModel.flood(II)I -/
abbrev rm_T_flood : Room := { frames := 6, cells := 0, slots := 0, locals := 132 }
theorem hy_T_flood : v_yV yX5_flood cX5_flood 3 (some .int) 2 := ⟨q1807, q1808, q141, q1809, by decide +kernel⟩
def t_T_flood (fu : Nat) (p1 : Int32) (p2 : Int32) (s : v_S) : Option (Int32 × v_S) :=
  v_b1 (t_T_isFlood fu p1 s) fun (z_1 : Int32) => if z_1 = 0 then (some ((-2 : Int32), s)) else (v_b1 (t_T_in fu (Int32.toInt64 p2) (0 : Int64) (3 : Int64) s) fun (z_2 : Int32) => if z_2 = 0 then (some ((-2 : Int32), s)) else (v_b1 (t_T_year fu s) fun (s_3 : v_S) => if p2 = (3 : Int32) then (v_b1 (t_T_shortOfFlood fu p1 s_3) fun (z_4 : Int32) => some (z_4, s_3)) else (v_g (((3 : Int32) * p1) + p2) 9 <| some (s_3.1 9 (Int32.toNatClampNeg (((3 : Int32) * p1) + p2)), s_3))))
theorem m_T_flood (l : Launch) (g : v_G) (fu : Nat) (p1 : Int32) (p2 : Int32) (s : v_S) : v_M l yX5_flood cX5_flood 3 (some .int) rm_T_flood wT g [.ref (v_E g 0), .int p1, .int p2] s (fun z : Int32 × v_S => (some (.int z.1), z.2)) (t_T_flood fu p1 p2 s) := by
  refine v_met (by decide +kernel) (Nat.le_of_ble_eq_true rfl) (fun Γ X => ?_)
  refine v_lv (lv' := [(0, .ref (v_E g 0)), (1, .int p1), (2, .int p2)]) rfl ?_
  unfold t_T_flood
  refine v_aload_n (pc := 0) X dX5_flood_0 0 rfl ?_
  refine v_iload_n (pc := 1) X dX5_flood_1 1 rfl ?_
  refine v_cGi (pc := 2) X (m_T_isFlood l g fu p1 _) (v_rc_n X wT_o0) (Or.inl q1738) hy_T_isFlood rfl rfl rfl rfl dX5_flood_2 (fun z_1 _ => ?_)
  refine v_if_eq (pc := 5) (tgt := 20) X dX5_flood_5 (by decide) (fun c5 => ?_) (fun c5 => ?_)
  · refine v_bipush (pc := 20) (v := -2) X dX5_flood_20 rfl ?_
    exact v_iret (pc := 22) X dX5_flood_22 rfl
  · refine v_iload_n (pc := 8) X dX5_flood_8 2 rfl ?_
    refine v_i2l (pc := 9) X dX5_flood_9 ?_
    refine v_lconst (pc := 10) (v := 0) X dX5_flood_10 rfl ?_
    refine v_ldc2 (pc := 11) X q1810 dX5_flood_11 ?_
    refine v_cSi (pc := 14) X (m_T_in l g fu (Int32.toInt64 p2) (0 : Int64) (3 : Int64) _) q1598 hy_T_in rfl rfl rfl rfl dX5_flood_14 (fun z_2 _ => ?_)
    refine v_if_ne (pc := 17) (tgt := 23) X dX5_flood_17 (by decide) (fun c17 => ?_) (fun c17 => ?_)
    · refine v_aload_n (pc := 23) X dX5_flood_23 0 rfl ?_
      refine v_cGs (pc := 24) X (m_T_year l g fu _) (v_rc_n X wT_o0) (Or.inl q1750) hy_T_year rfl rfl rfl rfl dX5_flood_24 (fun s_3 _ => ?_)
      refine v_iload_n (pc := 27) X dX5_flood_27 2 rfl ?_
      refine v_iconst (pc := 28) (v := 3) X dX5_flood_28 rfl ?_
      refine v_icmp_ne (pc := 29) (tgt := 40) X dX5_flood_29 (by decide) (fun c29 => ?_) (fun c29 => ?_)
      · refine v_aload_n (pc := 40) X dX5_flood_40 0 rfl ?_
        refine v_get (pc := 41) (kind := 12) (v := .ref (v_E g 9)) X wT_n0 wT_l0 wT_c0 in_X5 (Nat.le_of_ble_eq_true rfl : 17 < 40) q1488 rfl rfl dX5_flood_41 ?_
        refine v_iconst (pc := 44) (v := 3) X dX5_flood_44 rfl ?_
        refine v_iload_n (pc := 45) X dX5_flood_45 1 rfl ?_
        refine v_imul (pc := 46) X dX5_flood_46 ?_
        refine v_iload_n (pc := 47) X dX5_flood_47 2 rfl ?_
        refine v_iadd (pc := 48) X dX5_flood_48 ?_
        refine v_iald (pc := 49) X wT_n9 wT_l9 dX5_flood_49 ?_
        exact v_iret (pc := 50) X dX5_flood_50 rfl
      · refine v_aload_n (pc := 32) X dX5_flood_32 0 rfl ?_
        refine v_iload_n (pc := 33) X dX5_flood_33 1 rfl ?_
        refine v_cGi (pc := 34) X (m_T_shortOfFlood l g fu p1 _) (v_rc_n X wT_o0) (Or.inl q1811) hy_T_shortOfFlood rfl rfl rfl rfl dX5_flood_34 (fun z_4 _ => ?_)
        refine v_goto (pc := 37) (tgt := 50) X dX5_flood_37 (by decide) ?_
        exact v_iret (pc := 50) X dX5_flood_50 rfl
    · refine v_bipush (pc := 20) (v := -2) X dX5_flood_20 rfl ?_
      exact v_iret (pc := 22) X dX5_flood_22 rfl
/-! FloodLentModel.shortOfLoan(I)I -/
abbrev rm_T_shortOfLoan : Room := { frames := 1, cells := 0, slots := 0, locals := 21 }
theorem hy_T_shortOfLoan : v_yV yX5_shortOfLoan cX5_shortOfLoan 2 (some .int) 1 := ⟨q1821, qs96, q141, q1822, by decide +kernel⟩
def t_T_shortOfLoan (fu : Nat) (p1 : Int32) (s : v_S) : Option Int32 :=
  v_g (((3 : Int32) * p1) + (1 : Int32)) 24 <| v_g (((3 : Int32) * p1) + (2 : Int32)) 24 <| some ((s.1 10 (Int32.toNatClampNeg (((3 : Int32) * p1) + (1 : Int32)))) - (s.1 10 (Int32.toNatClampNeg (((3 : Int32) * p1) + (2 : Int32)))))
theorem m_T_shortOfLoan (l : Launch) (g : v_G) (fu : Nat) (p1 : Int32) (s : v_S) : v_M l yX5_shortOfLoan cX5_shortOfLoan 2 (some .int) rm_T_shortOfLoan wT g [.ref (v_E g 0), .int p1] s (fun z : Int32 => (some (.int z), s)) (t_T_shortOfLoan fu p1 s) := by
  refine v_met (by decide +kernel) (Nat.le_of_ble_eq_true rfl) (fun Γ X => ?_)
  refine v_lv (lv' := [(0, .ref (v_E g 0)), (1, .int p1)]) rfl ?_
  unfold t_T_shortOfLoan
  refine v_aload_n (pc := 0) X dX5_shortOfLoan_0 0 rfl ?_
  refine v_get (pc := 1) (kind := 13) (v := .ref (v_E g 10)) X wT_n0 wT_l0 wT_c0 in_X5 (Nat.le_of_ble_eq_true rfl : 18 < 40) q1489 rfl rfl dX5_shortOfLoan_1 ?_
  refine v_iconst (pc := 4) (v := 3) X dX5_shortOfLoan_4 rfl ?_
  refine v_iload_n (pc := 5) X dX5_shortOfLoan_5 1 rfl ?_
  refine v_imul (pc := 6) X dX5_shortOfLoan_6 ?_
  refine v_iconst (pc := 7) (v := 1) X dX5_shortOfLoan_7 rfl ?_
  refine v_iadd (pc := 8) X dX5_shortOfLoan_8 ?_
  refine v_iald (pc := 9) X wT_n10 wT_l10 dX5_shortOfLoan_9 ?_
  refine v_aload_n (pc := 10) X dX5_shortOfLoan_10 0 rfl ?_
  refine v_get (pc := 11) (kind := 13) (v := .ref (v_E g 10)) X wT_n0 wT_l0 wT_c0 in_X5 (Nat.le_of_ble_eq_true rfl : 18 < 40) q1489 rfl rfl dX5_shortOfLoan_11 ?_
  refine v_iconst (pc := 14) (v := 3) X dX5_shortOfLoan_14 rfl ?_
  refine v_iload_n (pc := 15) X dX5_shortOfLoan_15 1 rfl ?_
  refine v_imul (pc := 16) X dX5_shortOfLoan_16 ?_
  refine v_iconst (pc := 17) (v := 2) X dX5_shortOfLoan_17 rfl ?_
  refine v_iadd (pc := 18) X dX5_shortOfLoan_18 ?_
  refine v_iald (pc := 19) X wT_n10 wT_l10 dX5_shortOfLoan_19 ?_
  refine v_isub (pc := 20) X dX5_shortOfLoan_20 ?_
  exact v_iret (pc := 21) X dX5_shortOfLoan_21 rfl
/-! FloodLentModel.loan(II)I -/
abbrev rm_T_loan : Room := { frames := 6, cells := 0, slots := 0, locals := 132 }
theorem hy_T_loan : v_yV yX5_loan cX5_loan 3 (some .int) 2 := ⟨q1816, q1817, q141, q1818, by decide +kernel⟩
def t_T_loan (fu : Nat) (p1 : Int32) (p2 : Int32) (s : v_S) : Option (Int32 × v_S) :=
  v_b1 (t_T_in fu (Int32.toInt64 p1) (0 : Int64) (Int32.toInt64 ((s.1 1 3) - (1 : Int32))) s) fun (z_1 : Int32) => if z_1 = 0 then (some ((-2 : Int32), s)) else (v_b1 (t_T_in fu (Int32.toInt64 p2) (0 : Int64) (3 : Int64) s) fun (z_2 : Int32) => if z_2 = 0 then (some ((-2 : Int32), s)) else (v_b1 (t_T_year fu s) fun (s_3 : v_S) => if p2 = (3 : Int32) then (v_b1 (t_T_shortOfLoan fu p1 s_3) fun (z_4 : Int32) => some (z_4, s_3)) else (v_g (((3 : Int32) * p1) + p2) 24 <| some (s_3.1 10 (Int32.toNatClampNeg (((3 : Int32) * p1) + p2)), s_3))))
theorem m_T_loan (l : Launch) (g : v_G) (fu : Nat) (p1 : Int32) (p2 : Int32) (s : v_S) : v_M l yX5_loan cX5_loan 3 (some .int) rm_T_loan wT g [.ref (v_E g 0), .int p1, .int p2] s (fun z : Int32 × v_S => (some (.int z.1), z.2)) (t_T_loan fu p1 p2 s) := by
  refine v_met (by decide +kernel) (Nat.le_of_ble_eq_true rfl) (fun Γ X => ?_)
  refine v_lv (lv' := [(0, .ref (v_E g 0)), (1, .int p1), (2, .int p2)]) rfl ?_
  unfold t_T_loan
  refine v_iload_n (pc := 0) X dX5_loan_0 1 rfl ?_
  refine v_i2l (pc := 1) X dX5_loan_1 ?_
  refine v_lconst (pc := 2) (v := 0) X dX5_loan_2 rfl ?_
  refine v_aload_n (pc := 3) X dX5_loan_3 0 rfl ?_
  refine v_get (pc := 4) (kind := 4) (v := .ref (v_E g 1)) X wT_n0 wT_l0 wT_c0 in_X5 (Nat.le_of_ble_eq_true rfl : 1 < 40) q1472 rfl rfl dX5_loan_4 ?_
  refine v_iconst (pc := 7) (v := 3) X dX5_loan_7 rfl ?_
  refine v_ialdC (pc := 8) (k := 3) X wT_n1 wT_l1 rfl dX5_loan_8 ?_
  refine v_iconst (pc := 9) (v := 1) X dX5_loan_9 rfl ?_
  refine v_isub (pc := 10) X dX5_loan_10 ?_
  refine v_i2l (pc := 11) X dX5_loan_11 ?_
  refine v_cSi (pc := 12) X (m_T_in l g fu (Int32.toInt64 p1) (0 : Int64) (Int32.toInt64 ((s.1 1 3) - (1 : Int32))) _) q1598 hy_T_in rfl rfl rfl rfl dX5_loan_12 (fun z_1 _ => ?_)
  refine v_if_eq (pc := 15) (tgt := 30) X dX5_loan_15 (by decide) (fun c15 => ?_) (fun c15 => ?_)
  · refine v_bipush (pc := 30) (v := -2) X dX5_loan_30 rfl ?_
    exact v_iret (pc := 32) X dX5_loan_32 rfl
  · refine v_iload_n (pc := 18) X dX5_loan_18 2 rfl ?_
    refine v_i2l (pc := 19) X dX5_loan_19 ?_
    refine v_lconst (pc := 20) (v := 0) X dX5_loan_20 rfl ?_
    refine v_ldc2 (pc := 21) X q1810 dX5_loan_21 ?_
    refine v_cSi (pc := 24) X (m_T_in l g fu (Int32.toInt64 p2) (0 : Int64) (3 : Int64) _) q1598 hy_T_in rfl rfl rfl rfl dX5_loan_24 (fun z_2 _ => ?_)
    refine v_if_ne (pc := 27) (tgt := 33) X dX5_loan_27 (by decide) (fun c27 => ?_) (fun c27 => ?_)
    · refine v_aload_n (pc := 33) X dX5_loan_33 0 rfl ?_
      refine v_cGs (pc := 34) X (m_T_year l g fu _) (v_rc_n X wT_o0) (Or.inl q1750) hy_T_year rfl rfl rfl rfl dX5_loan_34 (fun s_3 _ => ?_)
      refine v_iload_n (pc := 37) X dX5_loan_37 2 rfl ?_
      refine v_iconst (pc := 38) (v := 3) X dX5_loan_38 rfl ?_
      refine v_icmp_ne (pc := 39) (tgt := 50) X dX5_loan_39 (by decide) (fun c39 => ?_) (fun c39 => ?_)
      · refine v_aload_n (pc := 50) X dX5_loan_50 0 rfl ?_
        refine v_get (pc := 51) (kind := 13) (v := .ref (v_E g 10)) X wT_n0 wT_l0 wT_c0 in_X5 (Nat.le_of_ble_eq_true rfl : 18 < 40) q1489 rfl rfl dX5_loan_51 ?_
        refine v_iconst (pc := 54) (v := 3) X dX5_loan_54 rfl ?_
        refine v_iload_n (pc := 55) X dX5_loan_55 1 rfl ?_
        refine v_imul (pc := 56) X dX5_loan_56 ?_
        refine v_iload_n (pc := 57) X dX5_loan_57 2 rfl ?_
        refine v_iadd (pc := 58) X dX5_loan_58 ?_
        refine v_iald (pc := 59) X wT_n10 wT_l10 dX5_loan_59 ?_
        exact v_iret (pc := 60) X dX5_loan_60 rfl
      · refine v_aload_n (pc := 42) X dX5_loan_42 0 rfl ?_
        refine v_iload_n (pc := 43) X dX5_loan_43 1 rfl ?_
        refine v_cGi (pc := 44) X (m_T_shortOfLoan l g fu p1 _) (v_rc_n X wT_o0) (Or.inl q1819) hy_T_shortOfLoan rfl rfl rfl rfl dX5_loan_44 (fun z_4 _ => ?_)
        refine v_goto (pc := 47) (tgt := 60) X dX5_loan_47 (by decide) ?_
        exact v_iret (pc := 60) X dX5_loan_60 rfl
    · refine v_bipush (pc := 30) (v := -2) X dX5_loan_30 rfl ?_
      exact v_iret (pc := 32) X dX5_loan_32 rfl
/-! FloodLentModel.crop(II)I -/
abbrev rm_T_crop : Room := { frames := 6, cells := 0, slots := 0, locals := 132 }
theorem hy_T_crop : v_yV yX5_crop cX5_crop 3 (some .int) 2 := ⟨q1824, q1825, q141, q1826, by decide +kernel⟩
def t_T_crop (fu : Nat) (p1 : Int32) (p2 : Int32) (s : v_S) : Option (Int32 × v_S) :=
  v_b1 (t_T_in fu (Int32.toInt64 p1) (0 : Int64) (Int32.toInt64 ((s.1 1 1) - (1 : Int32))) s) fun (z_1 : Int32) => if z_1 = 0 then (some ((-2 : Int32), s)) else (v_b1 (t_T_in fu (Int32.toInt64 p2) (0 : Int64) (2 : Int64) s) fun (z_2 : Int32) => if z_2 = 0 then (some ((-2 : Int32), s)) else (v_b1 (t_T_year fu s) fun (s_3 : v_S) => v_g (((3 : Int32) * p1) + p2) 24 <| some (s_3.1 11 (Int32.toNatClampNeg (((3 : Int32) * p1) + p2)), s_3)))
theorem m_T_crop (l : Launch) (g : v_G) (fu : Nat) (p1 : Int32) (p2 : Int32) (s : v_S) : v_M l yX5_crop cX5_crop 3 (some .int) rm_T_crop wT g [.ref (v_E g 0), .int p1, .int p2] s (fun z : Int32 × v_S => (some (.int z.1), z.2)) (t_T_crop fu p1 p2 s) := by
  refine v_met (by decide +kernel) (Nat.le_of_ble_eq_true rfl) (fun Γ X => ?_)
  refine v_lv (lv' := [(0, .ref (v_E g 0)), (1, .int p1), (2, .int p2)]) rfl ?_
  unfold t_T_crop
  refine v_iload_n (pc := 0) X dX5_crop_0 1 rfl ?_
  refine v_i2l (pc := 1) X dX5_crop_1 ?_
  refine v_lconst (pc := 2) (v := 0) X dX5_crop_2 rfl ?_
  refine v_aload_n (pc := 3) X dX5_crop_3 0 rfl ?_
  refine v_get (pc := 4) (kind := 4) (v := .ref (v_E g 1)) X wT_n0 wT_l0 wT_c0 in_X5 (Nat.le_of_ble_eq_true rfl : 1 < 40) q1472 rfl rfl dX5_crop_4 ?_
  refine v_iconst (pc := 7) (v := 1) X dX5_crop_7 rfl ?_
  refine v_ialdC (pc := 8) (k := 1) X wT_n1 wT_l1 rfl dX5_crop_8 ?_
  refine v_iconst (pc := 9) (v := 1) X dX5_crop_9 rfl ?_
  refine v_isub (pc := 10) X dX5_crop_10 ?_
  refine v_i2l (pc := 11) X dX5_crop_11 ?_
  refine v_cSi (pc := 12) X (m_T_in l g fu (Int32.toInt64 p1) (0 : Int64) (Int32.toInt64 ((s.1 1 1) - (1 : Int32))) _) q1598 hy_T_in rfl rfl rfl rfl dX5_crop_12 (fun z_1 _ => ?_)
  refine v_if_eq (pc := 15) (tgt := 30) X dX5_crop_15 (by decide) (fun c15 => ?_) (fun c15 => ?_)
  · refine v_bipush (pc := 30) (v := -2) X dX5_crop_30 rfl ?_
    exact v_iret (pc := 32) X dX5_crop_32 rfl
  · refine v_iload_n (pc := 18) X dX5_crop_18 2 rfl ?_
    refine v_i2l (pc := 19) X dX5_crop_19 ?_
    refine v_lconst (pc := 20) (v := 0) X dX5_crop_20 rfl ?_
    refine v_ldc2 (pc := 21) X q1597 dX5_crop_21 ?_
    refine v_cSi (pc := 24) X (m_T_in l g fu (Int32.toInt64 p2) (0 : Int64) (2 : Int64) _) q1598 hy_T_in rfl rfl rfl rfl dX5_crop_24 (fun z_2 _ => ?_)
    refine v_if_ne (pc := 27) (tgt := 33) X dX5_crop_27 (by decide) (fun c27 => ?_) (fun c27 => ?_)
    · refine v_aload_n (pc := 33) X dX5_crop_33 0 rfl ?_
      refine v_cGs (pc := 34) X (m_T_year l g fu _) (v_rc_n X wT_o0) (Or.inl q1750) hy_T_year rfl rfl rfl rfl dX5_crop_34 (fun s_3 _ => ?_)
      refine v_aload_n (pc := 37) X dX5_crop_37 0 rfl ?_
      refine v_get (pc := 38) (kind := 14) (v := .ref (v_E g 11)) X wT_n0 wT_l0 wT_c0 in_X5 (Nat.le_of_ble_eq_true rfl : 19 < 40) q1490 rfl rfl dX5_crop_38 ?_
      refine v_iconst (pc := 41) (v := 3) X dX5_crop_41 rfl ?_
      refine v_iload_n (pc := 42) X dX5_crop_42 1 rfl ?_
      refine v_imul (pc := 43) X dX5_crop_43 ?_
      refine v_iload_n (pc := 44) X dX5_crop_44 2 rfl ?_
      refine v_iadd (pc := 45) X dX5_crop_45 ?_
      refine v_iald (pc := 46) X wT_n11 wT_l11 dX5_crop_46 ?_
      exact v_iret (pc := 47) X dX5_crop_47 rfl
    · refine v_bipush (pc := 30) (v := -2) X dX5_crop_30 rfl ?_
      exact v_iret (pc := 32) X dX5_crop_32 rfl
/-! FloodLentModel.isPlain()Z -/
abbrev rm_T_isPlain : Room := { frames := 1, cells := 0, slots := 0, locals := 21 }
theorem hy_T_isPlain : v_yV yX5_isPlain cX5_isPlain 1 (some .boolean) 0 := ⟨q1833, qs97, q141, q1834, by decide +kernel⟩
def t_T_isPlain (fu : Nat)  (s : v_S) : Option Int32 :=
  if s.1 1 5 ≤ 0 then (some (0 : Int32)) else (some (1 : Int32))
theorem m_T_isPlain (l : Launch) (g : v_G) (fu : Nat)  (s : v_S) : v_M l yX5_isPlain cX5_isPlain 1 (some .boolean) rm_T_isPlain wT g [.ref (v_E g 0)] s (fun z : Int32 => (some (.int z), s)) (t_T_isPlain fu  s) := by
  refine v_met (by decide +kernel) (Nat.le_of_ble_eq_true rfl) (fun Γ X => ?_)
  refine v_lv (lv' := [(0, .ref (v_E g 0))]) rfl ?_
  unfold t_T_isPlain
  refine v_aload_n (pc := 0) X dX5_isPlain_0 0 rfl ?_
  refine v_get (pc := 1) (kind := 4) (v := .ref (v_E g 1)) X wT_n0 wT_l0 wT_c0 in_X5 (Nat.le_of_ble_eq_true rfl : 1 < 40) q1472 rfl rfl dX5_isPlain_1 ?_
  refine v_iconst (pc := 4) (v := 5) X dX5_isPlain_4 rfl ?_
  refine v_ialdC (pc := 5) (k := 5) X wT_n1 wT_l1 rfl dX5_isPlain_5 ?_
  refine v_if_le (pc := 6) (tgt := 13) X dX5_isPlain_6 (by decide) (fun c6 => ?_) (fun c6 => ?_)
  · refine v_iconst (pc := 13) (v := 0) X dX5_isPlain_13 rfl ?_
    exact v_zret (pc := 14) X dX5_isPlain_14 rfl rfl
  · refine v_iconst (pc := 9) (v := 1) X dX5_isPlain_9 rfl ?_
    refine v_goto (pc := 10) (tgt := 14) X dX5_isPlain_10 (by decide) ?_
    exact v_zret (pc := 14) X dX5_isPlain_14 rfl rfl
/-! FloodLentModel.brought()I -/
abbrev rm_T_brought : Room := { frames := 1, cells := 0, slots := 0, locals := 21 }
theorem hy_T_brought : v_yV yX5_brought cX5_brought 3 (some .int) 0 := ⟨q1838, qs98, q141, q1839, by decide +kernel⟩
def t_T_brought_4 (fu : Nat) (s : v_S) (r4 : Int32 × Int32 → Option Int32) (x1 : Int32) (x2 : Int32) : Option Int32 :=
if s.1 1 1 ≤ x2 then (some x1) else (v_g (((3 : Int32) * x2) + (0 : Int32)) 24 <| v_n (x1 + (s.1 11 (Int32.toNatClampNeg (((3 : Int32) * x2) + (0 : Int32))))) fun (x1_1 : Int32) => r4 (x1_1, x2 + (1 : Int32)))
def t_T_brought_4B (fu : Nat) (s : v_S) (r4 : Int32 × Int32 → Option Int32) (a : Int32 × Int32) : Option Int32 := t_T_brought_4 fu s r4 a.1 a.2
def t_T_brought (fu : Nat)  (s : v_S) : Option Int32 :=
  v_loop (t_T_brought_4B fu s) fu ((0 : Int32), (0 : Int32))
theorem w_T_brought_4 {Γ : v_Ctx} {l : Launch} {g : v_G} (fu : Nat) (s : v_S) (X : v_C Γ l rm_T_brought cX5_brought 3 RX5 (some .int) wT g) (r4 : Int32 × Int32 → Option Int32) (h4 : ∀ (x1 : Int32) (x2 : Int32), v_V Γ 3 wT g (fun z : Int32 => (some (.int z), s)) 4 [(0, .ref (v_E g 0)), (1, .int x1), (2, .int x2)] [] s (r4 (x1, x2))) (x1 : Int32) (x2 : Int32) : v_V Γ 3 wT g (fun z : Int32 => (some (.int z), s)) 4 [(0, .ref (v_E g 0)), (1, .int x1), (2, .int x2)] [] s (t_T_brought_4 fu s r4 x1 x2) := by
  unfold t_T_brought_4
  refine v_iload_n (pc := 4) X dX5_brought_4 2 rfl ?_
  refine v_aload_n (pc := 5) X dX5_brought_5 0 rfl ?_
  refine v_get (pc := 6) (kind := 4) (v := .ref (v_E g 1)) X wT_n0 wT_l0 wT_c0 in_X5 (Nat.le_of_ble_eq_true rfl : 1 < 40) q1472 rfl rfl dX5_brought_6 ?_
  refine v_iconst (pc := 9) (v := 1) X dX5_brought_9 rfl ?_
  refine v_ialdC (pc := 10) (k := 1) X wT_n1 wT_l1 rfl dX5_brought_10 ?_
  refine v_icmp_ge (pc := 11) (tgt := 33) X dX5_brought_11 (by decide) (fun c11 => ?_) (fun c11 => ?_)
  · refine v_iload_n (pc := 33) X dX5_brought_33 1 rfl ?_
    exact v_iret (pc := 34) X dX5_brought_34 rfl
  · refine v_iload_n (pc := 14) X dX5_brought_14 1 rfl ?_
    refine v_aload_n (pc := 15) X dX5_brought_15 0 rfl ?_
    refine v_get (pc := 16) (kind := 14) (v := .ref (v_E g 11)) X wT_n0 wT_l0 wT_c0 in_X5 (Nat.le_of_ble_eq_true rfl : 19 < 40) q1490 rfl rfl dX5_brought_16 ?_
    refine v_iconst (pc := 19) (v := 3) X dX5_brought_19 rfl ?_
    refine v_iload_n (pc := 20) X dX5_brought_20 2 rfl ?_
    refine v_imul (pc := 21) X dX5_brought_21 ?_
    refine v_iconst (pc := 22) (v := 0) X dX5_brought_22 rfl ?_
    refine v_iadd (pc := 23) X dX5_brought_23 ?_
    refine v_iald (pc := 24) X wT_n11 wT_l11 dX5_brought_24 ?_
    refine v_iadd (pc := 25) X dX5_brought_25 ?_
    refine v_istore_nN (pc := 26) (lvf := fun x1_1 => [(1, .int x1_1), (0, .ref (v_E g 0)), (2, .int x2)]) X dX5_brought_26 rfl (Nat.le_of_ble_eq_true rfl) (fun _ => rfl) (fun x1_1 => ?_)
    refine v_iinc (pc := 27) (v := x2 + (1 : Int32)) (lv' := [(2, .int (x2 + (1 : Int32))), (1, .int x1_1), (0, .ref (v_E g 0))]) (k := 2) X dX5_brought_27 rfl rfl (Nat.le_of_ble_eq_true rfl) rfl ?_
    refine v_goto (pc := 30) (tgt := 4) X dX5_brought_30 (by decide) ?_
    refine v_sub [2, 1, 0] rfl ?_
    exact h4 x1_1 (x2 + (1 : Int32))
theorem w_T_brought_4L {Γ : v_Ctx} {l : Launch} {g : v_G} (fu : Nat) (s : v_S) (X : v_C Γ l rm_T_brought cX5_brought 3 RX5 (some .int) wT g)  : ∀ (n : Nat), ∀ (x1 : Int32) (x2 : Int32), v_V Γ 3 wT g (fun z : Int32 => (some (.int z), s)) 4 [(0, .ref (v_E g 0)), (1, .int x1), (2, .int x2)] [] s (v_loop (t_T_brought_4B fu s) n (x1, x2)) := by
  intro n
  induction n with
  | zero => exact fun _ _ => v_none
  | succ n ih => exact fun x1 x2 => w_T_brought_4 fu s X  _ ih x1 x2
theorem m_T_brought (l : Launch) (g : v_G) (fu : Nat)  (s : v_S) : v_M l yX5_brought cX5_brought 3 (some .int) rm_T_brought wT g [.ref (v_E g 0)] s (fun z : Int32 => (some (.int z), s)) (t_T_brought fu  s) := by
  refine v_met (by decide +kernel) (Nat.le_of_ble_eq_true rfl) (fun Γ X => ?_)
  refine v_lv (lv' := [(0, .ref (v_E g 0))]) rfl ?_
  unfold t_T_brought
  refine v_iconst (pc := 0) (v := 0) X dX5_brought_0 rfl ?_
  refine v_istore_n (pc := 1) (lv' := [(1, .int (0 : Int32)), (0, .ref (v_E g 0))]) X dX5_brought_1 rfl (Nat.le_of_ble_eq_true rfl) rfl ?_
  refine v_iconst (pc := 2) (v := 0) X dX5_brought_2 rfl ?_
  refine v_istore_n (pc := 3) (lv' := [(2, .int (0 : Int32)), (1, .int (0 : Int32)), (0, .ref (v_E g 0))]) X dX5_brought_3 rfl (Nat.le_of_ble_eq_true rfl) rfl ?_
  refine v_sub [2, 1, 0] rfl ?_
  exact w_T_brought_4L fu s X  fu (0 : Int32) (0 : Int32)
/-! FloodLentModel.shortOfFloods()I -/
abbrev rm_T_shortOfFloods : Room := { frames := 2, cells := 0, slots := 0, locals := 42 }
theorem hy_T_shortOfFloods : v_yV yX5_shortOfFloods cX5_shortOfFloods 3 (some .int) 0 := ⟨q1842, qs99, q141, q1843, by decide +kernel⟩
def t_T_shortOfFloods_4 (fu : Nat) (s : v_S) (r4 : Int32 × Int32 → Option Int32) (x1 : Int32) (x2 : Int32) : Option Int32 :=
if s.1 1 2 ≤ x2 then (some x1) else (v_b1 (t_T_shortOfFlood fu x2 s) fun (z_1 : Int32) => v_n (x1 + z_1) fun (x1_2 : Int32) => r4 (x1_2, x2 + (1 : Int32)))
def t_T_shortOfFloods_4B (fu : Nat) (s : v_S) (r4 : Int32 × Int32 → Option Int32) (a : Int32 × Int32) : Option Int32 := t_T_shortOfFloods_4 fu s r4 a.1 a.2
def t_T_shortOfFloods (fu : Nat)  (s : v_S) : Option Int32 :=
  v_loop (t_T_shortOfFloods_4B fu s) fu ((0 : Int32), (0 : Int32))
theorem w_T_shortOfFloods_4 {Γ : v_Ctx} {l : Launch} {g : v_G} (fu : Nat) (s : v_S) (X : v_C Γ l rm_T_shortOfFloods cX5_shortOfFloods 3 RX5 (some .int) wT g) (r4 : Int32 × Int32 → Option Int32) (h4 : ∀ (x1 : Int32) (x2 : Int32), v_V Γ 3 wT g (fun z : Int32 => (some (.int z), s)) 4 [(0, .ref (v_E g 0)), (1, .int x1), (2, .int x2)] [] s (r4 (x1, x2))) (x1 : Int32) (x2 : Int32) : v_V Γ 3 wT g (fun z : Int32 => (some (.int z), s)) 4 [(0, .ref (v_E g 0)), (1, .int x1), (2, .int x2)] [] s (t_T_shortOfFloods_4 fu s r4 x1 x2) := by
  unfold t_T_shortOfFloods_4
  refine v_iload_n (pc := 4) X dX5_shortOfFloods_4 2 rfl ?_
  refine v_aload_n (pc := 5) X dX5_shortOfFloods_5 0 rfl ?_
  refine v_get (pc := 6) (kind := 4) (v := .ref (v_E g 1)) X wT_n0 wT_l0 wT_c0 in_X5 (Nat.le_of_ble_eq_true rfl : 1 < 40) q1472 rfl rfl dX5_shortOfFloods_6 ?_
  refine v_iconst (pc := 9) (v := 2) X dX5_shortOfFloods_9 rfl ?_
  refine v_ialdC (pc := 10) (k := 2) X wT_n1 wT_l1 rfl dX5_shortOfFloods_10 ?_
  refine v_icmp_ge (pc := 11) (tgt := 28) X dX5_shortOfFloods_11 (by decide) (fun c11 => ?_) (fun c11 => ?_)
  · refine v_iload_n (pc := 28) X dX5_shortOfFloods_28 1 rfl ?_
    exact v_iret (pc := 29) X dX5_shortOfFloods_29 rfl
  · refine v_iload_n (pc := 14) X dX5_shortOfFloods_14 1 rfl ?_
    refine v_aload_n (pc := 15) X dX5_shortOfFloods_15 0 rfl ?_
    refine v_iload_n (pc := 16) X dX5_shortOfFloods_16 2 rfl ?_
    refine v_cGi (pc := 17) X (m_T_shortOfFlood l g fu x2 _) (v_rc_n X wT_o0) (Or.inl q1811) hy_T_shortOfFlood rfl rfl rfl rfl dX5_shortOfFloods_17 (fun z_1 _ => ?_)
    refine v_iadd (pc := 20) X dX5_shortOfFloods_20 ?_
    refine v_istore_nN (pc := 21) (lvf := fun x1_2 => [(1, .int x1_2), (0, .ref (v_E g 0)), (2, .int x2)]) X dX5_shortOfFloods_21 rfl (Nat.le_of_ble_eq_true rfl) (fun _ => rfl) (fun x1_2 => ?_)
    refine v_iinc (pc := 22) (v := x2 + (1 : Int32)) (lv' := [(2, .int (x2 + (1 : Int32))), (1, .int x1_2), (0, .ref (v_E g 0))]) (k := 2) X dX5_shortOfFloods_22 rfl rfl (Nat.le_of_ble_eq_true rfl) rfl ?_
    refine v_goto (pc := 25) (tgt := 4) X dX5_shortOfFloods_25 (by decide) ?_
    refine v_sub [2, 1, 0] rfl ?_
    exact h4 x1_2 (x2 + (1 : Int32))
theorem w_T_shortOfFloods_4L {Γ : v_Ctx} {l : Launch} {g : v_G} (fu : Nat) (s : v_S) (X : v_C Γ l rm_T_shortOfFloods cX5_shortOfFloods 3 RX5 (some .int) wT g)  : ∀ (n : Nat), ∀ (x1 : Int32) (x2 : Int32), v_V Γ 3 wT g (fun z : Int32 => (some (.int z), s)) 4 [(0, .ref (v_E g 0)), (1, .int x1), (2, .int x2)] [] s (v_loop (t_T_shortOfFloods_4B fu s) n (x1, x2)) := by
  intro n
  induction n with
  | zero => exact fun _ _ => v_none
  | succ n ih => exact fun x1 x2 => w_T_shortOfFloods_4 fu s X  _ ih x1 x2
theorem m_T_shortOfFloods (l : Launch) (g : v_G) (fu : Nat)  (s : v_S) : v_M l yX5_shortOfFloods cX5_shortOfFloods 3 (some .int) rm_T_shortOfFloods wT g [.ref (v_E g 0)] s (fun z : Int32 => (some (.int z), s)) (t_T_shortOfFloods fu  s) := by
  refine v_met (by decide +kernel) (Nat.le_of_ble_eq_true rfl) (fun Γ X => ?_)
  refine v_lv (lv' := [(0, .ref (v_E g 0))]) rfl ?_
  unfold t_T_shortOfFloods
  refine v_iconst (pc := 0) (v := 0) X dX5_shortOfFloods_0 rfl ?_
  refine v_istore_n (pc := 1) (lv' := [(1, .int (0 : Int32)), (0, .ref (v_E g 0))]) X dX5_shortOfFloods_1 rfl (Nat.le_of_ble_eq_true rfl) rfl ?_
  refine v_iconst (pc := 2) (v := 0) X dX5_shortOfFloods_2 rfl ?_
  refine v_istore_n (pc := 3) (lv' := [(2, .int (0 : Int32)), (1, .int (0 : Int32)), (0, .ref (v_E g 0))]) X dX5_shortOfFloods_3 rfl (Nat.le_of_ble_eq_true rfl) rfl ?_
  refine v_sub [2, 1, 0] rfl ?_
  exact w_T_shortOfFloods_4L fu s X  fu (0 : Int32) (0 : Int32)
/-! FloodLentModel.shortOfLoans()I -/
abbrev rm_T_shortOfLoans : Room := { frames := 2, cells := 0, slots := 0, locals := 42 }
theorem hy_T_shortOfLoans : v_yV yX5_shortOfLoans cX5_shortOfLoans 3 (some .int) 0 := ⟨q1846, qs100, q141, q1847, by decide +kernel⟩
def t_T_shortOfLoans_4 (fu : Nat) (s : v_S) (r4 : Int32 × Int32 → Option Int32) (x1 : Int32) (x2 : Int32) : Option Int32 :=
if s.1 1 3 ≤ x2 then (some x1) else (v_b1 (t_T_shortOfLoan fu x2 s) fun (z_1 : Int32) => v_n (x1 + z_1) fun (x1_2 : Int32) => r4 (x1_2, x2 + (1 : Int32)))
def t_T_shortOfLoans_4B (fu : Nat) (s : v_S) (r4 : Int32 × Int32 → Option Int32) (a : Int32 × Int32) : Option Int32 := t_T_shortOfLoans_4 fu s r4 a.1 a.2
def t_T_shortOfLoans (fu : Nat)  (s : v_S) : Option Int32 :=
  v_loop (t_T_shortOfLoans_4B fu s) fu ((0 : Int32), (0 : Int32))
theorem w_T_shortOfLoans_4 {Γ : v_Ctx} {l : Launch} {g : v_G} (fu : Nat) (s : v_S) (X : v_C Γ l rm_T_shortOfLoans cX5_shortOfLoans 3 RX5 (some .int) wT g) (r4 : Int32 × Int32 → Option Int32) (h4 : ∀ (x1 : Int32) (x2 : Int32), v_V Γ 3 wT g (fun z : Int32 => (some (.int z), s)) 4 [(0, .ref (v_E g 0)), (1, .int x1), (2, .int x2)] [] s (r4 (x1, x2))) (x1 : Int32) (x2 : Int32) : v_V Γ 3 wT g (fun z : Int32 => (some (.int z), s)) 4 [(0, .ref (v_E g 0)), (1, .int x1), (2, .int x2)] [] s (t_T_shortOfLoans_4 fu s r4 x1 x2) := by
  unfold t_T_shortOfLoans_4
  refine v_iload_n (pc := 4) X dX5_shortOfLoans_4 2 rfl ?_
  refine v_aload_n (pc := 5) X dX5_shortOfLoans_5 0 rfl ?_
  refine v_get (pc := 6) (kind := 4) (v := .ref (v_E g 1)) X wT_n0 wT_l0 wT_c0 in_X5 (Nat.le_of_ble_eq_true rfl : 1 < 40) q1472 rfl rfl dX5_shortOfLoans_6 ?_
  refine v_iconst (pc := 9) (v := 3) X dX5_shortOfLoans_9 rfl ?_
  refine v_ialdC (pc := 10) (k := 3) X wT_n1 wT_l1 rfl dX5_shortOfLoans_10 ?_
  refine v_icmp_ge (pc := 11) (tgt := 28) X dX5_shortOfLoans_11 (by decide) (fun c11 => ?_) (fun c11 => ?_)
  · refine v_iload_n (pc := 28) X dX5_shortOfLoans_28 1 rfl ?_
    exact v_iret (pc := 29) X dX5_shortOfLoans_29 rfl
  · refine v_iload_n (pc := 14) X dX5_shortOfLoans_14 1 rfl ?_
    refine v_aload_n (pc := 15) X dX5_shortOfLoans_15 0 rfl ?_
    refine v_iload_n (pc := 16) X dX5_shortOfLoans_16 2 rfl ?_
    refine v_cGi (pc := 17) X (m_T_shortOfLoan l g fu x2 _) (v_rc_n X wT_o0) (Or.inl q1819) hy_T_shortOfLoan rfl rfl rfl rfl dX5_shortOfLoans_17 (fun z_1 _ => ?_)
    refine v_iadd (pc := 20) X dX5_shortOfLoans_20 ?_
    refine v_istore_nN (pc := 21) (lvf := fun x1_2 => [(1, .int x1_2), (0, .ref (v_E g 0)), (2, .int x2)]) X dX5_shortOfLoans_21 rfl (Nat.le_of_ble_eq_true rfl) (fun _ => rfl) (fun x1_2 => ?_)
    refine v_iinc (pc := 22) (v := x2 + (1 : Int32)) (lv' := [(2, .int (x2 + (1 : Int32))), (1, .int x1_2), (0, .ref (v_E g 0))]) (k := 2) X dX5_shortOfLoans_22 rfl rfl (Nat.le_of_ble_eq_true rfl) rfl ?_
    refine v_goto (pc := 25) (tgt := 4) X dX5_shortOfLoans_25 (by decide) ?_
    refine v_sub [2, 1, 0] rfl ?_
    exact h4 x1_2 (x2 + (1 : Int32))
theorem w_T_shortOfLoans_4L {Γ : v_Ctx} {l : Launch} {g : v_G} (fu : Nat) (s : v_S) (X : v_C Γ l rm_T_shortOfLoans cX5_shortOfLoans 3 RX5 (some .int) wT g)  : ∀ (n : Nat), ∀ (x1 : Int32) (x2 : Int32), v_V Γ 3 wT g (fun z : Int32 => (some (.int z), s)) 4 [(0, .ref (v_E g 0)), (1, .int x1), (2, .int x2)] [] s (v_loop (t_T_shortOfLoans_4B fu s) n (x1, x2)) := by
  intro n
  induction n with
  | zero => exact fun _ _ => v_none
  | succ n ih => exact fun x1 x2 => w_T_shortOfLoans_4 fu s X  _ ih x1 x2
theorem m_T_shortOfLoans (l : Launch) (g : v_G) (fu : Nat)  (s : v_S) : v_M l yX5_shortOfLoans cX5_shortOfLoans 3 (some .int) rm_T_shortOfLoans wT g [.ref (v_E g 0)] s (fun z : Int32 => (some (.int z), s)) (t_T_shortOfLoans fu  s) := by
  refine v_met (by decide +kernel) (Nat.le_of_ble_eq_true rfl) (fun Γ X => ?_)
  refine v_lv (lv' := [(0, .ref (v_E g 0))]) rfl ?_
  unfold t_T_shortOfLoans
  refine v_iconst (pc := 0) (v := 0) X dX5_shortOfLoans_0 rfl ?_
  refine v_istore_n (pc := 1) (lv' := [(1, .int (0 : Int32)), (0, .ref (v_E g 0))]) X dX5_shortOfLoans_1 rfl (Nat.le_of_ble_eq_true rfl) rfl ?_
  refine v_iconst (pc := 2) (v := 0) X dX5_shortOfLoans_2 rfl ?_
  refine v_istore_n (pc := 3) (lv' := [(2, .int (0 : Int32)), (1, .int (0 : Int32)), (0, .ref (v_E g 0))]) X dX5_shortOfLoans_3 rfl (Nat.le_of_ble_eq_true rfl) rfl ?_
  refine v_sub [2, 1, 0] rfl ?_
  exact w_T_shortOfLoans_4L fu s X  fu (0 : Int32) (0 : Int32)
/-! FloodLentModel.floodSum(I)I -/
abbrev rm_T_floodSum : Room := { frames := 1, cells := 0, slots := 0, locals := 21 }
theorem hy_T_floodSum : v_yV yX5_floodSum cX5_floodSum 4 (some .int) 1 := ⟨q1850, qs101, q141, q1851, by decide +kernel⟩
def t_T_floodSum_4 (fu : Nat) (p1 : Int32) (s : v_S) (r4 : Int32 × Int32 → Option Int32) (x2 : Int32) (x3 : Int32) : Option Int32 :=
if s.1 1 2 ≤ x3 then (some x2) else (v_g (((3 : Int32) * x3) + p1) 9 <| v_n (x2 + (s.1 9 (Int32.toNatClampNeg (((3 : Int32) * x3) + p1)))) fun (x2_1 : Int32) => r4 (x2_1, x3 + (1 : Int32)))
def t_T_floodSum_4B (fu : Nat) (p1 : Int32) (s : v_S) (r4 : Int32 × Int32 → Option Int32) (a : Int32 × Int32) : Option Int32 := t_T_floodSum_4 fu p1 s r4 a.1 a.2
def t_T_floodSum (fu : Nat) (p1 : Int32) (s : v_S) : Option Int32 :=
  v_loop (t_T_floodSum_4B fu p1 s) fu ((0 : Int32), (0 : Int32))
theorem w_T_floodSum_4 {Γ : v_Ctx} {l : Launch} {g : v_G} (fu : Nat) (p1 : Int32) (s : v_S) (X : v_C Γ l rm_T_floodSum cX5_floodSum 4 RX5 (some .int) wT g) (r4 : Int32 × Int32 → Option Int32) (h4 : ∀ (x2 : Int32) (x3 : Int32), v_V Γ 4 wT g (fun z : Int32 => (some (.int z), s)) 4 [(0, .ref (v_E g 0)), (1, .int p1), (2, .int x2), (3, .int x3)] [] s (r4 (x2, x3))) (x2 : Int32) (x3 : Int32) : v_V Γ 4 wT g (fun z : Int32 => (some (.int z), s)) 4 [(0, .ref (v_E g 0)), (1, .int p1), (2, .int x2), (3, .int x3)] [] s (t_T_floodSum_4 fu p1 s r4 x2 x3) := by
  unfold t_T_floodSum_4
  refine v_iload_n (pc := 4) X dX5_floodSum_4 3 rfl ?_
  refine v_aload_n (pc := 5) X dX5_floodSum_5 0 rfl ?_
  refine v_get (pc := 6) (kind := 4) (v := .ref (v_E g 1)) X wT_n0 wT_l0 wT_c0 in_X5 (Nat.le_of_ble_eq_true rfl : 1 < 40) q1472 rfl rfl dX5_floodSum_6 ?_
  refine v_iconst (pc := 9) (v := 2) X dX5_floodSum_9 rfl ?_
  refine v_ialdC (pc := 10) (k := 2) X wT_n1 wT_l1 rfl dX5_floodSum_10 ?_
  refine v_icmp_ge (pc := 11) (tgt := 33) X dX5_floodSum_11 (by decide) (fun c11 => ?_) (fun c11 => ?_)
  · refine v_iload_n (pc := 33) X dX5_floodSum_33 2 rfl ?_
    exact v_iret (pc := 34) X dX5_floodSum_34 rfl
  · refine v_iload_n (pc := 14) X dX5_floodSum_14 2 rfl ?_
    refine v_aload_n (pc := 15) X dX5_floodSum_15 0 rfl ?_
    refine v_get (pc := 16) (kind := 12) (v := .ref (v_E g 9)) X wT_n0 wT_l0 wT_c0 in_X5 (Nat.le_of_ble_eq_true rfl : 17 < 40) q1488 rfl rfl dX5_floodSum_16 ?_
    refine v_iconst (pc := 19) (v := 3) X dX5_floodSum_19 rfl ?_
    refine v_iload_n (pc := 20) X dX5_floodSum_20 3 rfl ?_
    refine v_imul (pc := 21) X dX5_floodSum_21 ?_
    refine v_iload_n (pc := 22) X dX5_floodSum_22 1 rfl ?_
    refine v_iadd (pc := 23) X dX5_floodSum_23 ?_
    refine v_iald (pc := 24) X wT_n9 wT_l9 dX5_floodSum_24 ?_
    refine v_iadd (pc := 25) X dX5_floodSum_25 ?_
    refine v_istore_nN (pc := 26) (lvf := fun x2_1 => [(2, .int x2_1), (0, .ref (v_E g 0)), (1, .int p1), (3, .int x3)]) X dX5_floodSum_26 rfl (Nat.le_of_ble_eq_true rfl) (fun _ => rfl) (fun x2_1 => ?_)
    refine v_iinc (pc := 27) (v := x3 + (1 : Int32)) (lv' := [(3, .int (x3 + (1 : Int32))), (2, .int x2_1), (0, .ref (v_E g 0)), (1, .int p1)]) (k := 3) X dX5_floodSum_27 rfl rfl (Nat.le_of_ble_eq_true rfl) rfl ?_
    refine v_goto (pc := 30) (tgt := 4) X dX5_floodSum_30 (by decide) ?_
    refine v_sub [2, 3, 1, 0] rfl ?_
    exact h4 x2_1 (x3 + (1 : Int32))
theorem w_T_floodSum_4L {Γ : v_Ctx} {l : Launch} {g : v_G} (fu : Nat) (p1 : Int32) (s : v_S) (X : v_C Γ l rm_T_floodSum cX5_floodSum 4 RX5 (some .int) wT g)  : ∀ (n : Nat), ∀ (x2 : Int32) (x3 : Int32), v_V Γ 4 wT g (fun z : Int32 => (some (.int z), s)) 4 [(0, .ref (v_E g 0)), (1, .int p1), (2, .int x2), (3, .int x3)] [] s (v_loop (t_T_floodSum_4B fu p1 s) n (x2, x3)) := by
  intro n
  induction n with
  | zero => exact fun _ _ => v_none
  | succ n ih => exact fun x2 x3 => w_T_floodSum_4 fu p1 s X  _ ih x2 x3
theorem m_T_floodSum (l : Launch) (g : v_G) (fu : Nat) (p1 : Int32) (s : v_S) : v_M l yX5_floodSum cX5_floodSum 4 (some .int) rm_T_floodSum wT g [.ref (v_E g 0), .int p1] s (fun z : Int32 => (some (.int z), s)) (t_T_floodSum fu p1 s) := by
  refine v_met (by decide +kernel) (Nat.le_of_ble_eq_true rfl) (fun Γ X => ?_)
  refine v_lv (lv' := [(0, .ref (v_E g 0)), (1, .int p1)]) rfl ?_
  unfold t_T_floodSum
  refine v_iconst (pc := 0) (v := 0) X dX5_floodSum_0 rfl ?_
  refine v_istore_n (pc := 1) (lv' := [(2, .int (0 : Int32)), (0, .ref (v_E g 0)), (1, .int p1)]) X dX5_floodSum_1 rfl (Nat.le_of_ble_eq_true rfl) rfl ?_
  refine v_iconst (pc := 2) (v := 0) X dX5_floodSum_2 rfl ?_
  refine v_istore_n (pc := 3) (lv' := [(3, .int (0 : Int32)), (2, .int (0 : Int32)), (0, .ref (v_E g 0)), (1, .int p1)]) X dX5_floodSum_3 rfl (Nat.le_of_ble_eq_true rfl) rfl ?_
  refine v_sub [2, 3, 1, 0] rfl ?_
  exact w_T_floodSum_4L fu p1 s X  fu (0 : Int32) (0 : Int32)
/-! FloodLentModel.sum(I)I -/
abbrev rm_T_sum : Room := { frames := 6, cells := 0, slots := 0, locals := 132 }
theorem hy_T_sum : v_yV yX5_sum cX5_sum 4 (some .int) 1 := ⟨q1828, q1829, q141, q1830, by decide +kernel⟩
def t_T_sum_118 (fu : Nat) (p1 : Int32) (r118 : Int32 × Int32 × v_S → Option (Int32 × v_S)) (x2 : Int32) (x3 : Int32) (s : v_S) : Option (Int32 × v_S) :=
v_b1 (t_T_villages fu s) fun (z_4 : Int32) => if z_4 ≤ x3 then (some (x2, s)) else (v_g x3 6 <| v_n (x2 + (s.1 7 (Int32.toNatClampNeg x3))) fun (x2_5 : Int32) => r118 (x2_5, x3 + (1 : Int32), s))
def t_T_sum_118B (fu : Nat) (p1 : Int32) (r118 : Int32 × Int32 × v_S → Option (Int32 × v_S)) (a : Int32 × Int32 × v_S) : Option (Int32 × v_S) := t_T_sum_118 fu p1 r118 a.1 a.2.1 a.2.2
def t_T_sum (fu : Nat) (p1 : Int32) (s : v_S) : Option (Int32 × v_S) :=
  v_b1 (t_T_isPlain fu s) fun (z_1 : Int32) => if z_1 = 0 then (some ((-2 : Int32), s)) else (v_b1 (t_T_in fu (Int32.toInt64 p1) (0 : Int64) (8 : Int64) s) fun (z_2 : Int32) => if z_2 = 0 then (some ((-2 : Int32), s)) else (v_b1 (t_T_year fu s) fun (s_3 : v_S) => v_tw (p1) 0 7 (v_loop (t_T_sum_118B fu p1) fu ((0 : Int32), (0 : Int32), s_3)) (fun (j : Nat) => match j with | 0 => (v_b1 (t_T_brought fu s_3) fun (z_6 : Int32) => some (z_6, s_3)) | 1 => (v_b1 (t_T_shortOfFloods fu s_3) fun (z_7 : Int32) => some (z_7, s_3)) | 2 => (v_b1 (t_T_shortOfLoans fu s_3) fun (z_8 : Int32) => some (z_8, s_3)) | 3 => (some (s_3.1 0 20, s_3)) | 4 => (some (s_3.1 0 21, s_3)) | 5 => (some (s_3.1 0 22, s_3)) | 6 => (v_b1 (t_T_floodSum fu (0 : Int32) s_3) fun (z_9 : Int32) => some (z_9, s_3)) | 7 => (v_b1 (t_T_floodSum fu (2 : Int32) s_3) fun (z_10 : Int32) => some (z_10, s_3)) | _ => none)))
theorem w_T_sum_118 {Γ : v_Ctx} {l : Launch} {g : v_G} (fu : Nat) (p1 : Int32) (X : v_C Γ l rm_T_sum cX5_sum 4 RX5 (some .int) wT g) (r118 : Int32 × Int32 × v_S → Option (Int32 × v_S)) (h118 : ∀ (x2 : Int32) (x3 : Int32) (s : v_S), v_V Γ 4 wT g (fun z : Int32 × v_S => (some (.int z.1), z.2)) 118 [(0, .ref (v_E g 0)), (2, .int x2), (3, .int x3)] [] s (r118 (x2, x3, s))) (x2 : Int32) (x3 : Int32) (s : v_S) : v_V Γ 4 wT g (fun z : Int32 × v_S => (some (.int z.1), z.2)) 118 [(0, .ref (v_E g 0)), (2, .int x2), (3, .int x3)] [] s (t_T_sum_118 fu p1 r118 x2 x3 s) := by
  unfold t_T_sum_118
  refine v_iload_n (pc := 118) X dX5_sum_118 2 rfl ?_
  refine v_aload_n (pc := 119) X dX5_sum_119 0 rfl ?_
  refine v_cGi (pc := 120) X (m_T_villages l g fu _) (v_rc_n X wT_o0) (Or.inl q1725) hy_T_villages rfl rfl rfl rfl dX5_sum_120 (fun z_4 _ => ?_)
  refine v_icmp_ge (pc := 123) (tgt := 141) X dX5_sum_123 (by decide) (fun c123 => ?_) (fun c123 => ?_)
  · refine v_iload_n (pc := 141) X dX5_sum_141 1 rfl ?_
    exact v_iret (pc := 142) X dX5_sum_142 rfl
  · refine v_iload_n (pc := 126) X dX5_sum_126 1 rfl ?_
    refine v_aload_n (pc := 127) X dX5_sum_127 0 rfl ?_
    refine v_get (pc := 128) (kind := 10) (v := .ref (v_E g 7)) X wT_n0 wT_l0 wT_c0 in_X5 (Nat.le_of_ble_eq_true rfl : 15 < 40) q1486 rfl rfl dX5_sum_128 ?_
    refine v_iload_n (pc := 131) X dX5_sum_131 2 rfl ?_
    refine v_iald (pc := 132) X wT_n7 wT_l7 dX5_sum_132 ?_
    refine v_iadd (pc := 133) X dX5_sum_133 ?_
    refine v_istore_nN (pc := 134) (lvf := fun x2_5 => [(2, .int x2_5), (0, .ref (v_E g 0)), (3, .int x3)]) X dX5_sum_134 rfl (Nat.le_of_ble_eq_true rfl) (fun _ => rfl) (fun x2_5 => ?_)
    refine v_iinc (pc := 135) (v := x3 + (1 : Int32)) (lv' := [(3, .int (x3 + (1 : Int32))), (2, .int x2_5), (0, .ref (v_E g 0))]) (k := 2) X dX5_sum_135 rfl rfl (Nat.le_of_ble_eq_true rfl) rfl ?_
    refine v_goto (pc := 138) (tgt := 118) X dX5_sum_138 (by decide) ?_
    refine v_sub [2, 1, 0] rfl ?_
    exact h118 x2_5 (x3 + (1 : Int32)) s
theorem w_T_sum_118L {Γ : v_Ctx} {l : Launch} {g : v_G} (fu : Nat) (p1 : Int32) (X : v_C Γ l rm_T_sum cX5_sum 4 RX5 (some .int) wT g)  : ∀ (n : Nat), ∀ (x2 : Int32) (x3 : Int32) (s : v_S), v_V Γ 4 wT g (fun z : Int32 × v_S => (some (.int z.1), z.2)) 118 [(0, .ref (v_E g 0)), (2, .int x2), (3, .int x3)] [] s (v_loop (t_T_sum_118B fu p1) n (x2, x3, s)) := by
  intro n
  induction n with
  | zero => exact fun _ _ _ => v_none
  | succ n ih => exact fun x2 x3 s => w_T_sum_118 fu p1 X  _ ih x2 x3 s
theorem m_T_sum (l : Launch) (g : v_G) (fu : Nat) (p1 : Int32) (s : v_S) : v_M l yX5_sum cX5_sum 4 (some .int) rm_T_sum wT g [.ref (v_E g 0), .int p1] s (fun z : Int32 × v_S => (some (.int z.1), z.2)) (t_T_sum fu p1 s) := by
  refine v_met (by decide +kernel) (Nat.le_of_ble_eq_true rfl) (fun Γ X => ?_)
  refine v_lv (lv' := [(0, .ref (v_E g 0)), (1, .int p1)]) rfl ?_
  unfold t_T_sum
  refine v_aload_n (pc := 0) X dX5_sum_0 0 rfl ?_
  refine v_cGi (pc := 1) X (m_T_isPlain l g fu _) (v_rc_n X wT_o0) (Or.inl q1831) hy_T_isPlain rfl rfl rfl rfl dX5_sum_1 (fun z_1 _ => ?_)
  refine v_if_eq (pc := 4) (tgt := 19) X dX5_sum_4 (by decide) (fun c4 => ?_) (fun c4 => ?_)
  · refine v_bipush (pc := 19) (v := -2) X dX5_sum_19 rfl ?_
    exact v_iret (pc := 21) X dX5_sum_21 rfl
  · refine v_iload_n (pc := 7) X dX5_sum_7 1 rfl ?_
    refine v_i2l (pc := 8) X dX5_sum_8 ?_
    refine v_lconst (pc := 9) (v := 0) X dX5_sum_9 rfl ?_
    refine v_ldc2 (pc := 10) X q1835 dX5_sum_10 ?_
    refine v_cSi (pc := 13) X (m_T_in l g fu (Int32.toInt64 p1) (0 : Int64) (8 : Int64) _) q1598 hy_T_in rfl rfl rfl rfl dX5_sum_13 (fun z_2 _ => ?_)
    refine v_if_ne (pc := 16) (tgt := 22) X dX5_sum_16 (by decide) (fun c16 => ?_) (fun c16 => ?_)
    · refine v_aload_n (pc := 22) X dX5_sum_22 0 rfl ?_
      refine v_cGs (pc := 23) X (m_T_year l g fu _) (v_rc_n X wT_o0) (Or.inl q1750) hy_T_year rfl rfl rfl rfl dX5_sum_23 (fun s_3 _ => ?_)
      refine v_iload_n (pc := 26) X dX5_sum_26 1 rfl ?_
      refine v_tsw (pc := 27) (tgt := 114) [72, 77, 82, 87, 92, 97, 102, 108] X dX5_sum_27 (by decide) (by decide) (by decide) ?_ (fun j t hj => ?_)
      · refine v_iconst (pc := 114) (v := 0) X dX5_sum_114 rfl ?_
        refine v_istore_n (pc := 115) (lv' := [(2, .int (0 : Int32)), (0, .ref (v_E g 0)), (1, .int p1)]) X dX5_sum_115 rfl (Nat.le_of_ble_eq_true rfl) rfl ?_
        refine v_iconst (pc := 116) (v := 0) X dX5_sum_116 rfl ?_
        refine v_istore_n (pc := 117) (lv' := [(3, .int (0 : Int32)), (2, .int (0 : Int32)), (0, .ref (v_E g 0)), (1, .int p1)]) X dX5_sum_117 rfl (Nat.le_of_ble_eq_true rfl) rfl ?_
        refine v_sub [2, 1, 0] rfl ?_
        exact w_T_sum_118L fu p1 X  fu (0 : Int32) (0 : Int32) s_3
      · match j, hj with
        | 0, hj =>
          cases hj
          refine v_aload_n (pc := 72) X dX5_sum_72 0 rfl ?_
          refine v_cGi (pc := 73) X (m_T_brought l g fu _) (v_rc_n X wT_o0) (Or.inl q1836) hy_T_brought rfl rfl rfl rfl dX5_sum_73 (fun z_6 _ => ?_)
          exact v_iret (pc := 76) X dX5_sum_76 rfl
        | 1, hj =>
          cases hj
          refine v_aload_n (pc := 77) X dX5_sum_77 0 rfl ?_
          refine v_cGi (pc := 78) X (m_T_shortOfFloods l g fu _) (v_rc_n X wT_o0) (Or.inl q1840) hy_T_shortOfFloods rfl rfl rfl rfl dX5_sum_78 (fun z_7 _ => ?_)
          exact v_iret (pc := 81) X dX5_sum_81 rfl
        | 2, hj =>
          cases hj
          refine v_aload_n (pc := 82) X dX5_sum_82 0 rfl ?_
          refine v_cGi (pc := 83) X (m_T_shortOfLoans l g fu _) (v_rc_n X wT_o0) (Or.inl q1844) hy_T_shortOfLoans rfl rfl rfl rfl dX5_sum_83 (fun z_8 _ => ?_)
          exact v_iret (pc := 86) X dX5_sum_86 rfl
        | 3, hj =>
          cases hj
          refine v_aload_n (pc := 87) X dX5_sum_87 0 rfl ?_
          refine v_get (pc := 88) (kind := 0) (v := .int (s_3.1 0 20)) X wT_n0 wT_l0 wT_c0 in_X5 (Nat.le_of_ble_eq_true rfl : 20 < 40) q1491 rfl rfl dX5_sum_88 ?_
          exact v_iret (pc := 91) X dX5_sum_91 rfl
        | 4, hj =>
          cases hj
          refine v_aload_n (pc := 92) X dX5_sum_92 0 rfl ?_
          refine v_get (pc := 93) (kind := 0) (v := .int (s_3.1 0 21)) X wT_n0 wT_l0 wT_c0 in_X5 (Nat.le_of_ble_eq_true rfl : 21 < 40) q1492 rfl rfl dX5_sum_93 ?_
          exact v_iret (pc := 96) X dX5_sum_96 rfl
        | 5, hj =>
          cases hj
          refine v_aload_n (pc := 97) X dX5_sum_97 0 rfl ?_
          refine v_get (pc := 98) (kind := 0) (v := .int (s_3.1 0 22)) X wT_n0 wT_l0 wT_c0 in_X5 (Nat.le_of_ble_eq_true rfl : 22 < 40) q1493 rfl rfl dX5_sum_98 ?_
          exact v_iret (pc := 101) X dX5_sum_101 rfl
        | 6, hj =>
          cases hj
          refine v_aload_n (pc := 102) X dX5_sum_102 0 rfl ?_
          refine v_iconst (pc := 103) (v := 0) X dX5_sum_103 rfl ?_
          refine v_cGi (pc := 104) X (m_T_floodSum l g fu (0 : Int32) _) (v_rc_n X wT_o0) (Or.inl q1848) hy_T_floodSum rfl rfl rfl rfl dX5_sum_104 (fun z_9 _ => ?_)
          exact v_iret (pc := 107) X dX5_sum_107 rfl
        | 7, hj =>
          cases hj
          refine v_aload_n (pc := 108) X dX5_sum_108 0 rfl ?_
          refine v_iconst (pc := 109) (v := 2) X dX5_sum_109 rfl ?_
          refine v_cGi (pc := 110) X (m_T_floodSum l g fu (2 : Int32) _) (v_rc_n X wT_o0) (Or.inl q1848) hy_T_floodSum rfl rfl rfl rfl dX5_sum_110 (fun z_10 _ => ?_)
          exact v_iret (pc := 113) X dX5_sum_113 rfl
        | j + 8, hj => simp at hj
    · refine v_bipush (pc := 19) (v := -2) X dX5_sum_19 rfl ?_
      exact v_iret (pc := 21) X dX5_sum_21 rfl
/-! FloodLentModel.first()I -/
abbrev rm_T_first : Room := { frames := 6, cells := 0, slots := 0, locals := 132 }
theorem hy_T_first : v_yV yX5_first cX5_first 1 (some .int) 0 := ⟨q1853, q1854, q141, q1855, by decide +kernel⟩
def t_T_first (fu : Nat)  (s : v_S) : Option (Int32 × v_S) :=
  v_b1 (t_T_isPlain fu s) fun (z_1 : Int32) => if z_1 = 0 then (some ((-2 : Int32), s)) else (v_b1 (t_T_year fu s) fun (s_2 : v_S) => some (s_2.1 0 23, s_2))
theorem m_T_first (l : Launch) (g : v_G) (fu : Nat)  (s : v_S) : v_M l yX5_first cX5_first 1 (some .int) rm_T_first wT g [.ref (v_E g 0)] s (fun z : Int32 × v_S => (some (.int z.1), z.2)) (t_T_first fu  s) := by
  refine v_met (by decide +kernel) (Nat.le_of_ble_eq_true rfl) (fun Γ X => ?_)
  refine v_lv (lv' := [(0, .ref (v_E g 0))]) rfl ?_
  unfold t_T_first
  refine v_aload_n (pc := 0) X dX5_first_0 0 rfl ?_
  refine v_cGi (pc := 1) X (m_T_isPlain l g fu _) (v_rc_n X wT_o0) (Or.inl q1831) hy_T_isPlain rfl rfl rfl rfl dX5_first_1 (fun z_1 _ => ?_)
  refine v_if_ne (pc := 4) (tgt := 10) X dX5_first_4 (by decide) (fun c4 => ?_) (fun c4 => ?_)
  · refine v_aload_n (pc := 10) X dX5_first_10 0 rfl ?_
    refine v_cGs (pc := 11) X (m_T_year l g fu _) (v_rc_n X wT_o0) (Or.inl q1750) hy_T_year rfl rfl rfl rfl dX5_first_11 (fun s_2 _ => ?_)
    refine v_aload_n (pc := 14) X dX5_first_14 0 rfl ?_
    refine v_get (pc := 15) (kind := 0) (v := .int (s_2.1 0 23)) X wT_n0 wT_l0 wT_c0 in_X5 (Nat.le_of_ble_eq_true rfl : 23 < 40) q1494 rfl rfl dX5_first_15 ?_
    exact v_iret (pc := 18) X dX5_first_18 rfl
  · refine v_bipush (pc := 7) (v := -2) X dX5_first_7 rfl ?_
    exact v_iret (pc := 9) X dX5_first_9 rfl
/-! FloodLentModel.keepsTakers()V -/
abbrev rm_T_keepsTakers : Room := { frames := 1, cells := 0, slots := 0, locals := 21 }
theorem hy_T_keepsTakers : v_yV yX5_keepsTakers cX5_keepsTakers 2 none 0 := ⟨q1866, qs103, q141, q1867, by decide +kernel⟩
def t_T_keepsTakers_2 (fu : Nat) (r2 : Int32 × v_S → Option v_S) (x1 : Int32) (s : v_S) : Option v_S :=
if (3 : Int32) ≤ x1 then (some s) else (v_g ((157 : Int32) + x1) 160 <| v_g x1 3 <| v_n (v_uI s 12 (Int32.toNatClampNeg x1) (s.1 1 (Int32.toNatClampNeg ((157 : Int32) + x1)))) fun (s_1 : v_S) => r2 (x1 + (1 : Int32), s_1))
def t_T_keepsTakers_2B (fu : Nat) (r2 : Int32 × v_S → Option v_S) (a : Int32 × v_S) : Option v_S := t_T_keepsTakers_2 fu r2 a.1 a.2
def t_T_keepsTakers (fu : Nat)  (s : v_S) : Option v_S :=
  v_loop (t_T_keepsTakers_2B fu) fu ((0 : Int32), s)
theorem w_T_keepsTakers_2 {Γ : v_Ctx} {l : Launch} {g : v_G} (fu : Nat) (X : v_C Γ l rm_T_keepsTakers cX5_keepsTakers 2 RX5 none wT g) (r2 : Int32 × v_S → Option v_S) (h2 : ∀ (x1 : Int32) (s : v_S), v_V Γ 2 wT g (fun z : v_S => ((none : Option Value), z)) 2 [(0, .ref (v_E g 0)), (1, .int x1)] [] s (r2 (x1, s))) (x1 : Int32) (s : v_S) : v_V Γ 2 wT g (fun z : v_S => ((none : Option Value), z)) 2 [(0, .ref (v_E g 0)), (1, .int x1)] [] s (t_T_keepsTakers_2 fu r2 x1 s) := by
  unfold t_T_keepsTakers_2
  refine v_iload_n (pc := 2) X dX5_keepsTakers_2 1 rfl ?_
  refine v_iconst (pc := 3) (v := 3) X dX5_keepsTakers_3 rfl ?_
  refine v_icmp_ge (pc := 4) (tgt := 29) X dX5_keepsTakers_4 (by decide) (fun c4 => ?_) (fun c4 => ?_)
  · exact v_vret (pc := 29) X dX5_keepsTakers_29 rfl
  · refine v_aload_n (pc := 7) X dX5_keepsTakers_7 0 rfl ?_
    refine v_get (pc := 8) (kind := 15) (v := .ref (v_E g 12)) X wT_n0 wT_l0 wT_c0 in_X5 (Nat.le_of_ble_eq_true rfl : 26 < 40) q1497 rfl rfl dX5_keepsTakers_8 ?_
    refine v_iload_n (pc := 11) X dX5_keepsTakers_11 1 rfl ?_
    refine v_aload_n (pc := 12) X dX5_keepsTakers_12 0 rfl ?_
    refine v_get (pc := 13) (kind := 4) (v := .ref (v_E g 1)) X wT_n0 wT_l0 wT_c0 in_X5 (Nat.le_of_ble_eq_true rfl : 1 < 40) q1472 rfl rfl dX5_keepsTakers_13 ?_
    refine v_sipush (pc := 16) (v := 157) X dX5_keepsTakers_16 rfl ?_
    refine v_iload_n (pc := 19) X dX5_keepsTakers_19 1 rfl ?_
    refine v_iadd (pc := 20) X dX5_keepsTakers_20 ?_
    refine v_iald (pc := 21) X wT_n1 wT_l1 dX5_keepsTakers_21 ?_
    refine v_iast (pc := 22) X wT_n12 wT_l12 dX5_keepsTakers_22 (fun s_1 => ?_)
    refine v_iinc (pc := 23) (v := x1 + (1 : Int32)) (lv' := [(1, .int (x1 + (1 : Int32))), (0, .ref (v_E g 0))]) (k := 1) X dX5_keepsTakers_23 rfl rfl (Nat.le_of_ble_eq_true rfl) rfl ?_
    refine v_goto (pc := 26) (tgt := 2) X dX5_keepsTakers_26 (by decide) ?_
    refine v_sub [1, 0] rfl ?_
    exact h2 (x1 + (1 : Int32)) s_1
theorem w_T_keepsTakers_2L {Γ : v_Ctx} {l : Launch} {g : v_G} (fu : Nat) (X : v_C Γ l rm_T_keepsTakers cX5_keepsTakers 2 RX5 none wT g)  : ∀ (n : Nat), ∀ (x1 : Int32) (s : v_S), v_V Γ 2 wT g (fun z : v_S => ((none : Option Value), z)) 2 [(0, .ref (v_E g 0)), (1, .int x1)] [] s (v_loop (t_T_keepsTakers_2B fu) n (x1, s)) := by
  intro n
  induction n with
  | zero => exact fun _ _ => v_none
  | succ n ih => exact fun x1 s => w_T_keepsTakers_2 fu X  _ ih x1 s
theorem m_T_keepsTakers (l : Launch) (g : v_G) (fu : Nat)  (s : v_S) : v_M l yX5_keepsTakers cX5_keepsTakers 2 none rm_T_keepsTakers wT g [.ref (v_E g 0)] s (fun z : v_S => ((none : Option Value), z)) (t_T_keepsTakers fu  s) := by
  refine v_met (by decide +kernel) (Nat.le_of_ble_eq_true rfl) (fun Γ X => ?_)
  refine v_lv (lv' := [(0, .ref (v_E g 0))]) rfl ?_
  unfold t_T_keepsTakers
  refine v_iconst (pc := 0) (v := 0) X dX5_keepsTakers_0 rfl ?_
  refine v_istore_n (pc := 1) (lv' := [(1, .int (0 : Int32)), (0, .ref (v_E g 0))]) X dX5_keepsTakers_1 rfl (Nat.le_of_ble_eq_true rfl) rfl ?_
  refine v_sub [1, 0] rfl ?_
  exact w_T_keepsTakers_2L fu X  fu (0 : Int32) s
/-! FloodLentModel.takersMany()I -/
abbrev rm_T_takersMany : Room := { frames := 2, cells := 0, slots := 0, locals := 41 }
theorem hy_T_takersMany : v_yV yX5_takersMany cX5_takersMany 3 (some .int) 0 := ⟨q1870, qs104, q141, q1871, by decide +kernel⟩
def t_T_takersMany_4 (fu : Nat) (s : v_S) (r4 : Int32 × Int32 → Option Int32) (x1 : Int32) (x2 : Int32) : Option Int32 :=
if s.1 1 2 ≤ x2 then (some x1) else (v_b1 (t_T_villages fu s) fun (z_1 : Int32) => v_n (x1 * (z_1 + (1 : Int32))) fun (x1_2 : Int32) => r4 (x1_2, x2 + (1 : Int32)))
def t_T_takersMany_4B (fu : Nat) (s : v_S) (r4 : Int32 × Int32 → Option Int32) (a : Int32 × Int32) : Option Int32 := t_T_takersMany_4 fu s r4 a.1 a.2
def t_T_takersMany (fu : Nat)  (s : v_S) : Option Int32 :=
  v_loop (t_T_takersMany_4B fu s) fu ((1 : Int32), (0 : Int32))
theorem w_T_takersMany_4 {Γ : v_Ctx} {l : Launch} {g : v_G} (fu : Nat) (s : v_S) (X : v_C Γ l rm_T_takersMany cX5_takersMany 3 RX5 (some .int) wT g) (r4 : Int32 × Int32 → Option Int32) (h4 : ∀ (x1 : Int32) (x2 : Int32), v_V Γ 3 wT g (fun z : Int32 => (some (.int z), s)) 4 [(0, .ref (v_E g 0)), (1, .int x1), (2, .int x2)] [] s (r4 (x1, x2))) (x1 : Int32) (x2 : Int32) : v_V Γ 3 wT g (fun z : Int32 => (some (.int z), s)) 4 [(0, .ref (v_E g 0)), (1, .int x1), (2, .int x2)] [] s (t_T_takersMany_4 fu s r4 x1 x2) := by
  unfold t_T_takersMany_4
  refine v_iload_n (pc := 4) X dX5_takersMany_4 2 rfl ?_
  refine v_aload_n (pc := 5) X dX5_takersMany_5 0 rfl ?_
  refine v_get (pc := 6) (kind := 4) (v := .ref (v_E g 1)) X wT_n0 wT_l0 wT_c0 in_X5 (Nat.le_of_ble_eq_true rfl : 1 < 40) q1472 rfl rfl dX5_takersMany_6 ?_
  refine v_iconst (pc := 9) (v := 2) X dX5_takersMany_9 rfl ?_
  refine v_ialdC (pc := 10) (k := 2) X wT_n1 wT_l1 rfl dX5_takersMany_10 ?_
  refine v_icmp_ge (pc := 11) (tgt := 29) X dX5_takersMany_11 (by decide) (fun c11 => ?_) (fun c11 => ?_)
  · refine v_iload_n (pc := 29) X dX5_takersMany_29 1 rfl ?_
    exact v_iret (pc := 30) X dX5_takersMany_30 rfl
  · refine v_iload_n (pc := 14) X dX5_takersMany_14 1 rfl ?_
    refine v_aload_n (pc := 15) X dX5_takersMany_15 0 rfl ?_
    refine v_cGi (pc := 16) X (m_T_villages l g fu _) (v_rc_n X wT_o0) (Or.inl q1725) hy_T_villages rfl rfl rfl rfl dX5_takersMany_16 (fun z_1 _ => ?_)
    refine v_iconst (pc := 19) (v := 1) X dX5_takersMany_19 rfl ?_
    refine v_iadd (pc := 20) X dX5_takersMany_20 ?_
    refine v_imul (pc := 21) X dX5_takersMany_21 ?_
    refine v_istore_nN (pc := 22) (lvf := fun x1_2 => [(1, .int x1_2), (0, .ref (v_E g 0)), (2, .int x2)]) X dX5_takersMany_22 rfl (Nat.le_of_ble_eq_true rfl) (fun _ => rfl) (fun x1_2 => ?_)
    refine v_iinc (pc := 23) (v := x2 + (1 : Int32)) (lv' := [(2, .int (x2 + (1 : Int32))), (1, .int x1_2), (0, .ref (v_E g 0))]) (k := 2) X dX5_takersMany_23 rfl rfl (Nat.le_of_ble_eq_true rfl) rfl ?_
    refine v_goto (pc := 26) (tgt := 4) X dX5_takersMany_26 (by decide) ?_
    refine v_sub [2, 1, 0] rfl ?_
    exact h4 x1_2 (x2 + (1 : Int32))
theorem w_T_takersMany_4L {Γ : v_Ctx} {l : Launch} {g : v_G} (fu : Nat) (s : v_S) (X : v_C Γ l rm_T_takersMany cX5_takersMany 3 RX5 (some .int) wT g)  : ∀ (n : Nat), ∀ (x1 : Int32) (x2 : Int32), v_V Γ 3 wT g (fun z : Int32 => (some (.int z), s)) 4 [(0, .ref (v_E g 0)), (1, .int x1), (2, .int x2)] [] s (v_loop (t_T_takersMany_4B fu s) n (x1, x2)) := by
  intro n
  induction n with
  | zero => exact fun _ _ => v_none
  | succ n ih => exact fun x1 x2 => w_T_takersMany_4 fu s X  _ ih x1 x2
theorem m_T_takersMany (l : Launch) (g : v_G) (fu : Nat)  (s : v_S) : v_M l yX5_takersMany cX5_takersMany 3 (some .int) rm_T_takersMany wT g [.ref (v_E g 0)] s (fun z : Int32 => (some (.int z), s)) (t_T_takersMany fu  s) := by
  refine v_met (by decide +kernel) (Nat.le_of_ble_eq_true rfl) (fun Γ X => ?_)
  refine v_lv (lv' := [(0, .ref (v_E g 0))]) rfl ?_
  unfold t_T_takersMany
  refine v_iconst (pc := 0) (v := 1) X dX5_takersMany_0 rfl ?_
  refine v_istore_n (pc := 1) (lv' := [(1, .int (1 : Int32)), (0, .ref (v_E g 0))]) X dX5_takersMany_1 rfl (Nat.le_of_ble_eq_true rfl) rfl ?_
  refine v_iconst (pc := 2) (v := 0) X dX5_takersMany_2 rfl ?_
  refine v_istore_n (pc := 3) (lv' := [(2, .int (0 : Int32)), (1, .int (1 : Int32)), (0, .ref (v_E g 0))]) X dX5_takersMany_3 rfl (Nat.le_of_ble_eq_true rfl) rfl ?_
  refine v_sub [2, 1, 0] rfl ?_
  exact w_T_takersMany_4L fu s X  fu (1 : Int32) (0 : Int32)
/-! FloodLentModel.takersAre(I)V -/
abbrev rm_T_takersAre : Room := { frames := 2, cells := 0, slots := 0, locals := 41 }
theorem hy_T_takersAre : v_yV yX5_takersAre cX5_takersAre 4 none 1 := ⟨q1874, qs105, q141, q1875, by decide +kernel⟩
def t_T_takersAre_11 (fu : Nat) (p1 : Int32) (r11 : Int32 × Int32 × v_S → Option v_S) (x2 : Int32) (x3 : Int32) (s : v_S) : Option v_S :=
if x3 < 0 then (some s) else (v_b1 (t_T_villages fu s) fun (z_2 : Int32) => if (z_2 + (1 : Int32)) = 0 then none else v_g ((157 : Int32) + x3) 160 <| v_n (v_uI s 1 (Int32.toNatClampNeg ((157 : Int32) + x3)) ((x2 - x2 / (z_2 + (1 : Int32)) * (z_2 + (1 : Int32))) - (1 : Int32))) fun (s_3 : v_S) => v_b1 (t_T_villages fu s_3) fun (z_4 : Int32) => if (z_4 + (1 : Int32)) = 0 then none else v_n (x2 / (z_4 + (1 : Int32))) fun (x2_5 : Int32) => r11 (x2_5, x3 + (-1 : Int32), s_3))
def t_T_takersAre_11B (fu : Nat) (p1 : Int32) (r11 : Int32 × Int32 × v_S → Option v_S) (a : Int32 × Int32 × v_S) : Option v_S := t_T_takersAre_11 fu p1 r11 a.1 a.2.1 a.2.2
def t_T_takersAre (fu : Nat) (p1 : Int32) (s : v_S) : Option v_S :=
  v_n ((s.1 1 2) - (1 : Int32)) fun (x3_1 : Int32) => v_loop (t_T_takersAre_11B fu p1) fu (p1, x3_1, s)
theorem w_T_takersAre_11 {Γ : v_Ctx} {l : Launch} {g : v_G} (fu : Nat) (p1 : Int32) (X : v_C Γ l rm_T_takersAre cX5_takersAre 4 RX5 none wT g) (r11 : Int32 × Int32 × v_S → Option v_S) (h11 : ∀ (x2 : Int32) (x3 : Int32) (s : v_S), v_V Γ 4 wT g (fun z : v_S => ((none : Option Value), z)) 11 [(0, .ref (v_E g 0)), (2, .int x2), (3, .int x3)] [] s (r11 (x2, x3, s))) (x2 : Int32) (x3 : Int32) (s : v_S) : v_V Γ 4 wT g (fun z : v_S => ((none : Option Value), z)) 11 [(0, .ref (v_E g 0)), (2, .int x2), (3, .int x3)] [] s (t_T_takersAre_11 fu p1 r11 x2 x3 s) := by
  unfold t_T_takersAre_11
  refine v_iload_n (pc := 11) X dX5_takersAre_11 2 rfl ?_
  refine v_if_lt (pc := 12) (tgt := 50) X dX5_takersAre_12 (by decide) (fun c12 => ?_) (fun c12 => ?_)
  · exact v_vret (pc := 50) X dX5_takersAre_50 rfl
  · refine v_aload_n (pc := 15) X dX5_takersAre_15 0 rfl ?_
    refine v_get (pc := 16) (kind := 4) (v := .ref (v_E g 1)) X wT_n0 wT_l0 wT_c0 in_X5 (Nat.le_of_ble_eq_true rfl : 1 < 40) q1472 rfl rfl dX5_takersAre_16 ?_
    refine v_sipush (pc := 19) (v := 157) X dX5_takersAre_19 rfl ?_
    refine v_iload_n (pc := 22) X dX5_takersAre_22 2 rfl ?_
    refine v_iadd (pc := 23) X dX5_takersAre_23 ?_
    refine v_iload_n (pc := 24) X dX5_takersAre_24 1 rfl ?_
    refine v_aload_n (pc := 25) X dX5_takersAre_25 0 rfl ?_
    refine v_cGi (pc := 26) X (m_T_villages l g fu _) (v_rc_n X wT_o0) (Or.inl q1725) hy_T_villages rfl rfl rfl rfl dX5_takersAre_26 (fun z_2 _ => ?_)
    refine v_iconst (pc := 29) (v := 1) X dX5_takersAre_29 rfl ?_
    refine v_iadd (pc := 30) X dX5_takersAre_30 ?_
    refine v_irem (pc := 31) X dX5_takersAre_31 ?_
    refine v_iconst (pc := 32) (v := 1) X dX5_takersAre_32 rfl ?_
    refine v_isub (pc := 33) X dX5_takersAre_33 ?_
    refine v_iast (pc := 34) X wT_n1 wT_l1 dX5_takersAre_34 (fun s_3 => ?_)
    refine v_iload_n (pc := 35) X dX5_takersAre_35 1 rfl ?_
    refine v_aload_n (pc := 36) X dX5_takersAre_36 0 rfl ?_
    refine v_cGi (pc := 37) X (m_T_villages l g fu _) (v_rc_n X wT_o0) (Or.inl q1725) hy_T_villages rfl rfl rfl rfl dX5_takersAre_37 (fun z_4 _ => ?_)
    refine v_iconst (pc := 40) (v := 1) X dX5_takersAre_40 rfl ?_
    refine v_iadd (pc := 41) X dX5_takersAre_41 ?_
    refine v_idiv (pc := 42) X dX5_takersAre_42 ?_
    refine v_istore_nN (pc := 43) (lvf := fun x2_5 => [(2, .int x2_5), (0, .ref (v_E g 0)), (3, .int x3)]) X dX5_takersAre_43 rfl (Nat.le_of_ble_eq_true rfl) (fun _ => rfl) (fun x2_5 => ?_)
    refine v_iinc (pc := 44) (v := x3 + (-1 : Int32)) (lv' := [(3, .int (x3 + (-1 : Int32))), (2, .int x2_5), (0, .ref (v_E g 0))]) (k := 2) X dX5_takersAre_44 rfl rfl (Nat.le_of_ble_eq_true rfl) rfl ?_
    refine v_goto (pc := 47) (tgt := 11) X dX5_takersAre_47 (by decide) ?_
    refine v_sub [2, 1, 0] rfl ?_
    exact h11 x2_5 (x3 + (-1 : Int32)) s_3
theorem w_T_takersAre_11L {Γ : v_Ctx} {l : Launch} {g : v_G} (fu : Nat) (p1 : Int32) (X : v_C Γ l rm_T_takersAre cX5_takersAre 4 RX5 none wT g)  : ∀ (n : Nat), ∀ (x2 : Int32) (x3 : Int32) (s : v_S), v_V Γ 4 wT g (fun z : v_S => ((none : Option Value), z)) 11 [(0, .ref (v_E g 0)), (2, .int x2), (3, .int x3)] [] s (v_loop (t_T_takersAre_11B fu p1) n (x2, x3, s)) := by
  intro n
  induction n with
  | zero => exact fun _ _ _ => v_none
  | succ n ih => exact fun x2 x3 s => w_T_takersAre_11 fu p1 X  _ ih x2 x3 s
theorem m_T_takersAre (l : Launch) (g : v_G) (fu : Nat) (p1 : Int32) (s : v_S) : v_M l yX5_takersAre cX5_takersAre 4 none rm_T_takersAre wT g [.ref (v_E g 0), .int p1] s (fun z : v_S => ((none : Option Value), z)) (t_T_takersAre fu p1 s) := by
  refine v_met (by decide +kernel) (Nat.le_of_ble_eq_true rfl) (fun Γ X => ?_)
  refine v_lv (lv' := [(0, .ref (v_E g 0)), (1, .int p1)]) rfl ?_
  unfold t_T_takersAre
  refine v_iload_n (pc := 0) X dX5_takersAre_0 1 rfl ?_
  refine v_istore_n (pc := 1) (lv' := [(2, .int p1), (0, .ref (v_E g 0)), (1, .int p1)]) X dX5_takersAre_1 rfl (Nat.le_of_ble_eq_true rfl) rfl ?_
  refine v_aload_n (pc := 2) X dX5_takersAre_2 1 rfl ?_
  refine v_get (pc := 3) (kind := 4) (v := .ref (v_E g 1)) X wT_n0 wT_l0 wT_c0 in_X5 (Nat.le_of_ble_eq_true rfl : 1 < 40) q1472 rfl rfl dX5_takersAre_3 ?_
  refine v_iconst (pc := 6) (v := 2) X dX5_takersAre_6 rfl ?_
  refine v_ialdC (pc := 7) (k := 2) X wT_n1 wT_l1 rfl dX5_takersAre_7 ?_
  refine v_iconst (pc := 8) (v := 1) X dX5_takersAre_8 rfl ?_
  refine v_isub (pc := 9) X dX5_takersAre_9 ?_
  refine v_istore_nN (pc := 10) (lvf := fun x3_1 => [(3, .int x3_1), (2, .int p1), (0, .ref (v_E g 0)), (1, .int p1)]) X dX5_takersAre_10 rfl (Nat.le_of_ble_eq_true rfl) (fun _ => rfl) (fun x3_1 => ?_)
  refine v_sub [2, 1, 0] rfl ?_
  exact w_T_takersAre_11L fu p1 X  fu p1 x3_1 s
/-! FloodLentModel.shortOfAll()I -/
abbrev rm_T_shortOfAll : Room := { frames := 3, cells := 0, slots := 0, locals := 64 }
theorem hy_T_shortOfAll : v_yV yX5_shortOfAll cX5_shortOfAll 1 (some .int) 0 := ⟨q1878, qs106, q141, q1879, by decide +kernel⟩
def t_T_shortOfAll (fu : Nat)  (s : v_S) : Option Int32 :=
  v_b1 (t_T_shortOfFloods fu s) fun (z_1 : Int32) => v_b1 (t_T_shortOfLoans fu s) fun (z_2 : Int32) => some (z_1 + z_2)
theorem m_T_shortOfAll (l : Launch) (g : v_G) (fu : Nat)  (s : v_S) : v_M l yX5_shortOfAll cX5_shortOfAll 1 (some .int) rm_T_shortOfAll wT g [.ref (v_E g 0)] s (fun z : Int32 => (some (.int z), s)) (t_T_shortOfAll fu  s) := by
  refine v_met (by decide +kernel) (Nat.le_of_ble_eq_true rfl) (fun Γ X => ?_)
  refine v_lv (lv' := [(0, .ref (v_E g 0))]) rfl ?_
  unfold t_T_shortOfAll
  refine v_aload_n (pc := 0) X dX5_shortOfAll_0 0 rfl ?_
  refine v_cGi (pc := 1) X (m_T_shortOfFloods l g fu _) (v_rc_n X wT_o0) (Or.inl q1840) hy_T_shortOfFloods rfl rfl rfl rfl dX5_shortOfAll_1 (fun z_1 _ => ?_)
  refine v_aload_n (pc := 4) X dX5_shortOfAll_4 0 rfl ?_
  refine v_cGi (pc := 5) X (m_T_shortOfLoans l g fu _) (v_rc_n X wT_o0) (Or.inl q1844) hy_T_shortOfLoans rfl rfl rfl rfl dX5_shortOfAll_5 (fun z_2 _ => ?_)
  refine v_iadd (pc := 8) X dX5_shortOfAll_8 ?_
  exact v_iret (pc := 9) X dX5_shortOfAll_9 rfl
/-! FloodLentModel.bringsTakersBack()V -/
abbrev rm_T_bringsTakersBack : Room := { frames := 1, cells := 0, slots := 0, locals := 21 }
theorem hy_T_bringsTakersBack : v_yV yX5_bringsTakersBack cX5_bringsTakersBack 2 none 0 := ⟨q1882, qs107, q141, q1883, by decide +kernel⟩
def t_T_bringsTakersBack_2 (fu : Nat) (r2 : Int32 × v_S → Option v_S) (x1 : Int32) (s : v_S) : Option v_S :=
if (3 : Int32) ≤ x1 then (some s) else (v_g x1 3 <| v_g ((157 : Int32) + x1) 160 <| v_n (v_uI s 1 (Int32.toNatClampNeg ((157 : Int32) + x1)) (s.1 12 (Int32.toNatClampNeg x1))) fun (s_1 : v_S) => r2 (x1 + (1 : Int32), s_1))
def t_T_bringsTakersBack_2B (fu : Nat) (r2 : Int32 × v_S → Option v_S) (a : Int32 × v_S) : Option v_S := t_T_bringsTakersBack_2 fu r2 a.1 a.2
def t_T_bringsTakersBack (fu : Nat)  (s : v_S) : Option v_S :=
  v_loop (t_T_bringsTakersBack_2B fu) fu ((0 : Int32), s)
theorem w_T_bringsTakersBack_2 {Γ : v_Ctx} {l : Launch} {g : v_G} (fu : Nat) (X : v_C Γ l rm_T_bringsTakersBack cX5_bringsTakersBack 2 RX5 none wT g) (r2 : Int32 × v_S → Option v_S) (h2 : ∀ (x1 : Int32) (s : v_S), v_V Γ 2 wT g (fun z : v_S => ((none : Option Value), z)) 2 [(0, .ref (v_E g 0)), (1, .int x1)] [] s (r2 (x1, s))) (x1 : Int32) (s : v_S) : v_V Γ 2 wT g (fun z : v_S => ((none : Option Value), z)) 2 [(0, .ref (v_E g 0)), (1, .int x1)] [] s (t_T_bringsTakersBack_2 fu r2 x1 s) := by
  unfold t_T_bringsTakersBack_2
  refine v_iload_n (pc := 2) X dX5_bringsTakersBack_2 1 rfl ?_
  refine v_iconst (pc := 3) (v := 3) X dX5_bringsTakersBack_3 rfl ?_
  refine v_icmp_ge (pc := 4) (tgt := 29) X dX5_bringsTakersBack_4 (by decide) (fun c4 => ?_) (fun c4 => ?_)
  · exact v_vret (pc := 29) X dX5_bringsTakersBack_29 rfl
  · refine v_aload_n (pc := 7) X dX5_bringsTakersBack_7 0 rfl ?_
    refine v_get (pc := 8) (kind := 4) (v := .ref (v_E g 1)) X wT_n0 wT_l0 wT_c0 in_X5 (Nat.le_of_ble_eq_true rfl : 1 < 40) q1472 rfl rfl dX5_bringsTakersBack_8 ?_
    refine v_sipush (pc := 11) (v := 157) X dX5_bringsTakersBack_11 rfl ?_
    refine v_iload_n (pc := 14) X dX5_bringsTakersBack_14 1 rfl ?_
    refine v_iadd (pc := 15) X dX5_bringsTakersBack_15 ?_
    refine v_aload_n (pc := 16) X dX5_bringsTakersBack_16 0 rfl ?_
    refine v_get (pc := 17) (kind := 15) (v := .ref (v_E g 12)) X wT_n0 wT_l0 wT_c0 in_X5 (Nat.le_of_ble_eq_true rfl : 26 < 40) q1497 rfl rfl dX5_bringsTakersBack_17 ?_
    refine v_iload_n (pc := 20) X dX5_bringsTakersBack_20 1 rfl ?_
    refine v_iald (pc := 21) X wT_n12 wT_l12 dX5_bringsTakersBack_21 ?_
    refine v_iast (pc := 22) X wT_n1 wT_l1 dX5_bringsTakersBack_22 (fun s_1 => ?_)
    refine v_iinc (pc := 23) (v := x1 + (1 : Int32)) (lv' := [(1, .int (x1 + (1 : Int32))), (0, .ref (v_E g 0))]) (k := 1) X dX5_bringsTakersBack_23 rfl rfl (Nat.le_of_ble_eq_true rfl) rfl ?_
    refine v_goto (pc := 26) (tgt := 2) X dX5_bringsTakersBack_26 (by decide) ?_
    refine v_sub [1, 0] rfl ?_
    exact h2 (x1 + (1 : Int32)) s_1
theorem w_T_bringsTakersBack_2L {Γ : v_Ctx} {l : Launch} {g : v_G} (fu : Nat) (X : v_C Γ l rm_T_bringsTakersBack cX5_bringsTakersBack 2 RX5 none wT g)  : ∀ (n : Nat), ∀ (x1 : Int32) (s : v_S), v_V Γ 2 wT g (fun z : v_S => ((none : Option Value), z)) 2 [(0, .ref (v_E g 0)), (1, .int x1)] [] s (v_loop (t_T_bringsTakersBack_2B fu) n (x1, s)) := by
  intro n
  induction n with
  | zero => exact fun _ _ => v_none
  | succ n ih => exact fun x1 s => w_T_bringsTakersBack_2 fu X  _ ih x1 s
theorem m_T_bringsTakersBack (l : Launch) (g : v_G) (fu : Nat)  (s : v_S) : v_M l yX5_bringsTakersBack cX5_bringsTakersBack 2 none rm_T_bringsTakersBack wT g [.ref (v_E g 0)] s (fun z : v_S => ((none : Option Value), z)) (t_T_bringsTakersBack fu  s) := by
  refine v_met (by decide +kernel) (Nat.le_of_ble_eq_true rfl) (fun Γ X => ?_)
  refine v_lv (lv' := [(0, .ref (v_E g 0))]) rfl ?_
  unfold t_T_bringsTakersBack
  refine v_iconst (pc := 0) (v := 0) X dX5_bringsTakersBack_0 rfl ?_
  refine v_istore_n (pc := 1) (lv' := [(1, .int (0 : Int32)), (0, .ref (v_E g 0))]) X dX5_bringsTakersBack_1 rfl (Nat.le_of_ble_eq_true rfl) rfl ?_
  refine v_sub [1, 0] rfl ?_
  exact w_T_bringsTakersBack_2L fu X  fu (0 : Int32) s
/-! FloodLentModel.bestTakers()I -/
abbrev rm_T_bestTakers : Room := { frames := 6, cells := 0, slots := 0, locals := 132 }
theorem hy_T_bestTakers : v_yV yX5_bestTakers cX5_bestTakers 4 (some .int) 0 := ⟨q1862, qs102, q141, q1863, by decide +kernel⟩
def t_T_bestTakers_69 (fu : Nat) (x1 : Int32) (s : v_S) : Option (Int32 × v_S) :=
v_b1 (t_T_bringsTakersBack fu s) fun (s_4 : v_S) => some (x1, s_4)
def t_T_bestTakers_18 (fu : Nat) (r18 : Int32 × Int32 × Int32 × v_S → Option (Int32 × v_S)) (x1 : Int32) (x2 : Int32) (x3 : Int32) (s : v_S) : Option (Int32 × v_S) :=
if x2 ≤ x3 then (t_T_bestTakers_69 fu x1 s) else (v_b1 (t_T_takersAre fu x3 s) fun (s_5 : v_S) => v_b1 (t_T_year fu s_5) fun (s_6 : v_S) => v_b1 (t_T_shortOfAll fu s_6) fun (z_7 : Int32) => if (0 : Int32) < z_7 then (r18 (x1, x2, x3 + (1 : Int32), s_6)) else (v_b1 (t_T_brought fu s_6) fun (z_8 : Int32) => if s_6.1 0 27 < z_8 then (v_b1 (t_T_brought fu s_6) fun (z_9 : Int32) => v_n (v_uI s_6 0 27 z_9) fun (s_10 : v_S) => r18 (x3, x2, x3 + (1 : Int32), s_10)) else (r18 (x1, x2, x3 + (1 : Int32), s_6))))
def t_T_bestTakers_18B (fu : Nat) (r18 : Int32 × Int32 × Int32 × v_S → Option (Int32 × v_S)) (a : Int32 × Int32 × Int32 × v_S) : Option (Int32 × v_S) := t_T_bestTakers_18 fu r18 a.1 a.2.1 a.2.2.1 a.2.2.2
def t_T_bestTakers (fu : Nat)  (s : v_S) : Option (Int32 × v_S) :=
  v_b1 (t_T_keepsTakers fu s) fun (s_1 : v_S) => v_n (v_uI s_1 0 27 (-1 : Int32)) fun (s_2 : v_S) => v_b1 (t_T_takersMany fu s_2) fun (z_3 : Int32) => v_loop (t_T_bestTakers_18B fu) fu ((-1 : Int32), z_3, (0 : Int32), s_2)
theorem w_T_bestTakers_69 {Γ : v_Ctx} {l : Launch} {g : v_G} (fu : Nat) (X : v_C Γ l rm_T_bestTakers cX5_bestTakers 4 RX5 (some .int) wT g)  (x1 : Int32) (s : v_S) : v_V Γ 4 wT g (fun z : Int32 × v_S => (some (.int z.1), z.2)) 69 [(0, .ref (v_E g 0)), (1, .int x1)] [] s (t_T_bestTakers_69 fu x1 s) := by
  unfold t_T_bestTakers_69
  refine v_aload_n (pc := 69) X dX5_bestTakers_69 0 rfl ?_
  refine v_cGs (pc := 70) X (m_T_bringsTakersBack l g fu _) (v_rc_n X wT_o0) (Or.inl q1880) hy_T_bringsTakersBack rfl rfl rfl rfl dX5_bestTakers_70 (fun s_4 _ => ?_)
  refine v_iload_n (pc := 73) X dX5_bestTakers_73 1 rfl ?_
  exact v_iret (pc := 74) X dX5_bestTakers_74 rfl
theorem w_T_bestTakers_18 {Γ : v_Ctx} {l : Launch} {g : v_G} (fu : Nat) (X : v_C Γ l rm_T_bestTakers cX5_bestTakers 4 RX5 (some .int) wT g) (r18 : Int32 × Int32 × Int32 × v_S → Option (Int32 × v_S)) (h18 : ∀ (x1 : Int32) (x2 : Int32) (x3 : Int32) (s : v_S), v_V Γ 4 wT g (fun z : Int32 × v_S => (some (.int z.1), z.2)) 18 [(0, .ref (v_E g 0)), (1, .int x1), (2, .int x2), (3, .int x3)] [] s (r18 (x1, x2, x3, s))) (x1 : Int32) (x2 : Int32) (x3 : Int32) (s : v_S) : v_V Γ 4 wT g (fun z : Int32 × v_S => (some (.int z.1), z.2)) 18 [(0, .ref (v_E g 0)), (1, .int x1), (2, .int x2), (3, .int x3)] [] s (t_T_bestTakers_18 fu r18 x1 x2 x3 s) := by
  unfold t_T_bestTakers_18
  refine v_iload_n (pc := 18) X dX5_bestTakers_18 3 rfl ?_
  refine v_iload_n (pc := 19) X dX5_bestTakers_19 2 rfl ?_
  refine v_icmp_ge (pc := 20) (tgt := 69) X dX5_bestTakers_20 (by decide) (fun c20 => ?_) (fun c20 => ?_)
  · refine v_sub [0, 1] rfl ?_
    exact w_T_bestTakers_69 fu X  x1 s
  · refine v_aload_n (pc := 23) X dX5_bestTakers_23 0 rfl ?_
    refine v_iload_n (pc := 24) X dX5_bestTakers_24 3 rfl ?_
    refine v_cGs (pc := 25) X (m_T_takersAre l g fu x3 _) (v_rc_n X wT_o0) (Or.inl q1872) hy_T_takersAre rfl rfl rfl rfl dX5_bestTakers_25 (fun s_5 _ => ?_)
    refine v_aload_n (pc := 28) X dX5_bestTakers_28 0 rfl ?_
    refine v_cGs (pc := 29) X (m_T_year l g fu _) (v_rc_n X wT_o0) (Or.inl q1750) hy_T_year rfl rfl rfl rfl dX5_bestTakers_29 (fun s_6 _ => ?_)
    refine v_aload_n (pc := 32) X dX5_bestTakers_32 0 rfl ?_
    refine v_cGi (pc := 33) X (m_T_shortOfAll l g fu _) (v_rc_n X wT_o0) (Or.inl q1876) hy_T_shortOfAll rfl rfl rfl rfl dX5_bestTakers_33 (fun z_7 _ => ?_)
    refine v_if_gt (pc := 36) (tgt := 63) X dX5_bestTakers_36 (by decide) (fun c36 => ?_) (fun c36 => ?_)
    · refine v_iinc (pc := 63) (v := x3 + (1 : Int32)) (lv' := [(3, .int (x3 + (1 : Int32))), (0, .ref (v_E g 0)), (1, .int x1), (2, .int x2)]) (k := 3) X dX5_bestTakers_63 rfl rfl (Nat.le_of_ble_eq_true rfl) rfl ?_
      refine v_goto (pc := 66) (tgt := 18) X dX5_bestTakers_66 (by decide) ?_
      refine v_sub [1, 2, 3, 0] rfl ?_
      exact h18 x1 x2 (x3 + (1 : Int32)) s_6
    · refine v_aload_n (pc := 39) X dX5_bestTakers_39 0 rfl ?_
      refine v_cGi (pc := 40) X (m_T_brought l g fu _) (v_rc_n X wT_o0) (Or.inl q1836) hy_T_brought rfl rfl rfl rfl dX5_bestTakers_40 (fun z_8 _ => ?_)
      refine v_aload_n (pc := 43) X dX5_bestTakers_43 0 rfl ?_
      refine v_get (pc := 44) (kind := 0) (v := .int (s_6.1 0 27)) X wT_n0 wT_l0 wT_c0 in_X5 (Nat.le_of_ble_eq_true rfl : 27 < 40) q1498 rfl rfl dX5_bestTakers_44 ?_
      refine v_icmp_gt (pc := 47) (tgt := 53) X dX5_bestTakers_47 (by decide) (fun c47 => ?_) (fun c47 => ?_)
      · refine v_iload_n (pc := 53) X dX5_bestTakers_53 3 rfl ?_
        refine v_istore_n (pc := 54) (lv' := [(1, .int x3), (0, .ref (v_E g 0)), (2, .int x2), (3, .int x3)]) X dX5_bestTakers_54 rfl (Nat.le_of_ble_eq_true rfl) rfl ?_
        refine v_aload_n (pc := 55) X dX5_bestTakers_55 1 rfl ?_
        refine v_aload_n (pc := 56) X dX5_bestTakers_56 1 rfl ?_
        refine v_cGi (pc := 57) X (m_T_brought l g fu _) (v_rc_n X wT_o0) (Or.inl q1836) hy_T_brought rfl rfl rfl rfl dX5_bestTakers_57 (fun z_9 _ => ?_)
        refine v_putI (pc := 60) X wT_n0 wT_l0 wT_c0 in_X5 tyX5 tyX5_ok nmX5 (Nat.le_of_ble_eq_true rfl : 27 < 40) q1498 rfl rfl rfl dX5_bestTakers_60 (fun s_10 => ?_)
        refine v_iinc (pc := 63) (v := x3 + (1 : Int32)) (lv' := [(3, .int (x3 + (1 : Int32))), (1, .int x3), (0, .ref (v_E g 0)), (2, .int x2)]) (k := 3) X dX5_bestTakers_63 rfl rfl (Nat.le_of_ble_eq_true rfl) rfl ?_
        refine v_goto (pc := 66) (tgt := 18) X dX5_bestTakers_66 (by decide) ?_
        refine v_sub [2, 1, 3, 0] rfl ?_
        exact h18 x3 x2 (x3 + (1 : Int32)) s_10
      · refine v_goto (pc := 50) (tgt := 63) X dX5_bestTakers_50 (by decide) ?_
        refine v_iinc (pc := 63) (v := x3 + (1 : Int32)) (lv' := [(3, .int (x3 + (1 : Int32))), (0, .ref (v_E g 0)), (1, .int x1), (2, .int x2)]) (k := 3) X dX5_bestTakers_63 rfl rfl (Nat.le_of_ble_eq_true rfl) rfl ?_
        refine v_goto (pc := 66) (tgt := 18) X dX5_bestTakers_66 (by decide) ?_
        refine v_sub [1, 2, 3, 0] rfl ?_
        exact h18 x1 x2 (x3 + (1 : Int32)) s_6
theorem w_T_bestTakers_18L {Γ : v_Ctx} {l : Launch} {g : v_G} (fu : Nat) (X : v_C Γ l rm_T_bestTakers cX5_bestTakers 4 RX5 (some .int) wT g)  : ∀ (n : Nat), ∀ (x1 : Int32) (x2 : Int32) (x3 : Int32) (s : v_S), v_V Γ 4 wT g (fun z : Int32 × v_S => (some (.int z.1), z.2)) 18 [(0, .ref (v_E g 0)), (1, .int x1), (2, .int x2), (3, .int x3)] [] s (v_loop (t_T_bestTakers_18B fu) n (x1, x2, x3, s)) := by
  intro n
  induction n with
  | zero => exact fun _ _ _ _ => v_none
  | succ n ih => exact fun x1 x2 x3 s => w_T_bestTakers_18 fu X  _ ih x1 x2 x3 s
theorem m_T_bestTakers (l : Launch) (g : v_G) (fu : Nat)  (s : v_S) : v_M l yX5_bestTakers cX5_bestTakers 4 (some .int) rm_T_bestTakers wT g [.ref (v_E g 0)] s (fun z : Int32 × v_S => (some (.int z.1), z.2)) (t_T_bestTakers fu  s) := by
  refine v_met (by decide +kernel) (Nat.le_of_ble_eq_true rfl) (fun Γ X => ?_)
  refine v_lv (lv' := [(0, .ref (v_E g 0))]) rfl ?_
  unfold t_T_bestTakers
  refine v_aload_n (pc := 0) X dX5_bestTakers_0 0 rfl ?_
  refine v_cGs (pc := 1) X (m_T_keepsTakers l g fu _) (v_rc_n X wT_o0) (Or.inl q1864) hy_T_keepsTakers rfl rfl rfl rfl dX5_bestTakers_1 (fun s_1 _ => ?_)
  refine v_iconst (pc := 4) (v := -1) X dX5_bestTakers_4 rfl ?_
  refine v_istore_n (pc := 5) (lv' := [(1, .int (-1 : Int32)), (0, .ref (v_E g 0))]) X dX5_bestTakers_5 rfl (Nat.le_of_ble_eq_true rfl) rfl ?_
  refine v_aload_n (pc := 6) X dX5_bestTakers_6 1 rfl ?_
  refine v_iconst (pc := 7) (v := -1) X dX5_bestTakers_7 rfl ?_
  refine v_putI (pc := 8) X wT_n0 wT_l0 wT_c0 in_X5 tyX5 tyX5_ok nmX5 (Nat.le_of_ble_eq_true rfl : 27 < 40) q1498 rfl rfl rfl dX5_bestTakers_8 (fun s_2 => ?_)
  refine v_aload_n (pc := 11) X dX5_bestTakers_11 1 rfl ?_
  refine v_cGi (pc := 12) X (m_T_takersMany l g fu _) (v_rc_n X wT_o0) (Or.inl q1868) hy_T_takersMany rfl rfl rfl rfl dX5_bestTakers_12 (fun z_3 _ => ?_)
  refine v_istore_n (pc := 15) (lv' := [(2, .int z_3), (1, .int (-1 : Int32)), (0, .ref (v_E g 0))]) X dX5_bestTakers_15 rfl (Nat.le_of_ble_eq_true rfl) rfl ?_
  refine v_iconst (pc := 16) (v := 0) X dX5_bestTakers_16 rfl ?_
  refine v_istore_n (pc := 17) (lv' := [(3, .int (0 : Int32)), (2, .int z_3), (1, .int (-1 : Int32)), (0, .ref (v_E g 0))]) X dX5_bestTakers_17 rfl (Nat.le_of_ble_eq_true rfl) rfl ?_
  refine v_sub [3, 2, 1, 0] rfl ?_
  exact w_T_bestTakers_18L fu X  fu (-1 : Int32) z_3 (0 : Int32) s_2
/-! FloodLentModel.best()I -/
abbrev rm_T_best : Room := { frames := 7, cells := 0, slots := 0, locals := 155 }
theorem hy_T_best : v_yV yX5_best cX5_best 1 (some .int) 0 := ⟨q1857, q1858, q141, q1859, by decide +kernel⟩
def t_T_best (fu : Nat)  (s : v_S) : Option (Int32 × v_S) :=
  v_b1 (t_T_isPlain fu s) fun (z_1 : Int32) => if z_1 = 0 then (some ((-2 : Int32), s)) else (v_b2 (t_T_bestTakers fu s) fun (z_2 : Int32) (s_3 : v_S) => some (s_3.1 0 27, s_3))
theorem m_T_best (l : Launch) (g : v_G) (fu : Nat)  (s : v_S) : v_M l yX5_best cX5_best 1 (some .int) rm_T_best wT g [.ref (v_E g 0)] s (fun z : Int32 × v_S => (some (.int z.1), z.2)) (t_T_best fu  s) := by
  refine v_met (by decide +kernel) (Nat.le_of_ble_eq_true rfl) (fun Γ X => ?_)
  refine v_lv (lv' := [(0, .ref (v_E g 0))]) rfl ?_
  unfold t_T_best
  refine v_aload_n (pc := 0) X dX5_best_0 0 rfl ?_
  refine v_cGi (pc := 1) X (m_T_isPlain l g fu _) (v_rc_n X wT_o0) (Or.inl q1831) hy_T_isPlain rfl rfl rfl rfl dX5_best_1 (fun z_1 _ => ?_)
  refine v_if_ne (pc := 4) (tgt := 10) X dX5_best_4 (by decide) (fun c4 => ?_) (fun c4 => ?_)
  · refine v_aload_n (pc := 10) X dX5_best_10 0 rfl ?_
    refine v_cGis (pc := 11) X (m_T_bestTakers l g fu _) (v_rc_n X wT_o0) (Or.inl q1860) hy_T_bestTakers rfl rfl rfl rfl dX5_best_11 (fun z_2 s_3 _ => ?_)
    refine v_pop (pc := 14) X dX5_best_14 rfl ?_
    refine v_aload_n (pc := 15) X dX5_best_15 0 rfl ?_
    refine v_get (pc := 16) (kind := 0) (v := .int (s_3.1 0 27)) X wT_n0 wT_l0 wT_c0 in_X5 (Nat.le_of_ble_eq_true rfl : 27 < 40) q1498 rfl rfl dX5_best_16 ?_
    exact v_iret (pc := 19) X dX5_best_19 rfl
  · refine v_bipush (pc := 7) (v := -2) X dX5_best_7 rfl ?_
    exact v_iret (pc := 9) X dX5_best_9 rfl
/-! FloodLentModel.takerIn(II)I -/
abbrev rm_T_takerIn : Room := { frames := 2, cells := 0, slots := 0, locals := 41 }
theorem hy_T_takerIn : v_yV yX5_takerIn cX5_takerIn 5 (some .int) 2 := ⟨q1890, qs108, q141, q1891, by decide +kernel⟩
def t_T_takerIn_33 (fu : Nat) (p1 : Int32) (p2 : Int32) (s : v_S) (x3 : Int32) : Option Int32 :=
v_b1 (t_T_villages fu s) fun (z_2 : Int32) => if (z_2 + (1 : Int32)) = 0 then none else some ((x3 - x3 / (z_2 + (1 : Int32)) * (z_2 + (1 : Int32))) - (1 : Int32))
def t_T_takerIn_12 (fu : Nat) (p1 : Int32) (p2 : Int32) (s : v_S) (r12 : Int32 × Int32 → Option Int32) (x3 : Int32) (x4 : Int32) : Option Int32 :=
if x4 ≤ p2 then (t_T_takerIn_33 fu p1 p2 s x3) else (v_b1 (t_T_villages fu s) fun (z_3 : Int32) => if (z_3 + (1 : Int32)) = 0 then none else v_n (x3 / (z_3 + (1 : Int32))) fun (x3_4 : Int32) => r12 (x3_4, x4 + (-1 : Int32)))
def t_T_takerIn_12B (fu : Nat) (p1 : Int32) (p2 : Int32) (s : v_S) (r12 : Int32 × Int32 → Option Int32) (a : Int32 × Int32) : Option Int32 := t_T_takerIn_12 fu p1 p2 s r12 a.1 a.2
def t_T_takerIn (fu : Nat) (p1 : Int32) (p2 : Int32) (s : v_S) : Option Int32 :=
  v_n ((s.1 1 2) - (1 : Int32)) fun (x4_1 : Int32) => v_loop (t_T_takerIn_12B fu p1 p2 s) fu (p1, x4_1)
theorem w_T_takerIn_33 {Γ : v_Ctx} {l : Launch} {g : v_G} (fu : Nat) (p1 : Int32) (p2 : Int32) (s : v_S) (X : v_C Γ l rm_T_takerIn cX5_takerIn 5 RX5 (some .int) wT g)  (x3 : Int32) : v_V Γ 5 wT g (fun z : Int32 => (some (.int z), s)) 33 [(0, .ref (v_E g 0)), (3, .int x3)] [] s (t_T_takerIn_33 fu p1 p2 s x3) := by
  unfold t_T_takerIn_33
  refine v_iload_n (pc := 33) X dX5_takerIn_33 1 rfl ?_
  refine v_aload_n (pc := 34) X dX5_takerIn_34 0 rfl ?_
  refine v_cGi (pc := 35) X (m_T_villages l g fu _) (v_rc_n X wT_o0) (Or.inl q1725) hy_T_villages rfl rfl rfl rfl dX5_takerIn_35 (fun z_2 _ => ?_)
  refine v_iconst (pc := 38) (v := 1) X dX5_takerIn_38 rfl ?_
  refine v_iadd (pc := 39) X dX5_takerIn_39 ?_
  refine v_irem (pc := 40) X dX5_takerIn_40 ?_
  refine v_iconst (pc := 41) (v := 1) X dX5_takerIn_41 rfl ?_
  refine v_isub (pc := 42) X dX5_takerIn_42 ?_
  exact v_iret (pc := 43) X dX5_takerIn_43 rfl
theorem w_T_takerIn_12 {Γ : v_Ctx} {l : Launch} {g : v_G} (fu : Nat) (p1 : Int32) (p2 : Int32) (s : v_S) (X : v_C Γ l rm_T_takerIn cX5_takerIn 5 RX5 (some .int) wT g) (r12 : Int32 × Int32 → Option Int32) (h12 : ∀ (x3 : Int32) (x4 : Int32), v_V Γ 5 wT g (fun z : Int32 => (some (.int z), s)) 12 [(0, .ref (v_E g 0)), (2, .int p2), (3, .int x3), (4, .int x4)] [] s (r12 (x3, x4))) (x3 : Int32) (x4 : Int32) : v_V Γ 5 wT g (fun z : Int32 => (some (.int z), s)) 12 [(0, .ref (v_E g 0)), (2, .int p2), (3, .int x3), (4, .int x4)] [] s (t_T_takerIn_12 fu p1 p2 s r12 x3 x4) := by
  unfold t_T_takerIn_12
  refine v_iload (pc := 12) X dX5_takerIn_12 3 rfl ?_
  refine v_iload_n (pc := 14) X dX5_takerIn_14 1 rfl ?_
  refine v_icmp_le (pc := 15) (tgt := 33) X dX5_takerIn_15 (by decide) (fun c15 => ?_) (fun c15 => ?_)
  · refine v_sub [0, 2] rfl ?_
    exact w_T_takerIn_33 fu p1 p2 s X  x3
  · refine v_iload_n (pc := 18) X dX5_takerIn_18 2 rfl ?_
    refine v_aload_n (pc := 19) X dX5_takerIn_19 0 rfl ?_
    refine v_cGi (pc := 20) X (m_T_villages l g fu _) (v_rc_n X wT_o0) (Or.inl q1725) hy_T_villages rfl rfl rfl rfl dX5_takerIn_20 (fun z_3 _ => ?_)
    refine v_iconst (pc := 23) (v := 1) X dX5_takerIn_23 rfl ?_
    refine v_iadd (pc := 24) X dX5_takerIn_24 ?_
    refine v_idiv (pc := 25) X dX5_takerIn_25 ?_
    refine v_istore_nN (pc := 26) (lvf := fun x3_4 => [(3, .int x3_4), (0, .ref (v_E g 0)), (2, .int p2), (4, .int x4)]) X dX5_takerIn_26 rfl (Nat.le_of_ble_eq_true rfl) (fun _ => rfl) (fun x3_4 => ?_)
    refine v_iinc (pc := 27) (v := x4 + (-1 : Int32)) (lv' := [(4, .int (x4 + (-1 : Int32))), (3, .int x3_4), (0, .ref (v_E g 0)), (2, .int p2)]) (k := 3) X dX5_takerIn_27 rfl rfl (Nat.le_of_ble_eq_true rfl) rfl ?_
    refine v_goto (pc := 30) (tgt := 12) X dX5_takerIn_30 (by decide) ?_
    refine v_sub [2, 3, 1, 0] rfl ?_
    exact h12 x3_4 (x4 + (-1 : Int32))
theorem w_T_takerIn_12L {Γ : v_Ctx} {l : Launch} {g : v_G} (fu : Nat) (p1 : Int32) (p2 : Int32) (s : v_S) (X : v_C Γ l rm_T_takerIn cX5_takerIn 5 RX5 (some .int) wT g)  : ∀ (n : Nat), ∀ (x3 : Int32) (x4 : Int32), v_V Γ 5 wT g (fun z : Int32 => (some (.int z), s)) 12 [(0, .ref (v_E g 0)), (2, .int p2), (3, .int x3), (4, .int x4)] [] s (v_loop (t_T_takerIn_12B fu p1 p2 s) n (x3, x4)) := by
  intro n
  induction n with
  | zero => exact fun _ _ => v_none
  | succ n ih => exact fun x3 x4 => w_T_takerIn_12 fu p1 p2 s X  _ ih x3 x4
theorem m_T_takerIn (l : Launch) (g : v_G) (fu : Nat) (p1 : Int32) (p2 : Int32) (s : v_S) : v_M l yX5_takerIn cX5_takerIn 5 (some .int) rm_T_takerIn wT g [.ref (v_E g 0), .int p1, .int p2] s (fun z : Int32 => (some (.int z), s)) (t_T_takerIn fu p1 p2 s) := by
  refine v_met (by decide +kernel) (Nat.le_of_ble_eq_true rfl) (fun Γ X => ?_)
  refine v_lv (lv' := [(0, .ref (v_E g 0)), (1, .int p1), (2, .int p2)]) rfl ?_
  unfold t_T_takerIn
  refine v_iload_n (pc := 0) X dX5_takerIn_0 1 rfl ?_
  refine v_istore_n (pc := 1) (lv' := [(3, .int p1), (0, .ref (v_E g 0)), (1, .int p1), (2, .int p2)]) X dX5_takerIn_1 rfl (Nat.le_of_ble_eq_true rfl) rfl ?_
  refine v_aload_n (pc := 2) X dX5_takerIn_2 1 rfl ?_
  refine v_get (pc := 3) (kind := 4) (v := .ref (v_E g 1)) X wT_n0 wT_l0 wT_c0 in_X5 (Nat.le_of_ble_eq_true rfl : 1 < 40) q1472 rfl rfl dX5_takerIn_3 ?_
  refine v_iconst (pc := 6) (v := 2) X dX5_takerIn_6 rfl ?_
  refine v_ialdC (pc := 7) (k := 2) X wT_n1 wT_l1 rfl dX5_takerIn_7 ?_
  refine v_iconst (pc := 8) (v := 1) X dX5_takerIn_8 rfl ?_
  refine v_isub (pc := 9) X dX5_takerIn_9 ?_
  refine v_istoreN (pc := 10) (lvf := fun x4_1 => [(4, .int x4_1), (3, .int p1), (0, .ref (v_E g 0)), (1, .int p1), (2, .int p2)]) X dX5_takerIn_10 (Nat.le_of_ble_eq_true rfl) (fun _ => rfl) (fun x4_1 => ?_)
  refine v_sub [2, 4, 1, 0] rfl ?_
  exact w_T_takerIn_12L fu p1 p2 s X  fu p1 x4_1
/-! FloodLentModel.taker(I)I -/
abbrev rm_T_taker : Room := { frames := 7, cells := 0, slots := 0, locals := 155 }
theorem hy_T_taker : v_yV yX5_taker cX5_taker 3 (some .int) 1 := ⟨q1885, q1886, q141, q1887, by decide +kernel⟩
def t_T_taker (fu : Nat) (p1 : Int32) (s : v_S) : Option (Int32 × v_S) :=
  v_b1 (t_T_isFlood fu p1 s) fun (z_1 : Int32) => if z_1 = 0 then (some ((-2 : Int32), s)) else (v_b2 (t_T_bestTakers fu s) fun (z_2 : Int32) (s_3 : v_S) => if z_2 = (-1 : Int32) then (some ((-1 : Int32), s_3)) else (v_b1 (t_T_takerIn fu z_2 p1 s_3) fun (z_4 : Int32) => some (z_4, s_3)))
theorem m_T_taker (l : Launch) (g : v_G) (fu : Nat) (p1 : Int32) (s : v_S) : v_M l yX5_taker cX5_taker 3 (some .int) rm_T_taker wT g [.ref (v_E g 0), .int p1] s (fun z : Int32 × v_S => (some (.int z.1), z.2)) (t_T_taker fu p1 s) := by
  refine v_met (by decide +kernel) (Nat.le_of_ble_eq_true rfl) (fun Γ X => ?_)
  refine v_lv (lv' := [(0, .ref (v_E g 0)), (1, .int p1)]) rfl ?_
  unfold t_T_taker
  refine v_aload_n (pc := 0) X dX5_taker_0 0 rfl ?_
  refine v_iload_n (pc := 1) X dX5_taker_1 1 rfl ?_
  refine v_cGi (pc := 2) X (m_T_isFlood l g fu p1 _) (v_rc_n X wT_o0) (Or.inl q1738) hy_T_isFlood rfl rfl rfl rfl dX5_taker_2 (fun z_1 _ => ?_)
  refine v_if_ne (pc := 5) (tgt := 11) X dX5_taker_5 (by decide) (fun c5 => ?_) (fun c5 => ?_)
  · refine v_aload_n (pc := 11) X dX5_taker_11 0 rfl ?_
    refine v_cGis (pc := 12) X (m_T_bestTakers l g fu _) (v_rc_n X wT_o0) (Or.inl q1860) hy_T_bestTakers rfl rfl rfl rfl dX5_taker_12 (fun z_2 s_3 _ => ?_)
    refine v_istore_n (pc := 15) (lv' := [(2, .int z_2), (0, .ref (v_E g 0)), (1, .int p1)]) X dX5_taker_15 rfl (Nat.le_of_ble_eq_true rfl) rfl ?_
    refine v_iload_n (pc := 16) X dX5_taker_16 0 rfl ?_
    refine v_iconst (pc := 17) (v := -1) X dX5_taker_17 rfl ?_
    refine v_icmp_ne (pc := 18) (tgt := 25) X dX5_taker_18 (by decide) (fun c18 => ?_) (fun c18 => ?_)
    · refine v_aload_n (pc := 25) X dX5_taker_25 1 rfl ?_
      refine v_iload_n (pc := 26) X dX5_taker_26 0 rfl ?_
      refine v_iload_n (pc := 27) X dX5_taker_27 2 rfl ?_
      refine v_cGi (pc := 28) X (m_T_takerIn l g fu z_2 p1 _) (v_rc_n X wT_o0) (Or.inl q1888) hy_T_takerIn rfl rfl rfl rfl dX5_taker_28 (fun z_4 _ => ?_)
      exact v_iret (pc := 31) X dX5_taker_31 rfl
    · refine v_iconst (pc := 21) (v := -1) X dX5_taker_21 rfl ?_
      refine v_goto (pc := 22) (tgt := 31) X dX5_taker_22 (by decide) ?_
      exact v_iret (pc := 31) X dX5_taker_31 rfl
  · refine v_bipush (pc := 8) (v := -2) X dX5_taker_8 rfl ?_
    exact v_iret (pc := 10) X dX5_taker_10 rfl
/-! FloodLentModel.safe()I -/
abbrev rm_T_safe : Room := { frames := 6, cells := 0, slots := 0, locals := 132 }
theorem hy_T_safe : v_yV yX5_safe cX5_safe 4 (some .int) 0 := ⟨q1893, q1894, q141, q1895, by decide +kernel⟩
def t_T_safe_58 (fu : Nat) (x1 : Int32) (s : v_S) : Option (Int32 × v_S) :=
v_b1 (t_T_bringsTakersBack fu s) fun (s_4 : v_S) => some (x1, s_4)
def t_T_safe_23 (fu : Nat) (r23 : Int32 × Int32 × Int32 × v_S → Option (Int32 × v_S)) (x1 : Int32) (x2 : Int32) (x3 : Int32) (s : v_S) : Option (Int32 × v_S) :=
if x2 ≤ x3 then (t_T_safe_58 fu x1 s) else (v_b1 (t_T_takersAre fu x3 s) fun (s_5 : v_S) => v_b1 (t_T_year fu s_5) fun (s_6 : v_S) => v_b1 (t_T_shortOfAll fu s_6) fun (z_7 : Int32) => if z_7 = 0 then (v_n (x1 + (1 : Int32)) fun (x1_9 : Int32) => r23 (x1_9, x2, x3 + (1 : Int32), s_6)) else (v_n (x1 + (0 : Int32)) fun (x1_8 : Int32) => r23 (x1_8, x2, x3 + (1 : Int32), s_6)))
def t_T_safe_23B (fu : Nat) (r23 : Int32 × Int32 × Int32 × v_S → Option (Int32 × v_S)) (a : Int32 × Int32 × Int32 × v_S) : Option (Int32 × v_S) := t_T_safe_23 fu r23 a.1 a.2.1 a.2.2.1 a.2.2.2
def t_T_safe (fu : Nat)  (s : v_S) : Option (Int32 × v_S) :=
  v_b1 (t_T_isPlain fu s) fun (z_1 : Int32) => if z_1 = 0 then (some ((-2 : Int32), s)) else (v_b1 (t_T_keepsTakers fu s) fun (s_2 : v_S) => v_b1 (t_T_takersMany fu s_2) fun (z_3 : Int32) => v_loop (t_T_safe_23B fu) fu ((0 : Int32), z_3, (0 : Int32), s_2))
theorem w_T_safe_58 {Γ : v_Ctx} {l : Launch} {g : v_G} (fu : Nat) (X : v_C Γ l rm_T_safe cX5_safe 4 RX5 (some .int) wT g)  (x1 : Int32) (s : v_S) : v_V Γ 4 wT g (fun z : Int32 × v_S => (some (.int z.1), z.2)) 58 [(0, .ref (v_E g 0)), (1, .int x1)] [] s (t_T_safe_58 fu x1 s) := by
  unfold t_T_safe_58
  refine v_aload_n (pc := 58) X dX5_safe_58 0 rfl ?_
  refine v_cGs (pc := 59) X (m_T_bringsTakersBack l g fu _) (v_rc_n X wT_o0) (Or.inl q1880) hy_T_bringsTakersBack rfl rfl rfl rfl dX5_safe_59 (fun s_4 _ => ?_)
  refine v_iload_n (pc := 62) X dX5_safe_62 1 rfl ?_
  exact v_iret (pc := 63) X dX5_safe_63 rfl
theorem w_T_safe_23 {Γ : v_Ctx} {l : Launch} {g : v_G} (fu : Nat) (X : v_C Γ l rm_T_safe cX5_safe 4 RX5 (some .int) wT g) (r23 : Int32 × Int32 × Int32 × v_S → Option (Int32 × v_S)) (h23 : ∀ (x1 : Int32) (x2 : Int32) (x3 : Int32) (s : v_S), v_V Γ 4 wT g (fun z : Int32 × v_S => (some (.int z.1), z.2)) 23 [(0, .ref (v_E g 0)), (1, .int x1), (2, .int x2), (3, .int x3)] [] s (r23 (x1, x2, x3, s))) (x1 : Int32) (x2 : Int32) (x3 : Int32) (s : v_S) : v_V Γ 4 wT g (fun z : Int32 × v_S => (some (.int z.1), z.2)) 23 [(0, .ref (v_E g 0)), (1, .int x1), (2, .int x2), (3, .int x3)] [] s (t_T_safe_23 fu r23 x1 x2 x3 s) := by
  unfold t_T_safe_23
  refine v_iload_n (pc := 23) X dX5_safe_23 3 rfl ?_
  refine v_iload_n (pc := 24) X dX5_safe_24 2 rfl ?_
  refine v_icmp_ge (pc := 25) (tgt := 58) X dX5_safe_25 (by decide) (fun c25 => ?_) (fun c25 => ?_)
  · refine v_sub [0, 1] rfl ?_
    exact w_T_safe_58 fu X  x1 s
  · refine v_aload_n (pc := 28) X dX5_safe_28 0 rfl ?_
    refine v_iload_n (pc := 29) X dX5_safe_29 3 rfl ?_
    refine v_cGs (pc := 30) X (m_T_takersAre l g fu x3 _) (v_rc_n X wT_o0) (Or.inl q1872) hy_T_takersAre rfl rfl rfl rfl dX5_safe_30 (fun s_5 _ => ?_)
    refine v_aload_n (pc := 33) X dX5_safe_33 0 rfl ?_
    refine v_cGs (pc := 34) X (m_T_year l g fu _) (v_rc_n X wT_o0) (Or.inl q1750) hy_T_year rfl rfl rfl rfl dX5_safe_34 (fun s_6 _ => ?_)
    refine v_iload_n (pc := 37) X dX5_safe_37 1 rfl ?_
    refine v_aload_n (pc := 38) X dX5_safe_38 0 rfl ?_
    refine v_cGi (pc := 39) X (m_T_shortOfAll l g fu _) (v_rc_n X wT_o0) (Or.inl q1876) hy_T_shortOfAll rfl rfl rfl rfl dX5_safe_39 (fun z_7 _ => ?_)
    refine v_if_ne (pc := 42) (tgt := 49) X dX5_safe_42 (by decide) (fun c42 => ?_) (fun c42 => ?_)
    · refine v_iconst (pc := 49) (v := 0) X dX5_safe_49 rfl ?_
      refine v_iadd (pc := 50) X dX5_safe_50 ?_
      refine v_istore_nN (pc := 51) (lvf := fun x1_8 => [(1, .int x1_8), (0, .ref (v_E g 0)), (2, .int x2), (3, .int x3)]) X dX5_safe_51 rfl (Nat.le_of_ble_eq_true rfl) (fun _ => rfl) (fun x1_8 => ?_)
      refine v_iinc (pc := 52) (v := x3 + (1 : Int32)) (lv' := [(3, .int (x3 + (1 : Int32))), (1, .int x1_8), (0, .ref (v_E g 0)), (2, .int x2)]) (k := 3) X dX5_safe_52 rfl rfl (Nat.le_of_ble_eq_true rfl) rfl ?_
      refine v_goto (pc := 55) (tgt := 23) X dX5_safe_55 (by decide) ?_
      refine v_sub [2, 1, 3, 0] rfl ?_
      exact h23 x1_8 x2 (x3 + (1 : Int32)) s_6
    · refine v_iconst (pc := 45) (v := 1) X dX5_safe_45 rfl ?_
      refine v_goto (pc := 46) (tgt := 50) X dX5_safe_46 (by decide) ?_
      refine v_iadd (pc := 50) X dX5_safe_50 ?_
      refine v_istore_nN (pc := 51) (lvf := fun x1_9 => [(1, .int x1_9), (0, .ref (v_E g 0)), (2, .int x2), (3, .int x3)]) X dX5_safe_51 rfl (Nat.le_of_ble_eq_true rfl) (fun _ => rfl) (fun x1_9 => ?_)
      refine v_iinc (pc := 52) (v := x3 + (1 : Int32)) (lv' := [(3, .int (x3 + (1 : Int32))), (1, .int x1_9), (0, .ref (v_E g 0)), (2, .int x2)]) (k := 3) X dX5_safe_52 rfl rfl (Nat.le_of_ble_eq_true rfl) rfl ?_
      refine v_goto (pc := 55) (tgt := 23) X dX5_safe_55 (by decide) ?_
      refine v_sub [2, 1, 3, 0] rfl ?_
      exact h23 x1_9 x2 (x3 + (1 : Int32)) s_6
theorem w_T_safe_23L {Γ : v_Ctx} {l : Launch} {g : v_G} (fu : Nat) (X : v_C Γ l rm_T_safe cX5_safe 4 RX5 (some .int) wT g)  : ∀ (n : Nat), ∀ (x1 : Int32) (x2 : Int32) (x3 : Int32) (s : v_S), v_V Γ 4 wT g (fun z : Int32 × v_S => (some (.int z.1), z.2)) 23 [(0, .ref (v_E g 0)), (1, .int x1), (2, .int x2), (3, .int x3)] [] s (v_loop (t_T_safe_23B fu) n (x1, x2, x3, s)) := by
  intro n
  induction n with
  | zero => exact fun _ _ _ _ => v_none
  | succ n ih => exact fun x1 x2 x3 s => w_T_safe_23 fu X  _ ih x1 x2 x3 s
theorem m_T_safe (l : Launch) (g : v_G) (fu : Nat)  (s : v_S) : v_M l yX5_safe cX5_safe 4 (some .int) rm_T_safe wT g [.ref (v_E g 0)] s (fun z : Int32 × v_S => (some (.int z.1), z.2)) (t_T_safe fu  s) := by
  refine v_met (by decide +kernel) (Nat.le_of_ble_eq_true rfl) (fun Γ X => ?_)
  refine v_lv (lv' := [(0, .ref (v_E g 0))]) rfl ?_
  unfold t_T_safe
  refine v_aload_n (pc := 0) X dX5_safe_0 0 rfl ?_
  refine v_cGi (pc := 1) X (m_T_isPlain l g fu _) (v_rc_n X wT_o0) (Or.inl q1831) hy_T_isPlain rfl rfl rfl rfl dX5_safe_1 (fun z_1 _ => ?_)
  refine v_if_ne (pc := 4) (tgt := 10) X dX5_safe_4 (by decide) (fun c4 => ?_) (fun c4 => ?_)
  · refine v_aload_n (pc := 10) X dX5_safe_10 0 rfl ?_
    refine v_cGs (pc := 11) X (m_T_keepsTakers l g fu _) (v_rc_n X wT_o0) (Or.inl q1864) hy_T_keepsTakers rfl rfl rfl rfl dX5_safe_11 (fun s_2 _ => ?_)
    refine v_iconst (pc := 14) (v := 0) X dX5_safe_14 rfl ?_
    refine v_istore_n (pc := 15) (lv' := [(1, .int (0 : Int32)), (0, .ref (v_E g 0))]) X dX5_safe_15 rfl (Nat.le_of_ble_eq_true rfl) rfl ?_
    refine v_aload_n (pc := 16) X dX5_safe_16 1 rfl ?_
    refine v_cGi (pc := 17) X (m_T_takersMany l g fu _) (v_rc_n X wT_o0) (Or.inl q1868) hy_T_takersMany rfl rfl rfl rfl dX5_safe_17 (fun z_3 _ => ?_)
    refine v_istore_n (pc := 20) (lv' := [(2, .int z_3), (1, .int (0 : Int32)), (0, .ref (v_E g 0))]) X dX5_safe_20 rfl (Nat.le_of_ble_eq_true rfl) rfl ?_
    refine v_iconst (pc := 21) (v := 0) X dX5_safe_21 rfl ?_
    refine v_istore_n (pc := 22) (lv' := [(3, .int (0 : Int32)), (2, .int z_3), (1, .int (0 : Int32)), (0, .ref (v_E g 0))]) X dX5_safe_22 rfl (Nat.le_of_ble_eq_true rfl) rfl ?_
    refine v_sub [3, 2, 1, 0] rfl ?_
    exact w_T_safe_23L fu X  fu (0 : Int32) z_3 (0 : Int32) s_2
  · refine v_bipush (pc := 7) (v := -2) X dX5_safe_7 rfl ?_
    exact v_iret (pc := 9) X dX5_safe_9 rfl
/-! FloodLentModel.hopeAbove()J -/
abbrev rm_T_hopeAbove : Room := { frames := 5, cells := 0, slots := 0, locals := 112 }
theorem hy_T_hopeAbove : v_yV yX5_hopeAbove cX5_hopeAbove 7 (some .long) 0 := ⟨q1902, qs109, q141, q1903, by decide +kernel⟩
def t_T_hopeAbove_76 (fu : Nat) (r4 : Int64 × Int32 × v_S → Option (Int64 × v_S)) (x1 : Int64) (x3 : Int32) (x4 : Int64) (s : v_S) : Option (Int64 × v_S) :=
if lg_cmp x4 (0 : Int64) = 0 then (r4 (x1, x3 + (1 : Int32), s)) else (v_b1 (t_T_runs fu x3 s) fun (s_1 : v_S) => v_b1 (t_T_brought fu s_1) fun (z_2 : Int32) => v_b1 (t_T_shortOfAll fu s_1) fun (z_3 : Int32) => v_n (x1 + (x4 * (Int32.toInt64 (z_2 - z_3)))) fun (x1_4 : Int64) => r4 (x1_4, x3 + (1 : Int32), s_1))
def t_T_hopeAbove_22 (fu : Nat) (r4 : Int64 × Int32 × v_S → Option (Int64 × v_S)) (r22 : Int64 × Int32 × Int64 × Int32 × v_S → Option (Int64 × v_S)) (x1 : Int64) (x3 : Int32) (x4 : Int64) (x6 : Int32) (s : v_S) : Option (Int64 × v_S) :=
if s.1 1 2 ≤ x6 then (t_T_hopeAbove_76 fu r4 x1 x3 x4 s) else (if (x3 >>> (x6 &&& 31)) &&& (1 : Int32) = (1 : Int32) then (v_b1 (t_T_ofFlood fu x6 (2 : Int32) s) fun (z_7 : Int32) => v_n (x4 * (Int32.toInt64 z_7)) fun (x4_8 : Int64) => r22 (x1, x3, x4_8, x6 + (1 : Int32), s)) else (v_b1 (t_T_ofFlood fu x6 (2 : Int32) s) fun (z_5 : Int32) => v_n (x4 * (Int32.toInt64 ((100 : Int32) - z_5))) fun (x4_6 : Int64) => r22 (x1, x3, x4_6, x6 + (1 : Int32), s)))
def t_T_hopeAbove_22B (fu : Nat) (r4 : Int64 × Int32 × v_S → Option (Int64 × v_S)) (r22 : Int64 × Int32 × Int64 × Int32 × v_S → Option (Int64 × v_S)) (a : Int64 × Int32 × Int64 × Int32 × v_S) : Option (Int64 × v_S) := t_T_hopeAbove_22 fu r4 r22 a.1 a.2.1 a.2.2.1 a.2.2.2.1 a.2.2.2.2
def t_T_hopeAbove_4 (fu : Nat) (r4 : Int64 × Int32 × v_S → Option (Int64 × v_S)) (x1 : Int64) (x3 : Int32) (s : v_S) : Option (Int64 × v_S) :=
if (1 : Int32) <<< ((s.1 1 2) &&& 31) ≤ x3 then (some (x1, s)) else (v_loop (t_T_hopeAbove_22B fu r4) fu (x1, x3, (1 : Int64), (0 : Int32), s))
def t_T_hopeAbove_4B (fu : Nat) (r4 : Int64 × Int32 × v_S → Option (Int64 × v_S)) (a : Int64 × Int32 × v_S) : Option (Int64 × v_S) := t_T_hopeAbove_4 fu r4 a.1 a.2.1 a.2.2
def t_T_hopeAbove (fu : Nat)  (s : v_S) : Option (Int64 × v_S) :=
  v_loop (t_T_hopeAbove_4B fu) fu ((0 : Int64), (0 : Int32), s)
theorem w_T_hopeAbove_76 {Γ : v_Ctx} {l : Launch} {g : v_G} (fu : Nat) (X : v_C Γ l rm_T_hopeAbove cX5_hopeAbove 7 RX5 (some .long) wT g) (r4 : Int64 × Int32 × v_S → Option (Int64 × v_S)) (h4 : ∀ (x1 : Int64) (x3 : Int32) (s : v_S), v_V Γ 7 wT g (fun z : Int64 × v_S => (some (.long z.1), z.2)) 4 [(0, .ref (v_E g 0)), (1, .long x1), (3, .int x3)] [] s (r4 (x1, x3, s))) (x1 : Int64) (x3 : Int32) (x4 : Int64) (s : v_S) : v_V Γ 7 wT g (fun z : Int64 × v_S => (some (.long z.1), z.2)) 76 [(0, .ref (v_E g 0)), (1, .long x1), (3, .int x3), (4, .long x4)] [] s (t_T_hopeAbove_76 fu r4 x1 x3 x4 s) := by
  unfold t_T_hopeAbove_76
  refine v_lload (pc := 76) X dX5_hopeAbove_76 3 rfl ?_
  refine v_lconst (pc := 78) (v := 0) X dX5_hopeAbove_78 rfl ?_
  refine v_lcmp (pc := 79) X dX5_hopeAbove_79 ?_
  refine v_if_ne (pc := 80) (tgt := 86) X dX5_hopeAbove_80 (by decide) (fun c80 => ?_) (fun c80 => ?_)
  · refine v_aload_n (pc := 86) X dX5_hopeAbove_86 0 rfl ?_
    refine v_iload_n (pc := 87) X dX5_hopeAbove_87 2 rfl ?_
    refine v_cGs (pc := 88) X (m_T_runs l g fu x3 _) (v_rc_n X wT_o0) (Or.inl q1754) hy_T_runs rfl rfl rfl rfl dX5_hopeAbove_88 (fun s_1 _ => ?_)
    refine v_lload_n (pc := 91) X dX5_hopeAbove_91 1 rfl ?_
    refine v_lload (pc := 92) X dX5_hopeAbove_92 3 rfl ?_
    refine v_aload_n (pc := 94) X dX5_hopeAbove_94 0 rfl ?_
    refine v_cGi (pc := 95) X (m_T_brought l g fu _) (v_rc_n X wT_o0) (Or.inl q1836) hy_T_brought rfl rfl rfl rfl dX5_hopeAbove_95 (fun z_2 _ => ?_)
    refine v_aload_n (pc := 98) X dX5_hopeAbove_98 0 rfl ?_
    refine v_cGi (pc := 99) X (m_T_shortOfAll l g fu _) (v_rc_n X wT_o0) (Or.inl q1876) hy_T_shortOfAll rfl rfl rfl rfl dX5_hopeAbove_99 (fun z_3 _ => ?_)
    refine v_isub (pc := 102) X dX5_hopeAbove_102 ?_
    refine v_i2l (pc := 103) X dX5_hopeAbove_103 ?_
    refine v_lmul (pc := 104) X dX5_hopeAbove_104 ?_
    refine v_ladd (pc := 105) X dX5_hopeAbove_105 ?_
    refine v_lstore_nN (pc := 106) (lvf := fun x1_4 => [(1, .long x1_4), (0, .ref (v_E g 0)), (3, .int x3), (4, .long x4)]) X dX5_hopeAbove_106 rfl (Nat.le_of_ble_eq_true rfl) (fun _ => rfl) (fun x1_4 => ?_)
    refine v_iinc (pc := 107) (v := x3 + (1 : Int32)) (lv' := [(3, .int (x3 + (1 : Int32))), (1, .long x1_4), (0, .ref (v_E g 0)), (4, .long x4)]) (k := 2) X dX5_hopeAbove_107 rfl rfl (Nat.le_of_ble_eq_true rfl) rfl ?_
    refine v_goto (pc := 110) (tgt := 4) X dX5_hopeAbove_110 (by decide) ?_
    refine v_sub [2, 1, 0] rfl ?_
    exact h4 x1_4 (x3 + (1 : Int32)) s_1
  · refine v_goto (pc := 83) (tgt := 107) X dX5_hopeAbove_83 (by decide) ?_
    refine v_iinc (pc := 107) (v := x3 + (1 : Int32)) (lv' := [(3, .int (x3 + (1 : Int32))), (0, .ref (v_E g 0)), (1, .long x1), (4, .long x4)]) (k := 2) X dX5_hopeAbove_107 rfl rfl (Nat.le_of_ble_eq_true rfl) rfl ?_
    refine v_goto (pc := 110) (tgt := 4) X dX5_hopeAbove_110 (by decide) ?_
    refine v_sub [1, 2, 0] rfl ?_
    exact h4 x1 (x3 + (1 : Int32)) s
theorem w_T_hopeAbove_22 {Γ : v_Ctx} {l : Launch} {g : v_G} (fu : Nat) (X : v_C Γ l rm_T_hopeAbove cX5_hopeAbove 7 RX5 (some .long) wT g) (r4 : Int64 × Int32 × v_S → Option (Int64 × v_S)) (h4 : ∀ (x1 : Int64) (x3 : Int32) (s : v_S), v_V Γ 7 wT g (fun z : Int64 × v_S => (some (.long z.1), z.2)) 4 [(0, .ref (v_E g 0)), (1, .long x1), (3, .int x3)] [] s (r4 (x1, x3, s))) (r22 : Int64 × Int32 × Int64 × Int32 × v_S → Option (Int64 × v_S)) (h22 : ∀ (x1 : Int64) (x3 : Int32) (x4 : Int64) (x6 : Int32) (s : v_S), v_V Γ 7 wT g (fun z : Int64 × v_S => (some (.long z.1), z.2)) 22 [(0, .ref (v_E g 0)), (1, .long x1), (3, .int x3), (4, .long x4), (6, .int x6)] [] s (r22 (x1, x3, x4, x6, s))) (x1 : Int64) (x3 : Int32) (x4 : Int64) (x6 : Int32) (s : v_S) : v_V Γ 7 wT g (fun z : Int64 × v_S => (some (.long z.1), z.2)) 22 [(0, .ref (v_E g 0)), (1, .long x1), (3, .int x3), (4, .long x4), (6, .int x6)] [] s (t_T_hopeAbove_22 fu r4 r22 x1 x3 x4 x6 s) := by
  unfold t_T_hopeAbove_22
  refine v_iload (pc := 22) X dX5_hopeAbove_22 4 rfl ?_
  refine v_aload_n (pc := 24) X dX5_hopeAbove_24 0 rfl ?_
  refine v_get (pc := 25) (kind := 4) (v := .ref (v_E g 1)) X wT_n0 wT_l0 wT_c0 in_X5 (Nat.le_of_ble_eq_true rfl : 1 < 40) q1472 rfl rfl dX5_hopeAbove_25 ?_
  refine v_iconst (pc := 28) (v := 2) X dX5_hopeAbove_28 rfl ?_
  refine v_ialdC (pc := 29) (k := 2) X wT_n1 wT_l1 rfl dX5_hopeAbove_29 ?_
  refine v_icmp_ge (pc := 30) (tgt := 76) X dX5_hopeAbove_30 (by decide) (fun c30 => ?_) (fun c30 => ?_)
  · refine v_sub [0, 1, 2, 3] rfl ?_
    exact w_T_hopeAbove_76 fu X r4 h4 x1 x3 x4 s
  · refine v_lload (pc := 33) X dX5_hopeAbove_33 3 rfl ?_
    refine v_iload_n (pc := 35) X dX5_hopeAbove_35 2 rfl ?_
    refine v_iload (pc := 36) X dX5_hopeAbove_36 4 rfl ?_
    refine v_ishr (pc := 38) X dX5_hopeAbove_38 ?_
    refine v_iconst (pc := 39) (v := 1) X dX5_hopeAbove_39 rfl ?_
    refine v_iand (pc := 40) X dX5_hopeAbove_40 ?_
    refine v_iconst (pc := 41) (v := 1) X dX5_hopeAbove_41 rfl ?_
    refine v_icmp_ne (pc := 42) (tgt := 56) X dX5_hopeAbove_42 (by decide) (fun c42 => ?_) (fun c42 => ?_)
    · refine v_bipush (pc := 56) (v := 100) X dX5_hopeAbove_56 rfl ?_
      refine v_aload_n (pc := 58) X dX5_hopeAbove_58 0 rfl ?_
      refine v_iload (pc := 59) X dX5_hopeAbove_59 4 rfl ?_
      refine v_iconst (pc := 61) (v := 2) X dX5_hopeAbove_61 rfl ?_
      refine v_cGi (pc := 62) X (m_T_ofFlood l g fu x6 (2 : Int32) _) (v_rc_n X wT_o0) (Or.inl q1766) hy_T_ofFlood rfl rfl rfl rfl dX5_hopeAbove_62 (fun z_5 _ => ?_)
      refine v_isub (pc := 65) X dX5_hopeAbove_65 ?_
      refine v_i2l (pc := 66) X dX5_hopeAbove_66 ?_
      refine v_lmul (pc := 67) X dX5_hopeAbove_67 ?_
      refine v_lstoreN (pc := 68) (lvf := fun x4_6 => [(4, .long x4_6), (0, .ref (v_E g 0)), (1, .long x1), (3, .int x3), (6, .int x6)]) X dX5_hopeAbove_68 (Nat.le_of_ble_eq_true rfl) (fun _ => rfl) (fun x4_6 => ?_)
      refine v_iinc (pc := 70) (v := x6 + (1 : Int32)) (lv' := [(6, .int (x6 + (1 : Int32))), (4, .long x4_6), (0, .ref (v_E g 0)), (1, .long x1), (3, .int x3)]) (k := 4) X dX5_hopeAbove_70 rfl rfl (Nat.le_of_ble_eq_true rfl) rfl ?_
      refine v_goto (pc := 73) (tgt := 22) X dX5_hopeAbove_73 (by decide) ?_
      refine v_sub [2, 3, 4, 1, 0] rfl ?_
      exact h22 x1 x3 x4_6 (x6 + (1 : Int32)) s
    · refine v_aload_n (pc := 45) X dX5_hopeAbove_45 0 rfl ?_
      refine v_iload (pc := 46) X dX5_hopeAbove_46 4 rfl ?_
      refine v_iconst (pc := 48) (v := 2) X dX5_hopeAbove_48 rfl ?_
      refine v_cGi (pc := 49) X (m_T_ofFlood l g fu x6 (2 : Int32) _) (v_rc_n X wT_o0) (Or.inl q1766) hy_T_ofFlood rfl rfl rfl rfl dX5_hopeAbove_49 (fun z_7 _ => ?_)
      refine v_i2l (pc := 52) X dX5_hopeAbove_52 ?_
      refine v_goto (pc := 53) (tgt := 67) X dX5_hopeAbove_53 (by decide) ?_
      refine v_lmul (pc := 67) X dX5_hopeAbove_67 ?_
      refine v_lstoreN (pc := 68) (lvf := fun x4_8 => [(4, .long x4_8), (0, .ref (v_E g 0)), (1, .long x1), (3, .int x3), (6, .int x6)]) X dX5_hopeAbove_68 (Nat.le_of_ble_eq_true rfl) (fun _ => rfl) (fun x4_8 => ?_)
      refine v_iinc (pc := 70) (v := x6 + (1 : Int32)) (lv' := [(6, .int (x6 + (1 : Int32))), (4, .long x4_8), (0, .ref (v_E g 0)), (1, .long x1), (3, .int x3)]) (k := 4) X dX5_hopeAbove_70 rfl rfl (Nat.le_of_ble_eq_true rfl) rfl ?_
      refine v_goto (pc := 73) (tgt := 22) X dX5_hopeAbove_73 (by decide) ?_
      refine v_sub [2, 3, 4, 1, 0] rfl ?_
      exact h22 x1 x3 x4_8 (x6 + (1 : Int32)) s
theorem w_T_hopeAbove_22L {Γ : v_Ctx} {l : Launch} {g : v_G} (fu : Nat) (X : v_C Γ l rm_T_hopeAbove cX5_hopeAbove 7 RX5 (some .long) wT g) (r4 : Int64 × Int32 × v_S → Option (Int64 × v_S)) (h4 : ∀ (x1 : Int64) (x3 : Int32) (s : v_S), v_V Γ 7 wT g (fun z : Int64 × v_S => (some (.long z.1), z.2)) 4 [(0, .ref (v_E g 0)), (1, .long x1), (3, .int x3)] [] s (r4 (x1, x3, s))) : ∀ (n : Nat), ∀ (x1 : Int64) (x3 : Int32) (x4 : Int64) (x6 : Int32) (s : v_S), v_V Γ 7 wT g (fun z : Int64 × v_S => (some (.long z.1), z.2)) 22 [(0, .ref (v_E g 0)), (1, .long x1), (3, .int x3), (4, .long x4), (6, .int x6)] [] s (v_loop (t_T_hopeAbove_22B fu r4) n (x1, x3, x4, x6, s)) := by
  intro n
  induction n with
  | zero => exact fun _ _ _ _ _ => v_none
  | succ n ih => exact fun x1 x3 x4 x6 s => w_T_hopeAbove_22 fu X r4 h4 _ ih x1 x3 x4 x6 s
theorem w_T_hopeAbove_4 {Γ : v_Ctx} {l : Launch} {g : v_G} (fu : Nat) (X : v_C Γ l rm_T_hopeAbove cX5_hopeAbove 7 RX5 (some .long) wT g) (r4 : Int64 × Int32 × v_S → Option (Int64 × v_S)) (h4 : ∀ (x1 : Int64) (x3 : Int32) (s : v_S), v_V Γ 7 wT g (fun z : Int64 × v_S => (some (.long z.1), z.2)) 4 [(0, .ref (v_E g 0)), (1, .long x1), (3, .int x3)] [] s (r4 (x1, x3, s))) (x1 : Int64) (x3 : Int32) (s : v_S) : v_V Γ 7 wT g (fun z : Int64 × v_S => (some (.long z.1), z.2)) 4 [(0, .ref (v_E g 0)), (1, .long x1), (3, .int x3)] [] s (t_T_hopeAbove_4 fu r4 x1 x3 s) := by
  unfold t_T_hopeAbove_4
  refine v_iload_n (pc := 4) X dX5_hopeAbove_4 2 rfl ?_
  refine v_iconst (pc := 5) (v := 1) X dX5_hopeAbove_5 rfl ?_
  refine v_aload_n (pc := 6) X dX5_hopeAbove_6 0 rfl ?_
  refine v_get (pc := 7) (kind := 4) (v := .ref (v_E g 1)) X wT_n0 wT_l0 wT_c0 in_X5 (Nat.le_of_ble_eq_true rfl : 1 < 40) q1472 rfl rfl dX5_hopeAbove_7 ?_
  refine v_iconst (pc := 10) (v := 2) X dX5_hopeAbove_10 rfl ?_
  refine v_ialdC (pc := 11) (k := 2) X wT_n1 wT_l1 rfl dX5_hopeAbove_11 ?_
  refine v_ishl (pc := 12) X dX5_hopeAbove_12 ?_
  refine v_icmp_ge (pc := 13) (tgt := 113) X dX5_hopeAbove_13 (by decide) (fun c13 => ?_) (fun c13 => ?_)
  · refine v_lload_n (pc := 113) X dX5_hopeAbove_113 1 rfl ?_
    exact v_lret (pc := 114) X dX5_hopeAbove_114 rfl
  · refine v_lconst (pc := 16) (v := 1) X dX5_hopeAbove_16 rfl ?_
    refine v_lstore (pc := 17) (lv' := [(4, .long (1 : Int64)), (0, .ref (v_E g 0)), (1, .long x1), (3, .int x3)]) X dX5_hopeAbove_17 (Nat.le_of_ble_eq_true rfl) rfl ?_
    refine v_iconst (pc := 19) (v := 0) X dX5_hopeAbove_19 rfl ?_
    refine v_istore (pc := 20) (lv' := [(6, .int (0 : Int32)), (4, .long (1 : Int64)), (0, .ref (v_E g 0)), (1, .long x1), (3, .int x3)]) X dX5_hopeAbove_20 (Nat.le_of_ble_eq_true rfl) rfl ?_
    refine v_sub [2, 3, 4, 1, 0] rfl ?_
    exact w_T_hopeAbove_22L fu X r4 h4 fu x1 x3 (1 : Int64) (0 : Int32) s
theorem w_T_hopeAbove_4L {Γ : v_Ctx} {l : Launch} {g : v_G} (fu : Nat) (X : v_C Γ l rm_T_hopeAbove cX5_hopeAbove 7 RX5 (some .long) wT g)  : ∀ (n : Nat), ∀ (x1 : Int64) (x3 : Int32) (s : v_S), v_V Γ 7 wT g (fun z : Int64 × v_S => (some (.long z.1), z.2)) 4 [(0, .ref (v_E g 0)), (1, .long x1), (3, .int x3)] [] s (v_loop (t_T_hopeAbove_4B fu) n (x1, x3, s)) := by
  intro n
  induction n with
  | zero => exact fun _ _ _ => v_none
  | succ n ih => exact fun x1 x3 s => w_T_hopeAbove_4 fu X  _ ih x1 x3 s
theorem m_T_hopeAbove (l : Launch) (g : v_G) (fu : Nat)  (s : v_S) : v_M l yX5_hopeAbove cX5_hopeAbove 7 (some .long) rm_T_hopeAbove wT g [.ref (v_E g 0)] s (fun z : Int64 × v_S => (some (.long z.1), z.2)) (t_T_hopeAbove fu  s) := by
  refine v_met (by decide +kernel) (Nat.le_of_ble_eq_true rfl) (fun Γ X => ?_)
  refine v_lv (lv' := [(0, .ref (v_E g 0))]) rfl ?_
  unfold t_T_hopeAbove
  refine v_lconst (pc := 0) (v := 0) X dX5_hopeAbove_0 rfl ?_
  refine v_lstore_n (pc := 1) (lv' := [(1, .long (0 : Int64)), (0, .ref (v_E g 0))]) X dX5_hopeAbove_1 rfl (Nat.le_of_ble_eq_true rfl) rfl ?_
  refine v_iconst (pc := 2) (v := 0) X dX5_hopeAbove_2 rfl ?_
  refine v_istore_n (pc := 3) (lv' := [(3, .int (0 : Int32)), (1, .long (0 : Int64)), (0, .ref (v_E g 0))]) X dX5_hopeAbove_3 rfl (Nat.le_of_ble_eq_true rfl) rfl ?_
  refine v_sub [2, 1, 0] rfl ?_
  exact w_T_hopeAbove_4L fu X  fu (0 : Int64) (0 : Int32) s
/-! FloodLentModel.hopeBelow()J -/
abbrev rm_T_hopeBelow : Room := { frames := 1, cells := 0, slots := 0, locals := 21 }
theorem hy_T_hopeBelow : v_yV yX5_hopeBelow cX5_hopeBelow 4 (some .long) 0 := ⟨q1906, qs110, q141, q1907, by decide +kernel⟩
def t_T_hopeBelow_4 (fu : Nat) (s : v_S) (r4 : Int64 × Int32 → Option Int64) (x1 : Int64) (x3 : Int32) : Option Int64 :=
if s.1 1 2 ≤ x3 then (some x1) else (v_n (x1 * (100 : Int64)) fun (x1_1 : Int64) => r4 (x1_1, x3 + (1 : Int32)))
def t_T_hopeBelow_4B (fu : Nat) (s : v_S) (r4 : Int64 × Int32 → Option Int64) (a : Int64 × Int32) : Option Int64 := t_T_hopeBelow_4 fu s r4 a.1 a.2
def t_T_hopeBelow (fu : Nat)  (s : v_S) : Option Int64 :=
  v_loop (t_T_hopeBelow_4B fu s) fu ((1 : Int64), (0 : Int32))
theorem w_T_hopeBelow_4 {Γ : v_Ctx} {l : Launch} {g : v_G} (fu : Nat) (s : v_S) (X : v_C Γ l rm_T_hopeBelow cX5_hopeBelow 4 RX5 (some .long) wT g) (r4 : Int64 × Int32 → Option Int64) (h4 : ∀ (x1 : Int64) (x3 : Int32), v_V Γ 4 wT g (fun z : Int64 => (some (.long z), s)) 4 [(0, .ref (v_E g 0)), (1, .long x1), (3, .int x3)] [] s (r4 (x1, x3))) (x1 : Int64) (x3 : Int32) : v_V Γ 4 wT g (fun z : Int64 => (some (.long z), s)) 4 [(0, .ref (v_E g 0)), (1, .long x1), (3, .int x3)] [] s (t_T_hopeBelow_4 fu s r4 x1 x3) := by
  unfold t_T_hopeBelow_4
  refine v_iload_n (pc := 4) X dX5_hopeBelow_4 2 rfl ?_
  refine v_aload_n (pc := 5) X dX5_hopeBelow_5 0 rfl ?_
  refine v_get (pc := 6) (kind := 4) (v := .ref (v_E g 1)) X wT_n0 wT_l0 wT_c0 in_X5 (Nat.le_of_ble_eq_true rfl : 1 < 40) q1472 rfl rfl dX5_hopeBelow_6 ?_
  refine v_iconst (pc := 9) (v := 2) X dX5_hopeBelow_9 rfl ?_
  refine v_ialdC (pc := 10) (k := 2) X wT_n1 wT_l1 rfl dX5_hopeBelow_10 ?_
  refine v_icmp_ge (pc := 11) (tgt := 26) X dX5_hopeBelow_11 (by decide) (fun c11 => ?_) (fun c11 => ?_)
  · refine v_lload_n (pc := 26) X dX5_hopeBelow_26 1 rfl ?_
    exact v_lret (pc := 27) X dX5_hopeBelow_27 rfl
  · refine v_lload_n (pc := 14) X dX5_hopeBelow_14 1 rfl ?_
    refine v_ldc2 (pc := 15) X q1908 dX5_hopeBelow_15 ?_
    refine v_lmul (pc := 18) X dX5_hopeBelow_18 ?_
    refine v_lstore_nN (pc := 19) (lvf := fun x1_1 => [(1, .long x1_1), (0, .ref (v_E g 0)), (3, .int x3)]) X dX5_hopeBelow_19 rfl (Nat.le_of_ble_eq_true rfl) (fun _ => rfl) (fun x1_1 => ?_)
    refine v_iinc (pc := 20) (v := x3 + (1 : Int32)) (lv' := [(3, .int (x3 + (1 : Int32))), (1, .long x1_1), (0, .ref (v_E g 0))]) (k := 2) X dX5_hopeBelow_20 rfl rfl (Nat.le_of_ble_eq_true rfl) rfl ?_
    refine v_goto (pc := 23) (tgt := 4) X dX5_hopeBelow_23 (by decide) ?_
    refine v_sub [2, 1, 0] rfl ?_
    exact h4 x1_1 (x3 + (1 : Int32))
theorem w_T_hopeBelow_4L {Γ : v_Ctx} {l : Launch} {g : v_G} (fu : Nat) (s : v_S) (X : v_C Γ l rm_T_hopeBelow cX5_hopeBelow 4 RX5 (some .long) wT g)  : ∀ (n : Nat), ∀ (x1 : Int64) (x3 : Int32), v_V Γ 4 wT g (fun z : Int64 => (some (.long z), s)) 4 [(0, .ref (v_E g 0)), (1, .long x1), (3, .int x3)] [] s (v_loop (t_T_hopeBelow_4B fu s) n (x1, x3)) := by
  intro n
  induction n with
  | zero => exact fun _ _ => v_none
  | succ n ih => exact fun x1 x3 => w_T_hopeBelow_4 fu s X  _ ih x1 x3
theorem m_T_hopeBelow (l : Launch) (g : v_G) (fu : Nat)  (s : v_S) : v_M l yX5_hopeBelow cX5_hopeBelow 4 (some .long) rm_T_hopeBelow wT g [.ref (v_E g 0)] s (fun z : Int64 => (some (.long z), s)) (t_T_hopeBelow fu  s) := by
  refine v_met (by decide +kernel) (Nat.le_of_ble_eq_true rfl) (fun Γ X => ?_)
  refine v_lv (lv' := [(0, .ref (v_E g 0))]) rfl ?_
  unfold t_T_hopeBelow
  refine v_lconst (pc := 0) (v := 1) X dX5_hopeBelow_0 rfl ?_
  refine v_lstore_n (pc := 1) (lv' := [(1, .long (1 : Int64)), (0, .ref (v_E g 0))]) X dX5_hopeBelow_1 rfl (Nat.le_of_ble_eq_true rfl) rfl ?_
  refine v_iconst (pc := 2) (v := 0) X dX5_hopeBelow_2 rfl ?_
  refine v_istore_n (pc := 3) (lv' := [(3, .int (0 : Int32)), (1, .long (1 : Int64)), (0, .ref (v_E g 0))]) X dX5_hopeBelow_3 rfl (Nat.le_of_ble_eq_true rfl) rfl ?_
  refine v_sub [2, 1, 0] rfl ?_
  exact w_T_hopeBelow_4L fu s X  fu (1 : Int64) (0 : Int32)
/-! FloodLentModel.part(JJI)J -/
abbrev rm_T_part : Room := { frames := 2, cells := 0, slots := 0, locals := 60 }
theorem hy_T_part : v_yS yX5_part cX5_part 11 (some .long) 3 := ⟨q1910, q141, q1911, by decide +kernel⟩
def t_T_part_34 (fu : Nat) (p0 : Int64) (p2 : Int64) (p4 : Int32) (s : v_S) (x5 : Int64) : Option Int64 :=
if p4 = 0 then (if x5 = 0 then none else some (p0 / x5)) else (if x5 = 0 then none else some (p2 / x5))
def t_T_part_9 (fu : Nat) (p0 : Int64) (p2 : Int64) (p4 : Int32) (s : v_S) (r9 : Int64 × Int64 → Option Int64) (x5 : Int64) (x7 : Int64) : Option Int64 :=
if lg_cmp x7 (0 : Int64) = 0 then (t_T_part_34 fu p0 p2 p4 s x5) else (if x7 = 0 then none else v_n (x5 - x5 / x7 * x7) fun (x9_2 : Int64) => r9 (x7, x9_2))
def t_T_part_9B (fu : Nat) (p0 : Int64) (p2 : Int64) (p4 : Int32) (s : v_S) (r9 : Int64 × Int64 → Option Int64) (a : Int64 × Int64) : Option Int64 := t_T_part_9 fu p0 p2 p4 s r9 a.1 a.2
def t_T_part (fu : Nat) (p0 : Int64) (p2 : Int64) (p4 : Int32) (s : v_S) : Option Int64 :=
  v_n (if 0 < p0 then p0 else -p0) fun (x5_1 : Int64) => v_loop (t_T_part_9B fu p0 p2 p4 s) fu (x5_1, p2)
theorem w_T_part_34 {Γ : v_Ctx} {l : Launch} {g : v_G} (fu : Nat) (p0 : Int64) (p2 : Int64) (p4 : Int32) (s : v_S) (X : v_C Γ l rm_T_part cX5_part 11 RX5 (some .long) wT g)  (x5 : Int64) : v_V Γ 11 wT g (fun z : Int64 => (some (.long z), s)) 34 [(0, .long p0), (2, .long p2), (4, .int p4), (5, .long x5)] [] s (t_T_part_34 fu p0 p2 p4 s x5) := by
  unfold t_T_part_34
  refine v_iload (pc := 34) X dX5_part_34 2 rfl ?_
  refine v_if_ne (pc := 36) (tgt := 43) X dX5_part_36 (by decide) (fun c36 => ?_) (fun c36 => ?_)
  · refine v_lload_n (pc := 43) X dX5_part_43 1 rfl ?_
    refine v_lload (pc := 44) X dX5_part_44 3 rfl ?_
    refine v_ldiv (pc := 46) X dX5_part_46 ?_
    exact v_lret (pc := 47) X dX5_part_47 rfl
  · refine v_lload_n (pc := 39) X dX5_part_39 0 rfl ?_
    refine v_goto (pc := 40) (tgt := 44) X dX5_part_40 (by decide) ?_
    refine v_lload (pc := 44) X dX5_part_44 3 rfl ?_
    refine v_ldiv (pc := 46) X dX5_part_46 ?_
    exact v_lret (pc := 47) X dX5_part_47 rfl
theorem w_T_part_9 {Γ : v_Ctx} {l : Launch} {g : v_G} (fu : Nat) (p0 : Int64) (p2 : Int64) (p4 : Int32) (s : v_S) (X : v_C Γ l rm_T_part cX5_part 11 RX5 (some .long) wT g) (r9 : Int64 × Int64 → Option Int64) (h9 : ∀ (x5 : Int64) (x7 : Int64), v_V Γ 11 wT g (fun z : Int64 => (some (.long z), s)) 9 [(0, .long p0), (2, .long p2), (4, .int p4), (5, .long x5), (7, .long x7)] [] s (r9 (x5, x7))) (x5 : Int64) (x7 : Int64) : v_V Γ 11 wT g (fun z : Int64 => (some (.long z), s)) 9 [(0, .long p0), (2, .long p2), (4, .int p4), (5, .long x5), (7, .long x7)] [] s (t_T_part_9 fu p0 p2 p4 s r9 x5 x7) := by
  unfold t_T_part_9
  refine v_lload (pc := 9) X dX5_part_9 4 rfl ?_
  refine v_lconst (pc := 11) (v := 0) X dX5_part_11 rfl ?_
  refine v_lcmp (pc := 12) X dX5_part_12 ?_
  refine v_if_eq (pc := 13) (tgt := 34) X dX5_part_13 (by decide) (fun c13 => ?_) (fun c13 => ?_)
  · refine v_sub [0, 1, 2, 3] rfl ?_
    exact w_T_part_34 fu p0 p2 p4 s X  x5
  · refine v_lload (pc := 16) X dX5_part_16 3 rfl ?_
    refine v_lload (pc := 18) X dX5_part_18 4 rfl ?_
    refine v_lrem (pc := 20) X dX5_part_20 ?_
    refine v_lstoreN (pc := 21) (lvf := fun x9_2 => [(9, .long x9_2), (0, .long p0), (2, .long p2), (4, .int p4), (5, .long x5), (7, .long x7)]) X dX5_part_21 (Nat.le_of_ble_eq_true rfl) (fun _ => rfl) (fun x9_2 => ?_)
    refine v_lload (pc := 23) X dX5_part_23 5 rfl ?_
    refine v_lstore (pc := 25) (lv' := [(5, .long x7), (9, .long x9_2), (0, .long p0), (2, .long p2), (4, .int p4), (7, .long x7)]) X dX5_part_25 (Nat.le_of_ble_eq_true rfl) rfl ?_
    refine v_lload (pc := 27) X dX5_part_27 1 rfl ?_
    refine v_lstore (pc := 29) (lv' := [(7, .long x9_2), (5, .long x7), (9, .long x9_2), (0, .long p0), (2, .long p2), (4, .int p4)]) X dX5_part_29 (Nat.le_of_ble_eq_true rfl) rfl ?_
    refine v_goto (pc := 31) (tgt := 9) X dX5_part_31 (by decide) ?_
    refine v_sub [3, 4, 5, 1, 0] rfl ?_
    exact h9 x7 x9_2
theorem w_T_part_9L {Γ : v_Ctx} {l : Launch} {g : v_G} (fu : Nat) (p0 : Int64) (p2 : Int64) (p4 : Int32) (s : v_S) (X : v_C Γ l rm_T_part cX5_part 11 RX5 (some .long) wT g)  : ∀ (n : Nat), ∀ (x5 : Int64) (x7 : Int64), v_V Γ 11 wT g (fun z : Int64 => (some (.long z), s)) 9 [(0, .long p0), (2, .long p2), (4, .int p4), (5, .long x5), (7, .long x7)] [] s (v_loop (t_T_part_9B fu p0 p2 p4 s) n (x5, x7)) := by
  intro n
  induction n with
  | zero => exact fun _ _ => v_none
  | succ n ih => exact fun x5 x7 => w_T_part_9 fu p0 p2 p4 s X  _ ih x5 x7
theorem m_T_part (l : Launch) (g : v_G) (fu : Nat) (p0 : Int64) (p2 : Int64) (p4 : Int32) (s : v_S) : v_M l yX5_part cX5_part 11 (some .long) rm_T_part wT g [.long p0, .long p2, .int p4] s (fun z : Int64 => (some (.long z), s)) (t_T_part fu p0 p2 p4 s) := by
  refine v_met (by decide +kernel) (Nat.le_of_ble_eq_true rfl) (fun Γ X => ?_)
  refine v_lv (lv' := [(0, .long p0), (2, .long p2), (4, .int p4)]) rfl ?_
  unfold t_T_part
  refine v_lload_n (pc := 0) X dX5_part_0 0 rfl ?_
  refine v_mabsL (pc := 1) X q1912 q1248 q143 q1249 rfl dX5_part_1 ?_
  refine v_lstoreN (pc := 4) (lvf := fun x5_1 => [(5, .long x5_1), (0, .long p0), (2, .long p2), (4, .int p4)]) X dX5_part_4 (Nat.le_of_ble_eq_true rfl) (fun _ => rfl) (fun x5_1 => ?_)
  refine v_lload_n (pc := 6) X dX5_part_6 2 rfl ?_
  refine v_lstore (pc := 7) (lv' := [(7, .long p2), (5, .long x5_1), (0, .long p0), (2, .long p2), (4, .int p4)]) X dX5_part_7 (Nat.le_of_ble_eq_true rfl) rfl ?_
  refine v_sub [2, 3, 4, 1, 0] rfl ?_
  exact w_T_part_9L fu p0 p2 p4 s X  fu x5_1 p2
/-! FloodLentModel.hope(I)J -/
abbrev rm_T_hope : Room := { frames := 6, cells := 0, slots := 0, locals := 138 }
theorem hy_T_hope : v_yV yX5_hope cX5_hope 2 (some .long) 1 := ⟨q1897, q1898, q141, q1899, by decide +kernel⟩
def t_T_hope (fu : Nat) (p1 : Int32) (s : v_S) : Option (Int64 × v_S) :=
  v_b1 (t_T_isPlain fu s) fun (z_1 : Int32) => if z_1 = 0 then (some ((-2 : Int64), s)) else (v_b1 (t_T_in fu (Int32.toInt64 p1) (0 : Int64) (1 : Int64) s) fun (z_2 : Int32) => if z_2 = 0 then (some ((-2 : Int64), s)) else (v_b2 (t_T_hopeAbove fu s) fun (z_3 : Int64) (s_4 : v_S) => v_b1 (t_T_hopeBelow fu s_4) fun (z_5 : Int64) => v_b1 (t_T_part fu z_3 z_5 p1 s_4) fun (z_6 : Int64) => some (z_6, s_4)))
theorem m_T_hope (l : Launch) (g : v_G) (fu : Nat) (p1 : Int32) (s : v_S) : v_M l yX5_hope cX5_hope 2 (some .long) rm_T_hope wT g [.ref (v_E g 0), .int p1] s (fun z : Int64 × v_S => (some (.long z.1), z.2)) (t_T_hope fu p1 s) := by
  refine v_met (by decide +kernel) (Nat.le_of_ble_eq_true rfl) (fun Γ X => ?_)
  refine v_lv (lv' := [(0, .ref (v_E g 0)), (1, .int p1)]) rfl ?_
  unfold t_T_hope
  refine v_aload_n (pc := 0) X dX5_hope_0 0 rfl ?_
  refine v_cGi (pc := 1) X (m_T_isPlain l g fu _) (v_rc_n X wT_o0) (Or.inl q1831) hy_T_isPlain rfl rfl rfl rfl dX5_hope_1 (fun z_1 _ => ?_)
  refine v_if_eq (pc := 4) (tgt := 32) X dX5_hope_4 (by decide) (fun c4 => ?_) (fun c4 => ?_)
  · refine v_ldc2 (pc := 32) X q1913 dX5_hope_32 ?_
    exact v_lret (pc := 35) X dX5_hope_35 rfl
  · refine v_iload_n (pc := 7) X dX5_hope_7 1 rfl ?_
    refine v_i2l (pc := 8) X dX5_hope_8 ?_
    refine v_lconst (pc := 9) (v := 0) X dX5_hope_9 rfl ?_
    refine v_lconst (pc := 10) (v := 1) X dX5_hope_10 rfl ?_
    refine v_cSi (pc := 11) X (m_T_in l g fu (Int32.toInt64 p1) (0 : Int64) (1 : Int64) _) q1598 hy_T_in rfl rfl rfl rfl dX5_hope_11 (fun z_2 _ => ?_)
    refine v_if_eq (pc := 14) (tgt := 32) X dX5_hope_14 (by decide) (fun c14 => ?_) (fun c14 => ?_)
    · refine v_ldc2 (pc := 32) X q1913 dX5_hope_32 ?_
      exact v_lret (pc := 35) X dX5_hope_35 rfl
    · refine v_aload_n (pc := 17) X dX5_hope_17 0 rfl ?_
      refine v_cGls (pc := 18) X (m_T_hopeAbove l g fu _) (v_rc_n X wT_o0) (Or.inl q1900) hy_T_hopeAbove rfl rfl rfl rfl dX5_hope_18 (fun z_3 s_4 _ => ?_)
      refine v_aload_n (pc := 21) X dX5_hope_21 0 rfl ?_
      refine v_cGl (pc := 22) X (m_T_hopeBelow l g fu _) (v_rc_n X wT_o0) (Or.inl q1904) hy_T_hopeBelow rfl rfl rfl rfl dX5_hope_22 (fun z_5 _ => ?_)
      refine v_iload_n (pc := 25) X dX5_hope_25 1 rfl ?_
      refine v_cSl (pc := 26) X (m_T_part l g fu z_3 z_5 p1 _) q1909 hy_T_part rfl rfl rfl rfl dX5_hope_26 (fun z_6 _ => ?_)
      refine v_goto (pc := 29) (tgt := 35) X dX5_hope_29 (by decide) ?_
      exact v_lret (pc := 35) X dX5_hope_35 rfl
/-! FloodLentModel.wiseTakers()I -/
abbrev rm_T_wiseTakers : Room := { frames := 6, cells := 0, slots := 0, locals := 138 }
theorem hy_T_wiseTakers : v_yV yX5_wiseTakers cX5_wiseTakers 6 (some .int) 0 := ⟨q1920, qs111, q141, q1921, by decide +kernel⟩
def t_T_wiseTakers_61 (fu : Nat) (x1 : Int32) (s : v_S) : Option (Int32 × v_S) :=
v_b1 (t_T_bringsTakersBack fu s) fun (s_3 : v_S) => some (x1, s_3)
def t_T_wiseTakers_47 (fu : Nat) (r13 : Int32 × Int32 × Int32 × v_S → Option (Int32 × v_S)) (x2 : Int32) (x3 : Int32) (x4 : Int64) (s : v_S) : Option (Int32 × v_S) :=
v_n (v_uL s 0 28 x4) fun (s_7 : v_S) => r13 (x3, x2, x3 + (1 : Int32), s_7)
def t_T_wiseTakers_13 (fu : Nat) (r13 : Int32 × Int32 × Int32 × v_S → Option (Int32 × v_S)) (x1 : Int32) (x2 : Int32) (x3 : Int32) (s : v_S) : Option (Int32 × v_S) :=
if x2 ≤ x3 then (t_T_wiseTakers_61 fu x1 s) else (v_b1 (t_T_takersAre fu x3 s) fun (s_4 : v_S) => v_b2 (t_T_hopeAbove fu s_4) fun (z_5 : Int64) (s_6 : v_S) => if x1 = (-1 : Int32) then (t_T_wiseTakers_47 fu r13 x2 x3 z_5 s_6) else (if (0 : Int32) < lg_cmp z_5 (s_6.2.1 0 28) then (t_T_wiseTakers_47 fu r13 x2 x3 z_5 s_6) else (r13 (x1, x2, x3 + (1 : Int32), s_6))))
def t_T_wiseTakers_13B (fu : Nat) (r13 : Int32 × Int32 × Int32 × v_S → Option (Int32 × v_S)) (a : Int32 × Int32 × Int32 × v_S) : Option (Int32 × v_S) := t_T_wiseTakers_13 fu r13 a.1 a.2.1 a.2.2.1 a.2.2.2
def t_T_wiseTakers (fu : Nat)  (s : v_S) : Option (Int32 × v_S) :=
  v_b1 (t_T_keepsTakers fu s) fun (s_1 : v_S) => v_b1 (t_T_takersMany fu s_1) fun (z_2 : Int32) => v_loop (t_T_wiseTakers_13B fu) fu ((-1 : Int32), z_2, (0 : Int32), s_1)
theorem w_T_wiseTakers_61 {Γ : v_Ctx} {l : Launch} {g : v_G} (fu : Nat) (X : v_C Γ l rm_T_wiseTakers cX5_wiseTakers 6 RX5 (some .int) wT g)  (x1 : Int32) (s : v_S) : v_V Γ 6 wT g (fun z : Int32 × v_S => (some (.int z.1), z.2)) 61 [(0, .ref (v_E g 0)), (1, .int x1)] [] s (t_T_wiseTakers_61 fu x1 s) := by
  unfold t_T_wiseTakers_61
  refine v_aload_n (pc := 61) X dX5_wiseTakers_61 0 rfl ?_
  refine v_cGs (pc := 62) X (m_T_bringsTakersBack l g fu _) (v_rc_n X wT_o0) (Or.inl q1880) hy_T_bringsTakersBack rfl rfl rfl rfl dX5_wiseTakers_62 (fun s_3 _ => ?_)
  refine v_iload_n (pc := 65) X dX5_wiseTakers_65 1 rfl ?_
  exact v_iret (pc := 66) X dX5_wiseTakers_66 rfl
theorem w_T_wiseTakers_47 {Γ : v_Ctx} {l : Launch} {g : v_G} (fu : Nat) (X : v_C Γ l rm_T_wiseTakers cX5_wiseTakers 6 RX5 (some .int) wT g) (r13 : Int32 × Int32 × Int32 × v_S → Option (Int32 × v_S)) (h13 : ∀ (x1 : Int32) (x2 : Int32) (x3 : Int32) (s : v_S), v_V Γ 6 wT g (fun z : Int32 × v_S => (some (.int z.1), z.2)) 13 [(0, .ref (v_E g 0)), (1, .int x1), (2, .int x2), (3, .int x3)] [] s (r13 (x1, x2, x3, s))) (x2 : Int32) (x3 : Int32) (x4 : Int64) (s : v_S) : v_V Γ 6 wT g (fun z : Int32 × v_S => (some (.int z.1), z.2)) 47 [(0, .ref (v_E g 0)), (2, .int x2), (3, .int x3), (4, .long x4)] [] s (t_T_wiseTakers_47 fu r13 x2 x3 x4 s) := by
  unfold t_T_wiseTakers_47
  refine v_iload_n (pc := 47) X dX5_wiseTakers_47 2 rfl ?_
  refine v_istore_n (pc := 48) (lv' := [(1, .int x3), (0, .ref (v_E g 0)), (2, .int x2), (3, .int x3), (4, .long x4)]) X dX5_wiseTakers_48 rfl (Nat.le_of_ble_eq_true rfl) rfl ?_
  refine v_aload_n (pc := 49) X dX5_wiseTakers_49 1 rfl ?_
  refine v_lload (pc := 50) X dX5_wiseTakers_50 4 rfl ?_
  refine v_putL (pc := 52) X wT_n0 wT_l0 wT_c0 in_X5 tyX5 tyX5_ok nmX5 (Nat.le_of_ble_eq_true rfl : 28 < 40) q1499 rfl rfl rfl dX5_wiseTakers_52 (fun s_7 => ?_)
  refine v_iinc (pc := 55) (v := x3 + (1 : Int32)) (lv' := [(3, .int (x3 + (1 : Int32))), (1, .int x3), (0, .ref (v_E g 0)), (2, .int x2), (4, .long x4)]) (k := 3) X dX5_wiseTakers_55 rfl rfl (Nat.le_of_ble_eq_true rfl) rfl ?_
  refine v_goto (pc := 58) (tgt := 13) X dX5_wiseTakers_58 (by decide) ?_
  refine v_sub [2, 1, 3, 0] rfl ?_
  exact h13 x3 x2 (x3 + (1 : Int32)) s_7
theorem w_T_wiseTakers_13 {Γ : v_Ctx} {l : Launch} {g : v_G} (fu : Nat) (X : v_C Γ l rm_T_wiseTakers cX5_wiseTakers 6 RX5 (some .int) wT g) (r13 : Int32 × Int32 × Int32 × v_S → Option (Int32 × v_S)) (h13 : ∀ (x1 : Int32) (x2 : Int32) (x3 : Int32) (s : v_S), v_V Γ 6 wT g (fun z : Int32 × v_S => (some (.int z.1), z.2)) 13 [(0, .ref (v_E g 0)), (1, .int x1), (2, .int x2), (3, .int x3)] [] s (r13 (x1, x2, x3, s))) (x1 : Int32) (x2 : Int32) (x3 : Int32) (s : v_S) : v_V Γ 6 wT g (fun z : Int32 × v_S => (some (.int z.1), z.2)) 13 [(0, .ref (v_E g 0)), (1, .int x1), (2, .int x2), (3, .int x3)] [] s (t_T_wiseTakers_13 fu r13 x1 x2 x3 s) := by
  unfold t_T_wiseTakers_13
  refine v_iload_n (pc := 13) X dX5_wiseTakers_13 3 rfl ?_
  refine v_iload_n (pc := 14) X dX5_wiseTakers_14 2 rfl ?_
  refine v_icmp_ge (pc := 15) (tgt := 61) X dX5_wiseTakers_15 (by decide) (fun c15 => ?_) (fun c15 => ?_)
  · refine v_sub [0, 1] rfl ?_
    exact w_T_wiseTakers_61 fu X  x1 s
  · refine v_aload_n (pc := 18) X dX5_wiseTakers_18 0 rfl ?_
    refine v_iload_n (pc := 19) X dX5_wiseTakers_19 3 rfl ?_
    refine v_cGs (pc := 20) X (m_T_takersAre l g fu x3 _) (v_rc_n X wT_o0) (Or.inl q1872) hy_T_takersAre rfl rfl rfl rfl dX5_wiseTakers_20 (fun s_4 _ => ?_)
    refine v_aload_n (pc := 23) X dX5_wiseTakers_23 0 rfl ?_
    refine v_cGls (pc := 24) X (m_T_hopeAbove l g fu _) (v_rc_n X wT_o0) (Or.inl q1900) hy_T_hopeAbove rfl rfl rfl rfl dX5_wiseTakers_24 (fun z_5 s_6 _ => ?_)
    refine v_lstore (pc := 27) (lv' := [(4, .long z_5), (0, .ref (v_E g 0)), (1, .int x1), (2, .int x2), (3, .int x3)]) X dX5_wiseTakers_27 (Nat.le_of_ble_eq_true rfl) rfl ?_
    refine v_iload_n (pc := 29) X dX5_wiseTakers_29 2 rfl ?_
    refine v_iconst (pc := 30) (v := -1) X dX5_wiseTakers_30 rfl ?_
    refine v_icmp_eq (pc := 31) (tgt := 47) X dX5_wiseTakers_31 (by decide) (fun c31 => ?_) (fun c31 => ?_)
    · refine v_sub [1, 3, 4, 0] rfl ?_
      exact w_T_wiseTakers_47 fu X r13 h13 x2 x3 z_5 s_6
    · refine v_lload (pc := 34) X dX5_wiseTakers_34 0 rfl ?_
      refine v_aload_n (pc := 36) X dX5_wiseTakers_36 1 rfl ?_
      refine v_get (pc := 37) (kind := 1) (v := .long (s_6.2.1 0 28)) X wT_n0 wT_l0 wT_c0 in_X5 (Nat.le_of_ble_eq_true rfl : 28 < 40) q1499 rfl rfl dX5_wiseTakers_37 ?_
      refine v_lcmp (pc := 40) X dX5_wiseTakers_40 ?_
      refine v_if_gt (pc := 41) (tgt := 47) X dX5_wiseTakers_41 (by decide) (fun c41 => ?_) (fun c41 => ?_)
      · refine v_sub [1, 3, 4, 0] rfl ?_
        exact w_T_wiseTakers_47 fu X r13 h13 x2 x3 z_5 s_6
      · refine v_goto (pc := 44) (tgt := 55) X dX5_wiseTakers_44 (by decide) ?_
        refine v_iinc (pc := 55) (v := x3 + (1 : Int32)) (lv' := [(3, .int (x3 + (1 : Int32))), (4, .long z_5), (0, .ref (v_E g 0)), (1, .int x1), (2, .int x2)]) (k := 4) X dX5_wiseTakers_55 rfl rfl (Nat.le_of_ble_eq_true rfl) rfl ?_
        refine v_goto (pc := 58) (tgt := 13) X dX5_wiseTakers_58 (by decide) ?_
        refine v_sub [2, 3, 4, 0] rfl ?_
        exact h13 x1 x2 (x3 + (1 : Int32)) s_6
theorem w_T_wiseTakers_13L {Γ : v_Ctx} {l : Launch} {g : v_G} (fu : Nat) (X : v_C Γ l rm_T_wiseTakers cX5_wiseTakers 6 RX5 (some .int) wT g)  : ∀ (n : Nat), ∀ (x1 : Int32) (x2 : Int32) (x3 : Int32) (s : v_S), v_V Γ 6 wT g (fun z : Int32 × v_S => (some (.int z.1), z.2)) 13 [(0, .ref (v_E g 0)), (1, .int x1), (2, .int x2), (3, .int x3)] [] s (v_loop (t_T_wiseTakers_13B fu) n (x1, x2, x3, s)) := by
  intro n
  induction n with
  | zero => exact fun _ _ _ _ => v_none
  | succ n ih => exact fun x1 x2 x3 s => w_T_wiseTakers_13 fu X  _ ih x1 x2 x3 s
theorem m_T_wiseTakers (l : Launch) (g : v_G) (fu : Nat)  (s : v_S) : v_M l yX5_wiseTakers cX5_wiseTakers 6 (some .int) rm_T_wiseTakers wT g [.ref (v_E g 0)] s (fun z : Int32 × v_S => (some (.int z.1), z.2)) (t_T_wiseTakers fu  s) := by
  refine v_met (by decide +kernel) (Nat.le_of_ble_eq_true rfl) (fun Γ X => ?_)
  refine v_lv (lv' := [(0, .ref (v_E g 0))]) rfl ?_
  unfold t_T_wiseTakers
  refine v_aload_n (pc := 0) X dX5_wiseTakers_0 0 rfl ?_
  refine v_cGs (pc := 1) X (m_T_keepsTakers l g fu _) (v_rc_n X wT_o0) (Or.inl q1864) hy_T_keepsTakers rfl rfl rfl rfl dX5_wiseTakers_1 (fun s_1 _ => ?_)
  refine v_iconst (pc := 4) (v := -1) X dX5_wiseTakers_4 rfl ?_
  refine v_istore_n (pc := 5) (lv' := [(1, .int (-1 : Int32)), (0, .ref (v_E g 0))]) X dX5_wiseTakers_5 rfl (Nat.le_of_ble_eq_true rfl) rfl ?_
  refine v_aload_n (pc := 6) X dX5_wiseTakers_6 1 rfl ?_
  refine v_cGi (pc := 7) X (m_T_takersMany l g fu _) (v_rc_n X wT_o0) (Or.inl q1868) hy_T_takersMany rfl rfl rfl rfl dX5_wiseTakers_7 (fun z_2 _ => ?_)
  refine v_istore_n (pc := 10) (lv' := [(2, .int z_2), (1, .int (-1 : Int32)), (0, .ref (v_E g 0))]) X dX5_wiseTakers_10 rfl (Nat.le_of_ble_eq_true rfl) rfl ?_
  refine v_iconst (pc := 11) (v := 0) X dX5_wiseTakers_11 rfl ?_
  refine v_istore_n (pc := 12) (lv' := [(3, .int (0 : Int32)), (2, .int z_2), (1, .int (-1 : Int32)), (0, .ref (v_E g 0))]) X dX5_wiseTakers_12 rfl (Nat.le_of_ble_eq_true rfl) rfl ?_
  refine v_sub [3, 2, 1, 0] rfl ?_
  exact w_T_wiseTakers_13L fu X  fu (-1 : Int32) z_2 (0 : Int32) s_1
/-! FloodLentModel.wise(I)I -/
abbrev rm_T_wise : Room := { frames := 7, cells := 0, slots := 0, locals := 163 }
theorem hy_T_wise : v_yV yX5_wise cX5_wise 2 (some .int) 1 := ⟨q1915, q1916, q141, q1917, by decide +kernel⟩
def t_T_wise (fu : Nat) (p1 : Int32) (s : v_S) : Option (Int32 × v_S) :=
  v_b1 (t_T_isFlood fu p1 s) fun (z_1 : Int32) => if z_1 = 0 then (some ((-2 : Int32), s)) else (v_b2 (t_T_wiseTakers fu s) fun (z_2 : Int32) (s_3 : v_S) => v_b1 (t_T_takerIn fu z_2 p1 s_3) fun (z_4 : Int32) => some (z_4, s_3))
theorem m_T_wise (l : Launch) (g : v_G) (fu : Nat) (p1 : Int32) (s : v_S) : v_M l yX5_wise cX5_wise 2 (some .int) rm_T_wise wT g [.ref (v_E g 0), .int p1] s (fun z : Int32 × v_S => (some (.int z.1), z.2)) (t_T_wise fu p1 s) := by
  refine v_met (by decide +kernel) (Nat.le_of_ble_eq_true rfl) (fun Γ X => ?_)
  refine v_lv (lv' := [(0, .ref (v_E g 0)), (1, .int p1)]) rfl ?_
  unfold t_T_wise
  refine v_aload_n (pc := 0) X dX5_wise_0 0 rfl ?_
  refine v_iload_n (pc := 1) X dX5_wise_1 1 rfl ?_
  refine v_cGi (pc := 2) X (m_T_isFlood l g fu p1 _) (v_rc_n X wT_o0) (Or.inl q1738) hy_T_isFlood rfl rfl rfl rfl dX5_wise_2 (fun z_1 _ => ?_)
  refine v_if_eq (pc := 5) (tgt := 20) X dX5_wise_5 (by decide) (fun c5 => ?_) (fun c5 => ?_)
  · refine v_bipush (pc := 20) (v := -2) X dX5_wise_20 rfl ?_
    exact v_iret (pc := 22) X dX5_wise_22 rfl
  · refine v_aload_n (pc := 8) X dX5_wise_8 0 rfl ?_
    refine v_aload_n (pc := 9) X dX5_wise_9 0 rfl ?_
    refine v_cGis (pc := 10) X (m_T_wiseTakers l g fu _) (v_rc_n X wT_o0) (Or.inl q1918) hy_T_wiseTakers rfl rfl rfl rfl dX5_wise_10 (fun z_2 s_3 _ => ?_)
    refine v_iload_n (pc := 13) X dX5_wise_13 1 rfl ?_
    refine v_cGi (pc := 14) X (m_T_takerIn l g fu z_2 p1 _) (v_rc_n X wT_o0) (Or.inl q1888) hy_T_takerIn rfl rfl rfl rfl dX5_wise_14 (fun z_4 _ => ?_)
    refine v_goto (pc := 17) (tgt := 22) X dX5_wise_17 (by decide) ?_
    exact v_iret (pc := 22) X dX5_wise_22 rfl
/-! FloodLentModel.wisest(I)J -/
abbrev rm_T_wisest : Room := { frames := 7, cells := 0, slots := 0, locals := 163 }
theorem hy_T_wisest : v_yV yX5_wisest cX5_wisest 2 (some .long) 1 := ⟨q1923, q1924, q141, q1925, by decide +kernel⟩
def t_T_wisest (fu : Nat) (p1 : Int32) (s : v_S) : Option (Int64 × v_S) :=
  v_b1 (t_T_isPlain fu s) fun (z_1 : Int32) => if z_1 = 0 then (some ((-2 : Int64), s)) else (v_b1 (t_T_in fu (Int32.toInt64 p1) (0 : Int64) (1 : Int64) s) fun (z_2 : Int32) => if z_2 = 0 then (some ((-2 : Int64), s)) else (v_b2 (t_T_wiseTakers fu s) fun (z_3 : Int32) (s_4 : v_S) => v_b1 (t_T_hopeBelow fu s_4) fun (z_5 : Int64) => v_b1 (t_T_part fu (s_4.2.1 0 28) z_5 p1 s_4) fun (z_6 : Int64) => some (z_6, s_4)))
theorem m_T_wisest (l : Launch) (g : v_G) (fu : Nat) (p1 : Int32) (s : v_S) : v_M l yX5_wisest cX5_wisest 2 (some .long) rm_T_wisest wT g [.ref (v_E g 0), .int p1] s (fun z : Int64 × v_S => (some (.long z.1), z.2)) (t_T_wisest fu p1 s) := by
  refine v_met (by decide +kernel) (Nat.le_of_ble_eq_true rfl) (fun Γ X => ?_)
  refine v_lv (lv' := [(0, .ref (v_E g 0)), (1, .int p1)]) rfl ?_
  unfold t_T_wisest
  refine v_aload_n (pc := 0) X dX5_wisest_0 0 rfl ?_
  refine v_cGi (pc := 1) X (m_T_isPlain l g fu _) (v_rc_n X wT_o0) (Or.inl q1831) hy_T_isPlain rfl rfl rfl rfl dX5_wisest_1 (fun z_1 _ => ?_)
  refine v_if_eq (pc := 4) (tgt := 17) X dX5_wisest_4 (by decide) (fun c4 => ?_) (fun c4 => ?_)
  · refine v_ldc2 (pc := 17) X q1913 dX5_wisest_17 ?_
    exact v_lret (pc := 20) X dX5_wisest_20 rfl
  · refine v_iload_n (pc := 7) X dX5_wisest_7 1 rfl ?_
    refine v_i2l (pc := 8) X dX5_wisest_8 ?_
    refine v_lconst (pc := 9) (v := 0) X dX5_wisest_9 rfl ?_
    refine v_lconst (pc := 10) (v := 1) X dX5_wisest_10 rfl ?_
    refine v_cSi (pc := 11) X (m_T_in l g fu (Int32.toInt64 p1) (0 : Int64) (1 : Int64) _) q1598 hy_T_in rfl rfl rfl rfl dX5_wisest_11 (fun z_2 _ => ?_)
    refine v_if_ne (pc := 14) (tgt := 21) X dX5_wisest_14 (by decide) (fun c14 => ?_) (fun c14 => ?_)
    · refine v_aload_n (pc := 21) X dX5_wisest_21 0 rfl ?_
      refine v_cGis (pc := 22) X (m_T_wiseTakers l g fu _) (v_rc_n X wT_o0) (Or.inl q1918) hy_T_wiseTakers rfl rfl rfl rfl dX5_wisest_22 (fun z_3 s_4 _ => ?_)
      refine v_pop (pc := 25) X dX5_wisest_25 rfl ?_
      refine v_aload_n (pc := 26) X dX5_wisest_26 0 rfl ?_
      refine v_get (pc := 27) (kind := 1) (v := .long (s_4.2.1 0 28)) X wT_n0 wT_l0 wT_c0 in_X5 (Nat.le_of_ble_eq_true rfl : 28 < 40) q1499 rfl rfl dX5_wisest_27 ?_
      refine v_aload_n (pc := 30) X dX5_wisest_30 0 rfl ?_
      refine v_cGl (pc := 31) X (m_T_hopeBelow l g fu _) (v_rc_n X wT_o0) (Or.inl q1904) hy_T_hopeBelow rfl rfl rfl rfl dX5_wisest_31 (fun z_5 _ => ?_)
      refine v_iload_n (pc := 34) X dX5_wisest_34 1 rfl ?_
      refine v_cSl (pc := 35) X (m_T_part l g fu (s_4.2.1 0 28) z_5 p1 _) q1909 hy_T_part rfl rfl rfl rfl dX5_wisest_35 (fun z_6 _ => ?_)
      exact v_lret (pc := 38) X dX5_wisest_38 rfl
    · refine v_ldc2 (pc := 17) X q1913 dX5_wisest_17 ?_
      exact v_lret (pc := 20) X dX5_wisest_20 rfl
/-! FloodLentModel.isSlot(I)Z -/
abbrev rm_T_isSlot : Room := { frames := 2, cells := 0, slots := 0, locals := 46 }
theorem hy_T_isSlot : v_yS yX5_isSlot cX5_isSlot 1 (some .boolean) 1 := ⟨q1935, q141, q1936, by decide +kernel⟩
def t_T_isSlot (fu : Nat) (p0 : Int32) (s : v_S) : Option Int32 :=
  v_b1 (t_T_in fu (Int32.toInt64 p0) (0 : Int64) (3 : Int64) s) fun (z_1 : Int32) => if z_1 = 0 ∨ z_1 = 1 then some z_1 else none
theorem m_T_isSlot (l : Launch) (g : v_G) (fu : Nat) (p0 : Int32) (s : v_S) : v_M l yX5_isSlot cX5_isSlot 1 (some .boolean) rm_T_isSlot wT g [.int p0] s (fun z : Int32 => (some (.int z), s)) (t_T_isSlot fu p0 s) := by
  refine v_met (by decide +kernel) (Nat.le_of_ble_eq_true rfl) (fun Γ X => ?_)
  refine v_lv (lv' := [(0, .int p0)]) rfl ?_
  unfold t_T_isSlot
  refine v_iload_n (pc := 0) X dX5_isSlot_0 0 rfl ?_
  refine v_i2l (pc := 1) X dX5_isSlot_1 ?_
  refine v_lconst (pc := 2) (v := 0) X dX5_isSlot_2 rfl ?_
  refine v_ldc2 (pc := 3) X q1810 dX5_isSlot_3 ?_
  refine v_cSi (pc := 6) X (m_T_in l g fu (Int32.toInt64 p0) (0 : Int64) (3 : Int64) _) q1598 hy_T_in rfl rfl rfl rfl dX5_isSlot_6 (fun z_1 _ => ?_)
  exact v_zretG (pc := 9) X dX5_isSlot_9 rfl
/-! FloodLentModel.asksMarks(IZ)I -/
abbrev rm_T_asksMarks : Room := { frames := 3, cells := 0, slots := 0, locals := 66 }
theorem hy_T_asksMarks : v_yV yX5_asksMarks cX5_asksMarks 4 (some .int) 2 := ⟨q1932, qs112, q141, q1933, by decide +kernel⟩
def t_T_asksMarks_50 (fu : Nat) (p1 : Int32) (p2 : Int32) (s : v_S) (r50 : Int32 → Option Int32) (x3 : Int32) : Option Int32 :=
v_g p1 4 <| if s.1 17 (Int32.toNatClampNeg p1) ≤ x3 then (some (0 : Int32)) else (v_g (((60 : Int32) * p1) + x3) 240 <| v_b1 (t_T_villages fu s) fun (z_3 : Int32) => v_b1 (t_T_in fu (s.2.1 19 (Int32.toNatClampNeg (((60 : Int32) * p1) + x3))) (0 : Int64) (Int32.toInt64 (z_3 - (1 : Int32))) s) fun (z_4 : Int32) => if z_4 = 0 then (some (-2 : Int32)) else (v_g ((((60 : Int32) * p1) + x3) + (1 : Int32)) 240 <| v_b1 (t_T_in fu (s.2.1 19 (Int32.toNatClampNeg ((((60 : Int32) * p1) + x3) + (1 : Int32)))) (0 : Int64) (Int32.toInt64 ((s.1 1 5) - (1 : Int32))) s) fun (z_5 : Int32) => if z_5 = 0 then (some (-2 : Int32)) else (r50 (x3 + (3 : Int32)))))
def t_T_asksMarks_50B (fu : Nat) (p1 : Int32) (p2 : Int32) (s : v_S) (r50 : Int32 → Option Int32) (a : Int32) : Option Int32 := t_T_asksMarks_50 fu p1 p2 s r50 a
def t_T_asksMarks (fu : Nat) (p1 : Int32) (p2 : Int32) (s : v_S) : Option Int32 :=
  v_b1 (t_T_isSlot fu p1 s) fun (z_1 : Int32) => if z_1 = 0 then (some (-2 : Int32)) else (v_b1 (t_T_isPlain fu s) fun (z_2 : Int32) => if z_2 = 0 then (some (-2 : Int32)) else (if p2 = 0 then (some (-2 : Int32)) else (v_g p1 4 <| if s.1 17 (Int32.toNatClampNeg p1) = (-1 : Int32) then (some (-6 : Int32)) else (v_g p1 4 <| if (s.1 17 (Int32.toNatClampNeg p1)) - (s.1 17 (Int32.toNatClampNeg p1)) / (3 : Int32) * (3 : Int32) = 0 then (v_loop (t_T_asksMarks_50B fu p1 p2 s) fu (0 : Int32)) else (some (-2 : Int32))))))
theorem w_T_asksMarks_50 {Γ : v_Ctx} {l : Launch} {g : v_G} (fu : Nat) (p1 : Int32) (p2 : Int32) (s : v_S) (X : v_C Γ l rm_T_asksMarks cX5_asksMarks 4 RX5 (some .int) wT g) (r50 : Int32 → Option Int32) (h50 : ∀ (x3 : Int32), v_V Γ 4 wT g (fun z : Int32 => (some (.int z), s)) 50 [(0, .ref (v_E g 0)), (1, .int p1), (3, .int x3)] [] s (r50 x3)) (x3 : Int32) : v_V Γ 4 wT g (fun z : Int32 => (some (.int z), s)) 50 [(0, .ref (v_E g 0)), (1, .int p1), (3, .int x3)] [] s (t_T_asksMarks_50 fu p1 p2 s r50 x3) := by
  unfold t_T_asksMarks_50
  refine v_iload_n (pc := 50) X dX5_asksMarks_50 2 rfl ?_
  refine v_aload_n (pc := 51) X dX5_asksMarks_51 0 rfl ?_
  refine v_get (pc := 52) (kind := 20) (v := .ref (v_E g 17)) X wT_n0 wT_l0 wT_c0 in_X5 (Nat.le_of_ble_eq_true rfl : 36 < 40) q1507 rfl rfl dX5_asksMarks_52 ?_
  refine v_iload_n (pc := 55) X dX5_asksMarks_55 1 rfl ?_
  refine v_iald (pc := 56) X wT_n17 wT_l17 dX5_asksMarks_56 ?_
  refine v_icmp_ge (pc := 57) (tgt := 123) X dX5_asksMarks_57 (by decide) (fun c57 => ?_) (fun c57 => ?_)
  · refine v_iconst (pc := 123) (v := 0) X dX5_asksMarks_123 rfl ?_
    exact v_iret (pc := 124) X dX5_asksMarks_124 rfl
  · refine v_aload_n (pc := 60) X dX5_asksMarks_60 0 rfl ?_
    refine v_get (pc := 61) (kind := 22) (v := .ref (v_E g 19)) X wT_n0 wT_l0 wT_c0 in_X5 (Nat.le_of_ble_eq_true rfl : 38 < 40) q1509 rfl rfl dX5_asksMarks_61 ?_
    refine v_bipush (pc := 64) (v := 60) X dX5_asksMarks_64 rfl ?_
    refine v_iload_n (pc := 66) X dX5_asksMarks_66 1 rfl ?_
    refine v_imul (pc := 67) X dX5_asksMarks_67 ?_
    refine v_iload_n (pc := 68) X dX5_asksMarks_68 2 rfl ?_
    refine v_iadd (pc := 69) X dX5_asksMarks_69 ?_
    refine v_lald (pc := 70) X wT_n19 wT_l19 dX5_asksMarks_70 ?_
    refine v_lconst (pc := 71) (v := 0) X dX5_asksMarks_71 rfl ?_
    refine v_aload_n (pc := 72) X dX5_asksMarks_72 0 rfl ?_
    refine v_cGi (pc := 73) X (m_T_villages l g fu _) (v_rc_n X wT_o0) (Or.inl q1725) hy_T_villages rfl rfl rfl rfl dX5_asksMarks_73 (fun z_3 _ => ?_)
    refine v_iconst (pc := 76) (v := 1) X dX5_asksMarks_76 rfl ?_
    refine v_isub (pc := 77) X dX5_asksMarks_77 ?_
    refine v_i2l (pc := 78) X dX5_asksMarks_78 ?_
    refine v_cSi (pc := 79) X (m_T_in l g fu (s.2.1 19 (Int32.toNatClampNeg (((60 : Int32) * p1) + x3))) (0 : Int64) (Int32.toInt64 (z_3 - (1 : Int32))) _) q1598 hy_T_in rfl rfl rfl rfl dX5_asksMarks_79 (fun z_4 _ => ?_)
    refine v_if_eq (pc := 82) (tgt := 114) X dX5_asksMarks_82 (by decide) (fun c82 => ?_) (fun c82 => ?_)
    · refine v_bipush (pc := 114) (v := -2) X dX5_asksMarks_114 rfl ?_
      exact v_iret (pc := 116) X dX5_asksMarks_116 rfl
    · refine v_aload_n (pc := 85) X dX5_asksMarks_85 0 rfl ?_
      refine v_get (pc := 86) (kind := 22) (v := .ref (v_E g 19)) X wT_n0 wT_l0 wT_c0 in_X5 (Nat.le_of_ble_eq_true rfl : 38 < 40) q1509 rfl rfl dX5_asksMarks_86 ?_
      refine v_bipush (pc := 89) (v := 60) X dX5_asksMarks_89 rfl ?_
      refine v_iload_n (pc := 91) X dX5_asksMarks_91 1 rfl ?_
      refine v_imul (pc := 92) X dX5_asksMarks_92 ?_
      refine v_iload_n (pc := 93) X dX5_asksMarks_93 2 rfl ?_
      refine v_iadd (pc := 94) X dX5_asksMarks_94 ?_
      refine v_iconst (pc := 95) (v := 1) X dX5_asksMarks_95 rfl ?_
      refine v_iadd (pc := 96) X dX5_asksMarks_96 ?_
      refine v_lald (pc := 97) X wT_n19 wT_l19 dX5_asksMarks_97 ?_
      refine v_lconst (pc := 98) (v := 0) X dX5_asksMarks_98 rfl ?_
      refine v_aload_n (pc := 99) X dX5_asksMarks_99 0 rfl ?_
      refine v_get (pc := 100) (kind := 4) (v := .ref (v_E g 1)) X wT_n0 wT_l0 wT_c0 in_X5 (Nat.le_of_ble_eq_true rfl : 1 < 40) q1472 rfl rfl dX5_asksMarks_100 ?_
      refine v_iconst (pc := 103) (v := 5) X dX5_asksMarks_103 rfl ?_
      refine v_ialdC (pc := 104) (k := 5) X wT_n1 wT_l1 rfl dX5_asksMarks_104 ?_
      refine v_iconst (pc := 105) (v := 1) X dX5_asksMarks_105 rfl ?_
      refine v_isub (pc := 106) X dX5_asksMarks_106 ?_
      refine v_i2l (pc := 107) X dX5_asksMarks_107 ?_
      refine v_cSi (pc := 108) X (m_T_in l g fu (s.2.1 19 (Int32.toNatClampNeg ((((60 : Int32) * p1) + x3) + (1 : Int32)))) (0 : Int64) (Int32.toInt64 ((s.1 1 5) - (1 : Int32))) _) q1598 hy_T_in rfl rfl rfl rfl dX5_asksMarks_108 (fun z_5 _ => ?_)
      refine v_if_ne (pc := 111) (tgt := 117) X dX5_asksMarks_111 (by decide) (fun c111 => ?_) (fun c111 => ?_)
      · refine v_iinc (pc := 117) (v := x3 + (3 : Int32)) (lv' := [(3, .int (x3 + (3 : Int32))), (0, .ref (v_E g 0)), (1, .int p1)]) (k := 2) X dX5_asksMarks_117 rfl rfl (Nat.le_of_ble_eq_true rfl) rfl ?_
        refine v_goto (pc := 120) (tgt := 50) X dX5_asksMarks_120 (by decide) ?_
        refine v_sub [1, 2, 0] rfl ?_
        exact h50 (x3 + (3 : Int32))
      · refine v_bipush (pc := 114) (v := -2) X dX5_asksMarks_114 rfl ?_
        exact v_iret (pc := 116) X dX5_asksMarks_116 rfl
theorem w_T_asksMarks_50L {Γ : v_Ctx} {l : Launch} {g : v_G} (fu : Nat) (p1 : Int32) (p2 : Int32) (s : v_S) (X : v_C Γ l rm_T_asksMarks cX5_asksMarks 4 RX5 (some .int) wT g)  : ∀ (n : Nat), ∀ (x3 : Int32), v_V Γ 4 wT g (fun z : Int32 => (some (.int z), s)) 50 [(0, .ref (v_E g 0)), (1, .int p1), (3, .int x3)] [] s (v_loop (t_T_asksMarks_50B fu p1 p2 s) n x3) := by
  intro n
  induction n with
  | zero => exact fun _ => v_none
  | succ n ih => exact fun x3 => w_T_asksMarks_50 fu p1 p2 s X  _ ih x3
theorem m_T_asksMarks (l : Launch) (g : v_G) (fu : Nat) (p1 : Int32) (p2 : Int32) (s : v_S) : v_M l yX5_asksMarks cX5_asksMarks 4 (some .int) rm_T_asksMarks wT g [.ref (v_E g 0), .int p1, .int p2] s (fun z : Int32 => (some (.int z), s)) (t_T_asksMarks fu p1 p2 s) := by
  refine v_met (by decide +kernel) (Nat.le_of_ble_eq_true rfl) (fun Γ X => ?_)
  refine v_lv (lv' := [(0, .ref (v_E g 0)), (1, .int p1), (2, .int p2)]) rfl ?_
  unfold t_T_asksMarks
  refine v_iload_n (pc := 0) X dX5_asksMarks_0 1 rfl ?_
  refine v_cSi (pc := 1) X (m_T_isSlot l g fu p1 _) q1934 hy_T_isSlot rfl rfl rfl rfl dX5_asksMarks_1 (fun z_1 _ => ?_)
  refine v_if_eq (pc := 4) (tgt := 18) X dX5_asksMarks_4 (by decide) (fun c4 => ?_) (fun c4 => ?_)
  · refine v_bipush (pc := 18) (v := -2) X dX5_asksMarks_18 rfl ?_
    exact v_iret (pc := 20) X dX5_asksMarks_20 rfl
  · refine v_aload_n (pc := 7) X dX5_asksMarks_7 0 rfl ?_
    refine v_cGi (pc := 8) X (m_T_isPlain l g fu _) (v_rc_n X wT_o0) (Or.inl q1831) hy_T_isPlain rfl rfl rfl rfl dX5_asksMarks_8 (fun z_2 _ => ?_)
    refine v_if_eq (pc := 11) (tgt := 18) X dX5_asksMarks_11 (by decide) (fun c11 => ?_) (fun c11 => ?_)
    · refine v_bipush (pc := 18) (v := -2) X dX5_asksMarks_18 rfl ?_
      exact v_iret (pc := 20) X dX5_asksMarks_20 rfl
    · refine v_iload_n (pc := 14) X dX5_asksMarks_14 2 rfl ?_
      refine v_if_ne (pc := 15) (tgt := 21) X dX5_asksMarks_15 (by decide) (fun c15 => ?_) (fun c15 => ?_)
      · refine v_aload_n (pc := 21) X dX5_asksMarks_21 0 rfl ?_
        refine v_get (pc := 22) (kind := 20) (v := .ref (v_E g 17)) X wT_n0 wT_l0 wT_c0 in_X5 (Nat.le_of_ble_eq_true rfl : 36 < 40) q1507 rfl rfl dX5_asksMarks_22 ?_
        refine v_iload_n (pc := 25) X dX5_asksMarks_25 1 rfl ?_
        refine v_iald (pc := 26) X wT_n17 wT_l17 dX5_asksMarks_26 ?_
        refine v_iconst (pc := 27) (v := -1) X dX5_asksMarks_27 rfl ?_
        refine v_icmp_ne (pc := 28) (tgt := 34) X dX5_asksMarks_28 (by decide) (fun c28 => ?_) (fun c28 => ?_)
        · refine v_aload_n (pc := 34) X dX5_asksMarks_34 0 rfl ?_
          refine v_get (pc := 35) (kind := 20) (v := .ref (v_E g 17)) X wT_n0 wT_l0 wT_c0 in_X5 (Nat.le_of_ble_eq_true rfl : 36 < 40) q1507 rfl rfl dX5_asksMarks_35 ?_
          refine v_iload_n (pc := 38) X dX5_asksMarks_38 1 rfl ?_
          refine v_iald (pc := 39) X wT_n17 wT_l17 dX5_asksMarks_39 ?_
          refine v_iconst (pc := 40) (v := 3) X dX5_asksMarks_40 rfl ?_
          refine v_iremC (pc := 41) X (by decide) dX5_asksMarks_41 ?_
          refine v_if_eq (pc := 42) (tgt := 48) X dX5_asksMarks_42 (by decide) (fun c42 => ?_) (fun c42 => ?_)
          · refine v_iconst (pc := 48) (v := 0) X dX5_asksMarks_48 rfl ?_
            refine v_istore_n (pc := 49) (lv' := [(3, .int (0 : Int32)), (0, .ref (v_E g 0)), (1, .int p1), (2, .int p2)]) X dX5_asksMarks_49 rfl (Nat.le_of_ble_eq_true rfl) rfl ?_
            refine v_sub [1, 2, 0] rfl ?_
            exact w_T_asksMarks_50L fu p1 p2 s X  fu (0 : Int32)
          · refine v_bipush (pc := 45) (v := -2) X dX5_asksMarks_45 rfl ?_
            exact v_iret (pc := 47) X dX5_asksMarks_47 rfl
        · refine v_bipush (pc := 31) (v := -6) X dX5_asksMarks_31 rfl ?_
          exact v_iret (pc := 33) X dX5_asksMarks_33 rfl
      · refine v_bipush (pc := 18) (v := -2) X dX5_asksMarks_18 rfl ?_
        exact v_iret (pc := 20) X dX5_asksMarks_20 rfl
/-! FloodLentModel.agrees(II)Z -/
abbrev rm_T_agrees : Room := { frames := 1, cells := 0, slots := 0, locals := 21 }
theorem hy_T_agrees : v_yV yX5_agrees cX5_agrees 5 (some .boolean) 2 := ⟨q1943, qs114, q141, q1944, by decide +kernel⟩
def t_T_agrees_2 (fu : Nat) (p1 : Int32) (p2 : Int32) (s : v_S) (r2 : Int32 → Option Int32) (x3 : Int32) : Option Int32 :=
v_g p1 4 <| if s.1 17 (Int32.toNatClampNeg p1) ≤ (3 : Int32) * x3 then (some (1 : Int32)) else (v_n (((60 : Int32) * p1) + ((3 : Int32) * x3)) fun (x4_1 : Int32) => if x3 = p2 then (r2 (x3 + (1 : Int32))) else (v_g x4_1 240 <| v_g (x4_1 + (1 : Int32)) 240 <| v_g (((30 : Int32) * (Int64.toInt32 (s.2.1 19 (Int32.toNatClampNeg x4_1)))) + (Int64.toInt32 (s.2.1 19 (Int32.toNatClampNeg (x4_1 + (1 : Int32)))))) 180 <| v_g (x4_1 + (2 : Int32)) 240 <| if lg_cmp (Int32.toInt64 (s.1 8 (Int32.toNatClampNeg (((30 : Int32) * (Int64.toInt32 (s.2.1 19 (Int32.toNatClampNeg x4_1)))) + (Int64.toInt32 (s.2.1 19 (Int32.toNatClampNeg (x4_1 + (1 : Int32))))))))) (s.2.1 19 (Int32.toNatClampNeg (x4_1 + (2 : Int32)))) = 0 then (r2 (x3 + (1 : Int32))) else (some (0 : Int32))))
def t_T_agrees_2B (fu : Nat) (p1 : Int32) (p2 : Int32) (s : v_S) (r2 : Int32 → Option Int32) (a : Int32) : Option Int32 := t_T_agrees_2 fu p1 p2 s r2 a
def t_T_agrees (fu : Nat) (p1 : Int32) (p2 : Int32) (s : v_S) : Option Int32 :=
  v_loop (t_T_agrees_2B fu p1 p2 s) fu (0 : Int32)
theorem w_T_agrees_2 {Γ : v_Ctx} {l : Launch} {g : v_G} (fu : Nat) (p1 : Int32) (p2 : Int32) (s : v_S) (X : v_C Γ l rm_T_agrees cX5_agrees 5 RX5 (some .boolean) wT g) (r2 : Int32 → Option Int32) (h2 : ∀ (x3 : Int32), v_V Γ 5 wT g (fun z : Int32 => (some (.int z), s)) 2 [(0, .ref (v_E g 0)), (1, .int p1), (2, .int p2), (3, .int x3)] [] s (r2 x3)) (x3 : Int32) : v_V Γ 5 wT g (fun z : Int32 => (some (.int z), s)) 2 [(0, .ref (v_E g 0)), (1, .int p1), (2, .int p2), (3, .int x3)] [] s (t_T_agrees_2 fu p1 p2 s r2 x3) := by
  unfold t_T_agrees_2
  refine v_iconst (pc := 2) (v := 3) X dX5_agrees_2 rfl ?_
  refine v_iload_n (pc := 3) X dX5_agrees_3 3 rfl ?_
  refine v_imul (pc := 4) X dX5_agrees_4 ?_
  refine v_aload_n (pc := 5) X dX5_agrees_5 0 rfl ?_
  refine v_get (pc := 6) (kind := 20) (v := .ref (v_E g 17)) X wT_n0 wT_l0 wT_c0 in_X5 (Nat.le_of_ble_eq_true rfl : 36 < 40) q1507 rfl rfl dX5_agrees_6 ?_
  refine v_iload_n (pc := 9) X dX5_agrees_9 1 rfl ?_
  refine v_iald (pc := 10) X wT_n17 wT_l17 dX5_agrees_10 ?_
  refine v_icmp_ge (pc := 11) (tgt := 78) X dX5_agrees_11 (by decide) (fun c11 => ?_) (fun c11 => ?_)
  · refine v_iconst (pc := 78) (v := 1) X dX5_agrees_78 rfl ?_
    exact v_zret (pc := 79) X dX5_agrees_79 rfl rfl
  · refine v_bipush (pc := 14) (v := 60) X dX5_agrees_14 rfl ?_
    refine v_iload_n (pc := 16) X dX5_agrees_16 1 rfl ?_
    refine v_imul (pc := 17) X dX5_agrees_17 ?_
    refine v_iconst (pc := 18) (v := 3) X dX5_agrees_18 rfl ?_
    refine v_iload_n (pc := 19) X dX5_agrees_19 3 rfl ?_
    refine v_imul (pc := 20) X dX5_agrees_20 ?_
    refine v_iadd (pc := 21) X dX5_agrees_21 ?_
    refine v_istoreN (pc := 22) (lvf := fun x4_1 => [(4, .int x4_1), (0, .ref (v_E g 0)), (1, .int p1), (2, .int p2), (3, .int x3)]) X dX5_agrees_22 (Nat.le_of_ble_eq_true rfl) (fun _ => rfl) (fun x4_1 => ?_)
    refine v_iload_n (pc := 24) X dX5_agrees_24 4 rfl ?_
    refine v_iload_n (pc := 25) X dX5_agrees_25 3 rfl ?_
    refine v_icmp_eq (pc := 26) (tgt := 72) X dX5_agrees_26 (by decide) (fun c26 => ?_) (fun c26 => ?_)
    · refine v_iinc (pc := 72) (v := x3 + (1 : Int32)) (lv' := [(3, .int (x3 + (1 : Int32))), (4, .int x4_1), (0, .ref (v_E g 0)), (1, .int p1), (2, .int p2)]) (k := 4) X dX5_agrees_72 rfl rfl (Nat.le_of_ble_eq_true rfl) rfl ?_
      refine v_goto (pc := 75) (tgt := 2) X dX5_agrees_75 (by decide) ?_
      refine v_sub [2, 3, 4, 0] rfl ?_
      exact h2 (x3 + (1 : Int32))
    · refine v_aload_n (pc := 29) X dX5_agrees_29 1 rfl ?_
      refine v_get (pc := 30) (kind := 11) (v := .ref (v_E g 8)) X wT_n0 wT_l0 wT_c0 in_X5 (Nat.le_of_ble_eq_true rfl : 16 < 40) q1487 rfl rfl dX5_agrees_30 ?_
      refine v_bipush (pc := 33) (v := 30) X dX5_agrees_33 rfl ?_
      refine v_aload_n (pc := 35) X dX5_agrees_35 1 rfl ?_
      refine v_get (pc := 36) (kind := 22) (v := .ref (v_E g 19)) X wT_n0 wT_l0 wT_c0 in_X5 (Nat.le_of_ble_eq_true rfl : 38 < 40) q1509 rfl rfl dX5_agrees_36 ?_
      refine v_iload (pc := 39) X dX5_agrees_39 0 rfl ?_
      refine v_lald (pc := 41) X wT_n19 wT_l19 dX5_agrees_41 ?_
      refine v_l2i (pc := 42) X dX5_agrees_42 ?_
      refine v_imul (pc := 43) X dX5_agrees_43 ?_
      refine v_aload_n (pc := 44) X dX5_agrees_44 1 rfl ?_
      refine v_get (pc := 45) (kind := 22) (v := .ref (v_E g 19)) X wT_n0 wT_l0 wT_c0 in_X5 (Nat.le_of_ble_eq_true rfl : 38 < 40) q1509 rfl rfl dX5_agrees_45 ?_
      refine v_iload (pc := 48) X dX5_agrees_48 0 rfl ?_
      refine v_iconst (pc := 50) (v := 1) X dX5_agrees_50 rfl ?_
      refine v_iadd (pc := 51) X dX5_agrees_51 ?_
      refine v_lald (pc := 52) X wT_n19 wT_l19 dX5_agrees_52 ?_
      refine v_l2i (pc := 53) X dX5_agrees_53 ?_
      refine v_iadd (pc := 54) X dX5_agrees_54 ?_
      refine v_iald (pc := 55) X wT_n8 wT_l8 dX5_agrees_55 ?_
      refine v_i2l (pc := 56) X dX5_agrees_56 ?_
      refine v_aload_n (pc := 57) X dX5_agrees_57 1 rfl ?_
      refine v_get (pc := 58) (kind := 22) (v := .ref (v_E g 19)) X wT_n0 wT_l0 wT_c0 in_X5 (Nat.le_of_ble_eq_true rfl : 38 < 40) q1509 rfl rfl dX5_agrees_58 ?_
      refine v_iload (pc := 61) X dX5_agrees_61 0 rfl ?_
      refine v_iconst (pc := 63) (v := 2) X dX5_agrees_63 rfl ?_
      refine v_iadd (pc := 64) X dX5_agrees_64 ?_
      refine v_lald (pc := 65) X wT_n19 wT_l19 dX5_agrees_65 ?_
      refine v_lcmp (pc := 66) X dX5_agrees_66 ?_
      refine v_if_eq (pc := 67) (tgt := 72) X dX5_agrees_67 (by decide) (fun c67 => ?_) (fun c67 => ?_)
      · refine v_iinc (pc := 72) (v := x3 + (1 : Int32)) (lv' := [(3, .int (x3 + (1 : Int32))), (4, .int x4_1), (0, .ref (v_E g 0)), (1, .int p1), (2, .int p2)]) (k := 4) X dX5_agrees_72 rfl rfl (Nat.le_of_ble_eq_true rfl) rfl ?_
        refine v_goto (pc := 75) (tgt := 2) X dX5_agrees_75 (by decide) ?_
        refine v_sub [2, 3, 4, 0] rfl ?_
        exact h2 (x3 + (1 : Int32))
      · refine v_iconst (pc := 70) (v := 0) X dX5_agrees_70 rfl ?_
        exact v_zret (pc := 71) X dX5_agrees_71 rfl rfl
theorem w_T_agrees_2L {Γ : v_Ctx} {l : Launch} {g : v_G} (fu : Nat) (p1 : Int32) (p2 : Int32) (s : v_S) (X : v_C Γ l rm_T_agrees cX5_agrees 5 RX5 (some .boolean) wT g)  : ∀ (n : Nat), ∀ (x3 : Int32), v_V Γ 5 wT g (fun z : Int32 => (some (.int z), s)) 2 [(0, .ref (v_E g 0)), (1, .int p1), (2, .int p2), (3, .int x3)] [] s (v_loop (t_T_agrees_2B fu p1 p2 s) n x3) := by
  intro n
  induction n with
  | zero => exact fun _ => v_none
  | succ n ih => exact fun x3 => w_T_agrees_2 fu p1 p2 s X  _ ih x3
theorem m_T_agrees (l : Launch) (g : v_G) (fu : Nat) (p1 : Int32) (p2 : Int32) (s : v_S) : v_M l yX5_agrees cX5_agrees 5 (some .boolean) rm_T_agrees wT g [.ref (v_E g 0), .int p1, .int p2] s (fun z : Int32 => (some (.int z), s)) (t_T_agrees fu p1 p2 s) := by
  refine v_met (by decide +kernel) (Nat.le_of_ble_eq_true rfl) (fun Γ X => ?_)
  refine v_lv (lv' := [(0, .ref (v_E g 0)), (1, .int p1), (2, .int p2)]) rfl ?_
  unfold t_T_agrees
  refine v_iconst (pc := 0) (v := 0) X dX5_agrees_0 rfl ?_
  refine v_istore_n (pc := 1) (lv' := [(3, .int (0 : Int32)), (0, .ref (v_E g 0)), (1, .int p1), (2, .int p2)]) X dX5_agrees_1 rfl (Nat.le_of_ble_eq_true rfl) rfl ?_
  refine v_sub [1, 2, 3, 0] rfl ?_
  exact w_T_agrees_2L fu p1 p2 s X  fu (0 : Int32)
/-! FloodLentModel.agreeBut(II)I -/
abbrev rm_T_agreeBut : Room := { frames := 6, cells := 0, slots := 0, locals := 132 }
theorem hy_T_agreeBut : v_yV yX5_agreeBut cX5_agreeBut 6 (some .int) 2 := ⟨q1939, qs113, q141, q1940, by decide +kernel⟩
def t_T_agreeBut_55 (fu : Nat) (p1 : Int32) (p2 : Int32) (x3 : Int32) (s : v_S) : Option (Int32 × v_S) :=
v_b1 (t_T_bringsTakersBack fu s) fun (s_3 : v_S) => some (x3, s_3)
def t_T_agreeBut_15 (fu : Nat) (p1 : Int32) (p2 : Int32) (r15 : Int32 × Int32 × Int32 × v_S → Option (Int32 × v_S)) (x3 : Int32) (x4 : Int32) (x5 : Int32) (s : v_S) : Option (Int32 × v_S) :=
if x4 ≤ x5 then (t_T_agreeBut_55 fu p1 p2 x3 s) else (v_b1 (t_T_takersAre fu x5 s) fun (s_4 : v_S) => v_b1 (t_T_year fu s_4) fun (s_5 : v_S) => v_b1 (t_T_agrees fu p1 p2 s_5) fun (z_6 : Int32) => if z_6 = 0 then (v_n (x3 + (0 : Int32)) fun (x3_7 : Int32) => r15 (x3_7, x4, x5 + (1 : Int32), s_5)) else (v_n (x3 + (1 : Int32)) fun (x3_8 : Int32) => r15 (x3_8, x4, x5 + (1 : Int32), s_5)))
def t_T_agreeBut_15B (fu : Nat) (p1 : Int32) (p2 : Int32) (r15 : Int32 × Int32 × Int32 × v_S → Option (Int32 × v_S)) (a : Int32 × Int32 × Int32 × v_S) : Option (Int32 × v_S) := t_T_agreeBut_15 fu p1 p2 r15 a.1 a.2.1 a.2.2.1 a.2.2.2
def t_T_agreeBut (fu : Nat) (p1 : Int32) (p2 : Int32) (s : v_S) : Option (Int32 × v_S) :=
  v_b1 (t_T_keepsTakers fu s) fun (s_1 : v_S) => v_b1 (t_T_takersMany fu s_1) fun (z_2 : Int32) => v_loop (t_T_agreeBut_15B fu p1 p2) fu ((0 : Int32), z_2, (0 : Int32), s_1)
theorem w_T_agreeBut_55 {Γ : v_Ctx} {l : Launch} {g : v_G} (fu : Nat) (p1 : Int32) (p2 : Int32) (X : v_C Γ l rm_T_agreeBut cX5_agreeBut 6 RX5 (some .int) wT g)  (x3 : Int32) (s : v_S) : v_V Γ 6 wT g (fun z : Int32 × v_S => (some (.int z.1), z.2)) 55 [(0, .ref (v_E g 0)), (3, .int x3)] [] s (t_T_agreeBut_55 fu p1 p2 x3 s) := by
  unfold t_T_agreeBut_55
  refine v_aload_n (pc := 55) X dX5_agreeBut_55 0 rfl ?_
  refine v_cGs (pc := 56) X (m_T_bringsTakersBack l g fu _) (v_rc_n X wT_o0) (Or.inl q1880) hy_T_bringsTakersBack rfl rfl rfl rfl dX5_agreeBut_56 (fun s_3 _ => ?_)
  refine v_iload_n (pc := 59) X dX5_agreeBut_59 1 rfl ?_
  exact v_iret (pc := 60) X dX5_agreeBut_60 rfl
theorem w_T_agreeBut_15 {Γ : v_Ctx} {l : Launch} {g : v_G} (fu : Nat) (p1 : Int32) (p2 : Int32) (X : v_C Γ l rm_T_agreeBut cX5_agreeBut 6 RX5 (some .int) wT g) (r15 : Int32 × Int32 × Int32 × v_S → Option (Int32 × v_S)) (h15 : ∀ (x3 : Int32) (x4 : Int32) (x5 : Int32) (s : v_S), v_V Γ 6 wT g (fun z : Int32 × v_S => (some (.int z.1), z.2)) 15 [(0, .ref (v_E g 0)), (1, .int p1), (2, .int p2), (3, .int x3), (4, .int x4), (5, .int x5)] [] s (r15 (x3, x4, x5, s))) (x3 : Int32) (x4 : Int32) (x5 : Int32) (s : v_S) : v_V Γ 6 wT g (fun z : Int32 × v_S => (some (.int z.1), z.2)) 15 [(0, .ref (v_E g 0)), (1, .int p1), (2, .int p2), (3, .int x3), (4, .int x4), (5, .int x5)] [] s (t_T_agreeBut_15 fu p1 p2 r15 x3 x4 x5 s) := by
  unfold t_T_agreeBut_15
  refine v_iload (pc := 15) X dX5_agreeBut_15 5 rfl ?_
  refine v_iload (pc := 17) X dX5_agreeBut_17 4 rfl ?_
  refine v_icmp_ge (pc := 19) (tgt := 55) X dX5_agreeBut_19 (by decide) (fun c19 => ?_) (fun c19 => ?_)
  · refine v_sub [0, 3] rfl ?_
    exact w_T_agreeBut_55 fu p1 p2 X  x3 s
  · refine v_aload_n (pc := 22) X dX5_agreeBut_22 0 rfl ?_
    refine v_iload (pc := 23) X dX5_agreeBut_23 5 rfl ?_
    refine v_cGs (pc := 25) X (m_T_takersAre l g fu x5 _) (v_rc_n X wT_o0) (Or.inl q1872) hy_T_takersAre rfl rfl rfl rfl dX5_agreeBut_25 (fun s_4 _ => ?_)
    refine v_aload_n (pc := 28) X dX5_agreeBut_28 0 rfl ?_
    refine v_cGs (pc := 29) X (m_T_year l g fu _) (v_rc_n X wT_o0) (Or.inl q1750) hy_T_year rfl rfl rfl rfl dX5_agreeBut_29 (fun s_5 _ => ?_)
    refine v_iload_n (pc := 32) X dX5_agreeBut_32 3 rfl ?_
    refine v_aload_n (pc := 33) X dX5_agreeBut_33 0 rfl ?_
    refine v_iload_n (pc := 34) X dX5_agreeBut_34 1 rfl ?_
    refine v_iload_n (pc := 35) X dX5_agreeBut_35 2 rfl ?_
    refine v_cGi (pc := 36) X (m_T_agrees l g fu p1 p2 _) (v_rc_n X wT_o0) (Or.inl q1941) hy_T_agrees rfl rfl rfl rfl dX5_agreeBut_36 (fun z_6 _ => ?_)
    refine v_if_eq (pc := 39) (tgt := 46) X dX5_agreeBut_39 (by decide) (fun c39 => ?_) (fun c39 => ?_)
    · refine v_iconst (pc := 46) (v := 0) X dX5_agreeBut_46 rfl ?_
      refine v_iadd (pc := 47) X dX5_agreeBut_47 ?_
      refine v_istore_nN (pc := 48) (lvf := fun x3_7 => [(3, .int x3_7), (0, .ref (v_E g 0)), (1, .int p1), (2, .int p2), (4, .int x4), (5, .int x5)]) X dX5_agreeBut_48 rfl (Nat.le_of_ble_eq_true rfl) (fun _ => rfl) (fun x3_7 => ?_)
      refine v_iinc (pc := 49) (v := x5 + (1 : Int32)) (lv' := [(5, .int (x5 + (1 : Int32))), (3, .int x3_7), (0, .ref (v_E g 0)), (1, .int p1), (2, .int p2), (4, .int x4)]) (k := 5) X dX5_agreeBut_49 rfl rfl (Nat.le_of_ble_eq_true rfl) rfl ?_
      refine v_goto (pc := 52) (tgt := 15) X dX5_agreeBut_52 (by decide) ?_
      refine v_sub [2, 3, 4, 1, 5, 0] rfl ?_
      exact h15 x3_7 x4 (x5 + (1 : Int32)) s_5
    · refine v_iconst (pc := 42) (v := 1) X dX5_agreeBut_42 rfl ?_
      refine v_goto (pc := 43) (tgt := 47) X dX5_agreeBut_43 (by decide) ?_
      refine v_iadd (pc := 47) X dX5_agreeBut_47 ?_
      refine v_istore_nN (pc := 48) (lvf := fun x3_8 => [(3, .int x3_8), (0, .ref (v_E g 0)), (1, .int p1), (2, .int p2), (4, .int x4), (5, .int x5)]) X dX5_agreeBut_48 rfl (Nat.le_of_ble_eq_true rfl) (fun _ => rfl) (fun x3_8 => ?_)
      refine v_iinc (pc := 49) (v := x5 + (1 : Int32)) (lv' := [(5, .int (x5 + (1 : Int32))), (3, .int x3_8), (0, .ref (v_E g 0)), (1, .int p1), (2, .int p2), (4, .int x4)]) (k := 5) X dX5_agreeBut_49 rfl rfl (Nat.le_of_ble_eq_true rfl) rfl ?_
      refine v_goto (pc := 52) (tgt := 15) X dX5_agreeBut_52 (by decide) ?_
      refine v_sub [2, 3, 4, 1, 5, 0] rfl ?_
      exact h15 x3_8 x4 (x5 + (1 : Int32)) s_5
theorem w_T_agreeBut_15L {Γ : v_Ctx} {l : Launch} {g : v_G} (fu : Nat) (p1 : Int32) (p2 : Int32) (X : v_C Γ l rm_T_agreeBut cX5_agreeBut 6 RX5 (some .int) wT g)  : ∀ (n : Nat), ∀ (x3 : Int32) (x4 : Int32) (x5 : Int32) (s : v_S), v_V Γ 6 wT g (fun z : Int32 × v_S => (some (.int z.1), z.2)) 15 [(0, .ref (v_E g 0)), (1, .int p1), (2, .int p2), (3, .int x3), (4, .int x4), (5, .int x5)] [] s (v_loop (t_T_agreeBut_15B fu p1 p2) n (x3, x4, x5, s)) := by
  intro n
  induction n with
  | zero => exact fun _ _ _ _ => v_none
  | succ n ih => exact fun x3 x4 x5 s => w_T_agreeBut_15 fu p1 p2 X  _ ih x3 x4 x5 s
theorem m_T_agreeBut (l : Launch) (g : v_G) (fu : Nat) (p1 : Int32) (p2 : Int32) (s : v_S) : v_M l yX5_agreeBut cX5_agreeBut 6 (some .int) rm_T_agreeBut wT g [.ref (v_E g 0), .int p1, .int p2] s (fun z : Int32 × v_S => (some (.int z.1), z.2)) (t_T_agreeBut fu p1 p2 s) := by
  refine v_met (by decide +kernel) (Nat.le_of_ble_eq_true rfl) (fun Γ X => ?_)
  refine v_lv (lv' := [(0, .ref (v_E g 0)), (1, .int p1), (2, .int p2)]) rfl ?_
  unfold t_T_agreeBut
  refine v_aload_n (pc := 0) X dX5_agreeBut_0 0 rfl ?_
  refine v_cGs (pc := 1) X (m_T_keepsTakers l g fu _) (v_rc_n X wT_o0) (Or.inl q1864) hy_T_keepsTakers rfl rfl rfl rfl dX5_agreeBut_1 (fun s_1 _ => ?_)
  refine v_iconst (pc := 4) (v := 0) X dX5_agreeBut_4 rfl ?_
  refine v_istore_n (pc := 5) (lv' := [(3, .int (0 : Int32)), (0, .ref (v_E g 0)), (1, .int p1), (2, .int p2)]) X dX5_agreeBut_5 rfl (Nat.le_of_ble_eq_true rfl) rfl ?_
  refine v_aload_n (pc := 6) X dX5_agreeBut_6 1 rfl ?_
  refine v_cGi (pc := 7) X (m_T_takersMany l g fu _) (v_rc_n X wT_o0) (Or.inl q1868) hy_T_takersMany rfl rfl rfl rfl dX5_agreeBut_7 (fun z_2 _ => ?_)
  refine v_istore (pc := 10) (lv' := [(4, .int z_2), (3, .int (0 : Int32)), (0, .ref (v_E g 0)), (1, .int p1), (2, .int p2)]) X dX5_agreeBut_10 (Nat.le_of_ble_eq_true rfl) rfl ?_
  refine v_iconst (pc := 12) (v := 0) X dX5_agreeBut_12 rfl ?_
  refine v_istore (pc := 13) (lv' := [(5, .int (0 : Int32)), (4, .int z_2), (3, .int (0 : Int32)), (0, .ref (v_E g 0)), (1, .int p1), (2, .int p2)]) X dX5_agreeBut_13 (Nat.le_of_ble_eq_true rfl) rfl ?_
  refine v_sub [3, 4, 5, 2, 1, 0] rfl ?_
  exact w_T_agreeBut_15L fu p1 p2 X  fu (0 : Int32) z_2 (0 : Int32) s_1
/-! FloodLentModel.agree(I)I -/
abbrev rm_T_agree : Room := { frames := 7, cells := 0, slots := 0, locals := 157 }
theorem hy_T_agree : v_yV yX5_agree cX5_agree 3 (some .int) 1 := ⟨q1927, q1928, q141, q1929, by decide +kernel⟩
def t_T_agree (fu : Nat) (p1 : Int32) (s : v_S) : Option (Int32 × v_S) :=
  v_b1 (t_T_asksMarks fu p1 (1 : Int32) s) fun (z_1 : Int32) => if (0 : Int32) ≤ z_1 then (v_b2 (t_T_agreeBut fu p1 (-1 : Int32) s) fun (z_2 : Int32) (s_3 : v_S) => some (z_2, s_3)) else (some (z_1, s))
theorem m_T_agree (l : Launch) (g : v_G) (fu : Nat) (p1 : Int32) (s : v_S) : v_M l yX5_agree cX5_agree 3 (some .int) rm_T_agree wT g [.ref (v_E g 0), .int p1] s (fun z : Int32 × v_S => (some (.int z.1), z.2)) (t_T_agree fu p1 s) := by
  refine v_met (by decide +kernel) (Nat.le_of_ble_eq_true rfl) (fun Γ X => ?_)
  refine v_lv (lv' := [(0, .ref (v_E g 0)), (1, .int p1)]) rfl ?_
  unfold t_T_agree
  refine v_aload_n (pc := 0) X dX5_agree_0 0 rfl ?_
  refine v_iload_n (pc := 1) X dX5_agree_1 1 rfl ?_
  refine v_iconst (pc := 2) (v := 1) X dX5_agree_2 rfl ?_
  refine v_cGi (pc := 3) X (m_T_asksMarks l g fu p1 (1 : Int32) _) (v_rc_n X wT_o0) (Or.inl q1930) hy_T_asksMarks rfl rfl rfl rfl dX5_agree_3 (fun z_1 _ => ?_)
  refine v_istore_n (pc := 6) (lv' := [(2, .int z_1), (0, .ref (v_E g 0)), (1, .int p1)]) X dX5_agree_6 rfl (Nat.le_of_ble_eq_true rfl) rfl ?_
  refine v_iload_n (pc := 7) X dX5_agree_7 0 rfl ?_
  refine v_if_ge (pc := 8) (tgt := 15) X dX5_agree_8 (by decide) (fun c8 => ?_) (fun c8 => ?_)
  · refine v_aload_n (pc := 15) X dX5_agree_15 1 rfl ?_
    refine v_iload_n (pc := 16) X dX5_agree_16 2 rfl ?_
    refine v_iconst (pc := 17) (v := -1) X dX5_agree_17 rfl ?_
    refine v_cGis (pc := 18) X (m_T_agreeBut l g fu p1 (-1 : Int32) _) (v_rc_n X wT_o0) (Or.inl q1937) hy_T_agreeBut rfl rfl rfl rfl dX5_agree_18 (fun z_2 s_3 _ => ?_)
    exact v_iret (pc := 21) X dX5_agree_21 rfl
  · refine v_iload_n (pc := 11) X dX5_agree_11 0 rfl ?_
    refine v_goto (pc := 12) (tgt := 21) X dX5_agree_12 (by decide) ?_
    exact v_iret (pc := 21) X dX5_agree_21 rfl
/-! FloodLentModel.who(II)I -/
abbrev rm_T_who : Room := { frames := 6, cells := 0, slots := 0, locals := 132 }
theorem hy_T_who : v_yV yX5_who cX5_who 9 (some .int) 2 := ⟨q1946, q1947, q141, q1948, by decide +kernel⟩
def t_T_who_131 (fu : Nat) (p1 : Int32) (p2 : Int32) (x4 : Int32) (x5 : Int32) (s : v_S) : Option (Int32 × v_S) :=
v_b1 (t_T_bringsTakersBack fu s) fun (s_5 : v_S) => if x5 = 0 then (some ((-1 : Int32), s_5)) else (some (x4, s_5))
def t_T_who_119 (fu : Nat) (p1 : Int32) (p2 : Int32) (r36 : Int32 × Int32 × Int32 × Int32 × v_S → Option (Int32 × v_S)) (x6 : Int32) (x7 : Int32) (x8 : Int32) (y0 : Int32) (s : v_S) : Option (Int32 × v_S) :=
r36 (x8, y0, x6, x7 + (1 : Int32), s)
def t_T_who_118 (fu : Nat) (p1 : Int32) (p2 : Int32) (r36 : Int32 × Int32 × Int32 × Int32 × v_S → Option (Int32 × v_S)) (x6 : Int32) (x7 : Int32) (x8 : Int32) (s : v_S) : Option (Int32 × v_S) :=
t_T_who_119 fu p1 p2 r36 x6 x7 x8 (0 : Int32) s
def t_T_who_114 (fu : Nat) (p1 : Int32) (p2 : Int32) (r36 : Int32 × Int32 × Int32 × Int32 × v_S → Option (Int32 × v_S)) (x6 : Int32) (x7 : Int32) (x8 : Int32) (s : v_S) : Option (Int32 × v_S) :=
t_T_who_119 fu p1 p2 r36 x6 x7 x8 (1 : Int32) s
def t_T_who_94 (fu : Nat) (p1 : Int32) (p2 : Int32) (r36 : Int32 × Int32 × Int32 × Int32 × v_S → Option (Int32 × v_S)) (x4 : Int32) (x5 : Int32) (x6 : Int32) (x7 : Int32) (y0 : Int32) (s : v_S) : Option (Int32 × v_S) :=
if x5 = 0 then (t_T_who_118 fu p1 p2 r36 x6 x7 y0 s) else (if x4 = (-1 : Int32) then (t_T_who_114 fu p1 p2 r36 x6 x7 y0 s) else (if x4 = y0 then (t_T_who_114 fu p1 p2 r36 x6 x7 y0 s) else (t_T_who_118 fu p1 p2 r36 x6 x7 y0 s)))
def t_T_who_36 (fu : Nat) (p1 : Int32) (p2 : Int32) (r36 : Int32 × Int32 × Int32 × Int32 × v_S → Option (Int32 × v_S)) (x4 : Int32) (x5 : Int32) (x6 : Int32) (x7 : Int32) (s : v_S) : Option (Int32 × v_S) :=
if x6 ≤ x7 then (t_T_who_131 fu p1 p2 x4 x5 s) else (v_b1 (t_T_takersAre fu x7 s) fun (s_6 : v_S) => v_b1 (t_T_year fu s_6) fun (s_7 : v_S) => v_b1 (t_T_agrees fu p1 (-1 : Int32) s_7) fun (z_8 : Int32) => if z_8 = 0 then (r36 (x4, x5, x6, x7 + (1 : Int32), s_7)) else (v_g ((157 : Int32) + p2) 160 <| if s_7.1 1 (Int32.toNatClampNeg ((157 : Int32) + p2)) = (-1 : Int32) then (t_T_who_94 fu p1 p2 r36 x4 x5 x6 x7 (9 : Int32) s_7) else (v_g ((157 : Int32) + p2) 160 <| t_T_who_94 fu p1 p2 r36 x4 x5 x6 x7 (s_7.1 1 (Int32.toNatClampNeg ((157 : Int32) + p2))) s_7)))
def t_T_who_36B (fu : Nat) (p1 : Int32) (p2 : Int32) (r36 : Int32 × Int32 × Int32 × Int32 × v_S → Option (Int32 × v_S)) (a : Int32 × Int32 × Int32 × Int32 × v_S) : Option (Int32 × v_S) := t_T_who_36 fu p1 p2 r36 a.1 a.2.1 a.2.2.1 a.2.2.2.1 a.2.2.2.2
def t_T_who (fu : Nat) (p1 : Int32) (p2 : Int32) (s : v_S) : Option (Int32 × v_S) :=
  v_b1 (t_T_isFlood fu p2 s) fun (z_1 : Int32) => v_b1 (t_T_asksMarks fu p1 z_1 s) fun (z_2 : Int32) => if (0 : Int32) ≤ z_2 then (v_b1 (t_T_keepsTakers fu s) fun (s_3 : v_S) => v_b1 (t_T_takersMany fu s_3) fun (z_4 : Int32) => v_loop (t_T_who_36B fu p1 p2) fu ((-1 : Int32), (1 : Int32), z_4, (0 : Int32), s_3)) else (some (z_2, s))
theorem w_T_who_131 {Γ : v_Ctx} {l : Launch} {g : v_G} (fu : Nat) (p1 : Int32) (p2 : Int32) (X : v_C Γ l rm_T_who cX5_who 9 RX5 (some .int) wT g)  (x4 : Int32) (x5 : Int32) (s : v_S) : v_V Γ 9 wT g (fun z : Int32 × v_S => (some (.int z.1), z.2)) 131 [(0, .ref (v_E g 0)), (4, .int x4), (5, .int x5)] [] s (t_T_who_131 fu p1 p2 x4 x5 s) := by
  unfold t_T_who_131
  refine v_aload_n (pc := 131) X dX5_who_131 0 rfl ?_
  refine v_cGs (pc := 132) X (m_T_bringsTakersBack l g fu _) (v_rc_n X wT_o0) (Or.inl q1880) hy_T_bringsTakersBack rfl rfl rfl rfl dX5_who_132 (fun s_5 _ => ?_)
  refine v_iload (pc := 135) X dX5_who_135 2 rfl ?_
  refine v_if_eq (pc := 137) (tgt := 145) X dX5_who_137 (by decide) (fun c137 => ?_) (fun c137 => ?_)
  · refine v_iconst (pc := 145) (v := -1) X dX5_who_145 rfl ?_
    exact v_iret (pc := 146) X dX5_who_146 rfl
  · refine v_iload (pc := 140) X dX5_who_140 1 rfl ?_
    refine v_goto (pc := 142) (tgt := 146) X dX5_who_142 (by decide) ?_
    exact v_iret (pc := 146) X dX5_who_146 rfl
theorem w_T_who_119 {Γ : v_Ctx} {l : Launch} {g : v_G} (fu : Nat) (p1 : Int32) (p2 : Int32) (X : v_C Γ l rm_T_who cX5_who 9 RX5 (some .int) wT g) (r36 : Int32 × Int32 × Int32 × Int32 × v_S → Option (Int32 × v_S)) (h36 : ∀ (x4 : Int32) (x5 : Int32) (x6 : Int32) (x7 : Int32) (s : v_S), v_V Γ 9 wT g (fun z : Int32 × v_S => (some (.int z.1), z.2)) 36 [(0, .ref (v_E g 0)), (1, .int p1), (2, .int p2), (4, .int x4), (5, .int x5), (6, .int x6), (7, .int x7)] [] s (r36 (x4, x5, x6, x7, s))) (x6 : Int32) (x7 : Int32) (x8 : Int32) (y0 : Int32) (s : v_S) : v_V Γ 9 wT g (fun z : Int32 × v_S => (some (.int z.1), z.2)) 119 [(0, .ref (v_E g 0)), (1, .int p1), (2, .int p2), (6, .int x6), (7, .int x7), (8, .int x8)] [.int y0] s (t_T_who_119 fu p1 p2 r36 x6 x7 x8 y0 s) := by
  unfold t_T_who_119
  refine v_istore (pc := 119) (lv' := [(5, .int y0), (0, .ref (v_E g 0)), (1, .int p1), (2, .int p2), (6, .int x6), (7, .int x7), (8, .int x8)]) X dX5_who_119 (Nat.le_of_ble_eq_true rfl) rfl ?_
  refine v_iload (pc := 121) X dX5_who_121 6 rfl ?_
  refine v_istore (pc := 123) (lv' := [(4, .int x8), (5, .int y0), (0, .ref (v_E g 0)), (1, .int p1), (2, .int p2), (6, .int x6), (7, .int x7), (8, .int x8)]) X dX5_who_123 (Nat.le_of_ble_eq_true rfl) rfl ?_
  refine v_iinc (pc := 125) (v := x7 + (1 : Int32)) (lv' := [(7, .int (x7 + (1 : Int32))), (4, .int x8), (5, .int y0), (0, .ref (v_E g 0)), (1, .int p1), (2, .int p2), (6, .int x6), (8, .int x8)]) (k := 6) X dX5_who_125 rfl rfl (Nat.le_of_ble_eq_true rfl) rfl ?_
  refine v_goto (pc := 128) (tgt := 36) X dX5_who_128 (by decide) ?_
  refine v_sub [3, 4, 5, 1, 2, 6, 0] rfl ?_
  exact h36 x8 y0 x6 (x7 + (1 : Int32)) s
theorem w_T_who_118 {Γ : v_Ctx} {l : Launch} {g : v_G} (fu : Nat) (p1 : Int32) (p2 : Int32) (X : v_C Γ l rm_T_who cX5_who 9 RX5 (some .int) wT g) (r36 : Int32 × Int32 × Int32 × Int32 × v_S → Option (Int32 × v_S)) (h36 : ∀ (x4 : Int32) (x5 : Int32) (x6 : Int32) (x7 : Int32) (s : v_S), v_V Γ 9 wT g (fun z : Int32 × v_S => (some (.int z.1), z.2)) 36 [(0, .ref (v_E g 0)), (1, .int p1), (2, .int p2), (4, .int x4), (5, .int x5), (6, .int x6), (7, .int x7)] [] s (r36 (x4, x5, x6, x7, s))) (x6 : Int32) (x7 : Int32) (x8 : Int32) (s : v_S) : v_V Γ 9 wT g (fun z : Int32 × v_S => (some (.int z.1), z.2)) 118 [(0, .ref (v_E g 0)), (1, .int p1), (2, .int p2), (6, .int x6), (7, .int x7), (8, .int x8)] [] s (t_T_who_118 fu p1 p2 r36 x6 x7 x8 s) := by
  unfold t_T_who_118
  refine v_iconst (pc := 118) (v := 0) X dX5_who_118 rfl ?_
  exact w_T_who_119 fu p1 p2 X r36 h36 x6 x7 x8 (0 : Int32) s
theorem w_T_who_114 {Γ : v_Ctx} {l : Launch} {g : v_G} (fu : Nat) (p1 : Int32) (p2 : Int32) (X : v_C Γ l rm_T_who cX5_who 9 RX5 (some .int) wT g) (r36 : Int32 × Int32 × Int32 × Int32 × v_S → Option (Int32 × v_S)) (h36 : ∀ (x4 : Int32) (x5 : Int32) (x6 : Int32) (x7 : Int32) (s : v_S), v_V Γ 9 wT g (fun z : Int32 × v_S => (some (.int z.1), z.2)) 36 [(0, .ref (v_E g 0)), (1, .int p1), (2, .int p2), (4, .int x4), (5, .int x5), (6, .int x6), (7, .int x7)] [] s (r36 (x4, x5, x6, x7, s))) (x6 : Int32) (x7 : Int32) (x8 : Int32) (s : v_S) : v_V Γ 9 wT g (fun z : Int32 × v_S => (some (.int z.1), z.2)) 114 [(0, .ref (v_E g 0)), (1, .int p1), (2, .int p2), (6, .int x6), (7, .int x7), (8, .int x8)] [] s (t_T_who_114 fu p1 p2 r36 x6 x7 x8 s) := by
  unfold t_T_who_114
  refine v_iconst (pc := 114) (v := 1) X dX5_who_114 rfl ?_
  refine v_goto (pc := 115) (tgt := 119) X dX5_who_115 (by decide) ?_
  exact w_T_who_119 fu p1 p2 X r36 h36 x6 x7 x8 (1 : Int32) s
theorem w_T_who_94 {Γ : v_Ctx} {l : Launch} {g : v_G} (fu : Nat) (p1 : Int32) (p2 : Int32) (X : v_C Γ l rm_T_who cX5_who 9 RX5 (some .int) wT g) (r36 : Int32 × Int32 × Int32 × Int32 × v_S → Option (Int32 × v_S)) (h36 : ∀ (x4 : Int32) (x5 : Int32) (x6 : Int32) (x7 : Int32) (s : v_S), v_V Γ 9 wT g (fun z : Int32 × v_S => (some (.int z.1), z.2)) 36 [(0, .ref (v_E g 0)), (1, .int p1), (2, .int p2), (4, .int x4), (5, .int x5), (6, .int x6), (7, .int x7)] [] s (r36 (x4, x5, x6, x7, s))) (x4 : Int32) (x5 : Int32) (x6 : Int32) (x7 : Int32) (y0 : Int32) (s : v_S) : v_V Γ 9 wT g (fun z : Int32 × v_S => (some (.int z.1), z.2)) 94 [(0, .ref (v_E g 0)), (1, .int p1), (2, .int p2), (4, .int x4), (5, .int x5), (6, .int x6), (7, .int x7)] [.int y0] s (t_T_who_94 fu p1 p2 r36 x4 x5 x6 x7 y0 s) := by
  unfold t_T_who_94
  refine v_istore (pc := 94) (lv' := [(8, .int y0), (0, .ref (v_E g 0)), (1, .int p1), (2, .int p2), (4, .int x4), (5, .int x5), (6, .int x6), (7, .int x7)]) X dX5_who_94 (Nat.le_of_ble_eq_true rfl) rfl ?_
  refine v_iload (pc := 96) X dX5_who_96 5 rfl ?_
  refine v_if_eq (pc := 98) (tgt := 118) X dX5_who_98 (by decide) (fun c98 => ?_) (fun c98 => ?_)
  · refine v_sub [1, 2, 3, 6, 7, 0] rfl ?_
    exact w_T_who_118 fu p1 p2 X r36 h36 x6 x7 y0 s
  · refine v_iload (pc := 101) X dX5_who_101 4 rfl ?_
    refine v_iconst (pc := 103) (v := -1) X dX5_who_103 rfl ?_
    refine v_icmp_eq (pc := 104) (tgt := 114) X dX5_who_104 (by decide) (fun c104 => ?_) (fun c104 => ?_)
    · refine v_sub [1, 2, 3, 6, 7, 0] rfl ?_
      exact w_T_who_114 fu p1 p2 X r36 h36 x6 x7 y0 s
    · refine v_iload (pc := 107) X dX5_who_107 4 rfl ?_
      refine v_iload (pc := 109) X dX5_who_109 0 rfl ?_
      refine v_icmp_ne (pc := 111) (tgt := 118) X dX5_who_111 (by decide) (fun c111 => ?_) (fun c111 => ?_)
      · refine v_sub [1, 2, 3, 6, 7, 0] rfl ?_
        exact w_T_who_118 fu p1 p2 X r36 h36 x6 x7 y0 s
      · refine v_sub [1, 2, 3, 6, 7, 0] rfl ?_
        exact w_T_who_114 fu p1 p2 X r36 h36 x6 x7 y0 s
theorem w_T_who_36 {Γ : v_Ctx} {l : Launch} {g : v_G} (fu : Nat) (p1 : Int32) (p2 : Int32) (X : v_C Γ l rm_T_who cX5_who 9 RX5 (some .int) wT g) (r36 : Int32 × Int32 × Int32 × Int32 × v_S → Option (Int32 × v_S)) (h36 : ∀ (x4 : Int32) (x5 : Int32) (x6 : Int32) (x7 : Int32) (s : v_S), v_V Γ 9 wT g (fun z : Int32 × v_S => (some (.int z.1), z.2)) 36 [(0, .ref (v_E g 0)), (1, .int p1), (2, .int p2), (4, .int x4), (5, .int x5), (6, .int x6), (7, .int x7)] [] s (r36 (x4, x5, x6, x7, s))) (x4 : Int32) (x5 : Int32) (x6 : Int32) (x7 : Int32) (s : v_S) : v_V Γ 9 wT g (fun z : Int32 × v_S => (some (.int z.1), z.2)) 36 [(0, .ref (v_E g 0)), (1, .int p1), (2, .int p2), (4, .int x4), (5, .int x5), (6, .int x6), (7, .int x7)] [] s (t_T_who_36 fu p1 p2 r36 x4 x5 x6 x7 s) := by
  unfold t_T_who_36
  refine v_iload (pc := 36) X dX5_who_36 6 rfl ?_
  refine v_iload (pc := 38) X dX5_who_38 5 rfl ?_
  refine v_icmp_ge (pc := 40) (tgt := 131) X dX5_who_40 (by decide) (fun c40 => ?_) (fun c40 => ?_)
  · refine v_sub [0, 3, 4] rfl ?_
    exact w_T_who_131 fu p1 p2 X  x4 x5 s
  · refine v_aload_n (pc := 43) X dX5_who_43 0 rfl ?_
    refine v_iload (pc := 44) X dX5_who_44 6 rfl ?_
    refine v_cGs (pc := 46) X (m_T_takersAre l g fu x7 _) (v_rc_n X wT_o0) (Or.inl q1872) hy_T_takersAre rfl rfl rfl rfl dX5_who_46 (fun s_6 _ => ?_)
    refine v_aload_n (pc := 49) X dX5_who_49 0 rfl ?_
    refine v_cGs (pc := 50) X (m_T_year l g fu _) (v_rc_n X wT_o0) (Or.inl q1750) hy_T_year rfl rfl rfl rfl dX5_who_50 (fun s_7 _ => ?_)
    refine v_aload_n (pc := 53) X dX5_who_53 0 rfl ?_
    refine v_iload_n (pc := 54) X dX5_who_54 1 rfl ?_
    refine v_iconst (pc := 55) (v := -1) X dX5_who_55 rfl ?_
    refine v_cGi (pc := 56) X (m_T_agrees l g fu p1 (-1 : Int32) _) (v_rc_n X wT_o0) (Or.inl q1941) hy_T_agrees rfl rfl rfl rfl dX5_who_56 (fun z_8 _ => ?_)
    refine v_if_ne (pc := 59) (tgt := 65) X dX5_who_59 (by decide) (fun c59 => ?_) (fun c59 => ?_)
    · refine v_aload_n (pc := 65) X dX5_who_65 0 rfl ?_
      refine v_get (pc := 66) (kind := 4) (v := .ref (v_E g 1)) X wT_n0 wT_l0 wT_c0 in_X5 (Nat.le_of_ble_eq_true rfl : 1 < 40) q1472 rfl rfl dX5_who_66 ?_
      refine v_sipush (pc := 69) (v := 157) X dX5_who_69 rfl ?_
      refine v_iload_n (pc := 72) X dX5_who_72 2 rfl ?_
      refine v_iadd (pc := 73) X dX5_who_73 ?_
      refine v_iald (pc := 74) X wT_n1 wT_l1 dX5_who_74 ?_
      refine v_iconst (pc := 75) (v := -1) X dX5_who_75 rfl ?_
      refine v_icmp_ne (pc := 76) (tgt := 84) X dX5_who_76 (by decide) (fun c76 => ?_) (fun c76 => ?_)
      · refine v_aload_n (pc := 84) X dX5_who_84 0 rfl ?_
        refine v_get (pc := 85) (kind := 4) (v := .ref (v_E g 1)) X wT_n0 wT_l0 wT_c0 in_X5 (Nat.le_of_ble_eq_true rfl : 1 < 40) q1472 rfl rfl dX5_who_85 ?_
        refine v_sipush (pc := 88) (v := 157) X dX5_who_88 rfl ?_
        refine v_iload_n (pc := 91) X dX5_who_91 2 rfl ?_
        refine v_iadd (pc := 92) X dX5_who_92 ?_
        refine v_iald (pc := 93) X wT_n1 wT_l1 dX5_who_93 ?_
        exact w_T_who_94 fu p1 p2 X r36 h36 x4 x5 x6 x7 (s_7.1 1 (Int32.toNatClampNeg ((157 : Int32) + p2))) s_7
      · refine v_bipush (pc := 79) (v := 9) X dX5_who_79 rfl ?_
        refine v_goto (pc := 81) (tgt := 94) X dX5_who_81 (by decide) ?_
        exact w_T_who_94 fu p1 p2 X r36 h36 x4 x5 x6 x7 (9 : Int32) s_7
    · refine v_goto (pc := 62) (tgt := 125) X dX5_who_62 (by decide) ?_
      refine v_iinc (pc := 125) (v := x7 + (1 : Int32)) (lv' := [(7, .int (x7 + (1 : Int32))), (0, .ref (v_E g 0)), (1, .int p1), (2, .int p2), (4, .int x4), (5, .int x5), (6, .int x6)]) (k := 6) X dX5_who_125 rfl rfl (Nat.le_of_ble_eq_true rfl) rfl ?_
      refine v_goto (pc := 128) (tgt := 36) X dX5_who_128 (by decide) ?_
      refine v_sub [1, 2, 3, 4, 5, 6, 0] rfl ?_
      exact h36 x4 x5 x6 (x7 + (1 : Int32)) s_7
theorem w_T_who_36L {Γ : v_Ctx} {l : Launch} {g : v_G} (fu : Nat) (p1 : Int32) (p2 : Int32) (X : v_C Γ l rm_T_who cX5_who 9 RX5 (some .int) wT g)  : ∀ (n : Nat), ∀ (x4 : Int32) (x5 : Int32) (x6 : Int32) (x7 : Int32) (s : v_S), v_V Γ 9 wT g (fun z : Int32 × v_S => (some (.int z.1), z.2)) 36 [(0, .ref (v_E g 0)), (1, .int p1), (2, .int p2), (4, .int x4), (5, .int x5), (6, .int x6), (7, .int x7)] [] s (v_loop (t_T_who_36B fu p1 p2) n (x4, x5, x6, x7, s)) := by
  intro n
  induction n with
  | zero => exact fun _ _ _ _ _ => v_none
  | succ n ih => exact fun x4 x5 x6 x7 s => w_T_who_36 fu p1 p2 X  _ ih x4 x5 x6 x7 s
theorem m_T_who (l : Launch) (g : v_G) (fu : Nat) (p1 : Int32) (p2 : Int32) (s : v_S) : v_M l yX5_who cX5_who 9 (some .int) rm_T_who wT g [.ref (v_E g 0), .int p1, .int p2] s (fun z : Int32 × v_S => (some (.int z.1), z.2)) (t_T_who fu p1 p2 s) := by
  refine v_met (by decide +kernel) (Nat.le_of_ble_eq_true rfl) (fun Γ X => ?_)
  refine v_lv (lv' := [(0, .ref (v_E g 0)), (1, .int p1), (2, .int p2)]) rfl ?_
  unfold t_T_who
  refine v_aload_n (pc := 0) X dX5_who_0 0 rfl ?_
  refine v_iload_n (pc := 1) X dX5_who_1 1 rfl ?_
  refine v_aload_n (pc := 2) X dX5_who_2 0 rfl ?_
  refine v_iload_n (pc := 3) X dX5_who_3 2 rfl ?_
  refine v_cGi (pc := 4) X (m_T_isFlood l g fu p2 _) (v_rc_n X wT_o0) (Or.inl q1738) hy_T_isFlood rfl rfl rfl rfl dX5_who_4 (fun z_1 _ => ?_)
  refine v_cGi (pc := 7) X (m_T_asksMarks l g fu p1 z_1 _) (v_rc_n X wT_o0) (Or.inl q1930) hy_T_asksMarks rfl rfl rfl rfl dX5_who_7 (fun z_2 _ => ?_)
  refine v_istore_n (pc := 10) (lv' := [(3, .int z_2), (0, .ref (v_E g 0)), (1, .int p1), (2, .int p2)]) X dX5_who_10 rfl (Nat.le_of_ble_eq_true rfl) rfl ?_
  refine v_iload_n (pc := 11) X dX5_who_11 0 rfl ?_
  refine v_if_ge (pc := 12) (tgt := 17) X dX5_who_12 (by decide) (fun c12 => ?_) (fun c12 => ?_)
  · refine v_aload_n (pc := 17) X dX5_who_17 1 rfl ?_
    refine v_cGs (pc := 18) X (m_T_keepsTakers l g fu _) (v_rc_n X wT_o0) (Or.inl q1864) hy_T_keepsTakers rfl rfl rfl rfl dX5_who_18 (fun s_3 _ => ?_)
    refine v_iconst (pc := 21) (v := -1) X dX5_who_21 rfl ?_
    refine v_istore (pc := 22) (lv' := [(4, .int (-1 : Int32)), (3, .int z_2), (0, .ref (v_E g 0)), (1, .int p1), (2, .int p2)]) X dX5_who_22 (Nat.le_of_ble_eq_true rfl) rfl ?_
    refine v_iconst (pc := 24) (v := 1) X dX5_who_24 rfl ?_
    refine v_istore (pc := 25) (lv' := [(5, .int (1 : Int32)), (4, .int (-1 : Int32)), (3, .int z_2), (0, .ref (v_E g 0)), (1, .int p1), (2, .int p2)]) X dX5_who_25 (Nat.le_of_ble_eq_true rfl) rfl ?_
    refine v_aload_n (pc := 27) X dX5_who_27 3 rfl ?_
    refine v_cGi (pc := 28) X (m_T_takersMany l g fu _) (v_rc_n X wT_o0) (Or.inl q1868) hy_T_takersMany rfl rfl rfl rfl dX5_who_28 (fun z_4 _ => ?_)
    refine v_istore (pc := 31) (lv' := [(6, .int z_4), (5, .int (1 : Int32)), (4, .int (-1 : Int32)), (3, .int z_2), (0, .ref (v_E g 0)), (1, .int p1), (2, .int p2)]) X dX5_who_31 (Nat.le_of_ble_eq_true rfl) rfl ?_
    refine v_iconst (pc := 33) (v := 0) X dX5_who_33 rfl ?_
    refine v_istore (pc := 34) (lv' := [(7, .int (0 : Int32)), (6, .int z_4), (5, .int (1 : Int32)), (4, .int (-1 : Int32)), (3, .int z_2), (0, .ref (v_E g 0)), (1, .int p1), (2, .int p2)]) X dX5_who_34 (Nat.le_of_ble_eq_true rfl) rfl ?_
    refine v_sub [5, 6, 7, 3, 2, 1, 0] rfl ?_
    exact w_T_who_36L fu p1 p2 X  fu (-1 : Int32) (1 : Int32) z_4 (0 : Int32) s_3
  · refine v_iload_n (pc := 15) X dX5_who_15 0 rfl ?_
    exact v_iret (pc := 16) X dX5_who_16 rfl
/-! FloodLentModel.sure(III)I -/
abbrev rm_T_sure : Room := { frames := 6, cells := 0, slots := 0, locals := 132 }
theorem hy_T_sure : v_yV yX5_sure cX5_sure 9 (some .int) 3 := ⟨q1950, q1951, q141, q1952, by decide +kernel⟩
def t_T_sure_137 (fu : Nat) (p1 : Int32) (p2 : Int32) (p3 : Int32) (x5 : Int32) (x6 : Int32) (s : v_S) : Option (Int32 × v_S) :=
v_b1 (t_T_bringsTakersBack fu s) fun (s_5 : v_S) => if x6 = 0 then (some ((-1 : Int32), s_5)) else (some (x5, s_5))
def t_T_sure_116 (fu : Nat) (p1 : Int32) (p2 : Int32) (p3 : Int32) (r55 : Int32 × Int32 × Int32 × Int32 × v_S → Option (Int32 × v_S)) (x7 : Int32) (x8 : Int32) (y0 : Int32) (s : v_S) : Option (Int32 × v_S) :=
v_g (((30 : Int32) * p2) + p3) 180 <| v_n (s.1 8 (Int32.toNatClampNeg (((30 : Int32) * p2) + p3))) fun (x5_9 : Int32) => r55 (x5_9, y0, x7, x8 + (1 : Int32), s)
def t_T_sure_115 (fu : Nat) (p1 : Int32) (p2 : Int32) (p3 : Int32) (r55 : Int32 × Int32 × Int32 × Int32 × v_S → Option (Int32 × v_S)) (x7 : Int32) (x8 : Int32) (s : v_S) : Option (Int32 × v_S) :=
t_T_sure_116 fu p1 p2 p3 r55 x7 x8 (0 : Int32) s
def t_T_sure_111 (fu : Nat) (p1 : Int32) (p2 : Int32) (p3 : Int32) (r55 : Int32 × Int32 × Int32 × Int32 × v_S → Option (Int32 × v_S)) (x7 : Int32) (x8 : Int32) (s : v_S) : Option (Int32 × v_S) :=
t_T_sure_116 fu p1 p2 p3 r55 x7 x8 (1 : Int32) s
def t_T_sure_55 (fu : Nat) (p1 : Int32) (p2 : Int32) (p3 : Int32) (r55 : Int32 × Int32 × Int32 × Int32 × v_S → Option (Int32 × v_S)) (x5 : Int32) (x6 : Int32) (x7 : Int32) (x8 : Int32) (s : v_S) : Option (Int32 × v_S) :=
if x7 ≤ x8 then (t_T_sure_137 fu p1 p2 p3 x5 x6 s) else (v_b1 (t_T_takersAre fu x8 s) fun (s_6 : v_S) => v_b1 (t_T_year fu s_6) fun (s_7 : v_S) => v_b1 (t_T_agrees fu p1 (-1 : Int32) s_7) fun (z_8 : Int32) => if z_8 = 0 then (r55 (x5, x6, x7, x8 + (1 : Int32), s_7)) else (if x6 = 0 then (t_T_sure_115 fu p1 p2 p3 r55 x7 x8 s_7) else (if x5 = (-1 : Int32) then (t_T_sure_111 fu p1 p2 p3 r55 x7 x8 s_7) else (v_g (((30 : Int32) * p2) + p3) 180 <| if x5 = s_7.1 8 (Int32.toNatClampNeg (((30 : Int32) * p2) + p3)) then (t_T_sure_111 fu p1 p2 p3 r55 x7 x8 s_7) else (t_T_sure_115 fu p1 p2 p3 r55 x7 x8 s_7)))))
def t_T_sure_55B (fu : Nat) (p1 : Int32) (p2 : Int32) (p3 : Int32) (r55 : Int32 × Int32 × Int32 × Int32 × v_S → Option (Int32 × v_S)) (a : Int32 × Int32 × Int32 × Int32 × v_S) : Option (Int32 × v_S) := t_T_sure_55 fu p1 p2 p3 r55 a.1 a.2.1 a.2.2.1 a.2.2.2.1 a.2.2.2.2
def t_T_sure_23 (fu : Nat) (p1 : Int32) (p2 : Int32) (p3 : Int32) (y0 : Int32) (y1 : Int32) (s : v_S) : Option (Int32 × v_S) :=
v_b1 (t_T_asksMarks fu y1 y0 s) fun (z_2 : Int32) => if (0 : Int32) ≤ z_2 then (v_b1 (t_T_keepsTakers fu s) fun (s_3 : v_S) => v_b1 (t_T_takersMany fu s_3) fun (z_4 : Int32) => v_loop (t_T_sure_55B fu p1 p2 p3) fu ((-1 : Int32), (1 : Int32), z_4, (0 : Int32), s_3)) else (some (z_2, s))
def t_T_sure_22 (fu : Nat) (p1 : Int32) (p2 : Int32) (p3 : Int32) (y0 : Int32) (s : v_S) : Option (Int32 × v_S) :=
t_T_sure_23 fu p1 p2 p3 (0 : Int32) y0 s
def t_T_sure (fu : Nat) (p1 : Int32) (p2 : Int32) (p3 : Int32) (s : v_S) : Option (Int32 × v_S) :=
  v_b1 (t_T_isVillage fu p2 s) fun (z_1 : Int32) => if z_1 = 0 then (t_T_sure_22 fu p1 p2 p3 p1 s) else (v_b1 (t_T_isWeek fu p3 s) fun (z_10 : Int32) => if z_10 = 0 then (t_T_sure_22 fu p1 p2 p3 p1 s) else (t_T_sure_23 fu p1 p2 p3 (1 : Int32) p1 s))
theorem w_T_sure_137 {Γ : v_Ctx} {l : Launch} {g : v_G} (fu : Nat) (p1 : Int32) (p2 : Int32) (p3 : Int32) (X : v_C Γ l rm_T_sure cX5_sure 9 RX5 (some .int) wT g)  (x5 : Int32) (x6 : Int32) (s : v_S) : v_V Γ 9 wT g (fun z : Int32 × v_S => (some (.int z.1), z.2)) 137 [(0, .ref (v_E g 0)), (5, .int x5), (6, .int x6)] [] s (t_T_sure_137 fu p1 p2 p3 x5 x6 s) := by
  unfold t_T_sure_137
  refine v_aload_n (pc := 137) X dX5_sure_137 0 rfl ?_
  refine v_cGs (pc := 138) X (m_T_bringsTakersBack l g fu _) (v_rc_n X wT_o0) (Or.inl q1880) hy_T_bringsTakersBack rfl rfl rfl rfl dX5_sure_138 (fun s_5 _ => ?_)
  refine v_iload (pc := 141) X dX5_sure_141 2 rfl ?_
  refine v_if_eq (pc := 143) (tgt := 151) X dX5_sure_143 (by decide) (fun c143 => ?_) (fun c143 => ?_)
  · refine v_iconst (pc := 151) (v := -1) X dX5_sure_151 rfl ?_
    exact v_iret (pc := 152) X dX5_sure_152 rfl
  · refine v_iload (pc := 146) X dX5_sure_146 1 rfl ?_
    refine v_goto (pc := 148) (tgt := 152) X dX5_sure_148 (by decide) ?_
    exact v_iret (pc := 152) X dX5_sure_152 rfl
theorem w_T_sure_116 {Γ : v_Ctx} {l : Launch} {g : v_G} (fu : Nat) (p1 : Int32) (p2 : Int32) (p3 : Int32) (X : v_C Γ l rm_T_sure cX5_sure 9 RX5 (some .int) wT g) (r55 : Int32 × Int32 × Int32 × Int32 × v_S → Option (Int32 × v_S)) (h55 : ∀ (x5 : Int32) (x6 : Int32) (x7 : Int32) (x8 : Int32) (s : v_S), v_V Γ 9 wT g (fun z : Int32 × v_S => (some (.int z.1), z.2)) 55 [(0, .ref (v_E g 0)), (1, .int p1), (2, .int p2), (3, .int p3), (5, .int x5), (6, .int x6), (7, .int x7), (8, .int x8)] [] s (r55 (x5, x6, x7, x8, s))) (x7 : Int32) (x8 : Int32) (y0 : Int32) (s : v_S) : v_V Γ 9 wT g (fun z : Int32 × v_S => (some (.int z.1), z.2)) 116 [(0, .ref (v_E g 0)), (1, .int p1), (2, .int p2), (3, .int p3), (7, .int x7), (8, .int x8)] [.int y0] s (t_T_sure_116 fu p1 p2 p3 r55 x7 x8 y0 s) := by
  unfold t_T_sure_116
  refine v_istore (pc := 116) (lv' := [(6, .int y0), (0, .ref (v_E g 0)), (1, .int p1), (2, .int p2), (3, .int p3), (7, .int x7), (8, .int x8)]) X dX5_sure_116 (Nat.le_of_ble_eq_true rfl) rfl ?_
  refine v_aload_n (pc := 118) X dX5_sure_118 1 rfl ?_
  refine v_get (pc := 119) (kind := 11) (v := .ref (v_E g 8)) X wT_n0 wT_l0 wT_c0 in_X5 (Nat.le_of_ble_eq_true rfl : 16 < 40) q1487 rfl rfl dX5_sure_119 ?_
  refine v_bipush (pc := 122) (v := 30) X dX5_sure_122 rfl ?_
  refine v_iload_n (pc := 124) X dX5_sure_124 3 rfl ?_
  refine v_imul (pc := 125) X dX5_sure_125 ?_
  refine v_iload_n (pc := 126) X dX5_sure_126 4 rfl ?_
  refine v_iadd (pc := 127) X dX5_sure_127 ?_
  refine v_iald (pc := 128) X wT_n8 wT_l8 dX5_sure_128 ?_
  refine v_istoreN (pc := 129) (lvf := fun x5_9 => [(5, .int x5_9), (6, .int y0), (0, .ref (v_E g 0)), (1, .int p1), (2, .int p2), (3, .int p3), (7, .int x7), (8, .int x8)]) X dX5_sure_129 (Nat.le_of_ble_eq_true rfl) (fun _ => rfl) (fun x5_9 => ?_)
  refine v_iinc (pc := 131) (v := x8 + (1 : Int32)) (lv' := [(8, .int (x8 + (1 : Int32))), (5, .int x5_9), (6, .int y0), (0, .ref (v_E g 0)), (1, .int p1), (2, .int p2), (3, .int p3), (7, .int x7)]) (k := 7) X dX5_sure_131 rfl rfl (Nat.le_of_ble_eq_true rfl) rfl ?_
  refine v_goto (pc := 134) (tgt := 55) X dX5_sure_134 (by decide) ?_
  refine v_sub [3, 4, 5, 6, 1, 2, 7, 0] rfl ?_
  exact h55 x5_9 y0 x7 (x8 + (1 : Int32)) s
theorem w_T_sure_115 {Γ : v_Ctx} {l : Launch} {g : v_G} (fu : Nat) (p1 : Int32) (p2 : Int32) (p3 : Int32) (X : v_C Γ l rm_T_sure cX5_sure 9 RX5 (some .int) wT g) (r55 : Int32 × Int32 × Int32 × Int32 × v_S → Option (Int32 × v_S)) (h55 : ∀ (x5 : Int32) (x6 : Int32) (x7 : Int32) (x8 : Int32) (s : v_S), v_V Γ 9 wT g (fun z : Int32 × v_S => (some (.int z.1), z.2)) 55 [(0, .ref (v_E g 0)), (1, .int p1), (2, .int p2), (3, .int p3), (5, .int x5), (6, .int x6), (7, .int x7), (8, .int x8)] [] s (r55 (x5, x6, x7, x8, s))) (x7 : Int32) (x8 : Int32) (s : v_S) : v_V Γ 9 wT g (fun z : Int32 × v_S => (some (.int z.1), z.2)) 115 [(0, .ref (v_E g 0)), (1, .int p1), (2, .int p2), (3, .int p3), (7, .int x7), (8, .int x8)] [] s (t_T_sure_115 fu p1 p2 p3 r55 x7 x8 s) := by
  unfold t_T_sure_115
  refine v_iconst (pc := 115) (v := 0) X dX5_sure_115 rfl ?_
  exact w_T_sure_116 fu p1 p2 p3 X r55 h55 x7 x8 (0 : Int32) s
theorem w_T_sure_111 {Γ : v_Ctx} {l : Launch} {g : v_G} (fu : Nat) (p1 : Int32) (p2 : Int32) (p3 : Int32) (X : v_C Γ l rm_T_sure cX5_sure 9 RX5 (some .int) wT g) (r55 : Int32 × Int32 × Int32 × Int32 × v_S → Option (Int32 × v_S)) (h55 : ∀ (x5 : Int32) (x6 : Int32) (x7 : Int32) (x8 : Int32) (s : v_S), v_V Γ 9 wT g (fun z : Int32 × v_S => (some (.int z.1), z.2)) 55 [(0, .ref (v_E g 0)), (1, .int p1), (2, .int p2), (3, .int p3), (5, .int x5), (6, .int x6), (7, .int x7), (8, .int x8)] [] s (r55 (x5, x6, x7, x8, s))) (x7 : Int32) (x8 : Int32) (s : v_S) : v_V Γ 9 wT g (fun z : Int32 × v_S => (some (.int z.1), z.2)) 111 [(0, .ref (v_E g 0)), (1, .int p1), (2, .int p2), (3, .int p3), (7, .int x7), (8, .int x8)] [] s (t_T_sure_111 fu p1 p2 p3 r55 x7 x8 s) := by
  unfold t_T_sure_111
  refine v_iconst (pc := 111) (v := 1) X dX5_sure_111 rfl ?_
  refine v_goto (pc := 112) (tgt := 116) X dX5_sure_112 (by decide) ?_
  exact w_T_sure_116 fu p1 p2 p3 X r55 h55 x7 x8 (1 : Int32) s
theorem w_T_sure_55 {Γ : v_Ctx} {l : Launch} {g : v_G} (fu : Nat) (p1 : Int32) (p2 : Int32) (p3 : Int32) (X : v_C Γ l rm_T_sure cX5_sure 9 RX5 (some .int) wT g) (r55 : Int32 × Int32 × Int32 × Int32 × v_S → Option (Int32 × v_S)) (h55 : ∀ (x5 : Int32) (x6 : Int32) (x7 : Int32) (x8 : Int32) (s : v_S), v_V Γ 9 wT g (fun z : Int32 × v_S => (some (.int z.1), z.2)) 55 [(0, .ref (v_E g 0)), (1, .int p1), (2, .int p2), (3, .int p3), (5, .int x5), (6, .int x6), (7, .int x7), (8, .int x8)] [] s (r55 (x5, x6, x7, x8, s))) (x5 : Int32) (x6 : Int32) (x7 : Int32) (x8 : Int32) (s : v_S) : v_V Γ 9 wT g (fun z : Int32 × v_S => (some (.int z.1), z.2)) 55 [(0, .ref (v_E g 0)), (1, .int p1), (2, .int p2), (3, .int p3), (5, .int x5), (6, .int x6), (7, .int x7), (8, .int x8)] [] s (t_T_sure_55 fu p1 p2 p3 r55 x5 x6 x7 x8 s) := by
  unfold t_T_sure_55
  refine v_iload (pc := 55) X dX5_sure_55 7 rfl ?_
  refine v_iload (pc := 57) X dX5_sure_57 6 rfl ?_
  refine v_icmp_ge (pc := 59) (tgt := 137) X dX5_sure_59 (by decide) (fun c59 => ?_) (fun c59 => ?_)
  · refine v_sub [0, 4, 5] rfl ?_
    exact w_T_sure_137 fu p1 p2 p3 X  x5 x6 s
  · refine v_aload_n (pc := 62) X dX5_sure_62 0 rfl ?_
    refine v_iload (pc := 63) X dX5_sure_63 7 rfl ?_
    refine v_cGs (pc := 65) X (m_T_takersAre l g fu x8 _) (v_rc_n X wT_o0) (Or.inl q1872) hy_T_takersAre rfl rfl rfl rfl dX5_sure_65 (fun s_6 _ => ?_)
    refine v_aload_n (pc := 68) X dX5_sure_68 0 rfl ?_
    refine v_cGs (pc := 69) X (m_T_year l g fu _) (v_rc_n X wT_o0) (Or.inl q1750) hy_T_year rfl rfl rfl rfl dX5_sure_69 (fun s_7 _ => ?_)
    refine v_aload_n (pc := 72) X dX5_sure_72 0 rfl ?_
    refine v_iload_n (pc := 73) X dX5_sure_73 1 rfl ?_
    refine v_iconst (pc := 74) (v := -1) X dX5_sure_74 rfl ?_
    refine v_cGi (pc := 75) X (m_T_agrees l g fu p1 (-1 : Int32) _) (v_rc_n X wT_o0) (Or.inl q1941) hy_T_agrees rfl rfl rfl rfl dX5_sure_75 (fun z_8 _ => ?_)
    refine v_if_ne (pc := 78) (tgt := 84) X dX5_sure_78 (by decide) (fun c78 => ?_) (fun c78 => ?_)
    · refine v_iload (pc := 84) X dX5_sure_84 5 rfl ?_
      refine v_if_eq (pc := 86) (tgt := 115) X dX5_sure_86 (by decide) (fun c86 => ?_) (fun c86 => ?_)
      · refine v_sub [0, 1, 2, 3, 6, 7] rfl ?_
        exact w_T_sure_115 fu p1 p2 p3 X r55 h55 x7 x8 s_7
      · refine v_iload (pc := 89) X dX5_sure_89 4 rfl ?_
        refine v_iconst (pc := 91) (v := -1) X dX5_sure_91 rfl ?_
        refine v_icmp_eq (pc := 92) (tgt := 111) X dX5_sure_92 (by decide) (fun c92 => ?_) (fun c92 => ?_)
        · refine v_sub [0, 1, 2, 3, 6, 7] rfl ?_
          exact w_T_sure_111 fu p1 p2 p3 X r55 h55 x7 x8 s_7
        · refine v_iload (pc := 95) X dX5_sure_95 4 rfl ?_
          refine v_aload_n (pc := 97) X dX5_sure_97 0 rfl ?_
          refine v_get (pc := 98) (kind := 11) (v := .ref (v_E g 8)) X wT_n0 wT_l0 wT_c0 in_X5 (Nat.le_of_ble_eq_true rfl : 16 < 40) q1487 rfl rfl dX5_sure_98 ?_
          refine v_bipush (pc := 101) (v := 30) X dX5_sure_101 rfl ?_
          refine v_iload_n (pc := 103) X dX5_sure_103 2 rfl ?_
          refine v_imul (pc := 104) X dX5_sure_104 ?_
          refine v_iload_n (pc := 105) X dX5_sure_105 3 rfl ?_
          refine v_iadd (pc := 106) X dX5_sure_106 ?_
          refine v_iald (pc := 107) X wT_n8 wT_l8 dX5_sure_107 ?_
          refine v_icmp_ne (pc := 108) (tgt := 115) X dX5_sure_108 (by decide) (fun c108 => ?_) (fun c108 => ?_)
          · refine v_sub [0, 1, 2, 3, 6, 7] rfl ?_
            exact w_T_sure_115 fu p1 p2 p3 X r55 h55 x7 x8 s_7
          · refine v_sub [0, 1, 2, 3, 6, 7] rfl ?_
            exact w_T_sure_111 fu p1 p2 p3 X r55 h55 x7 x8 s_7
    · refine v_goto (pc := 81) (tgt := 131) X dX5_sure_81 (by decide) ?_
      refine v_iinc (pc := 131) (v := x8 + (1 : Int32)) (lv' := [(8, .int (x8 + (1 : Int32))), (0, .ref (v_E g 0)), (1, .int p1), (2, .int p2), (3, .int p3), (5, .int x5), (6, .int x6), (7, .int x7)]) (k := 7) X dX5_sure_131 rfl rfl (Nat.le_of_ble_eq_true rfl) rfl ?_
      refine v_goto (pc := 134) (tgt := 55) X dX5_sure_134 (by decide) ?_
      refine v_sub [1, 2, 3, 4, 5, 6, 7, 0] rfl ?_
      exact h55 x5 x6 x7 (x8 + (1 : Int32)) s_7
theorem w_T_sure_55L {Γ : v_Ctx} {l : Launch} {g : v_G} (fu : Nat) (p1 : Int32) (p2 : Int32) (p3 : Int32) (X : v_C Γ l rm_T_sure cX5_sure 9 RX5 (some .int) wT g)  : ∀ (n : Nat), ∀ (x5 : Int32) (x6 : Int32) (x7 : Int32) (x8 : Int32) (s : v_S), v_V Γ 9 wT g (fun z : Int32 × v_S => (some (.int z.1), z.2)) 55 [(0, .ref (v_E g 0)), (1, .int p1), (2, .int p2), (3, .int p3), (5, .int x5), (6, .int x6), (7, .int x7), (8, .int x8)] [] s (v_loop (t_T_sure_55B fu p1 p2 p3) n (x5, x6, x7, x8, s)) := by
  intro n
  induction n with
  | zero => exact fun _ _ _ _ _ => v_none
  | succ n ih => exact fun x5 x6 x7 x8 s => w_T_sure_55 fu p1 p2 p3 X  _ ih x5 x6 x7 x8 s
theorem w_T_sure_23 {Γ : v_Ctx} {l : Launch} {g : v_G} (fu : Nat) (p1 : Int32) (p2 : Int32) (p3 : Int32) (X : v_C Γ l rm_T_sure cX5_sure 9 RX5 (some .int) wT g)  (y0 : Int32) (y1 : Int32) (s : v_S) : v_V Γ 9 wT g (fun z : Int32 × v_S => (some (.int z.1), z.2)) 23 [(0, .ref (v_E g 0)), (1, .int p1), (2, .int p2), (3, .int p3)] [.int y0, .int y1, .ref (v_E g 0)] s (t_T_sure_23 fu p1 p2 p3 y0 y1 s) := by
  unfold t_T_sure_23
  refine v_cGi (pc := 23) X (m_T_asksMarks l g fu y1 y0 _) (v_rc_n X wT_o0) (Or.inl q1930) hy_T_asksMarks rfl rfl rfl rfl dX5_sure_23 (fun z_2 _ => ?_)
  refine v_istore (pc := 26) (lv' := [(4, .int z_2), (0, .ref (v_E g 0)), (1, .int p1), (2, .int p2), (3, .int p3)]) X dX5_sure_26 (Nat.le_of_ble_eq_true rfl) rfl ?_
  refine v_iload (pc := 28) X dX5_sure_28 0 rfl ?_
  refine v_if_ge (pc := 30) (tgt := 36) X dX5_sure_30 (by decide) (fun c30 => ?_) (fun c30 => ?_)
  · refine v_aload_n (pc := 36) X dX5_sure_36 1 rfl ?_
    refine v_cGs (pc := 37) X (m_T_keepsTakers l g fu _) (v_rc_n X wT_o0) (Or.inl q1864) hy_T_keepsTakers rfl rfl rfl rfl dX5_sure_37 (fun s_3 _ => ?_)
    refine v_iconst (pc := 40) (v := -1) X dX5_sure_40 rfl ?_
    refine v_istore (pc := 41) (lv' := [(5, .int (-1 : Int32)), (4, .int z_2), (0, .ref (v_E g 0)), (1, .int p1), (2, .int p2), (3, .int p3)]) X dX5_sure_41 (Nat.le_of_ble_eq_true rfl) rfl ?_
    refine v_iconst (pc := 43) (v := 1) X dX5_sure_43 rfl ?_
    refine v_istore (pc := 44) (lv' := [(6, .int (1 : Int32)), (5, .int (-1 : Int32)), (4, .int z_2), (0, .ref (v_E g 0)), (1, .int p1), (2, .int p2), (3, .int p3)]) X dX5_sure_44 (Nat.le_of_ble_eq_true rfl) rfl ?_
    refine v_aload_n (pc := 46) X dX5_sure_46 3 rfl ?_
    refine v_cGi (pc := 47) X (m_T_takersMany l g fu _) (v_rc_n X wT_o0) (Or.inl q1868) hy_T_takersMany rfl rfl rfl rfl dX5_sure_47 (fun z_4 _ => ?_)
    refine v_istore (pc := 50) (lv' := [(7, .int z_4), (6, .int (1 : Int32)), (5, .int (-1 : Int32)), (4, .int z_2), (0, .ref (v_E g 0)), (1, .int p1), (2, .int p2), (3, .int p3)]) X dX5_sure_50 (Nat.le_of_ble_eq_true rfl) rfl ?_
    refine v_iconst (pc := 52) (v := 0) X dX5_sure_52 rfl ?_
    refine v_istore (pc := 53) (lv' := [(8, .int (0 : Int32)), (7, .int z_4), (6, .int (1 : Int32)), (5, .int (-1 : Int32)), (4, .int z_2), (0, .ref (v_E g 0)), (1, .int p1), (2, .int p2), (3, .int p3)]) X dX5_sure_53 (Nat.le_of_ble_eq_true rfl) rfl ?_
    refine v_sub [5, 6, 7, 8, 3, 2, 1, 0] rfl ?_
    exact w_T_sure_55L fu p1 p2 p3 X  fu (-1 : Int32) (1 : Int32) z_4 (0 : Int32) s_3
  · refine v_iload (pc := 33) X dX5_sure_33 0 rfl ?_
    exact v_iret (pc := 35) X dX5_sure_35 rfl
theorem w_T_sure_22 {Γ : v_Ctx} {l : Launch} {g : v_G} (fu : Nat) (p1 : Int32) (p2 : Int32) (p3 : Int32) (X : v_C Γ l rm_T_sure cX5_sure 9 RX5 (some .int) wT g)  (y0 : Int32) (s : v_S) : v_V Γ 9 wT g (fun z : Int32 × v_S => (some (.int z.1), z.2)) 22 [(0, .ref (v_E g 0)), (1, .int p1), (2, .int p2), (3, .int p3)] [.int y0, .ref (v_E g 0)] s (t_T_sure_22 fu p1 p2 p3 y0 s) := by
  unfold t_T_sure_22
  refine v_iconst (pc := 22) (v := 0) X dX5_sure_22 rfl ?_
  exact w_T_sure_23 fu p1 p2 p3 X  (0 : Int32) y0 s
theorem m_T_sure (l : Launch) (g : v_G) (fu : Nat) (p1 : Int32) (p2 : Int32) (p3 : Int32) (s : v_S) : v_M l yX5_sure cX5_sure 9 (some .int) rm_T_sure wT g [.ref (v_E g 0), .int p1, .int p2, .int p3] s (fun z : Int32 × v_S => (some (.int z.1), z.2)) (t_T_sure fu p1 p2 p3 s) := by
  refine v_met (by decide +kernel) (Nat.le_of_ble_eq_true rfl) (fun Γ X => ?_)
  refine v_lv (lv' := [(0, .ref (v_E g 0)), (1, .int p1), (2, .int p2), (3, .int p3)]) rfl ?_
  unfold t_T_sure
  refine v_aload_n (pc := 0) X dX5_sure_0 0 rfl ?_
  refine v_iload_n (pc := 1) X dX5_sure_1 1 rfl ?_
  refine v_aload_n (pc := 2) X dX5_sure_2 0 rfl ?_
  refine v_iload_n (pc := 3) X dX5_sure_3 2 rfl ?_
  refine v_cGi (pc := 4) X (m_T_isVillage l g fu p2 _) (v_rc_n X wT_o0) (Or.inl q1721) hy_T_isVillage rfl rfl rfl rfl dX5_sure_4 (fun z_1 _ => ?_)
  refine v_if_eq (pc := 7) (tgt := 22) X dX5_sure_7 (by decide) (fun c7 => ?_) (fun c7 => ?_)
  · exact w_T_sure_22 fu p1 p2 p3 X  p1 s
  · refine v_aload_n (pc := 10) X dX5_sure_10 0 rfl ?_
    refine v_iload_n (pc := 11) X dX5_sure_11 3 rfl ?_
    refine v_cGi (pc := 12) X (m_T_isWeek l g fu p3 _) (v_rc_n X wT_o0) (Or.inl q1746) hy_T_isWeek rfl rfl rfl rfl dX5_sure_12 (fun z_10 _ => ?_)
    refine v_if_eq (pc := 15) (tgt := 22) X dX5_sure_15 (by decide) (fun c15 => ?_) (fun c15 => ?_)
    · exact w_T_sure_22 fu p1 p2 p3 X  p1 s
    · refine v_iconst (pc := 18) (v := 1) X dX5_sure_18 rfl ?_
      refine v_goto (pc := 19) (tgt := 23) X dX5_sure_19 (by decide) ?_
      exact w_T_sure_23 fu p1 p2 p3 X  (1 : Int32) p1 s
/-! FloodLentModel.needed(I)I -/
abbrev rm_T_needed : Room := { frames := 7, cells := 0, slots := 0, locals := 157 }
theorem hy_T_needed : v_yV yX5_needed cX5_needed 5 (some .int) 1 := ⟨q1954, q1955, q141, q1956, by decide +kernel⟩
def t_T_needed_23 (fu : Nat) (p1 : Int32) (r23 : Int32 × Int32 × v_S → Option (Int32 × v_S)) (x3 : Int32) (x4 : Int32) (s : v_S) : Option (Int32 × v_S) :=
v_g p1 4 <| if s.1 17 (Int32.toNatClampNeg p1) ≤ (3 : Int32) * x4 then (some ((-1 : Int32), s)) else (v_b2 (t_T_agreeBut fu p1 x4 s) fun (z_4 : Int32) (s_5 : v_S) => if z_4 ≤ x3 then (r23 (x3, x4 + (1 : Int32), s_5)) else (some (x4, s_5)))
def t_T_needed_23B (fu : Nat) (p1 : Int32) (r23 : Int32 × Int32 × v_S → Option (Int32 × v_S)) (a : Int32 × Int32 × v_S) : Option (Int32 × v_S) := t_T_needed_23 fu p1 r23 a.1 a.2.1 a.2.2
def t_T_needed (fu : Nat) (p1 : Int32) (s : v_S) : Option (Int32 × v_S) :=
  v_b1 (t_T_asksMarks fu p1 (1 : Int32) s) fun (z_1 : Int32) => if (0 : Int32) ≤ z_1 then (v_b2 (t_T_agreeBut fu p1 (-1 : Int32) s) fun (z_2 : Int32) (s_3 : v_S) => v_loop (t_T_needed_23B fu p1) fu (z_2, (0 : Int32), s_3)) else (some (z_1, s))
theorem w_T_needed_23 {Γ : v_Ctx} {l : Launch} {g : v_G} (fu : Nat) (p1 : Int32) (X : v_C Γ l rm_T_needed cX5_needed 5 RX5 (some .int) wT g) (r23 : Int32 × Int32 × v_S → Option (Int32 × v_S)) (h23 : ∀ (x3 : Int32) (x4 : Int32) (s : v_S), v_V Γ 5 wT g (fun z : Int32 × v_S => (some (.int z.1), z.2)) 23 [(0, .ref (v_E g 0)), (1, .int p1), (3, .int x3), (4, .int x4)] [] s (r23 (x3, x4, s))) (x3 : Int32) (x4 : Int32) (s : v_S) : v_V Γ 5 wT g (fun z : Int32 × v_S => (some (.int z.1), z.2)) 23 [(0, .ref (v_E g 0)), (1, .int p1), (3, .int x3), (4, .int x4)] [] s (t_T_needed_23 fu p1 r23 x3 x4 s) := by
  unfold t_T_needed_23
  refine v_iconst (pc := 23) (v := 3) X dX5_needed_23 rfl ?_
  refine v_iload (pc := 24) X dX5_needed_24 3 rfl ?_
  refine v_imul (pc := 26) X dX5_needed_26 ?_
  refine v_aload_n (pc := 27) X dX5_needed_27 0 rfl ?_
  refine v_get (pc := 28) (kind := 20) (v := .ref (v_E g 17)) X wT_n0 wT_l0 wT_c0 in_X5 (Nat.le_of_ble_eq_true rfl : 36 < 40) q1507 rfl rfl dX5_needed_28 ?_
  refine v_iload_n (pc := 31) X dX5_needed_31 1 rfl ?_
  refine v_iald (pc := 32) X wT_n17 wT_l17 dX5_needed_32 ?_
  refine v_icmp_ge (pc := 33) (tgt := 56) X dX5_needed_33 (by decide) (fun c33 => ?_) (fun c33 => ?_)
  · refine v_iconst (pc := 56) (v := -1) X dX5_needed_56 rfl ?_
    exact v_iret (pc := 57) X dX5_needed_57 rfl
  · refine v_aload_n (pc := 36) X dX5_needed_36 0 rfl ?_
    refine v_iload_n (pc := 37) X dX5_needed_37 1 rfl ?_
    refine v_iload (pc := 38) X dX5_needed_38 3 rfl ?_
    refine v_cGis (pc := 40) X (m_T_agreeBut l g fu p1 x4 _) (v_rc_n X wT_o0) (Or.inl q1937) hy_T_agreeBut rfl rfl rfl rfl dX5_needed_40 (fun z_4 s_5 _ => ?_)
    refine v_iload_n (pc := 43) X dX5_needed_43 2 rfl ?_
    refine v_icmp_le (pc := 44) (tgt := 50) X dX5_needed_44 (by decide) (fun c44 => ?_) (fun c44 => ?_)
    · refine v_iinc (pc := 50) (v := x4 + (1 : Int32)) (lv' := [(4, .int (x4 + (1 : Int32))), (0, .ref (v_E g 0)), (1, .int p1), (3, .int x3)]) (k := 3) X dX5_needed_50 rfl rfl (Nat.le_of_ble_eq_true rfl) rfl ?_
      refine v_goto (pc := 53) (tgt := 23) X dX5_needed_53 (by decide) ?_
      refine v_sub [1, 2, 3, 0] rfl ?_
      exact h23 x3 (x4 + (1 : Int32)) s_5
    · refine v_iload (pc := 47) X dX5_needed_47 3 rfl ?_
      exact v_iret (pc := 49) X dX5_needed_49 rfl
theorem w_T_needed_23L {Γ : v_Ctx} {l : Launch} {g : v_G} (fu : Nat) (p1 : Int32) (X : v_C Γ l rm_T_needed cX5_needed 5 RX5 (some .int) wT g)  : ∀ (n : Nat), ∀ (x3 : Int32) (x4 : Int32) (s : v_S), v_V Γ 5 wT g (fun z : Int32 × v_S => (some (.int z.1), z.2)) 23 [(0, .ref (v_E g 0)), (1, .int p1), (3, .int x3), (4, .int x4)] [] s (v_loop (t_T_needed_23B fu p1) n (x3, x4, s)) := by
  intro n
  induction n with
  | zero => exact fun _ _ _ => v_none
  | succ n ih => exact fun x3 x4 s => w_T_needed_23 fu p1 X  _ ih x3 x4 s
theorem m_T_needed (l : Launch) (g : v_G) (fu : Nat) (p1 : Int32) (s : v_S) : v_M l yX5_needed cX5_needed 5 (some .int) rm_T_needed wT g [.ref (v_E g 0), .int p1] s (fun z : Int32 × v_S => (some (.int z.1), z.2)) (t_T_needed fu p1 s) := by
  refine v_met (by decide +kernel) (Nat.le_of_ble_eq_true rfl) (fun Γ X => ?_)
  refine v_lv (lv' := [(0, .ref (v_E g 0)), (1, .int p1)]) rfl ?_
  unfold t_T_needed
  refine v_aload_n (pc := 0) X dX5_needed_0 0 rfl ?_
  refine v_iload_n (pc := 1) X dX5_needed_1 1 rfl ?_
  refine v_iconst (pc := 2) (v := 1) X dX5_needed_2 rfl ?_
  refine v_cGi (pc := 3) X (m_T_asksMarks l g fu p1 (1 : Int32) _) (v_rc_n X wT_o0) (Or.inl q1930) hy_T_asksMarks rfl rfl rfl rfl dX5_needed_3 (fun z_1 _ => ?_)
  refine v_istore_n (pc := 6) (lv' := [(2, .int z_1), (0, .ref (v_E g 0)), (1, .int p1)]) X dX5_needed_6 rfl (Nat.le_of_ble_eq_true rfl) rfl ?_
  refine v_iload_n (pc := 7) X dX5_needed_7 0 rfl ?_
  refine v_if_ge (pc := 8) (tgt := 13) X dX5_needed_8 (by decide) (fun c8 => ?_) (fun c8 => ?_)
  · refine v_aload_n (pc := 13) X dX5_needed_13 1 rfl ?_
    refine v_iload_n (pc := 14) X dX5_needed_14 2 rfl ?_
    refine v_iconst (pc := 15) (v := -1) X dX5_needed_15 rfl ?_
    refine v_cGis (pc := 16) X (m_T_agreeBut l g fu p1 (-1 : Int32) _) (v_rc_n X wT_o0) (Or.inl q1937) hy_T_agreeBut rfl rfl rfl rfl dX5_needed_16 (fun z_2 s_3 _ => ?_)
    refine v_istore_n (pc := 19) (lv' := [(3, .int z_2), (2, .int z_1), (0, .ref (v_E g 0)), (1, .int p1)]) X dX5_needed_19 rfl (Nat.le_of_ble_eq_true rfl) rfl ?_
    refine v_iconst (pc := 20) (v := 0) X dX5_needed_20 rfl ?_
    refine v_istore (pc := 21) (lv' := [(4, .int (0 : Int32)), (3, .int z_2), (2, .int z_1), (0, .ref (v_E g 0)), (1, .int p1)]) X dX5_needed_21 (Nat.le_of_ble_eq_true rfl) rfl ?_
    refine v_sub [3, 4, 1, 0] rfl ?_
    exact w_T_needed_23L fu p1 X  fu z_2 (0 : Int32) s_3
  · refine v_iload_n (pc := 11) X dX5_needed_11 0 rfl ?_
    exact v_iret (pc := 12) X dX5_needed_12 rfl
/-! FloodLentModel.haveOf(I)I -/
abbrev rm_T_haveOf : Room := { frames := 2, cells := 0, slots := 0, locals := 43 }
theorem hy_T_haveOf : v_yV yX5_haveOf cX5_haveOf 4 (some .int) 1 := ⟨q1963, qs115, q141, q1964, by decide +kernel⟩
def t_T_haveOf_9 (fu : Nat) (p1 : Int32) (s : v_S) (r9 : Int32 × Int32 → Option Int32) (x2 : Int32) (x3 : Int32) : Option Int32 :=
if s.1 1 1 ≤ x3 then (some x2) else (v_b1 (t_T_ofCrop fu x3 (0 : Int32) s) fun (z_2 : Int32) => if z_2 = p1 then (v_g (((3 : Int32) * x3) + (0 : Int32)) 24 <| v_n (x2 + (s.1 11 (Int32.toNatClampNeg (((3 : Int32) * x3) + (0 : Int32))))) fun (x2_4 : Int32) => r9 (x2_4, x3 + (1 : Int32))) else (v_n (x2 + (0 : Int32)) fun (x2_3 : Int32) => r9 (x2_3, x3 + (1 : Int32))))
def t_T_haveOf_9B (fu : Nat) (p1 : Int32) (s : v_S) (r9 : Int32 × Int32 → Option Int32) (a : Int32 × Int32) : Option Int32 := t_T_haveOf_9 fu p1 s r9 a.1 a.2
def t_T_haveOf (fu : Nat) (p1 : Int32) (s : v_S) : Option Int32 :=
  v_g p1 6 <| v_n (s.1 7 (Int32.toNatClampNeg p1)) fun (x2_1 : Int32) => v_loop (t_T_haveOf_9B fu p1 s) fu (x2_1, (0 : Int32))
theorem w_T_haveOf_9 {Γ : v_Ctx} {l : Launch} {g : v_G} (fu : Nat) (p1 : Int32) (s : v_S) (X : v_C Γ l rm_T_haveOf cX5_haveOf 4 RX5 (some .int) wT g) (r9 : Int32 × Int32 → Option Int32) (h9 : ∀ (x2 : Int32) (x3 : Int32), v_V Γ 4 wT g (fun z : Int32 => (some (.int z), s)) 9 [(0, .ref (v_E g 0)), (1, .int p1), (2, .int x2), (3, .int x3)] [] s (r9 (x2, x3))) (x2 : Int32) (x3 : Int32) : v_V Γ 4 wT g (fun z : Int32 => (some (.int z), s)) 9 [(0, .ref (v_E g 0)), (1, .int p1), (2, .int x2), (3, .int x3)] [] s (t_T_haveOf_9 fu p1 s r9 x2 x3) := by
  unfold t_T_haveOf_9
  refine v_iload_n (pc := 9) X dX5_haveOf_9 3 rfl ?_
  refine v_aload_n (pc := 10) X dX5_haveOf_10 0 rfl ?_
  refine v_get (pc := 11) (kind := 4) (v := .ref (v_E g 1)) X wT_n0 wT_l0 wT_c0 in_X5 (Nat.le_of_ble_eq_true rfl : 1 < 40) q1472 rfl rfl dX5_haveOf_11 ?_
  refine v_iconst (pc := 14) (v := 1) X dX5_haveOf_14 rfl ?_
  refine v_ialdC (pc := 15) (k := 1) X wT_n1 wT_l1 rfl dX5_haveOf_15 ?_
  refine v_icmp_ge (pc := 16) (tgt := 52) X dX5_haveOf_16 (by decide) (fun c16 => ?_) (fun c16 => ?_)
  · refine v_iload_n (pc := 52) X dX5_haveOf_52 2 rfl ?_
    exact v_iret (pc := 53) X dX5_haveOf_53 rfl
  · refine v_iload_n (pc := 19) X dX5_haveOf_19 2 rfl ?_
    refine v_aload_n (pc := 20) X dX5_haveOf_20 0 rfl ?_
    refine v_iload_n (pc := 21) X dX5_haveOf_21 3 rfl ?_
    refine v_iconst (pc := 22) (v := 0) X dX5_haveOf_22 rfl ?_
    refine v_cGi (pc := 23) X (m_T_ofCrop l g fu x3 (0 : Int32) _) (v_rc_n X wT_o0) (Or.inl q1798) hy_T_ofCrop rfl rfl rfl rfl dX5_haveOf_23 (fun z_2 _ => ?_)
    refine v_iload_n (pc := 26) X dX5_haveOf_26 1 rfl ?_
    refine v_icmp_ne (pc := 27) (tgt := 43) X dX5_haveOf_27 (by decide) (fun c27 => ?_) (fun c27 => ?_)
    · refine v_iconst (pc := 43) (v := 0) X dX5_haveOf_43 rfl ?_
      refine v_iadd (pc := 44) X dX5_haveOf_44 ?_
      refine v_istore_nN (pc := 45) (lvf := fun x2_3 => [(2, .int x2_3), (0, .ref (v_E g 0)), (1, .int p1), (3, .int x3)]) X dX5_haveOf_45 rfl (Nat.le_of_ble_eq_true rfl) (fun _ => rfl) (fun x2_3 => ?_)
      refine v_iinc (pc := 46) (v := x3 + (1 : Int32)) (lv' := [(3, .int (x3 + (1 : Int32))), (2, .int x2_3), (0, .ref (v_E g 0)), (1, .int p1)]) (k := 3) X dX5_haveOf_46 rfl rfl (Nat.le_of_ble_eq_true rfl) rfl ?_
      refine v_goto (pc := 49) (tgt := 9) X dX5_haveOf_49 (by decide) ?_
      refine v_sub [2, 3, 1, 0] rfl ?_
      exact h9 x2_3 (x3 + (1 : Int32))
    · refine v_aload_n (pc := 30) X dX5_haveOf_30 0 rfl ?_
      refine v_get (pc := 31) (kind := 14) (v := .ref (v_E g 11)) X wT_n0 wT_l0 wT_c0 in_X5 (Nat.le_of_ble_eq_true rfl : 19 < 40) q1490 rfl rfl dX5_haveOf_31 ?_
      refine v_iconst (pc := 34) (v := 3) X dX5_haveOf_34 rfl ?_
      refine v_iload_n (pc := 35) X dX5_haveOf_35 3 rfl ?_
      refine v_imul (pc := 36) X dX5_haveOf_36 ?_
      refine v_iconst (pc := 37) (v := 0) X dX5_haveOf_37 rfl ?_
      refine v_iadd (pc := 38) X dX5_haveOf_38 ?_
      refine v_iald (pc := 39) X wT_n11 wT_l11 dX5_haveOf_39 ?_
      refine v_goto (pc := 40) (tgt := 44) X dX5_haveOf_40 (by decide) ?_
      refine v_iadd (pc := 44) X dX5_haveOf_44 ?_
      refine v_istore_nN (pc := 45) (lvf := fun x2_4 => [(2, .int x2_4), (0, .ref (v_E g 0)), (1, .int p1), (3, .int x3)]) X dX5_haveOf_45 rfl (Nat.le_of_ble_eq_true rfl) (fun _ => rfl) (fun x2_4 => ?_)
      refine v_iinc (pc := 46) (v := x3 + (1 : Int32)) (lv' := [(3, .int (x3 + (1 : Int32))), (2, .int x2_4), (0, .ref (v_E g 0)), (1, .int p1)]) (k := 3) X dX5_haveOf_46 rfl rfl (Nat.le_of_ble_eq_true rfl) rfl ?_
      refine v_goto (pc := 49) (tgt := 9) X dX5_haveOf_49 (by decide) ?_
      refine v_sub [2, 3, 1, 0] rfl ?_
      exact h9 x2_4 (x3 + (1 : Int32))
theorem w_T_haveOf_9L {Γ : v_Ctx} {l : Launch} {g : v_G} (fu : Nat) (p1 : Int32) (s : v_S) (X : v_C Γ l rm_T_haveOf cX5_haveOf 4 RX5 (some .int) wT g)  : ∀ (n : Nat), ∀ (x2 : Int32) (x3 : Int32), v_V Γ 4 wT g (fun z : Int32 => (some (.int z), s)) 9 [(0, .ref (v_E g 0)), (1, .int p1), (2, .int x2), (3, .int x3)] [] s (v_loop (t_T_haveOf_9B fu p1 s) n (x2, x3)) := by
  intro n
  induction n with
  | zero => exact fun _ _ => v_none
  | succ n ih => exact fun x2 x3 => w_T_haveOf_9 fu p1 s X  _ ih x2 x3
theorem m_T_haveOf (l : Launch) (g : v_G) (fu : Nat) (p1 : Int32) (s : v_S) : v_M l yX5_haveOf cX5_haveOf 4 (some .int) rm_T_haveOf wT g [.ref (v_E g 0), .int p1] s (fun z : Int32 => (some (.int z), s)) (t_T_haveOf fu p1 s) := by
  refine v_met (by decide +kernel) (Nat.le_of_ble_eq_true rfl) (fun Γ X => ?_)
  refine v_lv (lv' := [(0, .ref (v_E g 0)), (1, .int p1)]) rfl ?_
  unfold t_T_haveOf
  refine v_aload_n (pc := 0) X dX5_haveOf_0 0 rfl ?_
  refine v_get (pc := 1) (kind := 10) (v := .ref (v_E g 7)) X wT_n0 wT_l0 wT_c0 in_X5 (Nat.le_of_ble_eq_true rfl : 15 < 40) q1486 rfl rfl dX5_haveOf_1 ?_
  refine v_iload_n (pc := 4) X dX5_haveOf_4 1 rfl ?_
  refine v_iald (pc := 5) X wT_n7 wT_l7 dX5_haveOf_5 ?_
  refine v_istore_nN (pc := 6) (lvf := fun x2_1 => [(2, .int x2_1), (0, .ref (v_E g 0)), (1, .int p1)]) X dX5_haveOf_6 rfl (Nat.le_of_ble_eq_true rfl) (fun _ => rfl) (fun x2_1 => ?_)
  refine v_iconst (pc := 7) (v := 0) X dX5_haveOf_7 rfl ?_
  refine v_istore_n (pc := 8) (lv' := [(3, .int (0 : Int32)), (2, .int x2_1), (0, .ref (v_E g 0)), (1, .int p1)]) X dX5_haveOf_8 rfl (Nat.le_of_ble_eq_true rfl) rfl ?_
  refine v_sub [2, 3, 1, 0] rfl ?_
  exact w_T_haveOf_9L fu p1 s X  fu x2_1 (0 : Int32)
/-! FloodLentModel.fair(I)I -/
abbrev rm_T_fair : Room := { frames := 6, cells := 0, slots := 0, locals := 132 }
theorem hy_T_fair : v_yV yX5_fair cX5_fair 6 (some .int) 1 := ⟨q1958, q1959, q141, q1960, by decide +kernel⟩
def t_T_fair_93 (fu : Nat) (p1 : Int32) (x2 : Int32) (x3 : Int32) (s : v_S) : Option (Int32 × v_S) :=
v_n (v_uI s 1 6 x2) fun (s_3 : v_S) => some (x3, s_3)
def t_T_fair_24 (fu : Nat) (p1 : Int32) (r24 : Int32 × Int32 × Int32 × v_S → Option (Int32 × v_S)) (x2 : Int32) (x3 : Int32) (x4 : Int32) (s : v_S) : Option (Int32 × v_S) :=
if (100 : Int32) < x4 then (t_T_fair_93 fu p1 x2 x3 s) else (if x3 = (-1 : Int32) then (v_n (v_uI s 1 6 x4) fun (s_4 : v_S) => v_b1 (t_T_year fu s_4) fun (s_5 : v_S) => v_b1 (t_T_haveOf fu p1 s_5) fun (z_6 : Int32) => v_n (v_uI s_5 0 25 p1) fun (s_7 : v_S) => v_b1 (t_T_year fu s_7) fun (s_8 : v_S) => v_n (v_uI s_8 0 25 (-1 : Int32)) fun (s_9 : v_S) => v_b1 (t_T_haveOf fu p1 s_9) fun (z_10 : Int32) => if z_6 < z_10 then (r24 (x2, (-1 : Int32), x4 + (1 : Int32), s_9)) else (r24 (x2, x4, x4 + (1 : Int32), s_9))) else (t_T_fair_93 fu p1 x2 x3 s))
def t_T_fair_24B (fu : Nat) (p1 : Int32) (r24 : Int32 × Int32 × Int32 × v_S → Option (Int32 × v_S)) (a : Int32 × Int32 × Int32 × v_S) : Option (Int32 × v_S) := t_T_fair_24 fu p1 r24 a.1 a.2.1 a.2.2.1 a.2.2.2
def t_T_fair (fu : Nat) (p1 : Int32) (s : v_S) : Option (Int32 × v_S) :=
  v_b1 (t_T_isVillage fu p1 s) fun (z_1 : Int32) => if z_1 = 0 then (some ((-2 : Int32), s)) else (v_n (s.1 1 6) fun (x2_2 : Int32) => v_loop (t_T_fair_24B fu p1) fu (x2_2, (-1 : Int32), (0 : Int32), s))
theorem w_T_fair_93 {Γ : v_Ctx} {l : Launch} {g : v_G} (fu : Nat) (p1 : Int32) (X : v_C Γ l rm_T_fair cX5_fair 6 RX5 (some .int) wT g)  (x2 : Int32) (x3 : Int32) (s : v_S) : v_V Γ 6 wT g (fun z : Int32 × v_S => (some (.int z.1), z.2)) 93 [(0, .ref (v_E g 0)), (2, .int x2), (3, .int x3)] [] s (t_T_fair_93 fu p1 x2 x3 s) := by
  unfold t_T_fair_93
  refine v_aload_n (pc := 93) X dX5_fair_93 0 rfl ?_
  refine v_get (pc := 94) (kind := 4) (v := .ref (v_E g 1)) X wT_n0 wT_l0 wT_c0 in_X5 (Nat.le_of_ble_eq_true rfl : 1 < 40) q1472 rfl rfl dX5_fair_94 ?_
  refine v_bipush (pc := 97) (v := 6) X dX5_fair_97 rfl ?_
  refine v_iload_n (pc := 99) X dX5_fair_99 1 rfl ?_
  refine v_iastC (pc := 100) (k := 6) X wT_n1 wT_l1 rfl dX5_fair_100 (fun s_3 => ?_)
  refine v_iload_n (pc := 101) X dX5_fair_101 2 rfl ?_
  exact v_iret (pc := 102) X dX5_fair_102 rfl
theorem w_T_fair_24 {Γ : v_Ctx} {l : Launch} {g : v_G} (fu : Nat) (p1 : Int32) (X : v_C Γ l rm_T_fair cX5_fair 6 RX5 (some .int) wT g) (r24 : Int32 × Int32 × Int32 × v_S → Option (Int32 × v_S)) (h24 : ∀ (x2 : Int32) (x3 : Int32) (x4 : Int32) (s : v_S), v_V Γ 6 wT g (fun z : Int32 × v_S => (some (.int z.1), z.2)) 24 [(0, .ref (v_E g 0)), (1, .int p1), (2, .int x2), (3, .int x3), (4, .int x4)] [] s (r24 (x2, x3, x4, s))) (x2 : Int32) (x3 : Int32) (x4 : Int32) (s : v_S) : v_V Γ 6 wT g (fun z : Int32 × v_S => (some (.int z.1), z.2)) 24 [(0, .ref (v_E g 0)), (1, .int p1), (2, .int x2), (3, .int x3), (4, .int x4)] [] s (t_T_fair_24 fu p1 r24 x2 x3 x4 s) := by
  unfold t_T_fair_24
  refine v_iload (pc := 24) X dX5_fair_24 4 rfl ?_
  refine v_bipush (pc := 26) (v := 100) X dX5_fair_26 rfl ?_
  refine v_icmp_gt (pc := 28) (tgt := 93) X dX5_fair_28 (by decide) (fun c28 => ?_) (fun c28 => ?_)
  · refine v_sub [0, 2, 3] rfl ?_
    exact w_T_fair_93 fu p1 X  x2 x3 s
  · refine v_iload_n (pc := 31) X dX5_fair_31 3 rfl ?_
    refine v_iconst (pc := 32) (v := -1) X dX5_fair_32 rfl ?_
    refine v_icmp_ne (pc := 33) (tgt := 93) X dX5_fair_33 (by decide) (fun c33 => ?_) (fun c33 => ?_)
    · refine v_sub [0, 2, 3] rfl ?_
      exact w_T_fair_93 fu p1 X  x2 x3 s
    · refine v_aload_n (pc := 36) X dX5_fair_36 0 rfl ?_
      refine v_get (pc := 37) (kind := 4) (v := .ref (v_E g 1)) X wT_n0 wT_l0 wT_c0 in_X5 (Nat.le_of_ble_eq_true rfl : 1 < 40) q1472 rfl rfl dX5_fair_37 ?_
      refine v_bipush (pc := 40) (v := 6) X dX5_fair_40 rfl ?_
      refine v_iload (pc := 42) X dX5_fair_42 4 rfl ?_
      refine v_iastC (pc := 44) (k := 6) X wT_n1 wT_l1 rfl dX5_fair_44 (fun s_4 => ?_)
      refine v_aload_n (pc := 45) X dX5_fair_45 0 rfl ?_
      refine v_cGs (pc := 46) X (m_T_year l g fu _) (v_rc_n X wT_o0) (Or.inl q1750) hy_T_year rfl rfl rfl rfl dX5_fair_46 (fun s_5 _ => ?_)
      refine v_aload_n (pc := 49) X dX5_fair_49 0 rfl ?_
      refine v_iload_n (pc := 50) X dX5_fair_50 1 rfl ?_
      refine v_cGi (pc := 51) X (m_T_haveOf l g fu p1 _) (v_rc_n X wT_o0) (Or.inl q1961) hy_T_haveOf rfl rfl rfl rfl dX5_fair_51 (fun z_6 _ => ?_)
      refine v_istore (pc := 54) (lv' := [(5, .int z_6), (0, .ref (v_E g 0)), (1, .int p1), (2, .int x2), (3, .int x3), (4, .int x4)]) X dX5_fair_54 (Nat.le_of_ble_eq_true rfl) rfl ?_
      refine v_aload_n (pc := 56) X dX5_fair_56 1 rfl ?_
      refine v_iload_n (pc := 57) X dX5_fair_57 2 rfl ?_
      refine v_putI (pc := 58) X wT_n0 wT_l0 wT_c0 in_X5 tyX5 tyX5_ok nmX5 (Nat.le_of_ble_eq_true rfl : 25 < 40) q1496 rfl rfl rfl dX5_fair_58 (fun s_7 => ?_)
      refine v_aload_n (pc := 61) X dX5_fair_61 1 rfl ?_
      refine v_cGs (pc := 62) X (m_T_year l g fu _) (v_rc_n X wT_o0) (Or.inl q1750) hy_T_year rfl rfl rfl rfl dX5_fair_62 (fun s_8 _ => ?_)
      refine v_aload_n (pc := 65) X dX5_fair_65 1 rfl ?_
      refine v_iconst (pc := 66) (v := -1) X dX5_fair_66 rfl ?_
      refine v_putI (pc := 67) X wT_n0 wT_l0 wT_c0 in_X5 tyX5 tyX5_ok nmX5 (Nat.le_of_ble_eq_true rfl : 25 < 40) q1496 rfl rfl rfl dX5_fair_67 (fun s_9 => ?_)
      refine v_iload (pc := 70) X dX5_fair_70 0 rfl ?_
      refine v_aload_n (pc := 72) X dX5_fair_72 1 rfl ?_
      refine v_iload_n (pc := 73) X dX5_fair_73 2 rfl ?_
      refine v_cGi (pc := 74) X (m_T_haveOf l g fu p1 _) (v_rc_n X wT_o0) (Or.inl q1961) hy_T_haveOf rfl rfl rfl rfl dX5_fair_74 (fun z_10 _ => ?_)
      refine v_icmp_lt (pc := 77) (tgt := 85) X dX5_fair_77 (by decide) (fun c77 => ?_) (fun c77 => ?_)
      · refine v_iconst (pc := 85) (v := -1) X dX5_fair_85 rfl ?_
        refine v_istore_n (pc := 86) (lv' := [(3, .int (-1 : Int32)), (5, .int z_6), (0, .ref (v_E g 0)), (1, .int p1), (2, .int x2), (4, .int x4)]) X dX5_fair_86 rfl (Nat.le_of_ble_eq_true rfl) rfl ?_
        refine v_iinc (pc := 87) (v := x4 + (1 : Int32)) (lv' := [(4, .int (x4 + (1 : Int32))), (3, .int (-1 : Int32)), (5, .int z_6), (0, .ref (v_E g 0)), (1, .int p1), (2, .int x2)]) (k := 5) X dX5_fair_87 rfl rfl (Nat.le_of_ble_eq_true rfl) rfl ?_
        refine v_goto (pc := 90) (tgt := 24) X dX5_fair_90 (by decide) ?_
        refine v_sub [3, 4, 5, 1, 0] rfl ?_
        exact h24 x2 (-1 : Int32) (x4 + (1 : Int32)) s_9
      · refine v_iload (pc := 80) X dX5_fair_80 5 rfl ?_
        refine v_goto (pc := 82) (tgt := 86) X dX5_fair_82 (by decide) ?_
        refine v_istore_n (pc := 86) (lv' := [(3, .int x4), (5, .int z_6), (0, .ref (v_E g 0)), (1, .int p1), (2, .int x2), (4, .int x4)]) X dX5_fair_86 rfl (Nat.le_of_ble_eq_true rfl) rfl ?_
        refine v_iinc (pc := 87) (v := x4 + (1 : Int32)) (lv' := [(4, .int (x4 + (1 : Int32))), (3, .int x4), (5, .int z_6), (0, .ref (v_E g 0)), (1, .int p1), (2, .int x2)]) (k := 5) X dX5_fair_87 rfl rfl (Nat.le_of_ble_eq_true rfl) rfl ?_
        refine v_goto (pc := 90) (tgt := 24) X dX5_fair_90 (by decide) ?_
        refine v_sub [3, 4, 5, 1, 0] rfl ?_
        exact h24 x2 x4 (x4 + (1 : Int32)) s_9
theorem w_T_fair_24L {Γ : v_Ctx} {l : Launch} {g : v_G} (fu : Nat) (p1 : Int32) (X : v_C Γ l rm_T_fair cX5_fair 6 RX5 (some .int) wT g)  : ∀ (n : Nat), ∀ (x2 : Int32) (x3 : Int32) (x4 : Int32) (s : v_S), v_V Γ 6 wT g (fun z : Int32 × v_S => (some (.int z.1), z.2)) 24 [(0, .ref (v_E g 0)), (1, .int p1), (2, .int x2), (3, .int x3), (4, .int x4)] [] s (v_loop (t_T_fair_24B fu p1) n (x2, x3, x4, s)) := by
  intro n
  induction n with
  | zero => exact fun _ _ _ _ => v_none
  | succ n ih => exact fun x2 x3 x4 s => w_T_fair_24 fu p1 X  _ ih x2 x3 x4 s
theorem m_T_fair (l : Launch) (g : v_G) (fu : Nat) (p1 : Int32) (s : v_S) : v_M l yX5_fair cX5_fair 6 (some .int) rm_T_fair wT g [.ref (v_E g 0), .int p1] s (fun z : Int32 × v_S => (some (.int z.1), z.2)) (t_T_fair fu p1 s) := by
  refine v_met (by decide +kernel) (Nat.le_of_ble_eq_true rfl) (fun Γ X => ?_)
  refine v_lv (lv' := [(0, .ref (v_E g 0)), (1, .int p1)]) rfl ?_
  unfold t_T_fair
  refine v_aload_n (pc := 0) X dX5_fair_0 0 rfl ?_
  refine v_iload_n (pc := 1) X dX5_fair_1 1 rfl ?_
  refine v_cGi (pc := 2) X (m_T_isVillage l g fu p1 _) (v_rc_n X wT_o0) (Or.inl q1721) hy_T_isVillage rfl rfl rfl rfl dX5_fair_2 (fun z_1 _ => ?_)
  refine v_if_ne (pc := 5) (tgt := 11) X dX5_fair_5 (by decide) (fun c5 => ?_) (fun c5 => ?_)
  · refine v_aload_n (pc := 11) X dX5_fair_11 0 rfl ?_
    refine v_get (pc := 12) (kind := 4) (v := .ref (v_E g 1)) X wT_n0 wT_l0 wT_c0 in_X5 (Nat.le_of_ble_eq_true rfl : 1 < 40) q1472 rfl rfl dX5_fair_12 ?_
    refine v_bipush (pc := 15) (v := 6) X dX5_fair_15 rfl ?_
    refine v_ialdC (pc := 17) (k := 6) X wT_n1 wT_l1 rfl dX5_fair_17 ?_
    refine v_istore_nN (pc := 18) (lvf := fun x2_2 => [(2, .int x2_2), (0, .ref (v_E g 0)), (1, .int p1)]) X dX5_fair_18 rfl (Nat.le_of_ble_eq_true rfl) (fun _ => rfl) (fun x2_2 => ?_)
    refine v_iconst (pc := 19) (v := -1) X dX5_fair_19 rfl ?_
    refine v_istore_n (pc := 20) (lv' := [(3, .int (-1 : Int32)), (2, .int x2_2), (0, .ref (v_E g 0)), (1, .int p1)]) X dX5_fair_20 rfl (Nat.le_of_ble_eq_true rfl) rfl ?_
    refine v_iconst (pc := 21) (v := 0) X dX5_fair_21 rfl ?_
    refine v_istore (pc := 22) (lv' := [(4, .int (0 : Int32)), (3, .int (-1 : Int32)), (2, .int x2_2), (0, .ref (v_E g 0)), (1, .int p1)]) X dX5_fair_22 (Nat.le_of_ble_eq_true rfl) rfl ?_
    refine v_sub [3, 4, 2, 1, 0] rfl ?_
    exact w_T_fair_24L fu p1 X  fu x2_2 (-1 : Int32) (0 : Int32) s
  · refine v_bipush (pc := 8) (v := -2) X dX5_fair_8 rfl ?_
    exact v_iret (pc := 10) X dX5_fair_10 rfl
/-! FloodLentModel.more(I)I -/
abbrev rm_T_more : Room := { frames := 2, cells := 0, slots := 0, locals := 46 }
theorem hy_T_more : v_yV yX5_more cX5_more 3 (some .int) 1 := ⟨q1966, q1967, q141, q1968, by decide +kernel⟩
def t_T_more (fu : Nat) (p1 : Int32) (s : v_S) : Option (Int32 × v_S) :=
  v_b1 (t_T_isPlain fu s) fun (z_1 : Int32) => if z_1 = 0 then (some ((-2 : Int32), s)) else (v_b1 (t_T_in fu (Int32.toInt64 p1) (0 : Int64) (100 : Int64) s) fun (z_2 : Int32) => if z_2 = 0 then (some ((-2 : Int32), s)) else (v_n (s.1 1 6) fun (x2_3 : Int32) => v_n (v_uI s 1 6 p1) fun (s_4 : v_S) => some (x2_3, s_4)))
theorem m_T_more (l : Launch) (g : v_G) (fu : Nat) (p1 : Int32) (s : v_S) : v_M l yX5_more cX5_more 3 (some .int) rm_T_more wT g [.ref (v_E g 0), .int p1] s (fun z : Int32 × v_S => (some (.int z.1), z.2)) (t_T_more fu p1 s) := by
  refine v_met (by decide +kernel) (Nat.le_of_ble_eq_true rfl) (fun Γ X => ?_)
  refine v_lv (lv' := [(0, .ref (v_E g 0)), (1, .int p1)]) rfl ?_
  unfold t_T_more
  refine v_aload_n (pc := 0) X dX5_more_0 0 rfl ?_
  refine v_cGi (pc := 1) X (m_T_isPlain l g fu _) (v_rc_n X wT_o0) (Or.inl q1831) hy_T_isPlain rfl rfl rfl rfl dX5_more_1 (fun z_1 _ => ?_)
  refine v_if_eq (pc := 4) (tgt := 19) X dX5_more_4 (by decide) (fun c4 => ?_) (fun c4 => ?_)
  · refine v_bipush (pc := 19) (v := -2) X dX5_more_19 rfl ?_
    exact v_iret (pc := 21) X dX5_more_21 rfl
  · refine v_iload_n (pc := 7) X dX5_more_7 1 rfl ?_
    refine v_i2l (pc := 8) X dX5_more_8 ?_
    refine v_lconst (pc := 9) (v := 0) X dX5_more_9 rfl ?_
    refine v_ldc2 (pc := 10) X q1908 dX5_more_10 ?_
    refine v_cSi (pc := 13) X (m_T_in l g fu (Int32.toInt64 p1) (0 : Int64) (100 : Int64) _) q1598 hy_T_in rfl rfl rfl rfl dX5_more_13 (fun z_2 _ => ?_)
    refine v_if_ne (pc := 16) (tgt := 22) X dX5_more_16 (by decide) (fun c16 => ?_) (fun c16 => ?_)
    · refine v_aload_n (pc := 22) X dX5_more_22 0 rfl ?_
      refine v_get (pc := 23) (kind := 4) (v := .ref (v_E g 1)) X wT_n0 wT_l0 wT_c0 in_X5 (Nat.le_of_ble_eq_true rfl : 1 < 40) q1472 rfl rfl dX5_more_23 ?_
      refine v_bipush (pc := 26) (v := 6) X dX5_more_26 rfl ?_
      refine v_ialdC (pc := 28) (k := 6) X wT_n1 wT_l1 rfl dX5_more_28 ?_
      refine v_istore_nN (pc := 29) (lvf := fun x2_3 => [(2, .int x2_3), (0, .ref (v_E g 0)), (1, .int p1)]) X dX5_more_29 rfl (Nat.le_of_ble_eq_true rfl) (fun _ => rfl) (fun x2_3 => ?_)
      refine v_aload_n (pc := 30) X dX5_more_30 1 rfl ?_
      refine v_get (pc := 31) (kind := 4) (v := .ref (v_E g 1)) X wT_n0 wT_l0 wT_c0 in_X5 (Nat.le_of_ble_eq_true rfl : 1 < 40) q1472 rfl rfl dX5_more_31 ?_
      refine v_bipush (pc := 34) (v := 6) X dX5_more_34 rfl ?_
      refine v_iload_n (pc := 36) X dX5_more_36 2 rfl ?_
      refine v_iastC (pc := 37) (k := 6) X wT_n1 wT_l1 rfl dX5_more_37 (fun s_4 => ?_)
      refine v_iload_n (pc := 38) X dX5_more_38 0 rfl ?_
      exact v_iret (pc := 39) X dX5_more_39 rfl
    · refine v_bipush (pc := 19) (v := -2) X dX5_more_19 rfl ?_
      exact v_iret (pc := 21) X dX5_more_21 rfl
/-! FloodLentModel.areTwo(II)Z -/
abbrev rm_T_areTwo : Room := { frames := 3, cells := 0, slots := 0, locals := 67 }
theorem hy_T_areTwo : v_yV yX5_areTwo cX5_areTwo 3 (some .boolean) 2 := ⟨q1975, qs116, q141, q1976, by decide +kernel⟩
def t_T_areTwo (fu : Nat) (p1 : Int32) (p2 : Int32) (s : v_S) : Option Int32 :=
  v_b1 (t_T_isVillage fu p1 s) fun (z_1 : Int32) => if z_1 = 0 then (some (0 : Int32)) else (v_b1 (t_T_isVillage fu p2 s) fun (z_2 : Int32) => if z_2 = 0 then (some (0 : Int32)) else (if p1 = p2 then (some (0 : Int32)) else (some (1 : Int32))))
theorem m_T_areTwo (l : Launch) (g : v_G) (fu : Nat) (p1 : Int32) (p2 : Int32) (s : v_S) : v_M l yX5_areTwo cX5_areTwo 3 (some .boolean) rm_T_areTwo wT g [.ref (v_E g 0), .int p1, .int p2] s (fun z : Int32 => (some (.int z), s)) (t_T_areTwo fu p1 p2 s) := by
  refine v_met (by decide +kernel) (Nat.le_of_ble_eq_true rfl) (fun Γ X => ?_)
  refine v_lv (lv' := [(0, .ref (v_E g 0)), (1, .int p1), (2, .int p2)]) rfl ?_
  unfold t_T_areTwo
  refine v_aload_n (pc := 0) X dX5_areTwo_0 0 rfl ?_
  refine v_iload_n (pc := 1) X dX5_areTwo_1 1 rfl ?_
  refine v_cGi (pc := 2) X (m_T_isVillage l g fu p1 _) (v_rc_n X wT_o0) (Or.inl q1721) hy_T_isVillage rfl rfl rfl rfl dX5_areTwo_2 (fun z_1 _ => ?_)
  refine v_if_eq (pc := 5) (tgt := 25) X dX5_areTwo_5 (by decide) (fun c5 => ?_) (fun c5 => ?_)
  · refine v_iconst (pc := 25) (v := 0) X dX5_areTwo_25 rfl ?_
    exact v_zret (pc := 26) X dX5_areTwo_26 rfl rfl
  · refine v_aload_n (pc := 8) X dX5_areTwo_8 0 rfl ?_
    refine v_iload_n (pc := 9) X dX5_areTwo_9 2 rfl ?_
    refine v_cGi (pc := 10) X (m_T_isVillage l g fu p2 _) (v_rc_n X wT_o0) (Or.inl q1721) hy_T_isVillage rfl rfl rfl rfl dX5_areTwo_10 (fun z_2 _ => ?_)
    refine v_if_eq (pc := 13) (tgt := 25) X dX5_areTwo_13 (by decide) (fun c13 => ?_) (fun c13 => ?_)
    · refine v_iconst (pc := 25) (v := 0) X dX5_areTwo_25 rfl ?_
      exact v_zret (pc := 26) X dX5_areTwo_26 rfl rfl
    · refine v_iload_n (pc := 16) X dX5_areTwo_16 1 rfl ?_
      refine v_iload_n (pc := 17) X dX5_areTwo_17 2 rfl ?_
      refine v_icmp_eq (pc := 18) (tgt := 25) X dX5_areTwo_18 (by decide) (fun c18 => ?_) (fun c18 => ?_)
      · refine v_iconst (pc := 25) (v := 0) X dX5_areTwo_25 rfl ?_
        exact v_zret (pc := 26) X dX5_areTwo_26 rfl rfl
      · refine v_iconst (pc := 21) (v := 1) X dX5_areTwo_21 rfl ?_
        refine v_goto (pc := 22) (tgt := 26) X dX5_areTwo_22 (by decide) ?_
        exact v_zret (pc := 26) X dX5_areTwo_26 rfl rfl
/-! FloodLentModel.fillDebts()V -/
abbrev rm_T_fillDebts : Room := { frames := 6, cells := 0, slots := 0, locals := 132 }
theorem hy_T_fillDebts : v_yV yX5_fillDebts cX5_fillDebts 2 none 0 := ⟨q1979, qs117, q141, q1980, by decide +kernel⟩
def t_T_fillDebts_27 (fu : Nat) (r27 : Int32 × v_S → Option v_S) (x1 : Int32) (s : v_S) : Option v_S :=
if s.1 1 3 ≤ x1 then (some s) else (v_b1 (t_T_ofLoan fu x1 (1 : Int32) s) fun (z_2 : Int32) => v_b1 (t_T_ofLoan fu x1 (0 : Int32) s) fun (z_3 : Int32) => v_g (((6 : Int32) * z_2) + z_3) 36 <| v_b1 (t_T_shortOfLoan fu x1 s) fun (z_4 : Int32) => v_g (((6 : Int32) * z_2) + z_3) 36 <| v_n (v_uI s 13 (Int32.toNatClampNeg (((6 : Int32) * z_2) + z_3)) ((s.1 13 (Int32.toNatClampNeg (((6 : Int32) * z_2) + z_3))) + z_4)) fun (s_5 : v_S) => r27 (x1 + (1 : Int32), s_5))
def t_T_fillDebts_27B (fu : Nat) (r27 : Int32 × v_S → Option v_S) (a : Int32 × v_S) : Option v_S := t_T_fillDebts_27 fu r27 a.1 a.2
def t_T_fillDebts_6 (fu : Nat) (r6 : Int32 × v_S → Option v_S) (x1 : Int32) (s : v_S) : Option v_S :=
if (36 : Int32) ≤ x1 then (v_loop (t_T_fillDebts_27B fu) fu ((0 : Int32), s)) else (v_g x1 36 <| v_n (v_uI s 13 (Int32.toNatClampNeg x1) (0 : Int32)) fun (s_6 : v_S) => r6 (x1 + (1 : Int32), s_6))
def t_T_fillDebts_6B (fu : Nat) (r6 : Int32 × v_S → Option v_S) (a : Int32 × v_S) : Option v_S := t_T_fillDebts_6 fu r6 a.1 a.2
def t_T_fillDebts (fu : Nat)  (s : v_S) : Option v_S :=
  v_b1 (t_T_year fu s) fun (s_1 : v_S) => v_loop (t_T_fillDebts_6B fu) fu ((0 : Int32), s_1)
theorem w_T_fillDebts_27 {Γ : v_Ctx} {l : Launch} {g : v_G} (fu : Nat) (X : v_C Γ l rm_T_fillDebts cX5_fillDebts 2 RX5 none wT g) (r27 : Int32 × v_S → Option v_S) (h27 : ∀ (x1 : Int32) (s : v_S), v_V Γ 2 wT g (fun z : v_S => ((none : Option Value), z)) 27 [(0, .ref (v_E g 0)), (1, .int x1)] [] s (r27 (x1, s))) (x1 : Int32) (s : v_S) : v_V Γ 2 wT g (fun z : v_S => ((none : Option Value), z)) 27 [(0, .ref (v_E g 0)), (1, .int x1)] [] s (t_T_fillDebts_27 fu r27 x1 s) := by
  unfold t_T_fillDebts_27
  refine v_iload_n (pc := 27) X dX5_fillDebts_27 1 rfl ?_
  refine v_aload_n (pc := 28) X dX5_fillDebts_28 0 rfl ?_
  refine v_get (pc := 29) (kind := 4) (v := .ref (v_E g 1)) X wT_n0 wT_l0 wT_c0 in_X5 (Nat.le_of_ble_eq_true rfl : 1 < 40) q1472 rfl rfl dX5_fillDebts_29 ?_
  refine v_iconst (pc := 32) (v := 3) X dX5_fillDebts_32 rfl ?_
  refine v_ialdC (pc := 33) (k := 3) X wT_n1 wT_l1 rfl dX5_fillDebts_33 ?_
  refine v_icmp_ge (pc := 34) (tgt := 72) X dX5_fillDebts_34 (by decide) (fun c34 => ?_) (fun c34 => ?_)
  · exact v_vret (pc := 72) X dX5_fillDebts_72 rfl
  · refine v_aload_n (pc := 37) X dX5_fillDebts_37 0 rfl ?_
    refine v_get (pc := 38) (kind := 16) (v := .ref (v_E g 13)) X wT_n0 wT_l0 wT_c0 in_X5 (Nat.le_of_ble_eq_true rfl : 29 < 40) q1500 rfl rfl dX5_fillDebts_38 ?_
    refine v_bipush (pc := 41) (v := 6) X dX5_fillDebts_41 rfl ?_
    refine v_aload_n (pc := 43) X dX5_fillDebts_43 0 rfl ?_
    refine v_iload_n (pc := 44) X dX5_fillDebts_44 1 rfl ?_
    refine v_iconst (pc := 45) (v := 1) X dX5_fillDebts_45 rfl ?_
    refine v_cGi (pc := 46) X (m_T_ofLoan l g fu x1 (1 : Int32) _) (v_rc_n X wT_o0) (Or.inl q1782) hy_T_ofLoan rfl rfl rfl rfl dX5_fillDebts_46 (fun z_2 _ => ?_)
    refine v_imul (pc := 49) X dX5_fillDebts_49 ?_
    refine v_aload_n (pc := 50) X dX5_fillDebts_50 0 rfl ?_
    refine v_iload_n (pc := 51) X dX5_fillDebts_51 1 rfl ?_
    refine v_iconst (pc := 52) (v := 0) X dX5_fillDebts_52 rfl ?_
    refine v_cGi (pc := 53) X (m_T_ofLoan l g fu x1 (0 : Int32) _) (v_rc_n X wT_o0) (Or.inl q1782) hy_T_ofLoan rfl rfl rfl rfl dX5_fillDebts_53 (fun z_3 _ => ?_)
    refine v_iadd (pc := 56) X dX5_fillDebts_56 ?_
    refine v_dup2_11 (pc := 57) X dX5_fillDebts_57 rfl rfl ?_
    refine v_iald (pc := 58) X wT_n13 wT_l13 dX5_fillDebts_58 ?_
    refine v_aload_n (pc := 59) X dX5_fillDebts_59 0 rfl ?_
    refine v_iload_n (pc := 60) X dX5_fillDebts_60 1 rfl ?_
    refine v_cGi (pc := 61) X (m_T_shortOfLoan l g fu x1 _) (v_rc_n X wT_o0) (Or.inl q1819) hy_T_shortOfLoan rfl rfl rfl rfl dX5_fillDebts_61 (fun z_4 _ => ?_)
    refine v_iadd (pc := 64) X dX5_fillDebts_64 ?_
    refine v_iast (pc := 65) X wT_n13 wT_l13 dX5_fillDebts_65 (fun s_5 => ?_)
    refine v_iinc (pc := 66) (v := x1 + (1 : Int32)) (lv' := [(1, .int (x1 + (1 : Int32))), (0, .ref (v_E g 0))]) (k := 1) X dX5_fillDebts_66 rfl rfl (Nat.le_of_ble_eq_true rfl) rfl ?_
    refine v_goto (pc := 69) (tgt := 27) X dX5_fillDebts_69 (by decide) ?_
    refine v_sub [1, 0] rfl ?_
    exact h27 (x1 + (1 : Int32)) s_5
theorem w_T_fillDebts_27L {Γ : v_Ctx} {l : Launch} {g : v_G} (fu : Nat) (X : v_C Γ l rm_T_fillDebts cX5_fillDebts 2 RX5 none wT g)  : ∀ (n : Nat), ∀ (x1 : Int32) (s : v_S), v_V Γ 2 wT g (fun z : v_S => ((none : Option Value), z)) 27 [(0, .ref (v_E g 0)), (1, .int x1)] [] s (v_loop (t_T_fillDebts_27B fu) n (x1, s)) := by
  intro n
  induction n with
  | zero => exact fun _ _ => v_none
  | succ n ih => exact fun x1 s => w_T_fillDebts_27 fu X  _ ih x1 s
theorem w_T_fillDebts_6 {Γ : v_Ctx} {l : Launch} {g : v_G} (fu : Nat) (X : v_C Γ l rm_T_fillDebts cX5_fillDebts 2 RX5 none wT g) (r6 : Int32 × v_S → Option v_S) (h6 : ∀ (x1 : Int32) (s : v_S), v_V Γ 2 wT g (fun z : v_S => ((none : Option Value), z)) 6 [(0, .ref (v_E g 0)), (1, .int x1)] [] s (r6 (x1, s))) (x1 : Int32) (s : v_S) : v_V Γ 2 wT g (fun z : v_S => ((none : Option Value), z)) 6 [(0, .ref (v_E g 0)), (1, .int x1)] [] s (t_T_fillDebts_6 fu r6 x1 s) := by
  unfold t_T_fillDebts_6
  refine v_iload_n (pc := 6) X dX5_fillDebts_6 1 rfl ?_
  refine v_bipush (pc := 7) (v := 36) X dX5_fillDebts_7 rfl ?_
  refine v_icmp_ge (pc := 9) (tgt := 25) X dX5_fillDebts_9 (by decide) (fun c9 => ?_) (fun c9 => ?_)
  · refine v_iconst (pc := 25) (v := 0) X dX5_fillDebts_25 rfl ?_
    refine v_istore_n (pc := 26) (lv' := [(1, .int (0 : Int32)), (0, .ref (v_E g 0))]) X dX5_fillDebts_26 rfl (Nat.le_of_ble_eq_true rfl) rfl ?_
    refine v_sub [1, 0] rfl ?_
    exact w_T_fillDebts_27L fu X  fu (0 : Int32) s
  · refine v_aload_n (pc := 12) X dX5_fillDebts_12 0 rfl ?_
    refine v_get (pc := 13) (kind := 16) (v := .ref (v_E g 13)) X wT_n0 wT_l0 wT_c0 in_X5 (Nat.le_of_ble_eq_true rfl : 29 < 40) q1500 rfl rfl dX5_fillDebts_13 ?_
    refine v_iload_n (pc := 16) X dX5_fillDebts_16 1 rfl ?_
    refine v_iconst (pc := 17) (v := 0) X dX5_fillDebts_17 rfl ?_
    refine v_iast (pc := 18) X wT_n13 wT_l13 dX5_fillDebts_18 (fun s_6 => ?_)
    refine v_iinc (pc := 19) (v := x1 + (1 : Int32)) (lv' := [(1, .int (x1 + (1 : Int32))), (0, .ref (v_E g 0))]) (k := 1) X dX5_fillDebts_19 rfl rfl (Nat.le_of_ble_eq_true rfl) rfl ?_
    refine v_goto (pc := 22) (tgt := 6) X dX5_fillDebts_22 (by decide) ?_
    refine v_sub [1, 0] rfl ?_
    exact h6 (x1 + (1 : Int32)) s_6
theorem w_T_fillDebts_6L {Γ : v_Ctx} {l : Launch} {g : v_G} (fu : Nat) (X : v_C Γ l rm_T_fillDebts cX5_fillDebts 2 RX5 none wT g)  : ∀ (n : Nat), ∀ (x1 : Int32) (s : v_S), v_V Γ 2 wT g (fun z : v_S => ((none : Option Value), z)) 6 [(0, .ref (v_E g 0)), (1, .int x1)] [] s (v_loop (t_T_fillDebts_6B fu) n (x1, s)) := by
  intro n
  induction n with
  | zero => exact fun _ _ => v_none
  | succ n ih => exact fun x1 s => w_T_fillDebts_6 fu X  _ ih x1 s
theorem m_T_fillDebts (l : Launch) (g : v_G) (fu : Nat)  (s : v_S) : v_M l yX5_fillDebts cX5_fillDebts 2 none rm_T_fillDebts wT g [.ref (v_E g 0)] s (fun z : v_S => ((none : Option Value), z)) (t_T_fillDebts fu  s) := by
  refine v_met (by decide +kernel) (Nat.le_of_ble_eq_true rfl) (fun Γ X => ?_)
  refine v_lv (lv' := [(0, .ref (v_E g 0))]) rfl ?_
  unfold t_T_fillDebts
  refine v_aload_n (pc := 0) X dX5_fillDebts_0 0 rfl ?_
  refine v_cGs (pc := 1) X (m_T_year l g fu _) (v_rc_n X wT_o0) (Or.inl q1750) hy_T_year rfl rfl rfl rfl dX5_fillDebts_1 (fun s_1 _ => ?_)
  refine v_iconst (pc := 4) (v := 0) X dX5_fillDebts_4 rfl ?_
  refine v_istore_n (pc := 5) (lv' := [(1, .int (0 : Int32)), (0, .ref (v_E g 0))]) X dX5_fillDebts_5 rfl (Nat.le_of_ble_eq_true rfl) rfl ?_
  refine v_sub [1, 0] rfl ?_
  exact w_T_fillDebts_6L fu X  fu (0 : Int32) s_1
/-! FloodLentModel.debt(II)I -/
abbrev rm_T_debt : Room := { frames := 1, cells := 0, slots := 0, locals := 21 }
theorem hy_T_debt : v_yV yX5_debt cX5_debt 3 (some .int) 2 := ⟨q1983, qs118, q141, q1984, by decide +kernel⟩
def t_T_debt (fu : Nat) (p1 : Int32) (p2 : Int32) (s : v_S) : Option Int32 :=
  v_g (((6 : Int32) * p1) + p2) 36 <| some (s.1 13 (Int32.toNatClampNeg (((6 : Int32) * p1) + p2)))
theorem m_T_debt (l : Launch) (g : v_G) (fu : Nat) (p1 : Int32) (p2 : Int32) (s : v_S) : v_M l yX5_debt cX5_debt 3 (some .int) rm_T_debt wT g [.ref (v_E g 0), .int p1, .int p2] s (fun z : Int32 => (some (.int z), s)) (t_T_debt fu p1 p2 s) := by
  refine v_met (by decide +kernel) (Nat.le_of_ble_eq_true rfl) (fun Γ X => ?_)
  refine v_lv (lv' := [(0, .ref (v_E g 0)), (1, .int p1), (2, .int p2)]) rfl ?_
  unfold t_T_debt
  refine v_aload_n (pc := 0) X dX5_debt_0 0 rfl ?_
  refine v_get (pc := 1) (kind := 16) (v := .ref (v_E g 13)) X wT_n0 wT_l0 wT_c0 in_X5 (Nat.le_of_ble_eq_true rfl : 29 < 40) q1500 rfl rfl dX5_debt_1 ?_
  refine v_bipush (pc := 4) (v := 6) X dX5_debt_4 rfl ?_
  refine v_iload_n (pc := 6) X dX5_debt_6 1 rfl ?_
  refine v_imul (pc := 7) X dX5_debt_7 ?_
  refine v_iload_n (pc := 8) X dX5_debt_8 2 rfl ?_
  refine v_iadd (pc := 9) X dX5_debt_9 ?_
  refine v_iald (pc := 10) X wT_n13 wT_l13 dX5_debt_10 ?_
  exact v_iret (pc := 11) X dX5_debt_11 rfl
/-! FloodLentModel.owes(II)I -/
abbrev rm_T_owes : Room := { frames := 7, cells := 0, slots := 0, locals := 153 }
theorem hy_T_owes : v_yV yX5_owes cX5_owes 3 (some .int) 2 := ⟨q1970, q1971, q141, q1972, by decide +kernel⟩
def t_T_owes (fu : Nat) (p1 : Int32) (p2 : Int32) (s : v_S) : Option (Int32 × v_S) :=
  v_b1 (t_T_areTwo fu p1 p2 s) fun (z_1 : Int32) => if z_1 = 0 then (some ((-2 : Int32), s)) else (v_b1 (t_T_fillDebts fu s) fun (s_2 : v_S) => v_b1 (t_T_debt fu p1 p2 s_2) fun (z_3 : Int32) => some (z_3, s_2))
theorem m_T_owes (l : Launch) (g : v_G) (fu : Nat) (p1 : Int32) (p2 : Int32) (s : v_S) : v_M l yX5_owes cX5_owes 3 (some .int) rm_T_owes wT g [.ref (v_E g 0), .int p1, .int p2] s (fun z : Int32 × v_S => (some (.int z.1), z.2)) (t_T_owes fu p1 p2 s) := by
  refine v_met (by decide +kernel) (Nat.le_of_ble_eq_true rfl) (fun Γ X => ?_)
  refine v_lv (lv' := [(0, .ref (v_E g 0)), (1, .int p1), (2, .int p2)]) rfl ?_
  unfold t_T_owes
  refine v_aload_n (pc := 0) X dX5_owes_0 0 rfl ?_
  refine v_iload_n (pc := 1) X dX5_owes_1 1 rfl ?_
  refine v_iload_n (pc := 2) X dX5_owes_2 2 rfl ?_
  refine v_cGi (pc := 3) X (m_T_areTwo l g fu p1 p2 _) (v_rc_n X wT_o0) (Or.inl q1973) hy_T_areTwo rfl rfl rfl rfl dX5_owes_3 (fun z_1 _ => ?_)
  refine v_if_ne (pc := 6) (tgt := 12) X dX5_owes_6 (by decide) (fun c6 => ?_) (fun c6 => ?_)
  · refine v_aload_n (pc := 12) X dX5_owes_12 0 rfl ?_
    refine v_cGs (pc := 13) X (m_T_fillDebts l g fu _) (v_rc_n X wT_o0) (Or.inl q1977) hy_T_fillDebts rfl rfl rfl rfl dX5_owes_13 (fun s_2 _ => ?_)
    refine v_aload_n (pc := 16) X dX5_owes_16 0 rfl ?_
    refine v_iload_n (pc := 17) X dX5_owes_17 1 rfl ?_
    refine v_iload_n (pc := 18) X dX5_owes_18 2 rfl ?_
    refine v_cGi (pc := 19) X (m_T_debt l g fu p1 p2 _) (v_rc_n X wT_o0) (Or.inl q1981) hy_T_debt rfl rfl rfl rfl dX5_owes_19 (fun z_3 _ => ?_)
    exact v_iret (pc := 22) X dX5_owes_22 rfl
  · refine v_bipush (pc := 9) (v := -2) X dX5_owes_9 rfl ?_
    exact v_iret (pc := 11) X dX5_owes_11 rfl
/-! FloodLentModel.isRing(I)Z -/
abbrev rm_T_isRing : Room := { frames := 2, cells := 0, slots := 0, locals := 43 }
theorem hy_T_isRing : v_yV yX5_isRing cX5_isRing 4 (some .boolean) 1 := ⟨q2003, qs122, q141, q2004, by decide +kernel⟩
def t_T_isRing_4 (fu : Nat) (p1 : Int32) (s : v_S) (r4 : Int32 × Int32 → Option Int32) (x2 : Int32) (x3 : Int32) : Option Int32 :=
if p1 ≤ x3 then (some (1 : Int32)) else (v_g x3 6 <| if s.1 15 (Int32.toNatClampNeg x3) < s.1 15 0 then (some (0 : Int32)) else (v_g x3 6 <| if (x2 >>> ((s.1 15 (Int32.toNatClampNeg x3)) &&& 31)) &&& (1 : Int32) = (1 : Int32) then (some (0 : Int32)) else (v_g x3 6 <| if p1 = 0 then none else v_g ((x3 + (1 : Int32)) - (x3 + (1 : Int32)) / p1 * p1) 6 <| v_b1 (t_T_debt fu (s.1 15 (Int32.toNatClampNeg x3)) (s.1 15 (Int32.toNatClampNeg ((x3 + (1 : Int32)) - (x3 + (1 : Int32)) / p1 * p1))) s) fun (z_1 : Int32) => if z_1 = 0 then (some (0 : Int32)) else (v_g x3 6 <| v_n (x2 ||| ((1 : Int32) <<< ((s.1 15 (Int32.toNatClampNeg x3)) &&& 31))) fun (x2_2 : Int32) => r4 (x2_2, x3 + (1 : Int32))))))
def t_T_isRing_4B (fu : Nat) (p1 : Int32) (s : v_S) (r4 : Int32 × Int32 → Option Int32) (a : Int32 × Int32) : Option Int32 := t_T_isRing_4 fu p1 s r4 a.1 a.2
def t_T_isRing (fu : Nat) (p1 : Int32) (s : v_S) : Option Int32 :=
  v_loop (t_T_isRing_4B fu p1 s) fu ((0 : Int32), (0 : Int32))
theorem w_T_isRing_4 {Γ : v_Ctx} {l : Launch} {g : v_G} (fu : Nat) (p1 : Int32) (s : v_S) (X : v_C Γ l rm_T_isRing cX5_isRing 4 RX5 (some .boolean) wT g) (r4 : Int32 × Int32 → Option Int32) (h4 : ∀ (x2 : Int32) (x3 : Int32), v_V Γ 4 wT g (fun z : Int32 => (some (.int z), s)) 4 [(0, .ref (v_E g 0)), (1, .int p1), (2, .int x2), (3, .int x3)] [] s (r4 (x2, x3))) (x2 : Int32) (x3 : Int32) : v_V Γ 4 wT g (fun z : Int32 => (some (.int z), s)) 4 [(0, .ref (v_E g 0)), (1, .int p1), (2, .int x2), (3, .int x3)] [] s (t_T_isRing_4 fu p1 s r4 x2 x3) := by
  unfold t_T_isRing_4
  refine v_iload_n (pc := 4) X dX5_isRing_4 3 rfl ?_
  refine v_iload_n (pc := 5) X dX5_isRing_5 1 rfl ?_
  refine v_icmp_ge (pc := 6) (tgt := 80) X dX5_isRing_6 (by decide) (fun c6 => ?_) (fun c6 => ?_)
  · refine v_iconst (pc := 80) (v := 1) X dX5_isRing_80 rfl ?_
    exact v_zret (pc := 81) X dX5_isRing_81 rfl rfl
  · refine v_aload_n (pc := 9) X dX5_isRing_9 0 rfl ?_
    refine v_get (pc := 10) (kind := 18) (v := .ref (v_E g 15)) X wT_n0 wT_l0 wT_c0 in_X5 (Nat.le_of_ble_eq_true rfl : 33 < 40) q1504 rfl rfl dX5_isRing_10 ?_
    refine v_iload_n (pc := 13) X dX5_isRing_13 3 rfl ?_
    refine v_iald (pc := 14) X wT_n15 wT_l15 dX5_isRing_14 ?_
    refine v_aload_n (pc := 15) X dX5_isRing_15 0 rfl ?_
    refine v_get (pc := 16) (kind := 18) (v := .ref (v_E g 15)) X wT_n0 wT_l0 wT_c0 in_X5 (Nat.le_of_ble_eq_true rfl : 33 < 40) q1504 rfl rfl dX5_isRing_16 ?_
    refine v_iconst (pc := 19) (v := 0) X dX5_isRing_19 rfl ?_
    refine v_ialdC (pc := 20) (k := 0) X wT_n15 wT_l15 rfl dX5_isRing_20 ?_
    refine v_icmp_lt (pc := 21) (tgt := 61) X dX5_isRing_21 (by decide) (fun c21 => ?_) (fun c21 => ?_)
    · refine v_iconst (pc := 61) (v := 0) X dX5_isRing_61 rfl ?_
      exact v_zret (pc := 62) X dX5_isRing_62 rfl rfl
    · refine v_iload_n (pc := 24) X dX5_isRing_24 2 rfl ?_
      refine v_aload_n (pc := 25) X dX5_isRing_25 0 rfl ?_
      refine v_get (pc := 26) (kind := 18) (v := .ref (v_E g 15)) X wT_n0 wT_l0 wT_c0 in_X5 (Nat.le_of_ble_eq_true rfl : 33 < 40) q1504 rfl rfl dX5_isRing_26 ?_
      refine v_iload_n (pc := 29) X dX5_isRing_29 3 rfl ?_
      refine v_iald (pc := 30) X wT_n15 wT_l15 dX5_isRing_30 ?_
      refine v_ishr (pc := 31) X dX5_isRing_31 ?_
      refine v_iconst (pc := 32) (v := 1) X dX5_isRing_32 rfl ?_
      refine v_iand (pc := 33) X dX5_isRing_33 ?_
      refine v_iconst (pc := 34) (v := 1) X dX5_isRing_34 rfl ?_
      refine v_icmp_eq (pc := 35) (tgt := 61) X dX5_isRing_35 (by decide) (fun c35 => ?_) (fun c35 => ?_)
      · refine v_iconst (pc := 61) (v := 0) X dX5_isRing_61 rfl ?_
        exact v_zret (pc := 62) X dX5_isRing_62 rfl rfl
      · refine v_aload_n (pc := 38) X dX5_isRing_38 0 rfl ?_
        refine v_aload_n (pc := 39) X dX5_isRing_39 0 rfl ?_
        refine v_get (pc := 40) (kind := 18) (v := .ref (v_E g 15)) X wT_n0 wT_l0 wT_c0 in_X5 (Nat.le_of_ble_eq_true rfl : 33 < 40) q1504 rfl rfl dX5_isRing_40 ?_
        refine v_iload_n (pc := 43) X dX5_isRing_43 3 rfl ?_
        refine v_iald (pc := 44) X wT_n15 wT_l15 dX5_isRing_44 ?_
        refine v_aload_n (pc := 45) X dX5_isRing_45 0 rfl ?_
        refine v_get (pc := 46) (kind := 18) (v := .ref (v_E g 15)) X wT_n0 wT_l0 wT_c0 in_X5 (Nat.le_of_ble_eq_true rfl : 33 < 40) q1504 rfl rfl dX5_isRing_46 ?_
        refine v_iload_n (pc := 49) X dX5_isRing_49 3 rfl ?_
        refine v_iconst (pc := 50) (v := 1) X dX5_isRing_50 rfl ?_
        refine v_iadd (pc := 51) X dX5_isRing_51 ?_
        refine v_iload_n (pc := 52) X dX5_isRing_52 1 rfl ?_
        refine v_irem (pc := 53) X dX5_isRing_53 ?_
        refine v_iald (pc := 54) X wT_n15 wT_l15 dX5_isRing_54 ?_
        refine v_cGi (pc := 55) X (m_T_debt l g fu (s.1 15 (Int32.toNatClampNeg x3)) (s.1 15 (Int32.toNatClampNeg ((x3 + (1 : Int32)) - (x3 + (1 : Int32)) / p1 * p1))) _) (v_rc_n X wT_o0) (Or.inl q1981) hy_T_debt rfl rfl rfl rfl dX5_isRing_55 (fun z_1 _ => ?_)
        refine v_if_ne (pc := 58) (tgt := 63) X dX5_isRing_58 (by decide) (fun c58 => ?_) (fun c58 => ?_)
        · refine v_iload_n (pc := 63) X dX5_isRing_63 2 rfl ?_
          refine v_iconst (pc := 64) (v := 1) X dX5_isRing_64 rfl ?_
          refine v_aload_n (pc := 65) X dX5_isRing_65 0 rfl ?_
          refine v_get (pc := 66) (kind := 18) (v := .ref (v_E g 15)) X wT_n0 wT_l0 wT_c0 in_X5 (Nat.le_of_ble_eq_true rfl : 33 < 40) q1504 rfl rfl dX5_isRing_66 ?_
          refine v_iload_n (pc := 69) X dX5_isRing_69 3 rfl ?_
          refine v_iald (pc := 70) X wT_n15 wT_l15 dX5_isRing_70 ?_
          refine v_ishl (pc := 71) X dX5_isRing_71 ?_
          refine v_ior (pc := 72) X dX5_isRing_72 ?_
          refine v_istore_nN (pc := 73) (lvf := fun x2_2 => [(2, .int x2_2), (0, .ref (v_E g 0)), (1, .int p1), (3, .int x3)]) X dX5_isRing_73 rfl (Nat.le_of_ble_eq_true rfl) (fun _ => rfl) (fun x2_2 => ?_)
          refine v_iinc (pc := 74) (v := x3 + (1 : Int32)) (lv' := [(3, .int (x3 + (1 : Int32))), (2, .int x2_2), (0, .ref (v_E g 0)), (1, .int p1)]) (k := 3) X dX5_isRing_74 rfl rfl (Nat.le_of_ble_eq_true rfl) rfl ?_
          refine v_goto (pc := 77) (tgt := 4) X dX5_isRing_77 (by decide) ?_
          refine v_sub [2, 3, 1, 0] rfl ?_
          exact h4 x2_2 (x3 + (1 : Int32))
        · refine v_iconst (pc := 61) (v := 0) X dX5_isRing_61 rfl ?_
          exact v_zret (pc := 62) X dX5_isRing_62 rfl rfl
theorem w_T_isRing_4L {Γ : v_Ctx} {l : Launch} {g : v_G} (fu : Nat) (p1 : Int32) (s : v_S) (X : v_C Γ l rm_T_isRing cX5_isRing 4 RX5 (some .boolean) wT g)  : ∀ (n : Nat), ∀ (x2 : Int32) (x3 : Int32), v_V Γ 4 wT g (fun z : Int32 => (some (.int z), s)) 4 [(0, .ref (v_E g 0)), (1, .int p1), (2, .int x2), (3, .int x3)] [] s (v_loop (t_T_isRing_4B fu p1 s) n (x2, x3)) := by
  intro n
  induction n with
  | zero => exact fun _ _ => v_none
  | succ n ih => exact fun x2 x3 => w_T_isRing_4 fu p1 s X  _ ih x2 x3
theorem m_T_isRing (l : Launch) (g : v_G) (fu : Nat) (p1 : Int32) (s : v_S) : v_M l yX5_isRing cX5_isRing 4 (some .boolean) rm_T_isRing wT g [.ref (v_E g 0), .int p1] s (fun z : Int32 => (some (.int z), s)) (t_T_isRing fu p1 s) := by
  refine v_met (by decide +kernel) (Nat.le_of_ble_eq_true rfl) (fun Γ X => ?_)
  refine v_lv (lv' := [(0, .ref (v_E g 0)), (1, .int p1)]) rfl ?_
  unfold t_T_isRing
  refine v_iconst (pc := 0) (v := 0) X dX5_isRing_0 rfl ?_
  refine v_istore_n (pc := 1) (lv' := [(2, .int (0 : Int32)), (0, .ref (v_E g 0)), (1, .int p1)]) X dX5_isRing_1 rfl (Nat.le_of_ble_eq_true rfl) rfl ?_
  refine v_iconst (pc := 2) (v := 0) X dX5_isRing_2 rfl ?_
  refine v_istore_n (pc := 3) (lv' := [(3, .int (0 : Int32)), (2, .int (0 : Int32)), (0, .ref (v_E g 0)), (1, .int p1)]) X dX5_isRing_3 rfl (Nat.le_of_ble_eq_true rfl) rfl ?_
  refine v_sub [2, 3, 1, 0] rfl ?_
  exact w_T_isRing_4L fu p1 s X  fu (0 : Int32) (0 : Int32)
/-! FloodLentModel.findsRing(I)Z -/
abbrev rm_T_findsRing : Room := { frames := 3, cells := 0, slots := 0, locals := 66 }
theorem hy_T_findsRing : v_yV yX5_findsRing cX5_findsRing 6 (some .boolean) 1 := ⟨q1999, qs121, q141, q2000, by decide +kernel⟩
def t_T_findsRing_71 (fu : Nat) (p1 : Int32) (r24 : Int32 × Int32 × v_S → Option (Int32 × v_S)) (x2 : Int32) (x3 : Int32) (s : v_S) : Option (Int32 × v_S) :=
v_b1 (t_T_isRing fu p1 s) fun (z_2 : Int32) => if z_2 = 0 then (r24 (x2, x3 + (1 : Int32), s)) else (some ((1 : Int32), s))
def t_T_findsRing_37 (fu : Nat) (p1 : Int32) (r24 : Int32 × Int32 × v_S → Option (Int32 × v_S)) (r37 : Int32 × Int32 × Int32 × Int32 × v_S → Option (Int32 × v_S)) (x2 : Int32) (x3 : Int32) (x4 : Int32) (x5 : Int32) (s : v_S) : Option (Int32 × v_S) :=
if x5 < 0 then (t_T_findsRing_71 fu p1 r24 x2 x3 s) else (v_b1 (t_T_villages fu s) fun (z_3 : Int32) => if z_3 = 0 then none else v_g x5 6 <| v_n (v_uI s 15 (Int32.toNatClampNeg x5) (x4 - x4 / z_3 * z_3)) fun (s_4 : v_S) => v_b1 (t_T_villages fu s_4) fun (z_5 : Int32) => if z_5 = 0 then none else v_n (x4 / z_5) fun (x4_6 : Int32) => r37 (x2, x3, x4_6, x5 + (-1 : Int32), s_4))
def t_T_findsRing_37B (fu : Nat) (p1 : Int32) (r24 : Int32 × Int32 × v_S → Option (Int32 × v_S)) (r37 : Int32 × Int32 × Int32 × Int32 × v_S → Option (Int32 × v_S)) (a : Int32 × Int32 × Int32 × Int32 × v_S) : Option (Int32 × v_S) := t_T_findsRing_37 fu p1 r24 r37 a.1 a.2.1 a.2.2.1 a.2.2.2.1 a.2.2.2.2
def t_T_findsRing_24 (fu : Nat) (p1 : Int32) (r24 : Int32 × Int32 × v_S → Option (Int32 × v_S)) (x2 : Int32) (x3 : Int32) (s : v_S) : Option (Int32 × v_S) :=
if x2 ≤ x3 then (some ((0 : Int32), s)) else (v_n (p1 - (1 : Int32)) fun (x5_1 : Int32) => v_loop (t_T_findsRing_37B fu p1 r24) fu (x2, x3, x3, x5_1, s))
def t_T_findsRing_24B (fu : Nat) (p1 : Int32) (r24 : Int32 × Int32 × v_S → Option (Int32 × v_S)) (a : Int32 × Int32 × v_S) : Option (Int32 × v_S) := t_T_findsRing_24 fu p1 r24 a.1 a.2.1 a.2.2
def t_T_findsRing_4 (fu : Nat) (p1 : Int32) (r4 : Int32 × Int32 × v_S → Option (Int32 × v_S)) (x2 : Int32) (x3 : Int32) (s : v_S) : Option (Int32 × v_S) :=
if p1 ≤ x3 then (v_loop (t_T_findsRing_24B fu p1) fu (x2, (0 : Int32), s)) else (v_b1 (t_T_villages fu s) fun (z_7 : Int32) => v_n (x2 * z_7) fun (x2_8 : Int32) => r4 (x2_8, x3 + (1 : Int32), s))
def t_T_findsRing_4B (fu : Nat) (p1 : Int32) (r4 : Int32 × Int32 × v_S → Option (Int32 × v_S)) (a : Int32 × Int32 × v_S) : Option (Int32 × v_S) := t_T_findsRing_4 fu p1 r4 a.1 a.2.1 a.2.2
def t_T_findsRing (fu : Nat) (p1 : Int32) (s : v_S) : Option (Int32 × v_S) :=
  v_loop (t_T_findsRing_4B fu p1) fu ((1 : Int32), (0 : Int32), s)
theorem w_T_findsRing_71 {Γ : v_Ctx} {l : Launch} {g : v_G} (fu : Nat) (p1 : Int32) (X : v_C Γ l rm_T_findsRing cX5_findsRing 6 RX5 (some .boolean) wT g) (r24 : Int32 × Int32 × v_S → Option (Int32 × v_S)) (h24 : ∀ (x2 : Int32) (x3 : Int32) (s : v_S), v_V Γ 6 wT g (fun z : Int32 × v_S => (some (.int z.1), z.2)) 24 [(0, .ref (v_E g 0)), (1, .int p1), (2, .int x2), (3, .int x3)] [] s (r24 (x2, x3, s))) (x2 : Int32) (x3 : Int32) (s : v_S) : v_V Γ 6 wT g (fun z : Int32 × v_S => (some (.int z.1), z.2)) 71 [(0, .ref (v_E g 0)), (1, .int p1), (2, .int x2), (3, .int x3)] [] s (t_T_findsRing_71 fu p1 r24 x2 x3 s) := by
  unfold t_T_findsRing_71
  refine v_aload_n (pc := 71) X dX5_findsRing_71 0 rfl ?_
  refine v_iload_n (pc := 72) X dX5_findsRing_72 1 rfl ?_
  refine v_cGi (pc := 73) X (m_T_isRing l g fu p1 _) (v_rc_n X wT_o0) (Or.inl q2001) hy_T_isRing rfl rfl rfl rfl dX5_findsRing_73 (fun z_2 _ => ?_)
  refine v_if_eq (pc := 76) (tgt := 81) X dX5_findsRing_76 (by decide) (fun c76 => ?_) (fun c76 => ?_)
  · refine v_iinc (pc := 81) (v := x3 + (1 : Int32)) (lv' := [(3, .int (x3 + (1 : Int32))), (0, .ref (v_E g 0)), (1, .int p1), (2, .int x2)]) (k := 3) X dX5_findsRing_81 rfl rfl (Nat.le_of_ble_eq_true rfl) rfl ?_
    refine v_goto (pc := 84) (tgt := 24) X dX5_findsRing_84 (by decide) ?_
    refine v_sub [1, 2, 3, 0] rfl ?_
    exact h24 x2 (x3 + (1 : Int32)) s
  · refine v_iconst (pc := 79) (v := 1) X dX5_findsRing_79 rfl ?_
    exact v_zret (pc := 80) X dX5_findsRing_80 rfl rfl
theorem w_T_findsRing_37 {Γ : v_Ctx} {l : Launch} {g : v_G} (fu : Nat) (p1 : Int32) (X : v_C Γ l rm_T_findsRing cX5_findsRing 6 RX5 (some .boolean) wT g) (r24 : Int32 × Int32 × v_S → Option (Int32 × v_S)) (h24 : ∀ (x2 : Int32) (x3 : Int32) (s : v_S), v_V Γ 6 wT g (fun z : Int32 × v_S => (some (.int z.1), z.2)) 24 [(0, .ref (v_E g 0)), (1, .int p1), (2, .int x2), (3, .int x3)] [] s (r24 (x2, x3, s))) (r37 : Int32 × Int32 × Int32 × Int32 × v_S → Option (Int32 × v_S)) (h37 : ∀ (x2 : Int32) (x3 : Int32) (x4 : Int32) (x5 : Int32) (s : v_S), v_V Γ 6 wT g (fun z : Int32 × v_S => (some (.int z.1), z.2)) 37 [(0, .ref (v_E g 0)), (1, .int p1), (2, .int x2), (3, .int x3), (4, .int x4), (5, .int x5)] [] s (r37 (x2, x3, x4, x5, s))) (x2 : Int32) (x3 : Int32) (x4 : Int32) (x5 : Int32) (s : v_S) : v_V Γ 6 wT g (fun z : Int32 × v_S => (some (.int z.1), z.2)) 37 [(0, .ref (v_E g 0)), (1, .int p1), (2, .int x2), (3, .int x3), (4, .int x4), (5, .int x5)] [] s (t_T_findsRing_37 fu p1 r24 r37 x2 x3 x4 x5 s) := by
  unfold t_T_findsRing_37
  refine v_iload (pc := 37) X dX5_findsRing_37 5 rfl ?_
  refine v_if_lt (pc := 39) (tgt := 71) X dX5_findsRing_39 (by decide) (fun c39 => ?_) (fun c39 => ?_)
  · refine v_sub [0, 1, 2, 3] rfl ?_
    exact w_T_findsRing_71 fu p1 X r24 h24 x2 x3 s
  · refine v_aload_n (pc := 42) X dX5_findsRing_42 0 rfl ?_
    refine v_get (pc := 43) (kind := 18) (v := .ref (v_E g 15)) X wT_n0 wT_l0 wT_c0 in_X5 (Nat.le_of_ble_eq_true rfl : 33 < 40) q1504 rfl rfl dX5_findsRing_43 ?_
    refine v_iload (pc := 46) X dX5_findsRing_46 5 rfl ?_
    refine v_iload (pc := 48) X dX5_findsRing_48 4 rfl ?_
    refine v_aload_n (pc := 50) X dX5_findsRing_50 0 rfl ?_
    refine v_cGi (pc := 51) X (m_T_villages l g fu _) (v_rc_n X wT_o0) (Or.inl q1725) hy_T_villages rfl rfl rfl rfl dX5_findsRing_51 (fun z_3 _ => ?_)
    refine v_irem (pc := 54) X dX5_findsRing_54 ?_
    refine v_iast (pc := 55) X wT_n15 wT_l15 dX5_findsRing_55 (fun s_4 => ?_)
    refine v_iload (pc := 56) X dX5_findsRing_56 4 rfl ?_
    refine v_aload_n (pc := 58) X dX5_findsRing_58 0 rfl ?_
    refine v_cGi (pc := 59) X (m_T_villages l g fu _) (v_rc_n X wT_o0) (Or.inl q1725) hy_T_villages rfl rfl rfl rfl dX5_findsRing_59 (fun z_5 _ => ?_)
    refine v_idiv (pc := 62) X dX5_findsRing_62 ?_
    refine v_istoreN (pc := 63) (lvf := fun x4_6 => [(4, .int x4_6), (0, .ref (v_E g 0)), (1, .int p1), (2, .int x2), (3, .int x3), (5, .int x5)]) X dX5_findsRing_63 (Nat.le_of_ble_eq_true rfl) (fun _ => rfl) (fun x4_6 => ?_)
    refine v_iinc (pc := 65) (v := x5 + (-1 : Int32)) (lv' := [(5, .int (x5 + (-1 : Int32))), (4, .int x4_6), (0, .ref (v_E g 0)), (1, .int p1), (2, .int x2), (3, .int x3)]) (k := 5) X dX5_findsRing_65 rfl rfl (Nat.le_of_ble_eq_true rfl) rfl ?_
    refine v_goto (pc := 68) (tgt := 37) X dX5_findsRing_68 (by decide) ?_
    refine v_sub [2, 3, 4, 5, 1, 0] rfl ?_
    exact h37 x2 x3 x4_6 (x5 + (-1 : Int32)) s_4
theorem w_T_findsRing_37L {Γ : v_Ctx} {l : Launch} {g : v_G} (fu : Nat) (p1 : Int32) (X : v_C Γ l rm_T_findsRing cX5_findsRing 6 RX5 (some .boolean) wT g) (r24 : Int32 × Int32 × v_S → Option (Int32 × v_S)) (h24 : ∀ (x2 : Int32) (x3 : Int32) (s : v_S), v_V Γ 6 wT g (fun z : Int32 × v_S => (some (.int z.1), z.2)) 24 [(0, .ref (v_E g 0)), (1, .int p1), (2, .int x2), (3, .int x3)] [] s (r24 (x2, x3, s))) : ∀ (n : Nat), ∀ (x2 : Int32) (x3 : Int32) (x4 : Int32) (x5 : Int32) (s : v_S), v_V Γ 6 wT g (fun z : Int32 × v_S => (some (.int z.1), z.2)) 37 [(0, .ref (v_E g 0)), (1, .int p1), (2, .int x2), (3, .int x3), (4, .int x4), (5, .int x5)] [] s (v_loop (t_T_findsRing_37B fu p1 r24) n (x2, x3, x4, x5, s)) := by
  intro n
  induction n with
  | zero => exact fun _ _ _ _ _ => v_none
  | succ n ih => exact fun x2 x3 x4 x5 s => w_T_findsRing_37 fu p1 X r24 h24 _ ih x2 x3 x4 x5 s
theorem w_T_findsRing_24 {Γ : v_Ctx} {l : Launch} {g : v_G} (fu : Nat) (p1 : Int32) (X : v_C Γ l rm_T_findsRing cX5_findsRing 6 RX5 (some .boolean) wT g) (r24 : Int32 × Int32 × v_S → Option (Int32 × v_S)) (h24 : ∀ (x2 : Int32) (x3 : Int32) (s : v_S), v_V Γ 6 wT g (fun z : Int32 × v_S => (some (.int z.1), z.2)) 24 [(0, .ref (v_E g 0)), (1, .int p1), (2, .int x2), (3, .int x3)] [] s (r24 (x2, x3, s))) (x2 : Int32) (x3 : Int32) (s : v_S) : v_V Γ 6 wT g (fun z : Int32 × v_S => (some (.int z.1), z.2)) 24 [(0, .ref (v_E g 0)), (1, .int p1), (2, .int x2), (3, .int x3)] [] s (t_T_findsRing_24 fu p1 r24 x2 x3 s) := by
  unfold t_T_findsRing_24
  refine v_iload_n (pc := 24) X dX5_findsRing_24 3 rfl ?_
  refine v_iload_n (pc := 25) X dX5_findsRing_25 2 rfl ?_
  refine v_icmp_ge (pc := 26) (tgt := 87) X dX5_findsRing_26 (by decide) (fun c26 => ?_) (fun c26 => ?_)
  · refine v_iconst (pc := 87) (v := 0) X dX5_findsRing_87 rfl ?_
    exact v_zret (pc := 88) X dX5_findsRing_88 rfl rfl
  · refine v_iload_n (pc := 29) X dX5_findsRing_29 3 rfl ?_
    refine v_istore (pc := 30) (lv' := [(4, .int x3), (0, .ref (v_E g 0)), (1, .int p1), (2, .int x2), (3, .int x3)]) X dX5_findsRing_30 (Nat.le_of_ble_eq_true rfl) rfl ?_
    refine v_iload_n (pc := 32) X dX5_findsRing_32 2 rfl ?_
    refine v_iconst (pc := 33) (v := 1) X dX5_findsRing_33 rfl ?_
    refine v_isub (pc := 34) X dX5_findsRing_34 ?_
    refine v_istoreN (pc := 35) (lvf := fun x5_1 => [(5, .int x5_1), (4, .int x3), (0, .ref (v_E g 0)), (1, .int p1), (2, .int x2), (3, .int x3)]) X dX5_findsRing_35 (Nat.le_of_ble_eq_true rfl) (fun _ => rfl) (fun x5_1 => ?_)
    refine v_sub [2, 3, 4, 5, 1, 0] rfl ?_
    exact w_T_findsRing_37L fu p1 X r24 h24 fu x2 x3 x3 x5_1 s
theorem w_T_findsRing_24L {Γ : v_Ctx} {l : Launch} {g : v_G} (fu : Nat) (p1 : Int32) (X : v_C Γ l rm_T_findsRing cX5_findsRing 6 RX5 (some .boolean) wT g)  : ∀ (n : Nat), ∀ (x2 : Int32) (x3 : Int32) (s : v_S), v_V Γ 6 wT g (fun z : Int32 × v_S => (some (.int z.1), z.2)) 24 [(0, .ref (v_E g 0)), (1, .int p1), (2, .int x2), (3, .int x3)] [] s (v_loop (t_T_findsRing_24B fu p1) n (x2, x3, s)) := by
  intro n
  induction n with
  | zero => exact fun _ _ _ => v_none
  | succ n ih => exact fun x2 x3 s => w_T_findsRing_24 fu p1 X  _ ih x2 x3 s
theorem w_T_findsRing_4 {Γ : v_Ctx} {l : Launch} {g : v_G} (fu : Nat) (p1 : Int32) (X : v_C Γ l rm_T_findsRing cX5_findsRing 6 RX5 (some .boolean) wT g) (r4 : Int32 × Int32 × v_S → Option (Int32 × v_S)) (h4 : ∀ (x2 : Int32) (x3 : Int32) (s : v_S), v_V Γ 6 wT g (fun z : Int32 × v_S => (some (.int z.1), z.2)) 4 [(0, .ref (v_E g 0)), (1, .int p1), (2, .int x2), (3, .int x3)] [] s (r4 (x2, x3, s))) (x2 : Int32) (x3 : Int32) (s : v_S) : v_V Γ 6 wT g (fun z : Int32 × v_S => (some (.int z.1), z.2)) 4 [(0, .ref (v_E g 0)), (1, .int p1), (2, .int x2), (3, .int x3)] [] s (t_T_findsRing_4 fu p1 r4 x2 x3 s) := by
  unfold t_T_findsRing_4
  refine v_iload_n (pc := 4) X dX5_findsRing_4 3 rfl ?_
  refine v_iload_n (pc := 5) X dX5_findsRing_5 1 rfl ?_
  refine v_icmp_ge (pc := 6) (tgt := 22) X dX5_findsRing_6 (by decide) (fun c6 => ?_) (fun c6 => ?_)
  · refine v_iconst (pc := 22) (v := 0) X dX5_findsRing_22 rfl ?_
    refine v_istore_n (pc := 23) (lv' := [(3, .int (0 : Int32)), (0, .ref (v_E g 0)), (1, .int p1), (2, .int x2)]) X dX5_findsRing_23 rfl (Nat.le_of_ble_eq_true rfl) rfl ?_
    refine v_sub [1, 2, 3, 0] rfl ?_
    exact w_T_findsRing_24L fu p1 X  fu x2 (0 : Int32) s
  · refine v_iload_n (pc := 9) X dX5_findsRing_9 2 rfl ?_
    refine v_aload_n (pc := 10) X dX5_findsRing_10 0 rfl ?_
    refine v_cGi (pc := 11) X (m_T_villages l g fu _) (v_rc_n X wT_o0) (Or.inl q1725) hy_T_villages rfl rfl rfl rfl dX5_findsRing_11 (fun z_7 _ => ?_)
    refine v_imul (pc := 14) X dX5_findsRing_14 ?_
    refine v_istore_nN (pc := 15) (lvf := fun x2_8 => [(2, .int x2_8), (0, .ref (v_E g 0)), (1, .int p1), (3, .int x3)]) X dX5_findsRing_15 rfl (Nat.le_of_ble_eq_true rfl) (fun _ => rfl) (fun x2_8 => ?_)
    refine v_iinc (pc := 16) (v := x3 + (1 : Int32)) (lv' := [(3, .int (x3 + (1 : Int32))), (2, .int x2_8), (0, .ref (v_E g 0)), (1, .int p1)]) (k := 3) X dX5_findsRing_16 rfl rfl (Nat.le_of_ble_eq_true rfl) rfl ?_
    refine v_goto (pc := 19) (tgt := 4) X dX5_findsRing_19 (by decide) ?_
    refine v_sub [2, 3, 1, 0] rfl ?_
    exact h4 x2_8 (x3 + (1 : Int32)) s
theorem w_T_findsRing_4L {Γ : v_Ctx} {l : Launch} {g : v_G} (fu : Nat) (p1 : Int32) (X : v_C Γ l rm_T_findsRing cX5_findsRing 6 RX5 (some .boolean) wT g)  : ∀ (n : Nat), ∀ (x2 : Int32) (x3 : Int32) (s : v_S), v_V Γ 6 wT g (fun z : Int32 × v_S => (some (.int z.1), z.2)) 4 [(0, .ref (v_E g 0)), (1, .int p1), (2, .int x2), (3, .int x3)] [] s (v_loop (t_T_findsRing_4B fu p1) n (x2, x3, s)) := by
  intro n
  induction n with
  | zero => exact fun _ _ _ => v_none
  | succ n ih => exact fun x2 x3 s => w_T_findsRing_4 fu p1 X  _ ih x2 x3 s
theorem m_T_findsRing (l : Launch) (g : v_G) (fu : Nat) (p1 : Int32) (s : v_S) : v_M l yX5_findsRing cX5_findsRing 6 (some .boolean) rm_T_findsRing wT g [.ref (v_E g 0), .int p1] s (fun z : Int32 × v_S => (some (.int z.1), z.2)) (t_T_findsRing fu p1 s) := by
  refine v_met (by decide +kernel) (Nat.le_of_ble_eq_true rfl) (fun Γ X => ?_)
  refine v_lv (lv' := [(0, .ref (v_E g 0)), (1, .int p1)]) rfl ?_
  unfold t_T_findsRing
  refine v_iconst (pc := 0) (v := 1) X dX5_findsRing_0 rfl ?_
  refine v_istore_n (pc := 1) (lv' := [(2, .int (1 : Int32)), (0, .ref (v_E g 0)), (1, .int p1)]) X dX5_findsRing_1 rfl (Nat.le_of_ble_eq_true rfl) rfl ?_
  refine v_iconst (pc := 2) (v := 0) X dX5_findsRing_2 rfl ?_
  refine v_istore_n (pc := 3) (lv' := [(3, .int (0 : Int32)), (2, .int (1 : Int32)), (0, .ref (v_E g 0)), (1, .int p1)]) X dX5_findsRing_3 rfl (Nat.le_of_ble_eq_true rfl) rfl ?_
  refine v_sub [2, 3, 1, 0] rfl ?_
  exact w_T_findsRing_4L fu p1 X  fu (1 : Int32) (0 : Int32) s
/-! FloodLentModel.ringSize()I -/
abbrev rm_T_ringSize : Room := { frames := 4, cells := 0, slots := 0, locals := 91 }
theorem hy_T_ringSize : v_yV yX5_ringSize cX5_ringSize 2 (some .int) 0 := ⟨q1995, qs120, q141, q1996, by decide +kernel⟩
def t_T_ringSize_2 (fu : Nat) (r2 : Int32 × v_S → Option (Int32 × v_S)) (x1 : Int32) (s : v_S) : Option (Int32 × v_S) :=
v_b1 (t_T_villages fu s) fun (z_1 : Int32) => if z_1 < x1 then (some ((-1 : Int32), s)) else (v_b2 (t_T_findsRing fu x1 s) fun (z_2 : Int32) (s_3 : v_S) => if z_2 = 0 then (r2 (x1 + (1 : Int32), s_3)) else (some (x1, s_3)))
def t_T_ringSize_2B (fu : Nat) (r2 : Int32 × v_S → Option (Int32 × v_S)) (a : Int32 × v_S) : Option (Int32 × v_S) := t_T_ringSize_2 fu r2 a.1 a.2
def t_T_ringSize (fu : Nat)  (s : v_S) : Option (Int32 × v_S) :=
  v_loop (t_T_ringSize_2B fu) fu ((2 : Int32), s)
theorem w_T_ringSize_2 {Γ : v_Ctx} {l : Launch} {g : v_G} (fu : Nat) (X : v_C Γ l rm_T_ringSize cX5_ringSize 2 RX5 (some .int) wT g) (r2 : Int32 × v_S → Option (Int32 × v_S)) (h2 : ∀ (x1 : Int32) (s : v_S), v_V Γ 2 wT g (fun z : Int32 × v_S => (some (.int z.1), z.2)) 2 [(0, .ref (v_E g 0)), (1, .int x1)] [] s (r2 (x1, s))) (x1 : Int32) (s : v_S) : v_V Γ 2 wT g (fun z : Int32 × v_S => (some (.int z.1), z.2)) 2 [(0, .ref (v_E g 0)), (1, .int x1)] [] s (t_T_ringSize_2 fu r2 x1 s) := by
  unfold t_T_ringSize_2
  refine v_iload_n (pc := 2) X dX5_ringSize_2 1 rfl ?_
  refine v_aload_n (pc := 3) X dX5_ringSize_3 0 rfl ?_
  refine v_cGi (pc := 4) X (m_T_villages l g fu _) (v_rc_n X wT_o0) (Or.inl q1725) hy_T_villages rfl rfl rfl rfl dX5_ringSize_4 (fun z_1 _ => ?_)
  refine v_icmp_gt (pc := 7) (tgt := 26) X dX5_ringSize_7 (by decide) (fun c7 => ?_) (fun c7 => ?_)
  · refine v_iconst (pc := 26) (v := -1) X dX5_ringSize_26 rfl ?_
    exact v_iret (pc := 27) X dX5_ringSize_27 rfl
  · refine v_aload_n (pc := 10) X dX5_ringSize_10 0 rfl ?_
    refine v_iload_n (pc := 11) X dX5_ringSize_11 1 rfl ?_
    refine v_cGis (pc := 12) X (m_T_findsRing l g fu x1 _) (v_rc_n X wT_o0) (Or.inl q1997) hy_T_findsRing rfl rfl rfl rfl dX5_ringSize_12 (fun z_2 s_3 _ => ?_)
    refine v_if_eq (pc := 15) (tgt := 20) X dX5_ringSize_15 (by decide) (fun c15 => ?_) (fun c15 => ?_)
    · refine v_iinc (pc := 20) (v := x1 + (1 : Int32)) (lv' := [(1, .int (x1 + (1 : Int32))), (0, .ref (v_E g 0))]) (k := 1) X dX5_ringSize_20 rfl rfl (Nat.le_of_ble_eq_true rfl) rfl ?_
      refine v_goto (pc := 23) (tgt := 2) X dX5_ringSize_23 (by decide) ?_
      refine v_sub [1, 0] rfl ?_
      exact h2 (x1 + (1 : Int32)) s_3
    · refine v_iload_n (pc := 18) X dX5_ringSize_18 1 rfl ?_
      exact v_iret (pc := 19) X dX5_ringSize_19 rfl
theorem w_T_ringSize_2L {Γ : v_Ctx} {l : Launch} {g : v_G} (fu : Nat) (X : v_C Γ l rm_T_ringSize cX5_ringSize 2 RX5 (some .int) wT g)  : ∀ (n : Nat), ∀ (x1 : Int32) (s : v_S), v_V Γ 2 wT g (fun z : Int32 × v_S => (some (.int z.1), z.2)) 2 [(0, .ref (v_E g 0)), (1, .int x1)] [] s (v_loop (t_T_ringSize_2B fu) n (x1, s)) := by
  intro n
  induction n with
  | zero => exact fun _ _ => v_none
  | succ n ih => exact fun x1 s => w_T_ringSize_2 fu X  _ ih x1 s
theorem m_T_ringSize (l : Launch) (g : v_G) (fu : Nat)  (s : v_S) : v_M l yX5_ringSize cX5_ringSize 2 (some .int) rm_T_ringSize wT g [.ref (v_E g 0)] s (fun z : Int32 × v_S => (some (.int z.1), z.2)) (t_T_ringSize fu  s) := by
  refine v_met (by decide +kernel) (Nat.le_of_ble_eq_true rfl) (fun Γ X => ?_)
  refine v_lv (lv' := [(0, .ref (v_E g 0))]) rfl ?_
  unfold t_T_ringSize
  refine v_iconst (pc := 0) (v := 2) X dX5_ringSize_0 rfl ?_
  refine v_istore_n (pc := 1) (lv' := [(1, .int (2 : Int32)), (0, .ref (v_E g 0))]) X dX5_ringSize_1 rfl (Nat.le_of_ble_eq_true rfl) rfl ?_
  refine v_sub [1, 0] rfl ?_
  exact w_T_ringSize_2L fu X  fu (2 : Int32) s
/-! FloodLentModel.clears()V -/
abbrev rm_T_clears : Room := { frames := 7, cells := 0, slots := 0, locals := 153 }
theorem hy_T_clears : v_yV yX5_clears cX5_clears 5 none 0 := ⟨q1991, qs119, q141, q1992, by decide +kernel⟩
def t_T_clears_143 (fu : Nat) (r19 : Int32 × v_S → Option v_S) (x1 : Int32) (x2 : Int32) (x3 : Int32) (s : v_S) : Option v_S :=
v_g (s.1 0 31) 120 <| v_n (v_uI s 14 (Int32.toNatClampNeg (s.1 0 31)) x3) fun (s_7 : v_S) => v_n (v_uI s_7 0 31 ((s_7.1 0 31) + (1 : Int32))) fun (s_8 : v_S) => v_n (v_uI s_8 0 32 ((s_8.1 0 32) + (x2 * x1))) fun (s_9 : v_S) => v_b2 (t_T_ringSize fu s_9) fun (z_10 : Int32) (s_11 : v_S) => r19 (z_10, s_11)
def t_T_clears_100 (fu : Nat) (r19 : Int32 × v_S → Option v_S) (r100 : Int32 × Int32 × Int32 × Int32 × v_S → Option v_S) (x1 : Int32) (x2 : Int32) (x3 : Int32) (x4 : Int32) (s : v_S) : Option v_S :=
if x1 ≤ x4 then (t_T_clears_143 fu r19 x1 x2 x3 s) else (v_g x4 6 <| if x1 = 0 then none else v_g ((x4 + (1 : Int32)) - (x4 + (1 : Int32)) / x1 * x1) 6 <| v_g (((6 : Int32) * (s.1 15 (Int32.toNatClampNeg x4))) + (s.1 15 (Int32.toNatClampNeg ((x4 + (1 : Int32)) - (x4 + (1 : Int32)) / x1 * x1)))) 36 <| v_g (((6 : Int32) * (s.1 15 (Int32.toNatClampNeg x4))) + (s.1 15 (Int32.toNatClampNeg ((x4 + (1 : Int32)) - (x4 + (1 : Int32)) / x1 * x1)))) 36 <| v_n (v_uI s 13 (Int32.toNatClampNeg (((6 : Int32) * (s.1 15 (Int32.toNatClampNeg x4))) + (s.1 15 (Int32.toNatClampNeg ((x4 + (1 : Int32)) - (x4 + (1 : Int32)) / x1 * x1))))) ((s.1 13 (Int32.toNatClampNeg (((6 : Int32) * (s.1 15 (Int32.toNatClampNeg x4))) + (s.1 15 (Int32.toNatClampNeg ((x4 + (1 : Int32)) - (x4 + (1 : Int32)) / x1 * x1)))))) - x2)) fun (s_12 : v_S) => r100 (x1, x2, x3, x4 + (1 : Int32), s_12))
def t_T_clears_100B (fu : Nat) (r19 : Int32 × v_S → Option v_S) (r100 : Int32 × Int32 × Int32 × Int32 × v_S → Option v_S) (a : Int32 × Int32 × Int32 × Int32 × v_S) : Option v_S := t_T_clears_100 fu r19 r100 a.1 a.2.1 a.2.2.1 a.2.2.2.1 a.2.2.2.2
def t_T_clears_46 (fu : Nat) (r19 : Int32 × v_S → Option v_S) (r46 : Int32 × Int32 × Int32 × Int32 × v_S → Option v_S) (x1 : Int32) (x2 : Int32) (x3 : Int32) (x4 : Int32) (s : v_S) : Option v_S :=
if x1 ≤ x4 then (v_loop (t_T_clears_100B fu r19) fu (x1, x2, x3, (0 : Int32), s)) else (v_g x4 6 <| if x1 = 0 then none else v_g ((x4 + (1 : Int32)) - (x4 + (1 : Int32)) / x1 * x1) 6 <| v_b1 (t_T_debt fu (s.1 15 (Int32.toNatClampNeg x4)) (s.1 15 (Int32.toNatClampNeg ((x4 + (1 : Int32)) - (x4 + (1 : Int32)) / x1 * x1))) s) fun (z_13 : Int32) => v_n (if z_13 < x2 then z_13 else x2) fun (x2_14 : Int32) => v_g x4 6 <| v_n (x3 ||| ((1 : Int32) <<< ((s.1 15 (Int32.toNatClampNeg x4)) &&& 31))) fun (x3_15 : Int32) => r46 (x1, x2_14, x3_15, x4 + (1 : Int32), s))
def t_T_clears_46B (fu : Nat) (r19 : Int32 × v_S → Option v_S) (r46 : Int32 × Int32 × Int32 × Int32 × v_S → Option v_S) (a : Int32 × Int32 × Int32 × Int32 × v_S) : Option v_S := t_T_clears_46 fu r19 r46 a.1 a.2.1 a.2.2.1 a.2.2.2.1 a.2.2.2.2
def t_T_clears_19 (fu : Nat) (r19 : Int32 × v_S → Option v_S) (x1 : Int32) (s : v_S) : Option v_S :=
if x1 = (-1 : Int32) then (some s) else (v_b1 (t_T_debt fu (s.1 15 0) (s.1 15 1) s) fun (z_6 : Int32) => v_loop (t_T_clears_46B fu r19) fu (x1, z_6, (0 : Int32), (0 : Int32), s))
def t_T_clears_19B (fu : Nat) (r19 : Int32 × v_S → Option v_S) (a : Int32 × v_S) : Option v_S := t_T_clears_19 fu r19 a.1 a.2
def t_T_clears (fu : Nat)  (s : v_S) : Option v_S :=
  v_b1 (t_T_fillDebts fu s) fun (s_1 : v_S) => v_n (v_uI s_1 0 31 (0 : Int32)) fun (s_2 : v_S) => v_n (v_uI s_2 0 32 (0 : Int32)) fun (s_3 : v_S) => v_b2 (t_T_ringSize fu s_3) fun (z_4 : Int32) (s_5 : v_S) => v_loop (t_T_clears_19B fu) fu (z_4, s_5)
theorem w_T_clears_143 {Γ : v_Ctx} {l : Launch} {g : v_G} (fu : Nat) (X : v_C Γ l rm_T_clears cX5_clears 5 RX5 none wT g) (r19 : Int32 × v_S → Option v_S) (h19 : ∀ (x1 : Int32) (s : v_S), v_V Γ 5 wT g (fun z : v_S => ((none : Option Value), z)) 19 [(0, .ref (v_E g 0)), (1, .int x1)] [] s (r19 (x1, s))) (x1 : Int32) (x2 : Int32) (x3 : Int32) (s : v_S) : v_V Γ 5 wT g (fun z : v_S => ((none : Option Value), z)) 143 [(0, .ref (v_E g 0)), (1, .int x1), (2, .int x2), (3, .int x3)] [] s (t_T_clears_143 fu r19 x1 x2 x3 s) := by
  unfold t_T_clears_143
  refine v_aload_n (pc := 143) X dX5_clears_143 0 rfl ?_
  refine v_get (pc := 144) (kind := 17) (v := .ref (v_E g 14)) X wT_n0 wT_l0 wT_c0 in_X5 (Nat.le_of_ble_eq_true rfl : 30 < 40) q1501 rfl rfl dX5_clears_144 ?_
  refine v_aload_n (pc := 147) X dX5_clears_147 0 rfl ?_
  refine v_get (pc := 148) (kind := 0) (v := .int (s.1 0 31)) X wT_n0 wT_l0 wT_c0 in_X5 (Nat.le_of_ble_eq_true rfl : 31 < 40) q1502 rfl rfl dX5_clears_148 ?_
  refine v_iload_n (pc := 151) X dX5_clears_151 3 rfl ?_
  refine v_iast (pc := 152) X wT_n14 wT_l14 dX5_clears_152 (fun s_7 => ?_)
  refine v_aload_n (pc := 153) X dX5_clears_153 0 rfl ?_
  refine v_dup (pc := 154) X dX5_clears_154 rfl ?_
  refine v_get (pc := 155) (kind := 0) (v := .int (s_7.1 0 31)) X wT_n0 wT_l0 wT_c0 in_X5 (Nat.le_of_ble_eq_true rfl : 31 < 40) q1502 rfl rfl dX5_clears_155 ?_
  refine v_iconst (pc := 158) (v := 1) X dX5_clears_158 rfl ?_
  refine v_iadd (pc := 159) X dX5_clears_159 ?_
  refine v_putI (pc := 160) X wT_n0 wT_l0 wT_c0 in_X5 tyX5 tyX5_ok nmX5 (Nat.le_of_ble_eq_true rfl : 31 < 40) q1502 rfl rfl rfl dX5_clears_160 (fun s_8 => ?_)
  refine v_aload_n (pc := 163) X dX5_clears_163 0 rfl ?_
  refine v_dup (pc := 164) X dX5_clears_164 rfl ?_
  refine v_get (pc := 165) (kind := 0) (v := .int (s_8.1 0 32)) X wT_n0 wT_l0 wT_c0 in_X5 (Nat.le_of_ble_eq_true rfl : 32 < 40) q1503 rfl rfl dX5_clears_165 ?_
  refine v_iload_n (pc := 168) X dX5_clears_168 2 rfl ?_
  refine v_iload_n (pc := 169) X dX5_clears_169 1 rfl ?_
  refine v_imul (pc := 170) X dX5_clears_170 ?_
  refine v_iadd (pc := 171) X dX5_clears_171 ?_
  refine v_putI (pc := 172) X wT_n0 wT_l0 wT_c0 in_X5 tyX5 tyX5_ok nmX5 (Nat.le_of_ble_eq_true rfl : 32 < 40) q1503 rfl rfl rfl dX5_clears_172 (fun s_9 => ?_)
  refine v_aload_n (pc := 175) X dX5_clears_175 0 rfl ?_
  refine v_cGis (pc := 176) X (m_T_ringSize l g fu _) (v_rc_n X wT_o0) (Or.inl q1993) hy_T_ringSize rfl rfl rfl rfl dX5_clears_176 (fun z_10 s_11 _ => ?_)
  refine v_istore_n (pc := 179) (lv' := [(1, .int z_10), (0, .ref (v_E g 0)), (2, .int x2), (3, .int x3)]) X dX5_clears_179 rfl (Nat.le_of_ble_eq_true rfl) rfl ?_
  refine v_goto (pc := 180) (tgt := 19) X dX5_clears_180 (by decide) ?_
  refine v_sub [1, 0] rfl ?_
  exact h19 z_10 s_11
theorem w_T_clears_100 {Γ : v_Ctx} {l : Launch} {g : v_G} (fu : Nat) (X : v_C Γ l rm_T_clears cX5_clears 5 RX5 none wT g) (r19 : Int32 × v_S → Option v_S) (h19 : ∀ (x1 : Int32) (s : v_S), v_V Γ 5 wT g (fun z : v_S => ((none : Option Value), z)) 19 [(0, .ref (v_E g 0)), (1, .int x1)] [] s (r19 (x1, s))) (r100 : Int32 × Int32 × Int32 × Int32 × v_S → Option v_S) (h100 : ∀ (x1 : Int32) (x2 : Int32) (x3 : Int32) (x4 : Int32) (s : v_S), v_V Γ 5 wT g (fun z : v_S => ((none : Option Value), z)) 100 [(0, .ref (v_E g 0)), (1, .int x1), (2, .int x2), (3, .int x3), (4, .int x4)] [] s (r100 (x1, x2, x3, x4, s))) (x1 : Int32) (x2 : Int32) (x3 : Int32) (x4 : Int32) (s : v_S) : v_V Γ 5 wT g (fun z : v_S => ((none : Option Value), z)) 100 [(0, .ref (v_E g 0)), (1, .int x1), (2, .int x2), (3, .int x3), (4, .int x4)] [] s (t_T_clears_100 fu r19 r100 x1 x2 x3 x4 s) := by
  unfold t_T_clears_100
  refine v_iload (pc := 100) X dX5_clears_100 4 rfl ?_
  refine v_iload_n (pc := 102) X dX5_clears_102 1 rfl ?_
  refine v_icmp_ge (pc := 103) (tgt := 143) X dX5_clears_103 (by decide) (fun c103 => ?_) (fun c103 => ?_)
  · refine v_sub [0, 1, 2, 3] rfl ?_
    exact w_T_clears_143 fu X r19 h19 x1 x2 x3 s
  · refine v_aload_n (pc := 106) X dX5_clears_106 0 rfl ?_
    refine v_get (pc := 107) (kind := 16) (v := .ref (v_E g 13)) X wT_n0 wT_l0 wT_c0 in_X5 (Nat.le_of_ble_eq_true rfl : 29 < 40) q1500 rfl rfl dX5_clears_107 ?_
    refine v_bipush (pc := 110) (v := 6) X dX5_clears_110 rfl ?_
    refine v_aload_n (pc := 112) X dX5_clears_112 0 rfl ?_
    refine v_get (pc := 113) (kind := 18) (v := .ref (v_E g 15)) X wT_n0 wT_l0 wT_c0 in_X5 (Nat.le_of_ble_eq_true rfl : 33 < 40) q1504 rfl rfl dX5_clears_113 ?_
    refine v_iload (pc := 116) X dX5_clears_116 4 rfl ?_
    refine v_iald (pc := 118) X wT_n15 wT_l15 dX5_clears_118 ?_
    refine v_imul (pc := 119) X dX5_clears_119 ?_
    refine v_aload_n (pc := 120) X dX5_clears_120 0 rfl ?_
    refine v_get (pc := 121) (kind := 18) (v := .ref (v_E g 15)) X wT_n0 wT_l0 wT_c0 in_X5 (Nat.le_of_ble_eq_true rfl : 33 < 40) q1504 rfl rfl dX5_clears_121 ?_
    refine v_iload (pc := 124) X dX5_clears_124 4 rfl ?_
    refine v_iconst (pc := 126) (v := 1) X dX5_clears_126 rfl ?_
    refine v_iadd (pc := 127) X dX5_clears_127 ?_
    refine v_iload_n (pc := 128) X dX5_clears_128 1 rfl ?_
    refine v_irem (pc := 129) X dX5_clears_129 ?_
    refine v_iald (pc := 130) X wT_n15 wT_l15 dX5_clears_130 ?_
    refine v_iadd (pc := 131) X dX5_clears_131 ?_
    refine v_dup2_11 (pc := 132) X dX5_clears_132 rfl rfl ?_
    refine v_iald (pc := 133) X wT_n13 wT_l13 dX5_clears_133 ?_
    refine v_iload_n (pc := 134) X dX5_clears_134 2 rfl ?_
    refine v_isub (pc := 135) X dX5_clears_135 ?_
    refine v_iast (pc := 136) X wT_n13 wT_l13 dX5_clears_136 (fun s_12 => ?_)
    refine v_iinc (pc := 137) (v := x4 + (1 : Int32)) (lv' := [(4, .int (x4 + (1 : Int32))), (0, .ref (v_E g 0)), (1, .int x1), (2, .int x2), (3, .int x3)]) (k := 4) X dX5_clears_137 rfl rfl (Nat.le_of_ble_eq_true rfl) rfl ?_
    refine v_goto (pc := 140) (tgt := 100) X dX5_clears_140 (by decide) ?_
    refine v_sub [1, 2, 3, 4, 0] rfl ?_
    exact h100 x1 x2 x3 (x4 + (1 : Int32)) s_12
theorem w_T_clears_100L {Γ : v_Ctx} {l : Launch} {g : v_G} (fu : Nat) (X : v_C Γ l rm_T_clears cX5_clears 5 RX5 none wT g) (r19 : Int32 × v_S → Option v_S) (h19 : ∀ (x1 : Int32) (s : v_S), v_V Γ 5 wT g (fun z : v_S => ((none : Option Value), z)) 19 [(0, .ref (v_E g 0)), (1, .int x1)] [] s (r19 (x1, s))) : ∀ (n : Nat), ∀ (x1 : Int32) (x2 : Int32) (x3 : Int32) (x4 : Int32) (s : v_S), v_V Γ 5 wT g (fun z : v_S => ((none : Option Value), z)) 100 [(0, .ref (v_E g 0)), (1, .int x1), (2, .int x2), (3, .int x3), (4, .int x4)] [] s (v_loop (t_T_clears_100B fu r19) n (x1, x2, x3, x4, s)) := by
  intro n
  induction n with
  | zero => exact fun _ _ _ _ _ => v_none
  | succ n ih => exact fun x1 x2 x3 x4 s => w_T_clears_100 fu X r19 h19 _ ih x1 x2 x3 x4 s
theorem w_T_clears_46 {Γ : v_Ctx} {l : Launch} {g : v_G} (fu : Nat) (X : v_C Γ l rm_T_clears cX5_clears 5 RX5 none wT g) (r19 : Int32 × v_S → Option v_S) (h19 : ∀ (x1 : Int32) (s : v_S), v_V Γ 5 wT g (fun z : v_S => ((none : Option Value), z)) 19 [(0, .ref (v_E g 0)), (1, .int x1)] [] s (r19 (x1, s))) (r46 : Int32 × Int32 × Int32 × Int32 × v_S → Option v_S) (h46 : ∀ (x1 : Int32) (x2 : Int32) (x3 : Int32) (x4 : Int32) (s : v_S), v_V Γ 5 wT g (fun z : v_S => ((none : Option Value), z)) 46 [(0, .ref (v_E g 0)), (1, .int x1), (2, .int x2), (3, .int x3), (4, .int x4)] [] s (r46 (x1, x2, x3, x4, s))) (x1 : Int32) (x2 : Int32) (x3 : Int32) (x4 : Int32) (s : v_S) : v_V Γ 5 wT g (fun z : v_S => ((none : Option Value), z)) 46 [(0, .ref (v_E g 0)), (1, .int x1), (2, .int x2), (3, .int x3), (4, .int x4)] [] s (t_T_clears_46 fu r19 r46 x1 x2 x3 x4 s) := by
  unfold t_T_clears_46
  refine v_iload (pc := 46) X dX5_clears_46 4 rfl ?_
  refine v_iload_n (pc := 48) X dX5_clears_48 1 rfl ?_
  refine v_icmp_ge (pc := 49) (tgt := 97) X dX5_clears_49 (by decide) (fun c49 => ?_) (fun c49 => ?_)
  · refine v_iconst (pc := 97) (v := 0) X dX5_clears_97 rfl ?_
    refine v_istore (pc := 98) (lv' := [(4, .int (0 : Int32)), (0, .ref (v_E g 0)), (1, .int x1), (2, .int x2), (3, .int x3)]) X dX5_clears_98 (Nat.le_of_ble_eq_true rfl) rfl ?_
    refine v_sub [1, 2, 3, 4, 0] rfl ?_
    exact w_T_clears_100L fu X r19 h19 fu x1 x2 x3 (0 : Int32) s
  · refine v_iload_n (pc := 52) X dX5_clears_52 2 rfl ?_
    refine v_aload_n (pc := 53) X dX5_clears_53 0 rfl ?_
    refine v_aload_n (pc := 54) X dX5_clears_54 0 rfl ?_
    refine v_get (pc := 55) (kind := 18) (v := .ref (v_E g 15)) X wT_n0 wT_l0 wT_c0 in_X5 (Nat.le_of_ble_eq_true rfl : 33 < 40) q1504 rfl rfl dX5_clears_55 ?_
    refine v_iload (pc := 58) X dX5_clears_58 4 rfl ?_
    refine v_iald (pc := 60) X wT_n15 wT_l15 dX5_clears_60 ?_
    refine v_aload_n (pc := 61) X dX5_clears_61 0 rfl ?_
    refine v_get (pc := 62) (kind := 18) (v := .ref (v_E g 15)) X wT_n0 wT_l0 wT_c0 in_X5 (Nat.le_of_ble_eq_true rfl : 33 < 40) q1504 rfl rfl dX5_clears_62 ?_
    refine v_iload (pc := 65) X dX5_clears_65 4 rfl ?_
    refine v_iconst (pc := 67) (v := 1) X dX5_clears_67 rfl ?_
    refine v_iadd (pc := 68) X dX5_clears_68 ?_
    refine v_iload_n (pc := 69) X dX5_clears_69 1 rfl ?_
    refine v_irem (pc := 70) X dX5_clears_70 ?_
    refine v_iald (pc := 71) X wT_n15 wT_l15 dX5_clears_71 ?_
    refine v_cGi (pc := 72) X (m_T_debt l g fu (s.1 15 (Int32.toNatClampNeg x4)) (s.1 15 (Int32.toNatClampNeg ((x4 + (1 : Int32)) - (x4 + (1 : Int32)) / x1 * x1))) _) (v_rc_n X wT_o0) (Or.inl q1981) hy_T_debt rfl rfl rfl rfl dX5_clears_72 (fun z_13 _ => ?_)
    refine v_mmin (pc := 75) X q1634 q681 q143 q682 rfl dX5_clears_75 ?_
    refine v_istore_nN (pc := 78) (lvf := fun x2_14 => [(2, .int x2_14), (0, .ref (v_E g 0)), (1, .int x1), (3, .int x3), (4, .int x4)]) X dX5_clears_78 rfl (Nat.le_of_ble_eq_true rfl) (fun _ => rfl) (fun x2_14 => ?_)
    refine v_iload_n (pc := 79) X dX5_clears_79 3 rfl ?_
    refine v_iconst (pc := 80) (v := 1) X dX5_clears_80 rfl ?_
    refine v_aload_n (pc := 81) X dX5_clears_81 1 rfl ?_
    refine v_get (pc := 82) (kind := 18) (v := .ref (v_E g 15)) X wT_n0 wT_l0 wT_c0 in_X5 (Nat.le_of_ble_eq_true rfl : 33 < 40) q1504 rfl rfl dX5_clears_82 ?_
    refine v_iload (pc := 85) X dX5_clears_85 4 rfl ?_
    refine v_iald (pc := 87) X wT_n15 wT_l15 dX5_clears_87 ?_
    refine v_ishl (pc := 88) X dX5_clears_88 ?_
    refine v_ior (pc := 89) X dX5_clears_89 ?_
    refine v_istore_nN (pc := 90) (lvf := fun x3_15 => [(3, .int x3_15), (2, .int x2_14), (0, .ref (v_E g 0)), (1, .int x1), (4, .int x4)]) X dX5_clears_90 rfl (Nat.le_of_ble_eq_true rfl) (fun _ => rfl) (fun x3_15 => ?_)
    refine v_iinc (pc := 91) (v := x4 + (1 : Int32)) (lv' := [(4, .int (x4 + (1 : Int32))), (3, .int x3_15), (2, .int x2_14), (0, .ref (v_E g 0)), (1, .int x1)]) (k := 4) X dX5_clears_91 rfl rfl (Nat.le_of_ble_eq_true rfl) rfl ?_
    refine v_goto (pc := 94) (tgt := 46) X dX5_clears_94 (by decide) ?_
    refine v_sub [3, 4, 2, 1, 0] rfl ?_
    exact h46 x1 x2_14 x3_15 (x4 + (1 : Int32)) s
theorem w_T_clears_46L {Γ : v_Ctx} {l : Launch} {g : v_G} (fu : Nat) (X : v_C Γ l rm_T_clears cX5_clears 5 RX5 none wT g) (r19 : Int32 × v_S → Option v_S) (h19 : ∀ (x1 : Int32) (s : v_S), v_V Γ 5 wT g (fun z : v_S => ((none : Option Value), z)) 19 [(0, .ref (v_E g 0)), (1, .int x1)] [] s (r19 (x1, s))) : ∀ (n : Nat), ∀ (x1 : Int32) (x2 : Int32) (x3 : Int32) (x4 : Int32) (s : v_S), v_V Γ 5 wT g (fun z : v_S => ((none : Option Value), z)) 46 [(0, .ref (v_E g 0)), (1, .int x1), (2, .int x2), (3, .int x3), (4, .int x4)] [] s (v_loop (t_T_clears_46B fu r19) n (x1, x2, x3, x4, s)) := by
  intro n
  induction n with
  | zero => exact fun _ _ _ _ _ => v_none
  | succ n ih => exact fun x1 x2 x3 x4 s => w_T_clears_46 fu X r19 h19 _ ih x1 x2 x3 x4 s
theorem w_T_clears_19 {Γ : v_Ctx} {l : Launch} {g : v_G} (fu : Nat) (X : v_C Γ l rm_T_clears cX5_clears 5 RX5 none wT g) (r19 : Int32 × v_S → Option v_S) (h19 : ∀ (x1 : Int32) (s : v_S), v_V Γ 5 wT g (fun z : v_S => ((none : Option Value), z)) 19 [(0, .ref (v_E g 0)), (1, .int x1)] [] s (r19 (x1, s))) (x1 : Int32) (s : v_S) : v_V Γ 5 wT g (fun z : v_S => ((none : Option Value), z)) 19 [(0, .ref (v_E g 0)), (1, .int x1)] [] s (t_T_clears_19 fu r19 x1 s) := by
  unfold t_T_clears_19
  refine v_iload_n (pc := 19) X dX5_clears_19 1 rfl ?_
  refine v_iconst (pc := 20) (v := -1) X dX5_clears_20 rfl ?_
  refine v_icmp_eq (pc := 21) (tgt := 183) X dX5_clears_21 (by decide) (fun c21 => ?_) (fun c21 => ?_)
  · exact v_vret (pc := 183) X dX5_clears_183 rfl
  · refine v_aload_n (pc := 24) X dX5_clears_24 0 rfl ?_
    refine v_aload_n (pc := 25) X dX5_clears_25 0 rfl ?_
    refine v_get (pc := 26) (kind := 18) (v := .ref (v_E g 15)) X wT_n0 wT_l0 wT_c0 in_X5 (Nat.le_of_ble_eq_true rfl : 33 < 40) q1504 rfl rfl dX5_clears_26 ?_
    refine v_iconst (pc := 29) (v := 0) X dX5_clears_29 rfl ?_
    refine v_ialdC (pc := 30) (k := 0) X wT_n15 wT_l15 rfl dX5_clears_30 ?_
    refine v_aload_n (pc := 31) X dX5_clears_31 0 rfl ?_
    refine v_get (pc := 32) (kind := 18) (v := .ref (v_E g 15)) X wT_n0 wT_l0 wT_c0 in_X5 (Nat.le_of_ble_eq_true rfl : 33 < 40) q1504 rfl rfl dX5_clears_32 ?_
    refine v_iconst (pc := 35) (v := 1) X dX5_clears_35 rfl ?_
    refine v_ialdC (pc := 36) (k := 1) X wT_n15 wT_l15 rfl dX5_clears_36 ?_
    refine v_cGi (pc := 37) X (m_T_debt l g fu (s.1 15 0) (s.1 15 1) _) (v_rc_n X wT_o0) (Or.inl q1981) hy_T_debt rfl rfl rfl rfl dX5_clears_37 (fun z_6 _ => ?_)
    refine v_istore_n (pc := 40) (lv' := [(2, .int z_6), (0, .ref (v_E g 0)), (1, .int x1)]) X dX5_clears_40 rfl (Nat.le_of_ble_eq_true rfl) rfl ?_
    refine v_iconst (pc := 41) (v := 0) X dX5_clears_41 rfl ?_
    refine v_istore_n (pc := 42) (lv' := [(3, .int (0 : Int32)), (2, .int z_6), (0, .ref (v_E g 0)), (1, .int x1)]) X dX5_clears_42 rfl (Nat.le_of_ble_eq_true rfl) rfl ?_
    refine v_iconst (pc := 43) (v := 0) X dX5_clears_43 rfl ?_
    refine v_istore (pc := 44) (lv' := [(4, .int (0 : Int32)), (3, .int (0 : Int32)), (2, .int z_6), (0, .ref (v_E g 0)), (1, .int x1)]) X dX5_clears_44 (Nat.le_of_ble_eq_true rfl) rfl ?_
    refine v_sub [3, 4, 2, 1, 0] rfl ?_
    exact w_T_clears_46L fu X r19 h19 fu x1 z_6 (0 : Int32) (0 : Int32) s
theorem w_T_clears_19L {Γ : v_Ctx} {l : Launch} {g : v_G} (fu : Nat) (X : v_C Γ l rm_T_clears cX5_clears 5 RX5 none wT g)  : ∀ (n : Nat), ∀ (x1 : Int32) (s : v_S), v_V Γ 5 wT g (fun z : v_S => ((none : Option Value), z)) 19 [(0, .ref (v_E g 0)), (1, .int x1)] [] s (v_loop (t_T_clears_19B fu) n (x1, s)) := by
  intro n
  induction n with
  | zero => exact fun _ _ => v_none
  | succ n ih => exact fun x1 s => w_T_clears_19 fu X  _ ih x1 s
theorem m_T_clears (l : Launch) (g : v_G) (fu : Nat)  (s : v_S) : v_M l yX5_clears cX5_clears 5 none rm_T_clears wT g [.ref (v_E g 0)] s (fun z : v_S => ((none : Option Value), z)) (t_T_clears fu  s) := by
  refine v_met (by decide +kernel) (Nat.le_of_ble_eq_true rfl) (fun Γ X => ?_)
  refine v_lv (lv' := [(0, .ref (v_E g 0))]) rfl ?_
  unfold t_T_clears
  refine v_aload_n (pc := 0) X dX5_clears_0 0 rfl ?_
  refine v_cGs (pc := 1) X (m_T_fillDebts l g fu _) (v_rc_n X wT_o0) (Or.inl q1977) hy_T_fillDebts rfl rfl rfl rfl dX5_clears_1 (fun s_1 _ => ?_)
  refine v_aload_n (pc := 4) X dX5_clears_4 0 rfl ?_
  refine v_iconst (pc := 5) (v := 0) X dX5_clears_5 rfl ?_
  refine v_putI (pc := 6) X wT_n0 wT_l0 wT_c0 in_X5 tyX5 tyX5_ok nmX5 (Nat.le_of_ble_eq_true rfl : 31 < 40) q1502 rfl rfl rfl dX5_clears_6 (fun s_2 => ?_)
  refine v_aload_n (pc := 9) X dX5_clears_9 0 rfl ?_
  refine v_iconst (pc := 10) (v := 0) X dX5_clears_10 rfl ?_
  refine v_putI (pc := 11) X wT_n0 wT_l0 wT_c0 in_X5 tyX5 tyX5_ok nmX5 (Nat.le_of_ble_eq_true rfl : 32 < 40) q1503 rfl rfl rfl dX5_clears_11 (fun s_3 => ?_)
  refine v_aload_n (pc := 14) X dX5_clears_14 0 rfl ?_
  refine v_cGis (pc := 15) X (m_T_ringSize l g fu _) (v_rc_n X wT_o0) (Or.inl q1993) hy_T_ringSize rfl rfl rfl rfl dX5_clears_15 (fun z_4 s_5 _ => ?_)
  refine v_istore_n (pc := 18) (lv' := [(1, .int z_4), (0, .ref (v_E g 0))]) X dX5_clears_18 rfl (Nat.le_of_ble_eq_true rfl) rfl ?_
  refine v_sub [1, 0] rfl ?_
  exact w_T_clears_19L fu X  fu z_4 s_5
/-! FloodLentModel.rings(I)I -/
abbrev rm_T_rings : Room := { frames := 8, cells := 0, slots := 0, locals := 177 }
theorem hy_T_rings : v_yV yX5_rings cX5_rings 2 (some .int) 1 := ⟨q1986, q1987, q141, q1988, by decide +kernel⟩
def t_T_rings (fu : Nat) (p1 : Int32) (s : v_S) : Option (Int32 × v_S) :=
  v_b1 (t_T_isPlain fu s) fun (z_1 : Int32) => if z_1 = 0 then (some ((-2 : Int32), s)) else (v_b1 (t_T_in fu (Int32.toInt64 p1) (0 : Int64) (1 : Int64) s) fun (z_2 : Int32) => if z_2 = 0 then (some ((-2 : Int32), s)) else (v_b1 (t_T_clears fu s) fun (s_3 : v_S) => if p1 = 0 then (some (s_3.1 0 31, s_3)) else (some (s_3.1 0 32, s_3))))
theorem m_T_rings (l : Launch) (g : v_G) (fu : Nat) (p1 : Int32) (s : v_S) : v_M l yX5_rings cX5_rings 2 (some .int) rm_T_rings wT g [.ref (v_E g 0), .int p1] s (fun z : Int32 × v_S => (some (.int z.1), z.2)) (t_T_rings fu p1 s) := by
  refine v_met (by decide +kernel) (Nat.le_of_ble_eq_true rfl) (fun Γ X => ?_)
  refine v_lv (lv' := [(0, .ref (v_E g 0)), (1, .int p1)]) rfl ?_
  unfold t_T_rings
  refine v_aload_n (pc := 0) X dX5_rings_0 0 rfl ?_
  refine v_cGi (pc := 1) X (m_T_isPlain l g fu _) (v_rc_n X wT_o0) (Or.inl q1831) hy_T_isPlain rfl rfl rfl rfl dX5_rings_1 (fun z_1 _ => ?_)
  refine v_if_eq (pc := 4) (tgt := 17) X dX5_rings_4 (by decide) (fun c4 => ?_) (fun c4 => ?_)
  · refine v_bipush (pc := 17) (v := -2) X dX5_rings_17 rfl ?_
    exact v_iret (pc := 19) X dX5_rings_19 rfl
  · refine v_iload_n (pc := 7) X dX5_rings_7 1 rfl ?_
    refine v_i2l (pc := 8) X dX5_rings_8 ?_
    refine v_lconst (pc := 9) (v := 0) X dX5_rings_9 rfl ?_
    refine v_lconst (pc := 10) (v := 1) X dX5_rings_10 rfl ?_
    refine v_cSi (pc := 11) X (m_T_in l g fu (Int32.toInt64 p1) (0 : Int64) (1 : Int64) _) q1598 hy_T_in rfl rfl rfl rfl dX5_rings_11 (fun z_2 _ => ?_)
    refine v_if_ne (pc := 14) (tgt := 20) X dX5_rings_14 (by decide) (fun c14 => ?_) (fun c14 => ?_)
    · refine v_aload_n (pc := 20) X dX5_rings_20 0 rfl ?_
      refine v_cGs (pc := 21) X (m_T_clears l g fu _) (v_rc_n X wT_o0) (Or.inl q1989) hy_T_clears rfl rfl rfl rfl dX5_rings_21 (fun s_3 _ => ?_)
      refine v_iload_n (pc := 24) X dX5_rings_24 1 rfl ?_
      refine v_if_ne (pc := 25) (tgt := 35) X dX5_rings_25 (by decide) (fun c25 => ?_) (fun c25 => ?_)
      · refine v_aload_n (pc := 35) X dX5_rings_35 0 rfl ?_
        refine v_get (pc := 36) (kind := 0) (v := .int (s_3.1 0 32)) X wT_n0 wT_l0 wT_c0 in_X5 (Nat.le_of_ble_eq_true rfl : 32 < 40) q1503 rfl rfl dX5_rings_36 ?_
        exact v_iret (pc := 39) X dX5_rings_39 rfl
      · refine v_aload_n (pc := 28) X dX5_rings_28 0 rfl ?_
        refine v_get (pc := 29) (kind := 0) (v := .int (s_3.1 0 31)) X wT_n0 wT_l0 wT_c0 in_X5 (Nat.le_of_ble_eq_true rfl : 31 < 40) q1502 rfl rfl dX5_rings_29 ?_
        refine v_goto (pc := 32) (tgt := 39) X dX5_rings_32 (by decide) ?_
        exact v_iret (pc := 39) X dX5_rings_39 rfl
    · refine v_bipush (pc := 17) (v := -2) X dX5_rings_17 rfl ?_
      exact v_iret (pc := 19) X dX5_rings_19 rfl
/-! FloodLentModel.ring(I)I -/
abbrev rm_T_ring : Room := { frames := 8, cells := 0, slots := 0, locals := 177 }
theorem hy_T_ring : v_yV yX5_ring cX5_ring 2 (some .int) 1 := ⟨q2006, q2007, q141, q2008, by decide +kernel⟩
def t_T_ring (fu : Nat) (p1 : Int32) (s : v_S) : Option (Int32 × v_S) :=
  v_b1 (t_T_isPlain fu s) fun (z_1 : Int32) => if z_1 = 0 then (some ((-2 : Int32), s)) else (v_b1 (t_T_clears fu s) fun (s_2 : v_S) => v_b1 (t_T_in fu (Int32.toInt64 p1) (0 : Int64) (Int32.toInt64 ((s_2.1 0 31) - (1 : Int32))) s_2) fun (z_3 : Int32) => if z_3 = 0 then (some ((-1 : Int32), s_2)) else (v_g p1 120 <| some (s_2.1 14 (Int32.toNatClampNeg p1), s_2)))
theorem m_T_ring (l : Launch) (g : v_G) (fu : Nat) (p1 : Int32) (s : v_S) : v_M l yX5_ring cX5_ring 2 (some .int) rm_T_ring wT g [.ref (v_E g 0), .int p1] s (fun z : Int32 × v_S => (some (.int z.1), z.2)) (t_T_ring fu p1 s) := by
  refine v_met (by decide +kernel) (Nat.le_of_ble_eq_true rfl) (fun Γ X => ?_)
  refine v_lv (lv' := [(0, .ref (v_E g 0)), (1, .int p1)]) rfl ?_
  unfold t_T_ring
  refine v_aload_n (pc := 0) X dX5_ring_0 0 rfl ?_
  refine v_cGi (pc := 1) X (m_T_isPlain l g fu _) (v_rc_n X wT_o0) (Or.inl q1831) hy_T_isPlain rfl rfl rfl rfl dX5_ring_1 (fun z_1 _ => ?_)
  refine v_if_ne (pc := 4) (tgt := 10) X dX5_ring_4 (by decide) (fun c4 => ?_) (fun c4 => ?_)
  · refine v_aload_n (pc := 10) X dX5_ring_10 0 rfl ?_
    refine v_cGs (pc := 11) X (m_T_clears l g fu _) (v_rc_n X wT_o0) (Or.inl q1989) hy_T_clears rfl rfl rfl rfl dX5_ring_11 (fun s_2 _ => ?_)
    refine v_iload_n (pc := 14) X dX5_ring_14 1 rfl ?_
    refine v_i2l (pc := 15) X dX5_ring_15 ?_
    refine v_lconst (pc := 16) (v := 0) X dX5_ring_16 rfl ?_
    refine v_aload_n (pc := 17) X dX5_ring_17 0 rfl ?_
    refine v_get (pc := 18) (kind := 0) (v := .int (s_2.1 0 31)) X wT_n0 wT_l0 wT_c0 in_X5 (Nat.le_of_ble_eq_true rfl : 31 < 40) q1502 rfl rfl dX5_ring_18 ?_
    refine v_iconst (pc := 21) (v := 1) X dX5_ring_21 rfl ?_
    refine v_isub (pc := 22) X dX5_ring_22 ?_
    refine v_i2l (pc := 23) X dX5_ring_23 ?_
    refine v_cSi (pc := 24) X (m_T_in l g fu (Int32.toInt64 p1) (0 : Int64) (Int32.toInt64 ((s_2.1 0 31) - (1 : Int32))) _) q1598 hy_T_in rfl rfl rfl rfl dX5_ring_24 (fun z_3 _ => ?_)
    refine v_if_eq (pc := 27) (tgt := 39) X dX5_ring_27 (by decide) (fun c27 => ?_) (fun c27 => ?_)
    · refine v_iconst (pc := 39) (v := -1) X dX5_ring_39 rfl ?_
      exact v_iret (pc := 40) X dX5_ring_40 rfl
    · refine v_aload_n (pc := 30) X dX5_ring_30 0 rfl ?_
      refine v_get (pc := 31) (kind := 17) (v := .ref (v_E g 14)) X wT_n0 wT_l0 wT_c0 in_X5 (Nat.le_of_ble_eq_true rfl : 30 < 40) q1501 rfl rfl dX5_ring_31 ?_
      refine v_iload_n (pc := 34) X dX5_ring_34 1 rfl ?_
      refine v_iald (pc := 35) X wT_n14 wT_l14 dX5_ring_35 ?_
      refine v_goto (pc := 36) (tgt := 40) X dX5_ring_36 (by decide) ?_
      exact v_iret (pc := 40) X dX5_ring_40 rfl
  · refine v_bipush (pc := 7) (v := -2) X dX5_ring_7 rfl ?_
    exact v_iret (pc := 9) X dX5_ring_9 rfl
/-! FloodLentModel.left(II)I -/
abbrev rm_T_left : Room := { frames := 8, cells := 0, slots := 0, locals := 177 }
theorem hy_T_left : v_yV yX5_left cX5_left 3 (some .int) 2 := ⟨q2010, q2011, q141, q2012, by decide +kernel⟩
def t_T_left (fu : Nat) (p1 : Int32) (p2 : Int32) (s : v_S) : Option (Int32 × v_S) :=
  v_b1 (t_T_areTwo fu p1 p2 s) fun (z_1 : Int32) => if z_1 = 0 then (some ((-2 : Int32), s)) else (v_b1 (t_T_clears fu s) fun (s_2 : v_S) => v_b1 (t_T_debt fu p1 p2 s_2) fun (z_3 : Int32) => some (z_3, s_2))
theorem m_T_left (l : Launch) (g : v_G) (fu : Nat) (p1 : Int32) (p2 : Int32) (s : v_S) : v_M l yX5_left cX5_left 3 (some .int) rm_T_left wT g [.ref (v_E g 0), .int p1, .int p2] s (fun z : Int32 × v_S => (some (.int z.1), z.2)) (t_T_left fu p1 p2 s) := by
  refine v_met (by decide +kernel) (Nat.le_of_ble_eq_true rfl) (fun Γ X => ?_)
  refine v_lv (lv' := [(0, .ref (v_E g 0)), (1, .int p1), (2, .int p2)]) rfl ?_
  unfold t_T_left
  refine v_aload_n (pc := 0) X dX5_left_0 0 rfl ?_
  refine v_iload_n (pc := 1) X dX5_left_1 1 rfl ?_
  refine v_iload_n (pc := 2) X dX5_left_2 2 rfl ?_
  refine v_cGi (pc := 3) X (m_T_areTwo l g fu p1 p2 _) (v_rc_n X wT_o0) (Or.inl q1973) hy_T_areTwo rfl rfl rfl rfl dX5_left_3 (fun z_1 _ => ?_)
  refine v_if_ne (pc := 6) (tgt := 12) X dX5_left_6 (by decide) (fun c6 => ?_) (fun c6 => ?_)
  · refine v_aload_n (pc := 12) X dX5_left_12 0 rfl ?_
    refine v_cGs (pc := 13) X (m_T_clears l g fu _) (v_rc_n X wT_o0) (Or.inl q1989) hy_T_clears rfl rfl rfl rfl dX5_left_13 (fun s_2 _ => ?_)
    refine v_aload_n (pc := 16) X dX5_left_16 0 rfl ?_
    refine v_iload_n (pc := 17) X dX5_left_17 1 rfl ?_
    refine v_iload_n (pc := 18) X dX5_left_18 2 rfl ?_
    refine v_cGi (pc := 19) X (m_T_debt l g fu p1 p2 _) (v_rc_n X wT_o0) (Or.inl q1981) hy_T_debt rfl rfl rfl rfl dX5_left_19 (fun z_3 _ => ?_)
    exact v_iret (pc := 22) X dX5_left_22 rfl
  · refine v_bipush (pc := 9) (v := -2) X dX5_left_9 rfl ?_
    exact v_iret (pc := 11) X dX5_left_11 rfl
/-! FloodLentModel.allDebts(I)I -/
abbrev rm_T_allDebts : Room := { frames := 2, cells := 0, slots := 0, locals := 43 }
theorem hy_T_allDebts : v_yV yX5_allDebts cX5_allDebts 4 (some .int) 1 := ⟨q2023, qs124, q141, q2024, by decide +kernel⟩
def t_T_allDebts_4 (fu : Nat) (p1 : Int32) (s : v_S) (r4 : Int32 × Int32 → Option Int32) (x2 : Int32) (x3 : Int32) : Option Int32 :=
v_b1 (t_T_villages fu s) fun (z_1 : Int32) => if z_1 ≤ x3 then (some x2) else (v_b1 (t_T_debt fu p1 x3 s) fun (z_2 : Int32) => v_n (x2 + z_2) fun (x2_3 : Int32) => r4 (x2_3, x3 + (1 : Int32)))
def t_T_allDebts_4B (fu : Nat) (p1 : Int32) (s : v_S) (r4 : Int32 × Int32 → Option Int32) (a : Int32 × Int32) : Option Int32 := t_T_allDebts_4 fu p1 s r4 a.1 a.2
def t_T_allDebts (fu : Nat) (p1 : Int32) (s : v_S) : Option Int32 :=
  v_loop (t_T_allDebts_4B fu p1 s) fu ((0 : Int32), (0 : Int32))
theorem w_T_allDebts_4 {Γ : v_Ctx} {l : Launch} {g : v_G} (fu : Nat) (p1 : Int32) (s : v_S) (X : v_C Γ l rm_T_allDebts cX5_allDebts 4 RX5 (some .int) wT g) (r4 : Int32 × Int32 → Option Int32) (h4 : ∀ (x2 : Int32) (x3 : Int32), v_V Γ 4 wT g (fun z : Int32 => (some (.int z), s)) 4 [(0, .ref (v_E g 0)), (1, .int p1), (2, .int x2), (3, .int x3)] [] s (r4 (x2, x3))) (x2 : Int32) (x3 : Int32) : v_V Γ 4 wT g (fun z : Int32 => (some (.int z), s)) 4 [(0, .ref (v_E g 0)), (1, .int p1), (2, .int x2), (3, .int x3)] [] s (t_T_allDebts_4 fu p1 s r4 x2 x3) := by
  unfold t_T_allDebts_4
  refine v_iload_n (pc := 4) X dX5_allDebts_4 3 rfl ?_
  refine v_aload_n (pc := 5) X dX5_allDebts_5 0 rfl ?_
  refine v_cGi (pc := 6) X (m_T_villages l g fu _) (v_rc_n X wT_o0) (Or.inl q1725) hy_T_villages rfl rfl rfl rfl dX5_allDebts_6 (fun z_1 _ => ?_)
  refine v_icmp_ge (pc := 9) (tgt := 27) X dX5_allDebts_9 (by decide) (fun c9 => ?_) (fun c9 => ?_)
  · refine v_iload_n (pc := 27) X dX5_allDebts_27 2 rfl ?_
    exact v_iret (pc := 28) X dX5_allDebts_28 rfl
  · refine v_iload_n (pc := 12) X dX5_allDebts_12 2 rfl ?_
    refine v_aload_n (pc := 13) X dX5_allDebts_13 0 rfl ?_
    refine v_iload_n (pc := 14) X dX5_allDebts_14 1 rfl ?_
    refine v_iload_n (pc := 15) X dX5_allDebts_15 3 rfl ?_
    refine v_cGi (pc := 16) X (m_T_debt l g fu p1 x3 _) (v_rc_n X wT_o0) (Or.inl q1981) hy_T_debt rfl rfl rfl rfl dX5_allDebts_16 (fun z_2 _ => ?_)
    refine v_iadd (pc := 19) X dX5_allDebts_19 ?_
    refine v_istore_nN (pc := 20) (lvf := fun x2_3 => [(2, .int x2_3), (0, .ref (v_E g 0)), (1, .int p1), (3, .int x3)]) X dX5_allDebts_20 rfl (Nat.le_of_ble_eq_true rfl) (fun _ => rfl) (fun x2_3 => ?_)
    refine v_iinc (pc := 21) (v := x3 + (1 : Int32)) (lv' := [(3, .int (x3 + (1 : Int32))), (2, .int x2_3), (0, .ref (v_E g 0)), (1, .int p1)]) (k := 3) X dX5_allDebts_21 rfl rfl (Nat.le_of_ble_eq_true rfl) rfl ?_
    refine v_goto (pc := 24) (tgt := 4) X dX5_allDebts_24 (by decide) ?_
    refine v_sub [2, 3, 1, 0] rfl ?_
    exact h4 x2_3 (x3 + (1 : Int32))
theorem w_T_allDebts_4L {Γ : v_Ctx} {l : Launch} {g : v_G} (fu : Nat) (p1 : Int32) (s : v_S) (X : v_C Γ l rm_T_allDebts cX5_allDebts 4 RX5 (some .int) wT g)  : ∀ (n : Nat), ∀ (x2 : Int32) (x3 : Int32), v_V Γ 4 wT g (fun z : Int32 => (some (.int z), s)) 4 [(0, .ref (v_E g 0)), (1, .int p1), (2, .int x2), (3, .int x3)] [] s (v_loop (t_T_allDebts_4B fu p1 s) n (x2, x3)) := by
  intro n
  induction n with
  | zero => exact fun _ _ => v_none
  | succ n ih => exact fun x2 x3 => w_T_allDebts_4 fu p1 s X  _ ih x2 x3
theorem m_T_allDebts (l : Launch) (g : v_G) (fu : Nat) (p1 : Int32) (s : v_S) : v_M l yX5_allDebts cX5_allDebts 4 (some .int) rm_T_allDebts wT g [.ref (v_E g 0), .int p1] s (fun z : Int32 => (some (.int z), s)) (t_T_allDebts fu p1 s) := by
  refine v_met (by decide +kernel) (Nat.le_of_ble_eq_true rfl) (fun Γ X => ?_)
  refine v_lv (lv' := [(0, .ref (v_E g 0)), (1, .int p1)]) rfl ?_
  unfold t_T_allDebts
  refine v_iconst (pc := 0) (v := 0) X dX5_allDebts_0 rfl ?_
  refine v_istore_n (pc := 1) (lv' := [(2, .int (0 : Int32)), (0, .ref (v_E g 0)), (1, .int p1)]) X dX5_allDebts_1 rfl (Nat.le_of_ble_eq_true rfl) rfl ?_
  refine v_iconst (pc := 2) (v := 0) X dX5_allDebts_2 rfl ?_
  refine v_istore_n (pc := 3) (lv' := [(3, .int (0 : Int32)), (2, .int (0 : Int32)), (0, .ref (v_E g 0)), (1, .int p1)]) X dX5_allDebts_3 rfl (Nat.le_of_ble_eq_true rfl) rfl ?_
  refine v_sub [2, 3, 1, 0] rfl ?_
  exact w_T_allDebts_4L fu p1 s X  fu (0 : Int32) (0 : Int32)
/-! FloodLentModel.nextPaid(III)I -/
abbrev rm_T_nextPaid : Room := { frames := 2, cells := 0, slots := 0, locals := 43 }
theorem hy_T_nextPaid : v_yV yX5_nextPaid cX5_nextPaid 6 (some .int) 3 := ⟨q2027, qs125, q141, q2028, by decide +kernel⟩
def t_T_nextPaid_66 (fu : Nat) (p1 : Int32) (p2 : Int32) (p3 : Int32) (s : v_S) (r6 : Int32 × Int32 → Option Int32) (x5 : Int32) : Option Int32 :=
r6 (x5, x5 + (1 : Int32))
def t_T_nextPaid_6 (fu : Nat) (p1 : Int32) (p2 : Int32) (p3 : Int32) (s : v_S) (r6 : Int32 × Int32 → Option Int32) (x4 : Int32) (x5 : Int32) : Option Int32 :=
v_b1 (t_T_villages fu s) fun (z_1 : Int32) => if z_1 ≤ x5 then (some x4) else (if (p3 >>> (x5 &&& 31)) &&& (1 : Int32) = (1 : Int32) then (r6 (x4, x5 + (1 : Int32))) else (v_b1 (t_T_debt fu p2 x5 s) fun (z_2 : Int32) => if z_2 = 0 then (r6 (x4, x5 + (1 : Int32))) else (if x4 = (-1 : Int32) then (t_T_nextPaid_66 fu p1 p2 p3 s r6 x5) else (if p1 = (1 : Int32) then (v_b1 (t_T_debt fu p2 x5 s) fun (z_3 : Int32) => v_b1 (t_T_debt fu p2 x4 s) fun (z_4 : Int32) => if z_4 ≤ z_3 then (r6 (x4, x5 + (1 : Int32))) else (t_T_nextPaid_66 fu p1 p2 p3 s r6 x5)) else (r6 (x4, x5 + (1 : Int32)))))))
def t_T_nextPaid_6B (fu : Nat) (p1 : Int32) (p2 : Int32) (p3 : Int32) (s : v_S) (r6 : Int32 × Int32 → Option Int32) (a : Int32 × Int32) : Option Int32 := t_T_nextPaid_6 fu p1 p2 p3 s r6 a.1 a.2
def t_T_nextPaid (fu : Nat) (p1 : Int32) (p2 : Int32) (p3 : Int32) (s : v_S) : Option Int32 :=
  v_loop (t_T_nextPaid_6B fu p1 p2 p3 s) fu ((-1 : Int32), (0 : Int32))
theorem w_T_nextPaid_66 {Γ : v_Ctx} {l : Launch} {g : v_G} (fu : Nat) (p1 : Int32) (p2 : Int32) (p3 : Int32) (s : v_S) (X : v_C Γ l rm_T_nextPaid cX5_nextPaid 6 RX5 (some .int) wT g) (r6 : Int32 × Int32 → Option Int32) (h6 : ∀ (x4 : Int32) (x5 : Int32), v_V Γ 6 wT g (fun z : Int32 => (some (.int z), s)) 6 [(0, .ref (v_E g 0)), (1, .int p1), (2, .int p2), (3, .int p3), (4, .int x4), (5, .int x5)] [] s (r6 (x4, x5))) (x5 : Int32) : v_V Γ 6 wT g (fun z : Int32 => (some (.int z), s)) 66 [(0, .ref (v_E g 0)), (1, .int p1), (2, .int p2), (3, .int p3), (5, .int x5)] [] s (t_T_nextPaid_66 fu p1 p2 p3 s r6 x5) := by
  unfold t_T_nextPaid_66
  refine v_iload (pc := 66) X dX5_nextPaid_66 4 rfl ?_
  refine v_goto (pc := 68) (tgt := 73) X dX5_nextPaid_68 (by decide) ?_
  refine v_istore (pc := 73) (lv' := [(4, .int x5), (0, .ref (v_E g 0)), (1, .int p1), (2, .int p2), (3, .int p3), (5, .int x5)]) X dX5_nextPaid_73 (Nat.le_of_ble_eq_true rfl) rfl ?_
  refine v_iinc (pc := 75) (v := x5 + (1 : Int32)) (lv' := [(5, .int (x5 + (1 : Int32))), (4, .int x5), (0, .ref (v_E g 0)), (1, .int p1), (2, .int p2), (3, .int p3)]) (k := 5) X dX5_nextPaid_75 rfl rfl (Nat.le_of_ble_eq_true rfl) rfl ?_
  refine v_goto (pc := 78) (tgt := 6) X dX5_nextPaid_78 (by decide) ?_
  refine v_sub [2, 3, 4, 5, 1, 0] rfl ?_
  exact h6 x5 (x5 + (1 : Int32))
theorem w_T_nextPaid_6 {Γ : v_Ctx} {l : Launch} {g : v_G} (fu : Nat) (p1 : Int32) (p2 : Int32) (p3 : Int32) (s : v_S) (X : v_C Γ l rm_T_nextPaid cX5_nextPaid 6 RX5 (some .int) wT g) (r6 : Int32 × Int32 → Option Int32) (h6 : ∀ (x4 : Int32) (x5 : Int32), v_V Γ 6 wT g (fun z : Int32 => (some (.int z), s)) 6 [(0, .ref (v_E g 0)), (1, .int p1), (2, .int p2), (3, .int p3), (4, .int x4), (5, .int x5)] [] s (r6 (x4, x5))) (x4 : Int32) (x5 : Int32) : v_V Γ 6 wT g (fun z : Int32 => (some (.int z), s)) 6 [(0, .ref (v_E g 0)), (1, .int p1), (2, .int p2), (3, .int p3), (4, .int x4), (5, .int x5)] [] s (t_T_nextPaid_6 fu p1 p2 p3 s r6 x4 x5) := by
  unfold t_T_nextPaid_6
  refine v_iload (pc := 6) X dX5_nextPaid_6 5 rfl ?_
  refine v_aload_n (pc := 8) X dX5_nextPaid_8 0 rfl ?_
  refine v_cGi (pc := 9) X (m_T_villages l g fu _) (v_rc_n X wT_o0) (Or.inl q1725) hy_T_villages rfl rfl rfl rfl dX5_nextPaid_9 (fun z_1 _ => ?_)
  refine v_icmp_ge (pc := 12) (tgt := 81) X dX5_nextPaid_12 (by decide) (fun c12 => ?_) (fun c12 => ?_)
  · refine v_iload (pc := 81) X dX5_nextPaid_81 4 rfl ?_
    exact v_iret (pc := 83) X dX5_nextPaid_83 rfl
  · refine v_iload_n (pc := 15) X dX5_nextPaid_15 3 rfl ?_
    refine v_iload (pc := 16) X dX5_nextPaid_16 5 rfl ?_
    refine v_ishr (pc := 18) X dX5_nextPaid_18 ?_
    refine v_iconst (pc := 19) (v := 1) X dX5_nextPaid_19 rfl ?_
    refine v_iand (pc := 20) X dX5_nextPaid_20 ?_
    refine v_iconst (pc := 21) (v := 1) X dX5_nextPaid_21 rfl ?_
    refine v_icmp_eq (pc := 22) (tgt := 75) X dX5_nextPaid_22 (by decide) (fun c22 => ?_) (fun c22 => ?_)
    · refine v_iinc (pc := 75) (v := x5 + (1 : Int32)) (lv' := [(5, .int (x5 + (1 : Int32))), (0, .ref (v_E g 0)), (1, .int p1), (2, .int p2), (3, .int p3), (4, .int x4)]) (k := 5) X dX5_nextPaid_75 rfl rfl (Nat.le_of_ble_eq_true rfl) rfl ?_
      refine v_goto (pc := 78) (tgt := 6) X dX5_nextPaid_78 (by decide) ?_
      refine v_sub [1, 2, 3, 4, 5, 0] rfl ?_
      exact h6 x4 (x5 + (1 : Int32))
    · refine v_aload_n (pc := 25) X dX5_nextPaid_25 0 rfl ?_
      refine v_iload_n (pc := 26) X dX5_nextPaid_26 2 rfl ?_
      refine v_iload (pc := 27) X dX5_nextPaid_27 5 rfl ?_
      refine v_cGi (pc := 29) X (m_T_debt l g fu p2 x5 _) (v_rc_n X wT_o0) (Or.inl q1981) hy_T_debt rfl rfl rfl rfl dX5_nextPaid_29 (fun z_2 _ => ?_)
      refine v_if_ne (pc := 32) (tgt := 38) X dX5_nextPaid_32 (by decide) (fun c32 => ?_) (fun c32 => ?_)
      · refine v_iload (pc := 38) X dX5_nextPaid_38 4 rfl ?_
        refine v_iconst (pc := 40) (v := -1) X dX5_nextPaid_40 rfl ?_
        refine v_icmp_eq (pc := 41) (tgt := 66) X dX5_nextPaid_41 (by decide) (fun c41 => ?_) (fun c41 => ?_)
        · refine v_sub [0, 1, 2, 3, 5] rfl ?_
          exact w_T_nextPaid_66 fu p1 p2 p3 s X r6 h6 x5
        · refine v_iload_n (pc := 44) X dX5_nextPaid_44 1 rfl ?_
          refine v_iconst (pc := 45) (v := 1) X dX5_nextPaid_45 rfl ?_
          refine v_icmp_ne (pc := 46) (tgt := 71) X dX5_nextPaid_46 (by decide) (fun c46 => ?_) (fun c46 => ?_)
          · refine v_iload (pc := 71) X dX5_nextPaid_71 4 rfl ?_
            refine v_istore (pc := 73) (lv' := [(4, .int x4), (0, .ref (v_E g 0)), (1, .int p1), (2, .int p2), (3, .int p3), (5, .int x5)]) X dX5_nextPaid_73 (Nat.le_of_ble_eq_true rfl) rfl ?_
            refine v_iinc (pc := 75) (v := x5 + (1 : Int32)) (lv' := [(5, .int (x5 + (1 : Int32))), (4, .int x4), (0, .ref (v_E g 0)), (1, .int p1), (2, .int p2), (3, .int p3)]) (k := 5) X dX5_nextPaid_75 rfl rfl (Nat.le_of_ble_eq_true rfl) rfl ?_
            refine v_goto (pc := 78) (tgt := 6) X dX5_nextPaid_78 (by decide) ?_
            refine v_sub [2, 3, 4, 5, 1, 0] rfl ?_
            exact h6 x4 (x5 + (1 : Int32))
          · refine v_aload_n (pc := 49) X dX5_nextPaid_49 0 rfl ?_
            refine v_iload_n (pc := 50) X dX5_nextPaid_50 2 rfl ?_
            refine v_iload (pc := 51) X dX5_nextPaid_51 5 rfl ?_
            refine v_cGi (pc := 53) X (m_T_debt l g fu p2 x5 _) (v_rc_n X wT_o0) (Or.inl q1981) hy_T_debt rfl rfl rfl rfl dX5_nextPaid_53 (fun z_3 _ => ?_)
            refine v_aload_n (pc := 56) X dX5_nextPaid_56 0 rfl ?_
            refine v_iload_n (pc := 57) X dX5_nextPaid_57 2 rfl ?_
            refine v_iload (pc := 58) X dX5_nextPaid_58 4 rfl ?_
            refine v_cGi (pc := 60) X (m_T_debt l g fu p2 x4 _) (v_rc_n X wT_o0) (Or.inl q1981) hy_T_debt rfl rfl rfl rfl dX5_nextPaid_60 (fun z_4 _ => ?_)
            refine v_icmp_ge (pc := 63) (tgt := 71) X dX5_nextPaid_63 (by decide) (fun c63 => ?_) (fun c63 => ?_)
            · refine v_iload (pc := 71) X dX5_nextPaid_71 4 rfl ?_
              refine v_istore (pc := 73) (lv' := [(4, .int x4), (0, .ref (v_E g 0)), (1, .int p1), (2, .int p2), (3, .int p3), (5, .int x5)]) X dX5_nextPaid_73 (Nat.le_of_ble_eq_true rfl) rfl ?_
              refine v_iinc (pc := 75) (v := x5 + (1 : Int32)) (lv' := [(5, .int (x5 + (1 : Int32))), (4, .int x4), (0, .ref (v_E g 0)), (1, .int p1), (2, .int p2), (3, .int p3)]) (k := 5) X dX5_nextPaid_75 rfl rfl (Nat.le_of_ble_eq_true rfl) rfl ?_
              refine v_goto (pc := 78) (tgt := 6) X dX5_nextPaid_78 (by decide) ?_
              refine v_sub [2, 3, 4, 5, 1, 0] rfl ?_
              exact h6 x4 (x5 + (1 : Int32))
            · refine v_sub [0, 1, 2, 3, 5] rfl ?_
              exact w_T_nextPaid_66 fu p1 p2 p3 s X r6 h6 x5
      · refine v_goto (pc := 35) (tgt := 75) X dX5_nextPaid_35 (by decide) ?_
        refine v_iinc (pc := 75) (v := x5 + (1 : Int32)) (lv' := [(5, .int (x5 + (1 : Int32))), (0, .ref (v_E g 0)), (1, .int p1), (2, .int p2), (3, .int p3), (4, .int x4)]) (k := 5) X dX5_nextPaid_75 rfl rfl (Nat.le_of_ble_eq_true rfl) rfl ?_
        refine v_goto (pc := 78) (tgt := 6) X dX5_nextPaid_78 (by decide) ?_
        refine v_sub [1, 2, 3, 4, 5, 0] rfl ?_
        exact h6 x4 (x5 + (1 : Int32))
theorem w_T_nextPaid_6L {Γ : v_Ctx} {l : Launch} {g : v_G} (fu : Nat) (p1 : Int32) (p2 : Int32) (p3 : Int32) (s : v_S) (X : v_C Γ l rm_T_nextPaid cX5_nextPaid 6 RX5 (some .int) wT g)  : ∀ (n : Nat), ∀ (x4 : Int32) (x5 : Int32), v_V Γ 6 wT g (fun z : Int32 => (some (.int z), s)) 6 [(0, .ref (v_E g 0)), (1, .int p1), (2, .int p2), (3, .int p3), (4, .int x4), (5, .int x5)] [] s (v_loop (t_T_nextPaid_6B fu p1 p2 p3 s) n (x4, x5)) := by
  intro n
  induction n with
  | zero => exact fun _ _ => v_none
  | succ n ih => exact fun x4 x5 => w_T_nextPaid_6 fu p1 p2 p3 s X  _ ih x4 x5
theorem m_T_nextPaid (l : Launch) (g : v_G) (fu : Nat) (p1 : Int32) (p2 : Int32) (p3 : Int32) (s : v_S) : v_M l yX5_nextPaid cX5_nextPaid 6 (some .int) rm_T_nextPaid wT g [.ref (v_E g 0), .int p1, .int p2, .int p3] s (fun z : Int32 => (some (.int z), s)) (t_T_nextPaid fu p1 p2 p3 s) := by
  refine v_met (by decide +kernel) (Nat.le_of_ble_eq_true rfl) (fun Γ X => ?_)
  refine v_lv (lv' := [(0, .ref (v_E g 0)), (1, .int p1), (2, .int p2), (3, .int p3)]) rfl ?_
  unfold t_T_nextPaid
  refine v_iconst (pc := 0) (v := -1) X dX5_nextPaid_0 rfl ?_
  refine v_istore (pc := 1) (lv' := [(4, .int (-1 : Int32)), (0, .ref (v_E g 0)), (1, .int p1), (2, .int p2), (3, .int p3)]) X dX5_nextPaid_1 (Nat.le_of_ble_eq_true rfl) rfl ?_
  refine v_iconst (pc := 3) (v := 0) X dX5_nextPaid_3 rfl ?_
  refine v_istore (pc := 4) (lv' := [(5, .int (0 : Int32)), (4, .int (-1 : Int32)), (0, .ref (v_E g 0)), (1, .int p1), (2, .int p2), (3, .int p3)]) X dX5_nextPaid_4 (Nat.le_of_ble_eq_true rfl) rfl ?_
  refine v_sub [2, 3, 4, 5, 1, 0] rfl ?_
  exact w_T_nextPaid_6L fu p1 p2 p3 s X  fu (-1 : Int32) (0 : Int32)
/-! FloodLentModel.strikes(I)V -/
abbrev rm_T_strikes : Room := { frames := 7, cells := 0, slots := 0, locals := 153 }
theorem hy_T_strikes : v_yV yX5_strikes cX5_strikes 8 none 1 := ⟨q2019, qs123, q141, q2020, by decide +kernel⟩
def t_T_strikes_117 (fu : Nat) (p1 : Int32) (r27 : Int32 × v_S → Option v_S) (r61 : Int32 × Int32 × Int32 × Int32 × Int32 × v_S → Option v_S) (x2 : Int32) (x3 : Int32) (x4 : Int32) (x5 : Int32) (x6 : Int32) (y0 : Int32) (s : v_S) : Option v_S :=
v_g (((6 : Int32) * x2) + x6) 36 <| v_n (v_uI s 16 (Int32.toNatClampNeg (((6 : Int32) * x2) + x6)) y0) fun (s_7 : v_S) => v_n (x4 - y0) fun (x4_8 : Int32) => v_n (x5 ||| ((1 : Int32) <<< (x6 &&& 31))) fun (x5_9 : Int32) => v_b1 (t_T_nextPaid fu p1 x2 x5_9 s_7) fun (z_10 : Int32) => r61 (x2, x3, x4_8, x5_9, z_10, s_7)
def t_T_strikes_105 (fu : Nat) (p1 : Int32) (r27 : Int32 × v_S → Option v_S) (r61 : Int32 × Int32 × Int32 × Int32 × Int32 × v_S → Option v_S) (x2 : Int32) (x3 : Int32) (x4 : Int32) (x5 : Int32) (x6 : Int32) (s : v_S) : Option v_S :=
v_b1 (t_T_debt fu x2 x6 s) fun (z_6 : Int32) => t_T_strikes_117 fu p1 r27 r61 x2 x3 x4 x5 x6 (if x4 < z_6 then x4 else z_6) s
def t_T_strikes_61 (fu : Nat) (p1 : Int32) (r27 : Int32 × v_S → Option v_S) (r61 : Int32 × Int32 × Int32 × Int32 × Int32 × v_S → Option v_S) (x2 : Int32) (x3 : Int32) (x4 : Int32) (x5 : Int32) (x6 : Int32) (s : v_S) : Option v_S :=
if x6 = (-1 : Int32) then (r27 (x2 + (1 : Int32), s)) else (if p1 = (2 : Int32) then (v_g x2 6 <| if x3 ≤ s.1 7 (Int32.toNatClampNeg x2) then (t_T_strikes_105 fu p1 r27 r61 x2 x3 x4 x5 x6 s) else (v_b1 (t_T_debt fu x2 x6 s) fun (z_11 : Int32) => v_g x2 6 <| if (Int32.toInt64 x3) = 0 then none else t_T_strikes_117 fu p1 r27 r61 x2 x3 x4 x5 x6 (Int64.toInt32 (((Int32.toInt64 z_11) * (Int32.toInt64 (s.1 7 (Int32.toNatClampNeg x2)))) / (Int32.toInt64 x3))) s)) else (t_T_strikes_105 fu p1 r27 r61 x2 x3 x4 x5 x6 s))
def t_T_strikes_61B (fu : Nat) (p1 : Int32) (r27 : Int32 × v_S → Option v_S) (r61 : Int32 × Int32 × Int32 × Int32 × Int32 × v_S → Option v_S) (a : Int32 × Int32 × Int32 × Int32 × Int32 × v_S) : Option v_S := t_T_strikes_61 fu p1 r27 r61 a.1 a.2.1 a.2.2.1 a.2.2.2.1 a.2.2.2.2.1 a.2.2.2.2.2
def t_T_strikes_27 (fu : Nat) (p1 : Int32) (r27 : Int32 × v_S → Option v_S) (x2 : Int32) (s : v_S) : Option v_S :=
v_b1 (t_T_villages fu s) fun (z_2 : Int32) => if z_2 ≤ x2 then (some s) else (v_b1 (t_T_allDebts fu x2 s) fun (z_3 : Int32) => v_g x2 6 <| v_n (s.1 7 (Int32.toNatClampNeg x2)) fun (x4_4 : Int32) => v_b1 (t_T_nextPaid fu p1 x2 (0 : Int32) s) fun (z_5 : Int32) => v_loop (t_T_strikes_61B fu p1 r27) fu (x2, z_3, x4_4, (0 : Int32), z_5, s))
def t_T_strikes_27B (fu : Nat) (p1 : Int32) (r27 : Int32 × v_S → Option v_S) (a : Int32 × v_S) : Option v_S := t_T_strikes_27 fu p1 r27 a.1 a.2
def t_T_strikes_6 (fu : Nat) (p1 : Int32) (r6 : Int32 × v_S → Option v_S) (x2 : Int32) (s : v_S) : Option v_S :=
if (36 : Int32) ≤ x2 then (v_loop (t_T_strikes_27B fu p1) fu ((0 : Int32), s)) else (v_g x2 36 <| v_n (v_uI s 16 (Int32.toNatClampNeg x2) (0 : Int32)) fun (s_12 : v_S) => r6 (x2 + (1 : Int32), s_12))
def t_T_strikes_6B (fu : Nat) (p1 : Int32) (r6 : Int32 × v_S → Option v_S) (a : Int32 × v_S) : Option v_S := t_T_strikes_6 fu p1 r6 a.1 a.2
def t_T_strikes (fu : Nat) (p1 : Int32) (s : v_S) : Option v_S :=
  v_b1 (t_T_fillDebts fu s) fun (s_1 : v_S) => v_loop (t_T_strikes_6B fu p1) fu ((0 : Int32), s_1)
theorem w_T_strikes_117 {Γ : v_Ctx} {l : Launch} {g : v_G} (fu : Nat) (p1 : Int32) (X : v_C Γ l rm_T_strikes cX5_strikes 8 RX5 none wT g) (r27 : Int32 × v_S → Option v_S) (h27 : ∀ (x2 : Int32) (s : v_S), v_V Γ 8 wT g (fun z : v_S => ((none : Option Value), z)) 27 [(0, .ref (v_E g 0)), (1, .int p1), (2, .int x2)] [] s (r27 (x2, s))) (r61 : Int32 × Int32 × Int32 × Int32 × Int32 × v_S → Option v_S) (h61 : ∀ (x2 : Int32) (x3 : Int32) (x4 : Int32) (x5 : Int32) (x6 : Int32) (s : v_S), v_V Γ 8 wT g (fun z : v_S => ((none : Option Value), z)) 61 [(0, .ref (v_E g 0)), (1, .int p1), (2, .int x2), (3, .int x3), (4, .int x4), (5, .int x5), (6, .int x6)] [] s (r61 (x2, x3, x4, x5, x6, s))) (x2 : Int32) (x3 : Int32) (x4 : Int32) (x5 : Int32) (x6 : Int32) (y0 : Int32) (s : v_S) : v_V Γ 8 wT g (fun z : v_S => ((none : Option Value), z)) 117 [(0, .ref (v_E g 0)), (1, .int p1), (2, .int x2), (3, .int x3), (4, .int x4), (5, .int x5), (6, .int x6)] [.int y0] s (t_T_strikes_117 fu p1 r27 r61 x2 x3 x4 x5 x6 y0 s) := by
  unfold t_T_strikes_117
  refine v_istore (pc := 117) (lv' := [(7, .int y0), (0, .ref (v_E g 0)), (1, .int p1), (2, .int x2), (3, .int x3), (4, .int x4), (5, .int x5), (6, .int x6)]) X dX5_strikes_117 (Nat.le_of_ble_eq_true rfl) rfl ?_
  refine v_aload_n (pc := 119) X dX5_strikes_119 1 rfl ?_
  refine v_get (pc := 120) (kind := 19) (v := .ref (v_E g 16)) X wT_n0 wT_l0 wT_c0 in_X5 (Nat.le_of_ble_eq_true rfl : 34 < 40) q1505 rfl rfl dX5_strikes_120 ?_
  refine v_bipush (pc := 123) (v := 6) X dX5_strikes_123 rfl ?_
  refine v_iload_n (pc := 125) X dX5_strikes_125 3 rfl ?_
  refine v_imul (pc := 126) X dX5_strikes_126 ?_
  refine v_iload (pc := 127) X dX5_strikes_127 7 rfl ?_
  refine v_iadd (pc := 129) X dX5_strikes_129 ?_
  refine v_iload (pc := 130) X dX5_strikes_130 0 rfl ?_
  refine v_iast (pc := 132) X wT_n16 wT_l16 dX5_strikes_132 (fun s_7 => ?_)
  refine v_iload (pc := 133) X dX5_strikes_133 5 rfl ?_
  refine v_iload (pc := 135) X dX5_strikes_135 0 rfl ?_
  refine v_isub (pc := 137) X dX5_strikes_137 ?_
  refine v_istoreN (pc := 138) (lvf := fun x4_8 => [(4, .int x4_8), (7, .int y0), (0, .ref (v_E g 0)), (1, .int p1), (2, .int x2), (3, .int x3), (5, .int x5), (6, .int x6)]) X dX5_strikes_138 (Nat.le_of_ble_eq_true rfl) (fun _ => rfl) (fun x4_8 => ?_)
  refine v_iload (pc := 140) X dX5_strikes_140 6 rfl ?_
  refine v_iconst (pc := 142) (v := 1) X dX5_strikes_142 rfl ?_
  refine v_iload (pc := 143) X dX5_strikes_143 7 rfl ?_
  refine v_ishl (pc := 145) X dX5_strikes_145 ?_
  refine v_ior (pc := 146) X dX5_strikes_146 ?_
  refine v_istoreN (pc := 147) (lvf := fun x5_9 => [(5, .int x5_9), (4, .int x4_8), (7, .int y0), (0, .ref (v_E g 0)), (1, .int p1), (2, .int x2), (3, .int x3), (6, .int x6)]) X dX5_strikes_147 (Nat.le_of_ble_eq_true rfl) (fun _ => rfl) (fun x5_9 => ?_)
  refine v_aload_n (pc := 149) X dX5_strikes_149 3 rfl ?_
  refine v_iload_n (pc := 150) X dX5_strikes_150 4 rfl ?_
  refine v_iload_n (pc := 151) X dX5_strikes_151 5 rfl ?_
  refine v_iload (pc := 152) X dX5_strikes_152 0 rfl ?_
  refine v_cGi (pc := 154) X (m_T_nextPaid l g fu p1 x2 x5_9 _) (v_rc_n X wT_o0) (Or.inl q2025) hy_T_nextPaid rfl rfl rfl rfl dX5_strikes_154 (fun z_10 _ => ?_)
  refine v_istore (pc := 157) (lv' := [(6, .int z_10), (5, .int x5_9), (4, .int x4_8), (7, .int y0), (0, .ref (v_E g 0)), (1, .int p1), (2, .int x2), (3, .int x3)]) X dX5_strikes_157 (Nat.le_of_ble_eq_true rfl) rfl ?_
  refine v_goto (pc := 159) (tgt := 61) X dX5_strikes_159 (by decide) ?_
  refine v_sub [4, 5, 6, 7, 2, 1, 0] rfl ?_
  exact h61 x2 x3 x4_8 x5_9 z_10 s_7
theorem w_T_strikes_105 {Γ : v_Ctx} {l : Launch} {g : v_G} (fu : Nat) (p1 : Int32) (X : v_C Γ l rm_T_strikes cX5_strikes 8 RX5 none wT g) (r27 : Int32 × v_S → Option v_S) (h27 : ∀ (x2 : Int32) (s : v_S), v_V Γ 8 wT g (fun z : v_S => ((none : Option Value), z)) 27 [(0, .ref (v_E g 0)), (1, .int p1), (2, .int x2)] [] s (r27 (x2, s))) (r61 : Int32 × Int32 × Int32 × Int32 × Int32 × v_S → Option v_S) (h61 : ∀ (x2 : Int32) (x3 : Int32) (x4 : Int32) (x5 : Int32) (x6 : Int32) (s : v_S), v_V Γ 8 wT g (fun z : v_S => ((none : Option Value), z)) 61 [(0, .ref (v_E g 0)), (1, .int p1), (2, .int x2), (3, .int x3), (4, .int x4), (5, .int x5), (6, .int x6)] [] s (r61 (x2, x3, x4, x5, x6, s))) (x2 : Int32) (x3 : Int32) (x4 : Int32) (x5 : Int32) (x6 : Int32) (s : v_S) : v_V Γ 8 wT g (fun z : v_S => ((none : Option Value), z)) 105 [(0, .ref (v_E g 0)), (1, .int p1), (2, .int x2), (3, .int x3), (4, .int x4), (5, .int x5), (6, .int x6)] [] s (t_T_strikes_105 fu p1 r27 r61 x2 x3 x4 x5 x6 s) := by
  unfold t_T_strikes_105
  refine v_aload_n (pc := 105) X dX5_strikes_105 0 rfl ?_
  refine v_iload_n (pc := 106) X dX5_strikes_106 2 rfl ?_
  refine v_iload (pc := 107) X dX5_strikes_107 6 rfl ?_
  refine v_cGi (pc := 109) X (m_T_debt l g fu x2 x6 _) (v_rc_n X wT_o0) (Or.inl q1981) hy_T_debt rfl rfl rfl rfl dX5_strikes_109 (fun z_6 _ => ?_)
  refine v_iload (pc := 112) X dX5_strikes_112 4 rfl ?_
  refine v_mmin (pc := 114) X q1634 q681 q143 q682 rfl dX5_strikes_114 ?_
  exact w_T_strikes_117 fu p1 X r27 h27 r61 h61 x2 x3 x4 x5 x6 (if x4 < z_6 then x4 else z_6) s
theorem w_T_strikes_61 {Γ : v_Ctx} {l : Launch} {g : v_G} (fu : Nat) (p1 : Int32) (X : v_C Γ l rm_T_strikes cX5_strikes 8 RX5 none wT g) (r27 : Int32 × v_S → Option v_S) (h27 : ∀ (x2 : Int32) (s : v_S), v_V Γ 8 wT g (fun z : v_S => ((none : Option Value), z)) 27 [(0, .ref (v_E g 0)), (1, .int p1), (2, .int x2)] [] s (r27 (x2, s))) (r61 : Int32 × Int32 × Int32 × Int32 × Int32 × v_S → Option v_S) (h61 : ∀ (x2 : Int32) (x3 : Int32) (x4 : Int32) (x5 : Int32) (x6 : Int32) (s : v_S), v_V Γ 8 wT g (fun z : v_S => ((none : Option Value), z)) 61 [(0, .ref (v_E g 0)), (1, .int p1), (2, .int x2), (3, .int x3), (4, .int x4), (5, .int x5), (6, .int x6)] [] s (r61 (x2, x3, x4, x5, x6, s))) (x2 : Int32) (x3 : Int32) (x4 : Int32) (x5 : Int32) (x6 : Int32) (s : v_S) : v_V Γ 8 wT g (fun z : v_S => ((none : Option Value), z)) 61 [(0, .ref (v_E g 0)), (1, .int p1), (2, .int x2), (3, .int x3), (4, .int x4), (5, .int x5), (6, .int x6)] [] s (t_T_strikes_61 fu p1 r27 r61 x2 x3 x4 x5 x6 s) := by
  unfold t_T_strikes_61
  refine v_iload (pc := 61) X dX5_strikes_61 6 rfl ?_
  refine v_iconst (pc := 63) (v := -1) X dX5_strikes_63 rfl ?_
  refine v_icmp_eq (pc := 64) (tgt := 162) X dX5_strikes_64 (by decide) (fun c64 => ?_) (fun c64 => ?_)
  · refine v_iinc (pc := 162) (v := x2 + (1 : Int32)) (lv' := [(2, .int (x2 + (1 : Int32))), (0, .ref (v_E g 0)), (1, .int p1), (3, .int x3), (4, .int x4), (5, .int x5), (6, .int x6)]) (k := 2) X dX5_strikes_162 rfl rfl (Nat.le_of_ble_eq_true rfl) rfl ?_
    refine v_goto (pc := 165) (tgt := 27) X dX5_strikes_165 (by decide) ?_
    refine v_sub [1, 2, 0] rfl ?_
    exact h27 (x2 + (1 : Int32)) s
  · refine v_iload_n (pc := 67) X dX5_strikes_67 1 rfl ?_
    refine v_iconst (pc := 68) (v := 2) X dX5_strikes_68 rfl ?_
    refine v_icmp_ne (pc := 69) (tgt := 105) X dX5_strikes_69 (by decide) (fun c69 => ?_) (fun c69 => ?_)
    · exact w_T_strikes_105 fu p1 X r27 h27 r61 h61 x2 x3 x4 x5 x6 s
    · refine v_aload_n (pc := 72) X dX5_strikes_72 0 rfl ?_
      refine v_get (pc := 73) (kind := 10) (v := .ref (v_E g 7)) X wT_n0 wT_l0 wT_c0 in_X5 (Nat.le_of_ble_eq_true rfl : 15 < 40) q1486 rfl rfl dX5_strikes_73 ?_
      refine v_iload_n (pc := 76) X dX5_strikes_76 2 rfl ?_
      refine v_iald (pc := 77) X wT_n7 wT_l7 dX5_strikes_77 ?_
      refine v_iload_n (pc := 78) X dX5_strikes_78 3 rfl ?_
      refine v_icmp_ge (pc := 79) (tgt := 105) X dX5_strikes_79 (by decide) (fun c79 => ?_) (fun c79 => ?_)
      · exact w_T_strikes_105 fu p1 X r27 h27 r61 h61 x2 x3 x4 x5 x6 s
      · refine v_aload_n (pc := 82) X dX5_strikes_82 0 rfl ?_
        refine v_iload_n (pc := 83) X dX5_strikes_83 2 rfl ?_
        refine v_iload (pc := 84) X dX5_strikes_84 6 rfl ?_
        refine v_cGi (pc := 86) X (m_T_debt l g fu x2 x6 _) (v_rc_n X wT_o0) (Or.inl q1981) hy_T_debt rfl rfl rfl rfl dX5_strikes_86 (fun z_11 _ => ?_)
        refine v_i2l (pc := 89) X dX5_strikes_89 ?_
        refine v_aload_n (pc := 90) X dX5_strikes_90 0 rfl ?_
        refine v_get (pc := 91) (kind := 10) (v := .ref (v_E g 7)) X wT_n0 wT_l0 wT_c0 in_X5 (Nat.le_of_ble_eq_true rfl : 15 < 40) q1486 rfl rfl dX5_strikes_91 ?_
        refine v_iload_n (pc := 94) X dX5_strikes_94 2 rfl ?_
        refine v_iald (pc := 95) X wT_n7 wT_l7 dX5_strikes_95 ?_
        refine v_i2l (pc := 96) X dX5_strikes_96 ?_
        refine v_lmul (pc := 97) X dX5_strikes_97 ?_
        refine v_iload_n (pc := 98) X dX5_strikes_98 3 rfl ?_
        refine v_i2l (pc := 99) X dX5_strikes_99 ?_
        refine v_ldiv (pc := 100) X dX5_strikes_100 ?_
        refine v_l2i (pc := 101) X dX5_strikes_101 ?_
        refine v_goto (pc := 102) (tgt := 117) X dX5_strikes_102 (by decide) ?_
        exact w_T_strikes_117 fu p1 X r27 h27 r61 h61 x2 x3 x4 x5 x6 (Int64.toInt32 (((Int32.toInt64 z_11) * (Int32.toInt64 (s.1 7 (Int32.toNatClampNeg x2)))) / (Int32.toInt64 x3))) s
theorem w_T_strikes_61L {Γ : v_Ctx} {l : Launch} {g : v_G} (fu : Nat) (p1 : Int32) (X : v_C Γ l rm_T_strikes cX5_strikes 8 RX5 none wT g) (r27 : Int32 × v_S → Option v_S) (h27 : ∀ (x2 : Int32) (s : v_S), v_V Γ 8 wT g (fun z : v_S => ((none : Option Value), z)) 27 [(0, .ref (v_E g 0)), (1, .int p1), (2, .int x2)] [] s (r27 (x2, s))) : ∀ (n : Nat), ∀ (x2 : Int32) (x3 : Int32) (x4 : Int32) (x5 : Int32) (x6 : Int32) (s : v_S), v_V Γ 8 wT g (fun z : v_S => ((none : Option Value), z)) 61 [(0, .ref (v_E g 0)), (1, .int p1), (2, .int x2), (3, .int x3), (4, .int x4), (5, .int x5), (6, .int x6)] [] s (v_loop (t_T_strikes_61B fu p1 r27) n (x2, x3, x4, x5, x6, s)) := by
  intro n
  induction n with
  | zero => exact fun _ _ _ _ _ _ => v_none
  | succ n ih => exact fun x2 x3 x4 x5 x6 s => w_T_strikes_61 fu p1 X r27 h27 _ ih x2 x3 x4 x5 x6 s
theorem w_T_strikes_27 {Γ : v_Ctx} {l : Launch} {g : v_G} (fu : Nat) (p1 : Int32) (X : v_C Γ l rm_T_strikes cX5_strikes 8 RX5 none wT g) (r27 : Int32 × v_S → Option v_S) (h27 : ∀ (x2 : Int32) (s : v_S), v_V Γ 8 wT g (fun z : v_S => ((none : Option Value), z)) 27 [(0, .ref (v_E g 0)), (1, .int p1), (2, .int x2)] [] s (r27 (x2, s))) (x2 : Int32) (s : v_S) : v_V Γ 8 wT g (fun z : v_S => ((none : Option Value), z)) 27 [(0, .ref (v_E g 0)), (1, .int p1), (2, .int x2)] [] s (t_T_strikes_27 fu p1 r27 x2 s) := by
  unfold t_T_strikes_27
  refine v_iload_n (pc := 27) X dX5_strikes_27 2 rfl ?_
  refine v_aload_n (pc := 28) X dX5_strikes_28 0 rfl ?_
  refine v_cGi (pc := 29) X (m_T_villages l g fu _) (v_rc_n X wT_o0) (Or.inl q1725) hy_T_villages rfl rfl rfl rfl dX5_strikes_29 (fun z_2 _ => ?_)
  refine v_icmp_ge (pc := 32) (tgt := 168) X dX5_strikes_32 (by decide) (fun c32 => ?_) (fun c32 => ?_)
  · exact v_vret (pc := 168) X dX5_strikes_168 rfl
  · refine v_aload_n (pc := 35) X dX5_strikes_35 0 rfl ?_
    refine v_iload_n (pc := 36) X dX5_strikes_36 2 rfl ?_
    refine v_cGi (pc := 37) X (m_T_allDebts l g fu x2 _) (v_rc_n X wT_o0) (Or.inl q2021) hy_T_allDebts rfl rfl rfl rfl dX5_strikes_37 (fun z_3 _ => ?_)
    refine v_istore_n (pc := 40) (lv' := [(3, .int z_3), (0, .ref (v_E g 0)), (1, .int p1), (2, .int x2)]) X dX5_strikes_40 rfl (Nat.le_of_ble_eq_true rfl) rfl ?_
    refine v_aload_n (pc := 41) X dX5_strikes_41 1 rfl ?_
    refine v_get (pc := 42) (kind := 10) (v := .ref (v_E g 7)) X wT_n0 wT_l0 wT_c0 in_X5 (Nat.le_of_ble_eq_true rfl : 15 < 40) q1486 rfl rfl dX5_strikes_42 ?_
    refine v_iload_n (pc := 45) X dX5_strikes_45 3 rfl ?_
    refine v_iald (pc := 46) X wT_n7 wT_l7 dX5_strikes_46 ?_
    refine v_istoreN (pc := 47) (lvf := fun x4_4 => [(4, .int x4_4), (3, .int z_3), (0, .ref (v_E g 0)), (1, .int p1), (2, .int x2)]) X dX5_strikes_47 (Nat.le_of_ble_eq_true rfl) (fun _ => rfl) (fun x4_4 => ?_)
    refine v_iconst (pc := 49) (v := 0) X dX5_strikes_49 rfl ?_
    refine v_istore (pc := 50) (lv' := [(5, .int (0 : Int32)), (4, .int x4_4), (3, .int z_3), (0, .ref (v_E g 0)), (1, .int p1), (2, .int x2)]) X dX5_strikes_50 (Nat.le_of_ble_eq_true rfl) rfl ?_
    refine v_aload_n (pc := 52) X dX5_strikes_52 3 rfl ?_
    refine v_iload_n (pc := 53) X dX5_strikes_53 4 rfl ?_
    refine v_iload_n (pc := 54) X dX5_strikes_54 5 rfl ?_
    refine v_iconst (pc := 55) (v := 0) X dX5_strikes_55 rfl ?_
    refine v_cGi (pc := 56) X (m_T_nextPaid l g fu p1 x2 (0 : Int32) _) (v_rc_n X wT_o0) (Or.inl q2025) hy_T_nextPaid rfl rfl rfl rfl dX5_strikes_56 (fun z_5 _ => ?_)
    refine v_istore (pc := 59) (lv' := [(6, .int z_5), (5, .int (0 : Int32)), (4, .int x4_4), (3, .int z_3), (0, .ref (v_E g 0)), (1, .int p1), (2, .int x2)]) X dX5_strikes_59 (Nat.le_of_ble_eq_true rfl) rfl ?_
    refine v_sub [4, 5, 6, 3, 2, 1, 0] rfl ?_
    exact w_T_strikes_61L fu p1 X r27 h27 fu x2 z_3 x4_4 (0 : Int32) z_5 s
theorem w_T_strikes_27L {Γ : v_Ctx} {l : Launch} {g : v_G} (fu : Nat) (p1 : Int32) (X : v_C Γ l rm_T_strikes cX5_strikes 8 RX5 none wT g)  : ∀ (n : Nat), ∀ (x2 : Int32) (s : v_S), v_V Γ 8 wT g (fun z : v_S => ((none : Option Value), z)) 27 [(0, .ref (v_E g 0)), (1, .int p1), (2, .int x2)] [] s (v_loop (t_T_strikes_27B fu p1) n (x2, s)) := by
  intro n
  induction n with
  | zero => exact fun _ _ => v_none
  | succ n ih => exact fun x2 s => w_T_strikes_27 fu p1 X  _ ih x2 s
theorem w_T_strikes_6 {Γ : v_Ctx} {l : Launch} {g : v_G} (fu : Nat) (p1 : Int32) (X : v_C Γ l rm_T_strikes cX5_strikes 8 RX5 none wT g) (r6 : Int32 × v_S → Option v_S) (h6 : ∀ (x2 : Int32) (s : v_S), v_V Γ 8 wT g (fun z : v_S => ((none : Option Value), z)) 6 [(0, .ref (v_E g 0)), (1, .int p1), (2, .int x2)] [] s (r6 (x2, s))) (x2 : Int32) (s : v_S) : v_V Γ 8 wT g (fun z : v_S => ((none : Option Value), z)) 6 [(0, .ref (v_E g 0)), (1, .int p1), (2, .int x2)] [] s (t_T_strikes_6 fu p1 r6 x2 s) := by
  unfold t_T_strikes_6
  refine v_iload_n (pc := 6) X dX5_strikes_6 2 rfl ?_
  refine v_bipush (pc := 7) (v := 36) X dX5_strikes_7 rfl ?_
  refine v_icmp_ge (pc := 9) (tgt := 25) X dX5_strikes_9 (by decide) (fun c9 => ?_) (fun c9 => ?_)
  · refine v_iconst (pc := 25) (v := 0) X dX5_strikes_25 rfl ?_
    refine v_istore_n (pc := 26) (lv' := [(2, .int (0 : Int32)), (0, .ref (v_E g 0)), (1, .int p1)]) X dX5_strikes_26 rfl (Nat.le_of_ble_eq_true rfl) rfl ?_
    refine v_sub [1, 2, 0] rfl ?_
    exact w_T_strikes_27L fu p1 X  fu (0 : Int32) s
  · refine v_aload_n (pc := 12) X dX5_strikes_12 0 rfl ?_
    refine v_get (pc := 13) (kind := 19) (v := .ref (v_E g 16)) X wT_n0 wT_l0 wT_c0 in_X5 (Nat.le_of_ble_eq_true rfl : 34 < 40) q1505 rfl rfl dX5_strikes_13 ?_
    refine v_iload_n (pc := 16) X dX5_strikes_16 2 rfl ?_
    refine v_iconst (pc := 17) (v := 0) X dX5_strikes_17 rfl ?_
    refine v_iast (pc := 18) X wT_n16 wT_l16 dX5_strikes_18 (fun s_12 => ?_)
    refine v_iinc (pc := 19) (v := x2 + (1 : Int32)) (lv' := [(2, .int (x2 + (1 : Int32))), (0, .ref (v_E g 0)), (1, .int p1)]) (k := 2) X dX5_strikes_19 rfl rfl (Nat.le_of_ble_eq_true rfl) rfl ?_
    refine v_goto (pc := 22) (tgt := 6) X dX5_strikes_22 (by decide) ?_
    refine v_sub [1, 2, 0] rfl ?_
    exact h6 (x2 + (1 : Int32)) s_12
theorem w_T_strikes_6L {Γ : v_Ctx} {l : Launch} {g : v_G} (fu : Nat) (p1 : Int32) (X : v_C Γ l rm_T_strikes cX5_strikes 8 RX5 none wT g)  : ∀ (n : Nat), ∀ (x2 : Int32) (s : v_S), v_V Γ 8 wT g (fun z : v_S => ((none : Option Value), z)) 6 [(0, .ref (v_E g 0)), (1, .int p1), (2, .int x2)] [] s (v_loop (t_T_strikes_6B fu p1) n (x2, s)) := by
  intro n
  induction n with
  | zero => exact fun _ _ => v_none
  | succ n ih => exact fun x2 s => w_T_strikes_6 fu p1 X  _ ih x2 s
theorem m_T_strikes (l : Launch) (g : v_G) (fu : Nat) (p1 : Int32) (s : v_S) : v_M l yX5_strikes cX5_strikes 8 none rm_T_strikes wT g [.ref (v_E g 0), .int p1] s (fun z : v_S => ((none : Option Value), z)) (t_T_strikes fu p1 s) := by
  refine v_met (by decide +kernel) (Nat.le_of_ble_eq_true rfl) (fun Γ X => ?_)
  refine v_lv (lv' := [(0, .ref (v_E g 0)), (1, .int p1)]) rfl ?_
  unfold t_T_strikes
  refine v_aload_n (pc := 0) X dX5_strikes_0 0 rfl ?_
  refine v_cGs (pc := 1) X (m_T_fillDebts l g fu _) (v_rc_n X wT_o0) (Or.inl q1977) hy_T_fillDebts rfl rfl rfl rfl dX5_strikes_1 (fun s_1 _ => ?_)
  refine v_iconst (pc := 4) (v := 0) X dX5_strikes_4 rfl ?_
  refine v_istore_n (pc := 5) (lv' := [(2, .int (0 : Int32)), (0, .ref (v_E g 0)), (1, .int p1)]) X dX5_strikes_5 rfl (Nat.le_of_ble_eq_true rfl) rfl ?_
  refine v_sub [1, 2, 0] rfl ?_
  exact w_T_strikes_6L fu p1 X  fu (0 : Int32) s_1
/-! FloodLentModel.ruined()I -/
abbrev rm_T_ruined : Room := { frames := 2, cells := 0, slots := 0, locals := 43 }
theorem hy_T_ruined : v_yV yX5_ruined cX5_ruined 6 (some .int) 0 := ⟨q2031, qs126, q141, q2032, by decide +kernel⟩
def t_T_ruined_62 (fu : Nat) (s : v_S) (r4 : Int32 × Int32 → Option Int32) (x1 : Int32) (x2 : Int32) (x3 : Int32) (x4 : Int32) : Option Int32 :=
if x3 ≤ (2 : Int32) * x4 then (v_n (x1 ||| (0 : Int32)) fun (x1_3 : Int32) => r4 (x1_3, x2 + (1 : Int32))) else (v_n (x1 ||| ((1 : Int32) <<< (x2 &&& 31))) fun (x1_4 : Int32) => r4 (x1_4, x2 + (1 : Int32)))
def t_T_ruined_20 (fu : Nat) (s : v_S) (r4 : Int32 × Int32 → Option Int32) (r20 : Int32 × Int32 × Int32 × Int32 × Int32 → Option Int32) (x1 : Int32) (x2 : Int32) (x3 : Int32) (x4 : Int32) (x5 : Int32) : Option Int32 :=
v_b1 (t_T_villages fu s) fun (z_2 : Int32) => if z_2 ≤ x5 then (t_T_ruined_62 fu s r4 x1 x2 x3 x4) else (v_b1 (t_T_debt fu x5 x2 s) fun (z_5 : Int32) => v_n (x3 + z_5) fun (x3_6 : Int32) => v_g (((6 : Int32) * x5) + x2) 36 <| v_n (x4 + (s.1 16 (Int32.toNatClampNeg (((6 : Int32) * x5) + x2)))) fun (x4_7 : Int32) => r20 (x1, x2, x3_6, x4_7, x5 + (1 : Int32)))
def t_T_ruined_20B (fu : Nat) (s : v_S) (r4 : Int32 × Int32 → Option Int32) (r20 : Int32 × Int32 × Int32 × Int32 × Int32 → Option Int32) (a : Int32 × Int32 × Int32 × Int32 × Int32) : Option Int32 := t_T_ruined_20 fu s r4 r20 a.1 a.2.1 a.2.2.1 a.2.2.2.1 a.2.2.2.2
def t_T_ruined_4 (fu : Nat) (s : v_S) (r4 : Int32 × Int32 → Option Int32) (x1 : Int32) (x2 : Int32) : Option Int32 :=
v_b1 (t_T_villages fu s) fun (z_1 : Int32) => if z_1 ≤ x2 then (some x1) else (v_loop (t_T_ruined_20B fu s r4) fu (x1, x2, (0 : Int32), (0 : Int32), (0 : Int32)))
def t_T_ruined_4B (fu : Nat) (s : v_S) (r4 : Int32 × Int32 → Option Int32) (a : Int32 × Int32) : Option Int32 := t_T_ruined_4 fu s r4 a.1 a.2
def t_T_ruined (fu : Nat)  (s : v_S) : Option Int32 :=
  v_loop (t_T_ruined_4B fu s) fu ((0 : Int32), (0 : Int32))
theorem w_T_ruined_62 {Γ : v_Ctx} {l : Launch} {g : v_G} (fu : Nat) (s : v_S) (X : v_C Γ l rm_T_ruined cX5_ruined 6 RX5 (some .int) wT g) (r4 : Int32 × Int32 → Option Int32) (h4 : ∀ (x1 : Int32) (x2 : Int32), v_V Γ 6 wT g (fun z : Int32 => (some (.int z), s)) 4 [(0, .ref (v_E g 0)), (1, .int x1), (2, .int x2)] [] s (r4 (x1, x2))) (x1 : Int32) (x2 : Int32) (x3 : Int32) (x4 : Int32) : v_V Γ 6 wT g (fun z : Int32 => (some (.int z), s)) 62 [(0, .ref (v_E g 0)), (1, .int x1), (2, .int x2), (3, .int x3), (4, .int x4)] [] s (t_T_ruined_62 fu s r4 x1 x2 x3 x4) := by
  unfold t_T_ruined_62
  refine v_iload_n (pc := 62) X dX5_ruined_62 1 rfl ?_
  refine v_iconst (pc := 63) (v := 2) X dX5_ruined_63 rfl ?_
  refine v_iload (pc := 64) X dX5_ruined_64 4 rfl ?_
  refine v_imul (pc := 66) X dX5_ruined_66 ?_
  refine v_iload_n (pc := 67) X dX5_ruined_67 3 rfl ?_
  refine v_icmp_ge (pc := 68) (tgt := 77) X dX5_ruined_68 (by decide) (fun c68 => ?_) (fun c68 => ?_)
  · refine v_iconst (pc := 77) (v := 0) X dX5_ruined_77 rfl ?_
    refine v_ior (pc := 78) X dX5_ruined_78 ?_
    refine v_istore_nN (pc := 79) (lvf := fun x1_3 => [(1, .int x1_3), (0, .ref (v_E g 0)), (2, .int x2), (3, .int x3), (4, .int x4)]) X dX5_ruined_79 rfl (Nat.le_of_ble_eq_true rfl) (fun _ => rfl) (fun x1_3 => ?_)
    refine v_iinc (pc := 80) (v := x2 + (1 : Int32)) (lv' := [(2, .int (x2 + (1 : Int32))), (1, .int x1_3), (0, .ref (v_E g 0)), (3, .int x3), (4, .int x4)]) (k := 2) X dX5_ruined_80 rfl rfl (Nat.le_of_ble_eq_true rfl) rfl ?_
    refine v_goto (pc := 83) (tgt := 4) X dX5_ruined_83 (by decide) ?_
    refine v_sub [2, 1, 0] rfl ?_
    exact h4 x1_3 (x2 + (1 : Int32))
  · refine v_iconst (pc := 71) (v := 1) X dX5_ruined_71 rfl ?_
    refine v_iload_n (pc := 72) X dX5_ruined_72 2 rfl ?_
    refine v_ishl (pc := 73) X dX5_ruined_73 ?_
    refine v_goto (pc := 74) (tgt := 78) X dX5_ruined_74 (by decide) ?_
    refine v_ior (pc := 78) X dX5_ruined_78 ?_
    refine v_istore_nN (pc := 79) (lvf := fun x1_4 => [(1, .int x1_4), (0, .ref (v_E g 0)), (2, .int x2), (3, .int x3), (4, .int x4)]) X dX5_ruined_79 rfl (Nat.le_of_ble_eq_true rfl) (fun _ => rfl) (fun x1_4 => ?_)
    refine v_iinc (pc := 80) (v := x2 + (1 : Int32)) (lv' := [(2, .int (x2 + (1 : Int32))), (1, .int x1_4), (0, .ref (v_E g 0)), (3, .int x3), (4, .int x4)]) (k := 2) X dX5_ruined_80 rfl rfl (Nat.le_of_ble_eq_true rfl) rfl ?_
    refine v_goto (pc := 83) (tgt := 4) X dX5_ruined_83 (by decide) ?_
    refine v_sub [2, 1, 0] rfl ?_
    exact h4 x1_4 (x2 + (1 : Int32))
theorem w_T_ruined_20 {Γ : v_Ctx} {l : Launch} {g : v_G} (fu : Nat) (s : v_S) (X : v_C Γ l rm_T_ruined cX5_ruined 6 RX5 (some .int) wT g) (r4 : Int32 × Int32 → Option Int32) (h4 : ∀ (x1 : Int32) (x2 : Int32), v_V Γ 6 wT g (fun z : Int32 => (some (.int z), s)) 4 [(0, .ref (v_E g 0)), (1, .int x1), (2, .int x2)] [] s (r4 (x1, x2))) (r20 : Int32 × Int32 × Int32 × Int32 × Int32 → Option Int32) (h20 : ∀ (x1 : Int32) (x2 : Int32) (x3 : Int32) (x4 : Int32) (x5 : Int32), v_V Γ 6 wT g (fun z : Int32 => (some (.int z), s)) 20 [(0, .ref (v_E g 0)), (1, .int x1), (2, .int x2), (3, .int x3), (4, .int x4), (5, .int x5)] [] s (r20 (x1, x2, x3, x4, x5))) (x1 : Int32) (x2 : Int32) (x3 : Int32) (x4 : Int32) (x5 : Int32) : v_V Γ 6 wT g (fun z : Int32 => (some (.int z), s)) 20 [(0, .ref (v_E g 0)), (1, .int x1), (2, .int x2), (3, .int x3), (4, .int x4), (5, .int x5)] [] s (t_T_ruined_20 fu s r4 r20 x1 x2 x3 x4 x5) := by
  unfold t_T_ruined_20
  refine v_iload (pc := 20) X dX5_ruined_20 5 rfl ?_
  refine v_aload_n (pc := 22) X dX5_ruined_22 0 rfl ?_
  refine v_cGi (pc := 23) X (m_T_villages l g fu _) (v_rc_n X wT_o0) (Or.inl q1725) hy_T_villages rfl rfl rfl rfl dX5_ruined_23 (fun z_2 _ => ?_)
  refine v_icmp_ge (pc := 26) (tgt := 62) X dX5_ruined_26 (by decide) (fun c26 => ?_) (fun c26 => ?_)
  · refine v_sub [0, 1, 2, 3, 4] rfl ?_
    exact w_T_ruined_62 fu s X r4 h4 x1 x2 x3 x4
  · refine v_iload_n (pc := 29) X dX5_ruined_29 3 rfl ?_
    refine v_aload_n (pc := 30) X dX5_ruined_30 0 rfl ?_
    refine v_iload (pc := 31) X dX5_ruined_31 5 rfl ?_
    refine v_iload_n (pc := 33) X dX5_ruined_33 2 rfl ?_
    refine v_cGi (pc := 34) X (m_T_debt l g fu x5 x2 _) (v_rc_n X wT_o0) (Or.inl q1981) hy_T_debt rfl rfl rfl rfl dX5_ruined_34 (fun z_5 _ => ?_)
    refine v_iadd (pc := 37) X dX5_ruined_37 ?_
    refine v_istore_nN (pc := 38) (lvf := fun x3_6 => [(3, .int x3_6), (0, .ref (v_E g 0)), (1, .int x1), (2, .int x2), (4, .int x4), (5, .int x5)]) X dX5_ruined_38 rfl (Nat.le_of_ble_eq_true rfl) (fun _ => rfl) (fun x3_6 => ?_)
    refine v_iload (pc := 39) X dX5_ruined_39 4 rfl ?_
    refine v_aload_n (pc := 41) X dX5_ruined_41 1 rfl ?_
    refine v_get (pc := 42) (kind := 19) (v := .ref (v_E g 16)) X wT_n0 wT_l0 wT_c0 in_X5 (Nat.le_of_ble_eq_true rfl : 34 < 40) q1505 rfl rfl dX5_ruined_42 ?_
    refine v_bipush (pc := 45) (v := 6) X dX5_ruined_45 rfl ?_
    refine v_iload (pc := 47) X dX5_ruined_47 5 rfl ?_
    refine v_imul (pc := 49) X dX5_ruined_49 ?_
    refine v_iload_n (pc := 50) X dX5_ruined_50 3 rfl ?_
    refine v_iadd (pc := 51) X dX5_ruined_51 ?_
    refine v_iald (pc := 52) X wT_n16 wT_l16 dX5_ruined_52 ?_
    refine v_iadd (pc := 53) X dX5_ruined_53 ?_
    refine v_istoreN (pc := 54) (lvf := fun x4_7 => [(4, .int x4_7), (3, .int x3_6), (0, .ref (v_E g 0)), (1, .int x1), (2, .int x2), (5, .int x5)]) X dX5_ruined_54 (Nat.le_of_ble_eq_true rfl) (fun _ => rfl) (fun x4_7 => ?_)
    refine v_iinc (pc := 56) (v := x5 + (1 : Int32)) (lv' := [(5, .int (x5 + (1 : Int32))), (4, .int x4_7), (3, .int x3_6), (0, .ref (v_E g 0)), (1, .int x1), (2, .int x2)]) (k := 5) X dX5_ruined_56 rfl rfl (Nat.le_of_ble_eq_true rfl) rfl ?_
    refine v_goto (pc := 59) (tgt := 20) X dX5_ruined_59 (by decide) ?_
    refine v_sub [3, 4, 5, 2, 1, 0] rfl ?_
    exact h20 x1 x2 x3_6 x4_7 (x5 + (1 : Int32))
theorem w_T_ruined_20L {Γ : v_Ctx} {l : Launch} {g : v_G} (fu : Nat) (s : v_S) (X : v_C Γ l rm_T_ruined cX5_ruined 6 RX5 (some .int) wT g) (r4 : Int32 × Int32 → Option Int32) (h4 : ∀ (x1 : Int32) (x2 : Int32), v_V Γ 6 wT g (fun z : Int32 => (some (.int z), s)) 4 [(0, .ref (v_E g 0)), (1, .int x1), (2, .int x2)] [] s (r4 (x1, x2))) : ∀ (n : Nat), ∀ (x1 : Int32) (x2 : Int32) (x3 : Int32) (x4 : Int32) (x5 : Int32), v_V Γ 6 wT g (fun z : Int32 => (some (.int z), s)) 20 [(0, .ref (v_E g 0)), (1, .int x1), (2, .int x2), (3, .int x3), (4, .int x4), (5, .int x5)] [] s (v_loop (t_T_ruined_20B fu s r4) n (x1, x2, x3, x4, x5)) := by
  intro n
  induction n with
  | zero => exact fun _ _ _ _ _ => v_none
  | succ n ih => exact fun x1 x2 x3 x4 x5 => w_T_ruined_20 fu s X r4 h4 _ ih x1 x2 x3 x4 x5
theorem w_T_ruined_4 {Γ : v_Ctx} {l : Launch} {g : v_G} (fu : Nat) (s : v_S) (X : v_C Γ l rm_T_ruined cX5_ruined 6 RX5 (some .int) wT g) (r4 : Int32 × Int32 → Option Int32) (h4 : ∀ (x1 : Int32) (x2 : Int32), v_V Γ 6 wT g (fun z : Int32 => (some (.int z), s)) 4 [(0, .ref (v_E g 0)), (1, .int x1), (2, .int x2)] [] s (r4 (x1, x2))) (x1 : Int32) (x2 : Int32) : v_V Γ 6 wT g (fun z : Int32 => (some (.int z), s)) 4 [(0, .ref (v_E g 0)), (1, .int x1), (2, .int x2)] [] s (t_T_ruined_4 fu s r4 x1 x2) := by
  unfold t_T_ruined_4
  refine v_iload_n (pc := 4) X dX5_ruined_4 2 rfl ?_
  refine v_aload_n (pc := 5) X dX5_ruined_5 0 rfl ?_
  refine v_cGi (pc := 6) X (m_T_villages l g fu _) (v_rc_n X wT_o0) (Or.inl q1725) hy_T_villages rfl rfl rfl rfl dX5_ruined_6 (fun z_1 _ => ?_)
  refine v_icmp_ge (pc := 9) (tgt := 86) X dX5_ruined_9 (by decide) (fun c9 => ?_) (fun c9 => ?_)
  · refine v_iload_n (pc := 86) X dX5_ruined_86 1 rfl ?_
    exact v_iret (pc := 87) X dX5_ruined_87 rfl
  · refine v_iconst (pc := 12) (v := 0) X dX5_ruined_12 rfl ?_
    refine v_istore_n (pc := 13) (lv' := [(3, .int (0 : Int32)), (0, .ref (v_E g 0)), (1, .int x1), (2, .int x2)]) X dX5_ruined_13 rfl (Nat.le_of_ble_eq_true rfl) rfl ?_
    refine v_iconst (pc := 14) (v := 0) X dX5_ruined_14 rfl ?_
    refine v_istore (pc := 15) (lv' := [(4, .int (0 : Int32)), (3, .int (0 : Int32)), (0, .ref (v_E g 0)), (1, .int x1), (2, .int x2)]) X dX5_ruined_15 (Nat.le_of_ble_eq_true rfl) rfl ?_
    refine v_iconst (pc := 17) (v := 0) X dX5_ruined_17 rfl ?_
    refine v_istore (pc := 18) (lv' := [(5, .int (0 : Int32)), (4, .int (0 : Int32)), (3, .int (0 : Int32)), (0, .ref (v_E g 0)), (1, .int x1), (2, .int x2)]) X dX5_ruined_18 (Nat.le_of_ble_eq_true rfl) rfl ?_
    refine v_sub [3, 4, 5, 2, 1, 0] rfl ?_
    exact w_T_ruined_20L fu s X r4 h4 fu x1 x2 (0 : Int32) (0 : Int32) (0 : Int32)
theorem w_T_ruined_4L {Γ : v_Ctx} {l : Launch} {g : v_G} (fu : Nat) (s : v_S) (X : v_C Γ l rm_T_ruined cX5_ruined 6 RX5 (some .int) wT g)  : ∀ (n : Nat), ∀ (x1 : Int32) (x2 : Int32), v_V Γ 6 wT g (fun z : Int32 => (some (.int z), s)) 4 [(0, .ref (v_E g 0)), (1, .int x1), (2, .int x2)] [] s (v_loop (t_T_ruined_4B fu s) n (x1, x2)) := by
  intro n
  induction n with
  | zero => exact fun _ _ => v_none
  | succ n ih => exact fun x1 x2 => w_T_ruined_4 fu s X  _ ih x1 x2
theorem m_T_ruined (l : Launch) (g : v_G) (fu : Nat)  (s : v_S) : v_M l yX5_ruined cX5_ruined 6 (some .int) rm_T_ruined wT g [.ref (v_E g 0)] s (fun z : Int32 => (some (.int z), s)) (t_T_ruined fu  s) := by
  refine v_met (by decide +kernel) (Nat.le_of_ble_eq_true rfl) (fun Γ X => ?_)
  refine v_lv (lv' := [(0, .ref (v_E g 0))]) rfl ?_
  unfold t_T_ruined
  refine v_iconst (pc := 0) (v := 0) X dX5_ruined_0 rfl ?_
  refine v_istore_n (pc := 1) (lv' := [(1, .int (0 : Int32)), (0, .ref (v_E g 0))]) X dX5_ruined_1 rfl (Nat.le_of_ble_eq_true rfl) rfl ?_
  refine v_iconst (pc := 2) (v := 0) X dX5_ruined_2 rfl ?_
  refine v_istore_n (pc := 3) (lv' := [(2, .int (0 : Int32)), (1, .int (0 : Int32)), (0, .ref (v_E g 0))]) X dX5_ruined_3 rfl (Nat.le_of_ble_eq_true rfl) rfl ?_
  refine v_sub [2, 1, 0] rfl ?_
  exact w_T_ruined_4L fu s X  fu (0 : Int32) (0 : Int32)
/-! FloodLentModel.struck(II)I -/
abbrev rm_T_struck : Room := { frames := 8, cells := 0, slots := 0, locals := 180 }
theorem hy_T_struck : v_yV yX5_struck cX5_struck 5 (some .int) 2 := ⟨q2014, q2015, q141, q2016, by decide +kernel⟩
def t_T_struck_52 (fu : Nat) (p1 : Int32) (p2 : Int32) (r52 : Int32 × Int32 × v_S → Option (Int32 × v_S)) (x3 : Int32) (x4 : Int32) (s : v_S) : Option (Int32 × v_S) :=
if (36 : Int32) ≤ x4 then (some (x3, s)) else (v_g x4 36 <| v_n (x3 + (s.1 16 (Int32.toNatClampNeg x4))) fun (x3_5 : Int32) => r52 (x3_5, x4 + (1 : Int32), s))
def t_T_struck_52B (fu : Nat) (p1 : Int32) (p2 : Int32) (r52 : Int32 × Int32 × v_S → Option (Int32 × v_S)) (a : Int32 × Int32 × v_S) : Option (Int32 × v_S) := t_T_struck_52 fu p1 p2 r52 a.1 a.2.1 a.2.2
def t_T_struck (fu : Nat) (p1 : Int32) (p2 : Int32) (s : v_S) : Option (Int32 × v_S) :=
  v_b1 (t_T_isPlain fu s) fun (z_1 : Int32) => if z_1 = 0 then (some ((-2 : Int32), s)) else (v_b1 (t_T_in fu (Int32.toInt64 p1) (0 : Int64) (2 : Int64) s) fun (z_2 : Int32) => if z_2 = 0 then (some ((-2 : Int32), s)) else (v_b1 (t_T_in fu (Int32.toInt64 p2) (0 : Int64) (1 : Int64) s) fun (z_3 : Int32) => if z_3 = 0 then (some ((-2 : Int32), s)) else (v_b1 (t_T_strikes fu p1 s) fun (s_4 : v_S) => if p2 = (1 : Int32) then (v_b1 (t_T_ruined fu s_4) fun (z_6 : Int32) => some (z_6, s_4)) else (v_loop (t_T_struck_52B fu p1 p2) fu ((0 : Int32), (0 : Int32), s_4)))))
theorem w_T_struck_52 {Γ : v_Ctx} {l : Launch} {g : v_G} (fu : Nat) (p1 : Int32) (p2 : Int32) (X : v_C Γ l rm_T_struck cX5_struck 5 RX5 (some .int) wT g) (r52 : Int32 × Int32 × v_S → Option (Int32 × v_S)) (h52 : ∀ (x3 : Int32) (x4 : Int32) (s : v_S), v_V Γ 5 wT g (fun z : Int32 × v_S => (some (.int z.1), z.2)) 52 [(0, .ref (v_E g 0)), (3, .int x3), (4, .int x4)] [] s (r52 (x3, x4, s))) (x3 : Int32) (x4 : Int32) (s : v_S) : v_V Γ 5 wT g (fun z : Int32 × v_S => (some (.int z.1), z.2)) 52 [(0, .ref (v_E g 0)), (3, .int x3), (4, .int x4)] [] s (t_T_struck_52 fu p1 p2 r52 x3 x4 s) := by
  unfold t_T_struck_52
  refine v_iload (pc := 52) X dX5_struck_52 2 rfl ?_
  refine v_bipush (pc := 54) (v := 36) X dX5_struck_54 rfl ?_
  refine v_icmp_ge (pc := 56) (tgt := 75) X dX5_struck_56 (by decide) (fun c56 => ?_) (fun c56 => ?_)
  · refine v_iload_n (pc := 75) X dX5_struck_75 1 rfl ?_
    exact v_iret (pc := 76) X dX5_struck_76 rfl
  · refine v_iload_n (pc := 59) X dX5_struck_59 1 rfl ?_
    refine v_aload_n (pc := 60) X dX5_struck_60 0 rfl ?_
    refine v_get (pc := 61) (kind := 19) (v := .ref (v_E g 16)) X wT_n0 wT_l0 wT_c0 in_X5 (Nat.le_of_ble_eq_true rfl : 34 < 40) q1505 rfl rfl dX5_struck_61 ?_
    refine v_iload (pc := 64) X dX5_struck_64 2 rfl ?_
    refine v_iald (pc := 66) X wT_n16 wT_l16 dX5_struck_66 ?_
    refine v_iadd (pc := 67) X dX5_struck_67 ?_
    refine v_istore_nN (pc := 68) (lvf := fun x3_5 => [(3, .int x3_5), (0, .ref (v_E g 0)), (4, .int x4)]) X dX5_struck_68 rfl (Nat.le_of_ble_eq_true rfl) (fun _ => rfl) (fun x3_5 => ?_)
    refine v_iinc (pc := 69) (v := x4 + (1 : Int32)) (lv' := [(4, .int (x4 + (1 : Int32))), (3, .int x3_5), (0, .ref (v_E g 0))]) (k := 2) X dX5_struck_69 rfl rfl (Nat.le_of_ble_eq_true rfl) rfl ?_
    refine v_goto (pc := 72) (tgt := 52) X dX5_struck_72 (by decide) ?_
    refine v_sub [2, 1, 0] rfl ?_
    exact h52 x3_5 (x4 + (1 : Int32)) s
theorem w_T_struck_52L {Γ : v_Ctx} {l : Launch} {g : v_G} (fu : Nat) (p1 : Int32) (p2 : Int32) (X : v_C Γ l rm_T_struck cX5_struck 5 RX5 (some .int) wT g)  : ∀ (n : Nat), ∀ (x3 : Int32) (x4 : Int32) (s : v_S), v_V Γ 5 wT g (fun z : Int32 × v_S => (some (.int z.1), z.2)) 52 [(0, .ref (v_E g 0)), (3, .int x3), (4, .int x4)] [] s (v_loop (t_T_struck_52B fu p1 p2) n (x3, x4, s)) := by
  intro n
  induction n with
  | zero => exact fun _ _ _ => v_none
  | succ n ih => exact fun x3 x4 s => w_T_struck_52 fu p1 p2 X  _ ih x3 x4 s
theorem m_T_struck (l : Launch) (g : v_G) (fu : Nat) (p1 : Int32) (p2 : Int32) (s : v_S) : v_M l yX5_struck cX5_struck 5 (some .int) rm_T_struck wT g [.ref (v_E g 0), .int p1, .int p2] s (fun z : Int32 × v_S => (some (.int z.1), z.2)) (t_T_struck fu p1 p2 s) := by
  refine v_met (by decide +kernel) (Nat.le_of_ble_eq_true rfl) (fun Γ X => ?_)
  refine v_lv (lv' := [(0, .ref (v_E g 0)), (1, .int p1), (2, .int p2)]) rfl ?_
  unfold t_T_struck
  refine v_aload_n (pc := 0) X dX5_struck_0 0 rfl ?_
  refine v_cGi (pc := 1) X (m_T_isPlain l g fu _) (v_rc_n X wT_o0) (Or.inl q1831) hy_T_isPlain rfl rfl rfl rfl dX5_struck_1 (fun z_1 _ => ?_)
  refine v_if_eq (pc := 4) (tgt := 29) X dX5_struck_4 (by decide) (fun c4 => ?_) (fun c4 => ?_)
  · refine v_bipush (pc := 29) (v := -2) X dX5_struck_29 rfl ?_
    exact v_iret (pc := 31) X dX5_struck_31 rfl
  · refine v_iload_n (pc := 7) X dX5_struck_7 1 rfl ?_
    refine v_i2l (pc := 8) X dX5_struck_8 ?_
    refine v_lconst (pc := 9) (v := 0) X dX5_struck_9 rfl ?_
    refine v_ldc2 (pc := 10) X q1597 dX5_struck_10 ?_
    refine v_cSi (pc := 13) X (m_T_in l g fu (Int32.toInt64 p1) (0 : Int64) (2 : Int64) _) q1598 hy_T_in rfl rfl rfl rfl dX5_struck_13 (fun z_2 _ => ?_)
    refine v_if_eq (pc := 16) (tgt := 29) X dX5_struck_16 (by decide) (fun c16 => ?_) (fun c16 => ?_)
    · refine v_bipush (pc := 29) (v := -2) X dX5_struck_29 rfl ?_
      exact v_iret (pc := 31) X dX5_struck_31 rfl
    · refine v_iload_n (pc := 19) X dX5_struck_19 2 rfl ?_
      refine v_i2l (pc := 20) X dX5_struck_20 ?_
      refine v_lconst (pc := 21) (v := 0) X dX5_struck_21 rfl ?_
      refine v_lconst (pc := 22) (v := 1) X dX5_struck_22 rfl ?_
      refine v_cSi (pc := 23) X (m_T_in l g fu (Int32.toInt64 p2) (0 : Int64) (1 : Int64) _) q1598 hy_T_in rfl rfl rfl rfl dX5_struck_23 (fun z_3 _ => ?_)
      refine v_if_ne (pc := 26) (tgt := 32) X dX5_struck_26 (by decide) (fun c26 => ?_) (fun c26 => ?_)
      · refine v_aload_n (pc := 32) X dX5_struck_32 0 rfl ?_
        refine v_iload_n (pc := 33) X dX5_struck_33 1 rfl ?_
        refine v_cGs (pc := 34) X (m_T_strikes l g fu p1 _) (v_rc_n X wT_o0) (Or.inl q2017) hy_T_strikes rfl rfl rfl rfl dX5_struck_34 (fun s_4 _ => ?_)
        refine v_iload_n (pc := 37) X dX5_struck_37 2 rfl ?_
        refine v_iconst (pc := 38) (v := 1) X dX5_struck_38 rfl ?_
        refine v_icmp_ne (pc := 39) (tgt := 47) X dX5_struck_39 (by decide) (fun c39 => ?_) (fun c39 => ?_)
        · refine v_iconst (pc := 47) (v := 0) X dX5_struck_47 rfl ?_
          refine v_istore_n (pc := 48) (lv' := [(3, .int (0 : Int32)), (0, .ref (v_E g 0)), (1, .int p1), (2, .int p2)]) X dX5_struck_48 rfl (Nat.le_of_ble_eq_true rfl) rfl ?_
          refine v_iconst (pc := 49) (v := 0) X dX5_struck_49 rfl ?_
          refine v_istore (pc := 50) (lv' := [(4, .int (0 : Int32)), (3, .int (0 : Int32)), (0, .ref (v_E g 0)), (1, .int p1), (2, .int p2)]) X dX5_struck_50 (Nat.le_of_ble_eq_true rfl) rfl ?_
          refine v_sub [2, 1, 0] rfl ?_
          exact w_T_struck_52L fu p1 p2 X  fu (0 : Int32) (0 : Int32) s_4
        · refine v_aload_n (pc := 42) X dX5_struck_42 0 rfl ?_
          refine v_cGi (pc := 43) X (m_T_ruined l g fu _) (v_rc_n X wT_o0) (Or.inl q2029) hy_T_ruined rfl rfl rfl rfl dX5_struck_43 (fun z_6 _ => ?_)
          exact v_iret (pc := 46) X dX5_struck_46 rfl
      · refine v_bipush (pc := 29) (v := -2) X dX5_struck_29 rfl ?_
        exact v_iret (pc := 31) X dX5_struck_31 rfl
/-! FloodLentModel.pays(III)I -/
abbrev rm_T_pays : Room := { frames := 8, cells := 0, slots := 0, locals := 180 }
theorem hy_T_pays : v_yV yX5_pays cX5_pays 4 (some .int) 3 := ⟨q2034, q2035, q141, q2036, by decide +kernel⟩
def t_T_pays (fu : Nat) (p1 : Int32) (p2 : Int32) (p3 : Int32) (s : v_S) : Option (Int32 × v_S) :=
  v_b1 (t_T_in fu (Int32.toInt64 p1) (0 : Int64) (2 : Int64) s) fun (z_1 : Int32) => if z_1 = 0 then (some ((-2 : Int32), s)) else (v_b1 (t_T_areTwo fu p2 p3 s) fun (z_2 : Int32) => if z_2 = 0 then (some ((-2 : Int32), s)) else (v_b1 (t_T_strikes fu p1 s) fun (s_3 : v_S) => v_g (((6 : Int32) * p2) + p3) 36 <| some (s_3.1 16 (Int32.toNatClampNeg (((6 : Int32) * p2) + p3)), s_3)))
theorem m_T_pays (l : Launch) (g : v_G) (fu : Nat) (p1 : Int32) (p2 : Int32) (p3 : Int32) (s : v_S) : v_M l yX5_pays cX5_pays 4 (some .int) rm_T_pays wT g [.ref (v_E g 0), .int p1, .int p2, .int p3] s (fun z : Int32 × v_S => (some (.int z.1), z.2)) (t_T_pays fu p1 p2 p3 s) := by
  refine v_met (by decide +kernel) (Nat.le_of_ble_eq_true rfl) (fun Γ X => ?_)
  refine v_lv (lv' := [(0, .ref (v_E g 0)), (1, .int p1), (2, .int p2), (3, .int p3)]) rfl ?_
  unfold t_T_pays
  refine v_iload_n (pc := 0) X dX5_pays_0 1 rfl ?_
  refine v_i2l (pc := 1) X dX5_pays_1 ?_
  refine v_lconst (pc := 2) (v := 0) X dX5_pays_2 rfl ?_
  refine v_ldc2 (pc := 3) X q1597 dX5_pays_3 ?_
  refine v_cSi (pc := 6) X (m_T_in l g fu (Int32.toInt64 p1) (0 : Int64) (2 : Int64) _) q1598 hy_T_in rfl rfl rfl rfl dX5_pays_6 (fun z_1 _ => ?_)
  refine v_if_eq (pc := 9) (tgt := 21) X dX5_pays_9 (by decide) (fun c9 => ?_) (fun c9 => ?_)
  · refine v_bipush (pc := 21) (v := -2) X dX5_pays_21 rfl ?_
    exact v_iret (pc := 23) X dX5_pays_23 rfl
  · refine v_aload_n (pc := 12) X dX5_pays_12 0 rfl ?_
    refine v_iload_n (pc := 13) X dX5_pays_13 2 rfl ?_
    refine v_iload_n (pc := 14) X dX5_pays_14 3 rfl ?_
    refine v_cGi (pc := 15) X (m_T_areTwo l g fu p2 p3 _) (v_rc_n X wT_o0) (Or.inl q1973) hy_T_areTwo rfl rfl rfl rfl dX5_pays_15 (fun z_2 _ => ?_)
    refine v_if_ne (pc := 18) (tgt := 24) X dX5_pays_18 (by decide) (fun c18 => ?_) (fun c18 => ?_)
    · refine v_aload_n (pc := 24) X dX5_pays_24 0 rfl ?_
      refine v_iload_n (pc := 25) X dX5_pays_25 1 rfl ?_
      refine v_cGs (pc := 26) X (m_T_strikes l g fu p1 _) (v_rc_n X wT_o0) (Or.inl q2017) hy_T_strikes rfl rfl rfl rfl dX5_pays_26 (fun s_3 _ => ?_)
      refine v_aload_n (pc := 29) X dX5_pays_29 0 rfl ?_
      refine v_get (pc := 30) (kind := 19) (v := .ref (v_E g 16)) X wT_n0 wT_l0 wT_c0 in_X5 (Nat.le_of_ble_eq_true rfl : 34 < 40) q1505 rfl rfl dX5_pays_30 ?_
      refine v_bipush (pc := 33) (v := 6) X dX5_pays_33 rfl ?_
      refine v_iload_n (pc := 35) X dX5_pays_35 2 rfl ?_
      refine v_imul (pc := 36) X dX5_pays_36 ?_
      refine v_iload_n (pc := 37) X dX5_pays_37 3 rfl ?_
      refine v_iadd (pc := 38) X dX5_pays_38 ?_
      refine v_iald (pc := 39) X wT_n16 wT_l16 dX5_pays_39 ?_
      exact v_iret (pc := 40) X dX5_pays_40 rfl
    · refine v_bipush (pc := 21) (v := -2) X dX5_pays_21 rfl ?_
      exact v_iret (pc := 23) X dX5_pays_23 rfl
/-! FloodLentModel.bits(I)I -/
abbrev rm_T_bits : Room := { frames := 1, cells := 0, slots := 0, locals := 21 }
theorem hy_T_bits : v_yS yX5_bits cX5_bits 3 (some .int) 1 := ⟨q2042, q141, q2043, by decide +kernel⟩
def t_T_bits_4 (fu : Nat) (p0 : Int32) (s : v_S) (r4 : Int32 × Int32 → Option Int32) (x1 : Int32) (x2 : Int32) : Option Int32 :=
if (6 : Int32) ≤ x2 then (some x1) else (v_n (x1 + ((p0 >>> (x2 &&& 31)) &&& (1 : Int32))) fun (x1_1 : Int32) => r4 (x1_1, x2 + (1 : Int32)))
def t_T_bits_4B (fu : Nat) (p0 : Int32) (s : v_S) (r4 : Int32 × Int32 → Option Int32) (a : Int32 × Int32) : Option Int32 := t_T_bits_4 fu p0 s r4 a.1 a.2
def t_T_bits (fu : Nat) (p0 : Int32) (s : v_S) : Option Int32 :=
  v_loop (t_T_bits_4B fu p0 s) fu ((0 : Int32), (0 : Int32))
theorem w_T_bits_4 {Γ : v_Ctx} {l : Launch} {g : v_G} (fu : Nat) (p0 : Int32) (s : v_S) (X : v_C Γ l rm_T_bits cX5_bits 3 RX5 (some .int) wT g) (r4 : Int32 × Int32 → Option Int32) (h4 : ∀ (x1 : Int32) (x2 : Int32), v_V Γ 3 wT g (fun z : Int32 => (some (.int z), s)) 4 [(0, .int p0), (1, .int x1), (2, .int x2)] [] s (r4 (x1, x2))) (x1 : Int32) (x2 : Int32) : v_V Γ 3 wT g (fun z : Int32 => (some (.int z), s)) 4 [(0, .int p0), (1, .int x1), (2, .int x2)] [] s (t_T_bits_4 fu p0 s r4 x1 x2) := by
  unfold t_T_bits_4
  refine v_iload_n (pc := 4) X dX5_bits_4 2 rfl ?_
  refine v_bipush (pc := 5) (v := 6) X dX5_bits_5 rfl ?_
  refine v_icmp_ge (pc := 7) (tgt := 24) X dX5_bits_7 (by decide) (fun c7 => ?_) (fun c7 => ?_)
  · refine v_iload_n (pc := 24) X dX5_bits_24 1 rfl ?_
    exact v_iret (pc := 25) X dX5_bits_25 rfl
  · refine v_iload_n (pc := 10) X dX5_bits_10 1 rfl ?_
    refine v_iload_n (pc := 11) X dX5_bits_11 0 rfl ?_
    refine v_iload_n (pc := 12) X dX5_bits_12 2 rfl ?_
    refine v_ishr (pc := 13) X dX5_bits_13 ?_
    refine v_iconst (pc := 14) (v := 1) X dX5_bits_14 rfl ?_
    refine v_iand (pc := 15) X dX5_bits_15 ?_
    refine v_iadd (pc := 16) X dX5_bits_16 ?_
    refine v_istore_nN (pc := 17) (lvf := fun x1_1 => [(1, .int x1_1), (0, .int p0), (2, .int x2)]) X dX5_bits_17 rfl (Nat.le_of_ble_eq_true rfl) (fun _ => rfl) (fun x1_1 => ?_)
    refine v_iinc (pc := 18) (v := x2 + (1 : Int32)) (lv' := [(2, .int (x2 + (1 : Int32))), (1, .int x1_1), (0, .int p0)]) (k := 2) X dX5_bits_18 rfl rfl (Nat.le_of_ble_eq_true rfl) rfl ?_
    refine v_goto (pc := 21) (tgt := 4) X dX5_bits_21 (by decide) ?_
    refine v_sub [2, 1, 0] rfl ?_
    exact h4 x1_1 (x2 + (1 : Int32))
theorem w_T_bits_4L {Γ : v_Ctx} {l : Launch} {g : v_G} (fu : Nat) (p0 : Int32) (s : v_S) (X : v_C Γ l rm_T_bits cX5_bits 3 RX5 (some .int) wT g)  : ∀ (n : Nat), ∀ (x1 : Int32) (x2 : Int32), v_V Γ 3 wT g (fun z : Int32 => (some (.int z), s)) 4 [(0, .int p0), (1, .int x1), (2, .int x2)] [] s (v_loop (t_T_bits_4B fu p0 s) n (x1, x2)) := by
  intro n
  induction n with
  | zero => exact fun _ _ => v_none
  | succ n ih => exact fun x1 x2 => w_T_bits_4 fu p0 s X  _ ih x1 x2
theorem m_T_bits (l : Launch) (g : v_G) (fu : Nat) (p0 : Int32) (s : v_S) : v_M l yX5_bits cX5_bits 3 (some .int) rm_T_bits wT g [.int p0] s (fun z : Int32 => (some (.int z), s)) (t_T_bits fu p0 s) := by
  refine v_met (by decide +kernel) (Nat.le_of_ble_eq_true rfl) (fun Γ X => ?_)
  refine v_lv (lv' := [(0, .int p0)]) rfl ?_
  unfold t_T_bits
  refine v_iconst (pc := 0) (v := 0) X dX5_bits_0 rfl ?_
  refine v_istore_n (pc := 1) (lv' := [(1, .int (0 : Int32)), (0, .int p0)]) X dX5_bits_1 rfl (Nat.le_of_ble_eq_true rfl) rfl ?_
  refine v_iconst (pc := 2) (v := 0) X dX5_bits_2 rfl ?_
  refine v_istore_n (pc := 3) (lv' := [(2, .int (0 : Int32)), (1, .int (0 : Int32)), (0, .int p0)]) X dX5_bits_3 rfl (Nat.le_of_ble_eq_true rfl) rfl ?_
  refine v_sub [2, 1, 0] rfl ?_
  exact w_T_bits_4L fu p0 s X  fu (0 : Int32) (0 : Int32)
/-! FloodLentModel.law()I -/
abbrev rm_T_law : Room := { frames := 8, cells := 0, slots := 0, locals := 180 }
theorem hy_T_law : v_yV yX5_law cX5_law 4 (some .int) 0 := ⟨q2038, q2039, q141, q2040, by decide +kernel⟩
def t_T_law_17 (fu : Nat) (r17 : Int32 × Int32 × Int32 × v_S → Option (Int32 × v_S)) (x1 : Int32) (x2 : Int32) (x3 : Int32) (s : v_S) : Option (Int32 × v_S) :=
if (3 : Int32) ≤ x3 then (some (x1, s)) else (v_b1 (t_T_strikes fu x3 s) fun (s_2 : v_S) => v_b1 (t_T_ruined fu s_2) fun (z_3 : Int32) => v_b1 (t_T_bits fu z_3 s_2) fun (z_4 : Int32) => if z_4 < x2 then (v_b1 (t_T_ruined fu s_2) fun (z_5 : Int32) => v_b1 (t_T_bits fu z_5 s_2) fun (z_6 : Int32) => r17 (x3, z_6, x3 + (1 : Int32), s_2)) else (r17 (x1, x2, x3 + (1 : Int32), s_2)))
def t_T_law_17B (fu : Nat) (r17 : Int32 × Int32 × Int32 × v_S → Option (Int32 × v_S)) (a : Int32 × Int32 × Int32 × v_S) : Option (Int32 × v_S) := t_T_law_17 fu r17 a.1 a.2.1 a.2.2.1 a.2.2.2
def t_T_law (fu : Nat)  (s : v_S) : Option (Int32 × v_S) :=
  v_b1 (t_T_isPlain fu s) fun (z_1 : Int32) => if z_1 = 0 then (some ((-2 : Int32), s)) else (v_loop (t_T_law_17B fu) fu ((-1 : Int32), (7 : Int32), (0 : Int32), s))
theorem w_T_law_17 {Γ : v_Ctx} {l : Launch} {g : v_G} (fu : Nat) (X : v_C Γ l rm_T_law cX5_law 4 RX5 (some .int) wT g) (r17 : Int32 × Int32 × Int32 × v_S → Option (Int32 × v_S)) (h17 : ∀ (x1 : Int32) (x2 : Int32) (x3 : Int32) (s : v_S), v_V Γ 4 wT g (fun z : Int32 × v_S => (some (.int z.1), z.2)) 17 [(0, .ref (v_E g 0)), (1, .int x1), (2, .int x2), (3, .int x3)] [] s (r17 (x1, x2, x3, s))) (x1 : Int32) (x2 : Int32) (x3 : Int32) (s : v_S) : v_V Γ 4 wT g (fun z : Int32 × v_S => (some (.int z.1), z.2)) 17 [(0, .ref (v_E g 0)), (1, .int x1), (2, .int x2), (3, .int x3)] [] s (t_T_law_17 fu r17 x1 x2 x3 s) := by
  unfold t_T_law_17
  refine v_iload_n (pc := 17) X dX5_law_17 3 rfl ?_
  refine v_iconst (pc := 18) (v := 3) X dX5_law_18 rfl ?_
  refine v_icmp_ge (pc := 19) (tgt := 57) X dX5_law_19 (by decide) (fun c19 => ?_) (fun c19 => ?_)
  · refine v_iload_n (pc := 57) X dX5_law_57 1 rfl ?_
    exact v_iret (pc := 58) X dX5_law_58 rfl
  · refine v_aload_n (pc := 22) X dX5_law_22 0 rfl ?_
    refine v_iload_n (pc := 23) X dX5_law_23 3 rfl ?_
    refine v_cGs (pc := 24) X (m_T_strikes l g fu x3 _) (v_rc_n X wT_o0) (Or.inl q2017) hy_T_strikes rfl rfl rfl rfl dX5_law_24 (fun s_2 _ => ?_)
    refine v_aload_n (pc := 27) X dX5_law_27 0 rfl ?_
    refine v_cGi (pc := 28) X (m_T_ruined l g fu _) (v_rc_n X wT_o0) (Or.inl q2029) hy_T_ruined rfl rfl rfl rfl dX5_law_28 (fun z_3 _ => ?_)
    refine v_cSi (pc := 31) X (m_T_bits l g fu z_3 _) q2041 hy_T_bits rfl rfl rfl rfl dX5_law_31 (fun z_4 _ => ?_)
    refine v_iload_n (pc := 34) X dX5_law_34 2 rfl ?_
    refine v_icmp_lt (pc := 35) (tgt := 41) X dX5_law_35 (by decide) (fun c35 => ?_) (fun c35 => ?_)
    · refine v_iload_n (pc := 41) X dX5_law_41 3 rfl ?_
      refine v_istore_n (pc := 42) (lv' := [(1, .int x3), (0, .ref (v_E g 0)), (2, .int x2), (3, .int x3)]) X dX5_law_42 rfl (Nat.le_of_ble_eq_true rfl) rfl ?_
      refine v_aload_n (pc := 43) X dX5_law_43 1 rfl ?_
      refine v_cGi (pc := 44) X (m_T_ruined l g fu _) (v_rc_n X wT_o0) (Or.inl q2029) hy_T_ruined rfl rfl rfl rfl dX5_law_44 (fun z_5 _ => ?_)
      refine v_cSi (pc := 47) X (m_T_bits l g fu z_5 _) q2041 hy_T_bits rfl rfl rfl rfl dX5_law_47 (fun z_6 _ => ?_)
      refine v_istore_n (pc := 50) (lv' := [(2, .int z_6), (1, .int x3), (0, .ref (v_E g 0)), (3, .int x3)]) X dX5_law_50 rfl (Nat.le_of_ble_eq_true rfl) rfl ?_
      refine v_iinc (pc := 51) (v := x3 + (1 : Int32)) (lv' := [(3, .int (x3 + (1 : Int32))), (2, .int z_6), (1, .int x3), (0, .ref (v_E g 0))]) (k := 3) X dX5_law_51 rfl rfl (Nat.le_of_ble_eq_true rfl) rfl ?_
      refine v_goto (pc := 54) (tgt := 17) X dX5_law_54 (by decide) ?_
      refine v_sub [3, 2, 1, 0] rfl ?_
      exact h17 x3 z_6 (x3 + (1 : Int32)) s_2
    · refine v_goto (pc := 38) (tgt := 51) X dX5_law_38 (by decide) ?_
      refine v_iinc (pc := 51) (v := x3 + (1 : Int32)) (lv' := [(3, .int (x3 + (1 : Int32))), (0, .ref (v_E g 0)), (1, .int x1), (2, .int x2)]) (k := 3) X dX5_law_51 rfl rfl (Nat.le_of_ble_eq_true rfl) rfl ?_
      refine v_goto (pc := 54) (tgt := 17) X dX5_law_54 (by decide) ?_
      refine v_sub [1, 2, 3, 0] rfl ?_
      exact h17 x1 x2 (x3 + (1 : Int32)) s_2
theorem w_T_law_17L {Γ : v_Ctx} {l : Launch} {g : v_G} (fu : Nat) (X : v_C Γ l rm_T_law cX5_law 4 RX5 (some .int) wT g)  : ∀ (n : Nat), ∀ (x1 : Int32) (x2 : Int32) (x3 : Int32) (s : v_S), v_V Γ 4 wT g (fun z : Int32 × v_S => (some (.int z.1), z.2)) 17 [(0, .ref (v_E g 0)), (1, .int x1), (2, .int x2), (3, .int x3)] [] s (v_loop (t_T_law_17B fu) n (x1, x2, x3, s)) := by
  intro n
  induction n with
  | zero => exact fun _ _ _ _ => v_none
  | succ n ih => exact fun x1 x2 x3 s => w_T_law_17 fu X  _ ih x1 x2 x3 s
theorem m_T_law (l : Launch) (g : v_G) (fu : Nat)  (s : v_S) : v_M l yX5_law cX5_law 4 (some .int) rm_T_law wT g [.ref (v_E g 0)] s (fun z : Int32 × v_S => (some (.int z.1), z.2)) (t_T_law fu  s) := by
  refine v_met (by decide +kernel) (Nat.le_of_ble_eq_true rfl) (fun Γ X => ?_)
  refine v_lv (lv' := [(0, .ref (v_E g 0))]) rfl ?_
  unfold t_T_law
  refine v_aload_n (pc := 0) X dX5_law_0 0 rfl ?_
  refine v_cGi (pc := 1) X (m_T_isPlain l g fu _) (v_rc_n X wT_o0) (Or.inl q1831) hy_T_isPlain rfl rfl rfl rfl dX5_law_1 (fun z_1 _ => ?_)
  refine v_if_ne (pc := 4) (tgt := 10) X dX5_law_4 (by decide) (fun c4 => ?_) (fun c4 => ?_)
  · refine v_iconst (pc := 10) (v := -1) X dX5_law_10 rfl ?_
    refine v_istore_n (pc := 11) (lv' := [(1, .int (-1 : Int32)), (0, .ref (v_E g 0))]) X dX5_law_11 rfl (Nat.le_of_ble_eq_true rfl) rfl ?_
    refine v_bipush (pc := 12) (v := 7) X dX5_law_12 rfl ?_
    refine v_istore_n (pc := 14) (lv' := [(2, .int (7 : Int32)), (1, .int (-1 : Int32)), (0, .ref (v_E g 0))]) X dX5_law_14 rfl (Nat.le_of_ble_eq_true rfl) rfl ?_
    refine v_iconst (pc := 15) (v := 0) X dX5_law_15 rfl ?_
    refine v_istore_n (pc := 16) (lv' := [(3, .int (0 : Int32)), (2, .int (7 : Int32)), (1, .int (-1 : Int32)), (0, .ref (v_E g 0))]) X dX5_law_16 rfl (Nat.le_of_ble_eq_true rfl) rfl ?_
    refine v_sub [3, 2, 1, 0] rfl ?_
    exact w_T_law_17L fu X  fu (-1 : Int32) (7 : Int32) (0 : Int32) s
  · refine v_bipush (pc := 7) (v := -2) X dX5_law_7 rfl ?_
    exact v_iret (pc := 9) X dX5_law_9 rfl
/-! FloodLentModel.firstCrop(I)I -/
abbrev rm_T_firstCrop : Room := { frames := 2, cells := 0, slots := 0, locals := 43 }
theorem hy_T_firstCrop : v_yV yX5_firstCrop cX5_firstCrop 3 (some .int) 1 := ⟨q2050, qs127, q141, q2051, by decide +kernel⟩
def t_T_firstCrop_2 (fu : Nat) (p1 : Int32) (s : v_S) (r2 : Int32 → Option Int32) (x2 : Int32) : Option Int32 :=
if s.1 1 1 ≤ x2 then (some (-1 : Int32)) else (v_b1 (t_T_ofCrop fu x2 (0 : Int32) s) fun (z_1 : Int32) => if z_1 = p1 then (some x2) else (r2 (x2 + (1 : Int32))))
def t_T_firstCrop_2B (fu : Nat) (p1 : Int32) (s : v_S) (r2 : Int32 → Option Int32) (a : Int32) : Option Int32 := t_T_firstCrop_2 fu p1 s r2 a
def t_T_firstCrop (fu : Nat) (p1 : Int32) (s : v_S) : Option Int32 :=
  v_loop (t_T_firstCrop_2B fu p1 s) fu (0 : Int32)
theorem w_T_firstCrop_2 {Γ : v_Ctx} {l : Launch} {g : v_G} (fu : Nat) (p1 : Int32) (s : v_S) (X : v_C Γ l rm_T_firstCrop cX5_firstCrop 3 RX5 (some .int) wT g) (r2 : Int32 → Option Int32) (h2 : ∀ (x2 : Int32), v_V Γ 3 wT g (fun z : Int32 => (some (.int z), s)) 2 [(0, .ref (v_E g 0)), (1, .int p1), (2, .int x2)] [] s (r2 x2)) (x2 : Int32) : v_V Γ 3 wT g (fun z : Int32 => (some (.int z), s)) 2 [(0, .ref (v_E g 0)), (1, .int p1), (2, .int x2)] [] s (t_T_firstCrop_2 fu p1 s r2 x2) := by
  unfold t_T_firstCrop_2
  refine v_iload_n (pc := 2) X dX5_firstCrop_2 2 rfl ?_
  refine v_aload_n (pc := 3) X dX5_firstCrop_3 0 rfl ?_
  refine v_get (pc := 4) (kind := 4) (v := .ref (v_E g 1)) X wT_n0 wT_l0 wT_c0 in_X5 (Nat.le_of_ble_eq_true rfl : 1 < 40) q1472 rfl rfl dX5_firstCrop_4 ?_
  refine v_iconst (pc := 7) (v := 1) X dX5_firstCrop_7 rfl ?_
  refine v_ialdC (pc := 8) (k := 1) X wT_n1 wT_l1 rfl dX5_firstCrop_8 ?_
  refine v_icmp_ge (pc := 9) (tgt := 30) X dX5_firstCrop_9 (by decide) (fun c9 => ?_) (fun c9 => ?_)
  · refine v_iconst (pc := 30) (v := -1) X dX5_firstCrop_30 rfl ?_
    exact v_iret (pc := 31) X dX5_firstCrop_31 rfl
  · refine v_aload_n (pc := 12) X dX5_firstCrop_12 0 rfl ?_
    refine v_iload_n (pc := 13) X dX5_firstCrop_13 2 rfl ?_
    refine v_iconst (pc := 14) (v := 0) X dX5_firstCrop_14 rfl ?_
    refine v_cGi (pc := 15) X (m_T_ofCrop l g fu x2 (0 : Int32) _) (v_rc_n X wT_o0) (Or.inl q1798) hy_T_ofCrop rfl rfl rfl rfl dX5_firstCrop_15 (fun z_1 _ => ?_)
    refine v_iload_n (pc := 18) X dX5_firstCrop_18 1 rfl ?_
    refine v_icmp_ne (pc := 19) (tgt := 24) X dX5_firstCrop_19 (by decide) (fun c19 => ?_) (fun c19 => ?_)
    · refine v_iinc (pc := 24) (v := x2 + (1 : Int32)) (lv' := [(2, .int (x2 + (1 : Int32))), (0, .ref (v_E g 0)), (1, .int p1)]) (k := 2) X dX5_firstCrop_24 rfl rfl (Nat.le_of_ble_eq_true rfl) rfl ?_
      refine v_goto (pc := 27) (tgt := 2) X dX5_firstCrop_27 (by decide) ?_
      refine v_sub [1, 2, 0] rfl ?_
      exact h2 (x2 + (1 : Int32))
    · refine v_iload_n (pc := 22) X dX5_firstCrop_22 2 rfl ?_
      exact v_iret (pc := 23) X dX5_firstCrop_23 rfl
theorem w_T_firstCrop_2L {Γ : v_Ctx} {l : Launch} {g : v_G} (fu : Nat) (p1 : Int32) (s : v_S) (X : v_C Γ l rm_T_firstCrop cX5_firstCrop 3 RX5 (some .int) wT g)  : ∀ (n : Nat), ∀ (x2 : Int32), v_V Γ 3 wT g (fun z : Int32 => (some (.int z), s)) 2 [(0, .ref (v_E g 0)), (1, .int p1), (2, .int x2)] [] s (v_loop (t_T_firstCrop_2B fu p1 s) n x2) := by
  intro n
  induction n with
  | zero => exact fun _ => v_none
  | succ n ih => exact fun x2 => w_T_firstCrop_2 fu p1 s X  _ ih x2
theorem m_T_firstCrop (l : Launch) (g : v_G) (fu : Nat) (p1 : Int32) (s : v_S) : v_M l yX5_firstCrop cX5_firstCrop 3 (some .int) rm_T_firstCrop wT g [.ref (v_E g 0), .int p1] s (fun z : Int32 => (some (.int z), s)) (t_T_firstCrop fu p1 s) := by
  refine v_met (by decide +kernel) (Nat.le_of_ble_eq_true rfl) (fun Γ X => ?_)
  refine v_lv (lv' := [(0, .ref (v_E g 0)), (1, .int p1)]) rfl ?_
  unfold t_T_firstCrop
  refine v_iconst (pc := 0) (v := 0) X dX5_firstCrop_0 rfl ?_
  refine v_istore_n (pc := 1) (lv' := [(2, .int (0 : Int32)), (0, .ref (v_E g 0)), (1, .int p1)]) X dX5_firstCrop_1 rfl (Nat.le_of_ble_eq_true rfl) rfl ?_
  refine v_sub [1, 2, 0] rfl ?_
  exact w_T_firstCrop_2L fu p1 s X  fu (0 : Int32)
/-! FloodLentModel.melons(I)I -/
abbrev rm_T_melons : Room := { frames := 6, cells := 0, slots := 0, locals := 132 }
theorem hy_T_melons : v_yV yX5_melons cX5_melons 5 (some .int) 1 := ⟨q2045, q2046, q141, q2047, by decide +kernel⟩
def t_T_melons_122 (fu : Nat) (p1 : Int32) (x2 : Int32) (x3 : Int32) (s : v_S) : Option (Int32 × v_S) :=
v_b1 (t_T_ofCrop fu x2 (1 : Int32) s) fun (z_4 : Int32) => v_b1 (t_T_ofCrop fu x2 (1 : Int32) s) fun (z_5 : Int32) => if z_5 = 0 then none else some (((x3 + z_4) - (1 : Int32)) / z_5, s)
def t_T_melons_77 (fu : Nat) (p1 : Int32) (r77 : Int32 × Int32 × Int32 × v_S → Option (Int32 × v_S)) (x2 : Int32) (x3 : Int32) (x4 : Int32) (s : v_S) : Option (Int32 × v_S) :=
if s.1 1 2 ≤ x4 then (t_T_melons_122 fu p1 x2 x3 s) else (v_g ((157 : Int32) + x4) 160 <| if s.1 1 (Int32.toNatClampNeg ((157 : Int32) + x4)) = p1 then (v_b1 (t_T_shortOfFlood fu x4 s) fun (z_7 : Int32) => v_n (x3 + z_7) fun (x3_8 : Int32) => r77 (x2, x3_8, x4 + (1 : Int32), s)) else (v_n (x3 + (0 : Int32)) fun (x3_6 : Int32) => r77 (x2, x3_6, x4 + (1 : Int32), s)))
def t_T_melons_77B (fu : Nat) (p1 : Int32) (r77 : Int32 × Int32 × Int32 × v_S → Option (Int32 × v_S)) (a : Int32 × Int32 × Int32 × v_S) : Option (Int32 × v_S) := t_T_melons_77 fu p1 r77 a.1 a.2.1 a.2.2.1 a.2.2.2
def t_T_melons_33 (fu : Nat) (p1 : Int32) (r33 : Int32 × Int32 × Int32 × v_S → Option (Int32 × v_S)) (x2 : Int32) (x3 : Int32) (x4 : Int32) (s : v_S) : Option (Int32 × v_S) :=
if s.1 1 3 ≤ x4 then (v_loop (t_T_melons_77B fu p1) fu (x2, x3, (0 : Int32), s)) else (v_b1 (t_T_ofLoan fu x4 (1 : Int32) s) fun (z_9 : Int32) => if z_9 = p1 then (v_b1 (t_T_shortOfLoan fu x4 s) fun (z_11 : Int32) => v_n (x3 + z_11) fun (x3_12 : Int32) => r33 (x2, x3_12, x4 + (1 : Int32), s)) else (v_n (x3 + (0 : Int32)) fun (x3_10 : Int32) => r33 (x2, x3_10, x4 + (1 : Int32), s)))
def t_T_melons_33B (fu : Nat) (p1 : Int32) (r33 : Int32 × Int32 × Int32 × v_S → Option (Int32 × v_S)) (a : Int32 × Int32 × Int32 × v_S) : Option (Int32 × v_S) := t_T_melons_33 fu p1 r33 a.1 a.2.1 a.2.2.1 a.2.2.2
def t_T_melons (fu : Nat) (p1 : Int32) (s : v_S) : Option (Int32 × v_S) :=
  v_b1 (t_T_isVillage fu p1 s) fun (z_1 : Int32) => if z_1 = 0 then (some ((-2 : Int32), s)) else (v_b1 (t_T_firstCrop fu p1 s) fun (z_2 : Int32) => if z_2 = (-1 : Int32) then (some ((-1 : Int32), s)) else (v_b1 (t_T_year fu s) fun (s_3 : v_S) => v_loop (t_T_melons_33B fu p1) fu (z_2, (0 : Int32), (0 : Int32), s_3)))
theorem w_T_melons_122 {Γ : v_Ctx} {l : Launch} {g : v_G} (fu : Nat) (p1 : Int32) (X : v_C Γ l rm_T_melons cX5_melons 5 RX5 (some .int) wT g)  (x2 : Int32) (x3 : Int32) (s : v_S) : v_V Γ 5 wT g (fun z : Int32 × v_S => (some (.int z.1), z.2)) 122 [(0, .ref (v_E g 0)), (2, .int x2), (3, .int x3)] [] s (t_T_melons_122 fu p1 x2 x3 s) := by
  unfold t_T_melons_122
  refine v_iload_n (pc := 122) X dX5_melons_122 2 rfl ?_
  refine v_aload_n (pc := 123) X dX5_melons_123 0 rfl ?_
  refine v_iload_n (pc := 124) X dX5_melons_124 1 rfl ?_
  refine v_iconst (pc := 125) (v := 1) X dX5_melons_125 rfl ?_
  refine v_cGi (pc := 126) X (m_T_ofCrop l g fu x2 (1 : Int32) _) (v_rc_n X wT_o0) (Or.inl q1798) hy_T_ofCrop rfl rfl rfl rfl dX5_melons_126 (fun z_4 _ => ?_)
  refine v_iadd (pc := 129) X dX5_melons_129 ?_
  refine v_iconst (pc := 130) (v := 1) X dX5_melons_130 rfl ?_
  refine v_isub (pc := 131) X dX5_melons_131 ?_
  refine v_aload_n (pc := 132) X dX5_melons_132 0 rfl ?_
  refine v_iload_n (pc := 133) X dX5_melons_133 1 rfl ?_
  refine v_iconst (pc := 134) (v := 1) X dX5_melons_134 rfl ?_
  refine v_cGi (pc := 135) X (m_T_ofCrop l g fu x2 (1 : Int32) _) (v_rc_n X wT_o0) (Or.inl q1798) hy_T_ofCrop rfl rfl rfl rfl dX5_melons_135 (fun z_5 _ => ?_)
  refine v_idiv (pc := 138) X dX5_melons_138 ?_
  exact v_iret (pc := 139) X dX5_melons_139 rfl
theorem w_T_melons_77 {Γ : v_Ctx} {l : Launch} {g : v_G} (fu : Nat) (p1 : Int32) (X : v_C Γ l rm_T_melons cX5_melons 5 RX5 (some .int) wT g) (r77 : Int32 × Int32 × Int32 × v_S → Option (Int32 × v_S)) (h77 : ∀ (x2 : Int32) (x3 : Int32) (x4 : Int32) (s : v_S), v_V Γ 5 wT g (fun z : Int32 × v_S => (some (.int z.1), z.2)) 77 [(0, .ref (v_E g 0)), (1, .int p1), (2, .int x2), (3, .int x3), (4, .int x4)] [] s (r77 (x2, x3, x4, s))) (x2 : Int32) (x3 : Int32) (x4 : Int32) (s : v_S) : v_V Γ 5 wT g (fun z : Int32 × v_S => (some (.int z.1), z.2)) 77 [(0, .ref (v_E g 0)), (1, .int p1), (2, .int x2), (3, .int x3), (4, .int x4)] [] s (t_T_melons_77 fu p1 r77 x2 x3 x4 s) := by
  unfold t_T_melons_77
  refine v_iload (pc := 77) X dX5_melons_77 4 rfl ?_
  refine v_aload_n (pc := 79) X dX5_melons_79 0 rfl ?_
  refine v_get (pc := 80) (kind := 4) (v := .ref (v_E g 1)) X wT_n0 wT_l0 wT_c0 in_X5 (Nat.le_of_ble_eq_true rfl : 1 < 40) q1472 rfl rfl dX5_melons_80 ?_
  refine v_iconst (pc := 83) (v := 2) X dX5_melons_83 rfl ?_
  refine v_ialdC (pc := 84) (k := 2) X wT_n1 wT_l1 rfl dX5_melons_84 ?_
  refine v_icmp_ge (pc := 85) (tgt := 122) X dX5_melons_85 (by decide) (fun c85 => ?_) (fun c85 => ?_)
  · refine v_sub [0, 2, 3] rfl ?_
    exact w_T_melons_122 fu p1 X  x2 x3 s
  · refine v_iload_n (pc := 88) X dX5_melons_88 3 rfl ?_
    refine v_aload_n (pc := 89) X dX5_melons_89 0 rfl ?_
    refine v_get (pc := 90) (kind := 4) (v := .ref (v_E g 1)) X wT_n0 wT_l0 wT_c0 in_X5 (Nat.le_of_ble_eq_true rfl : 1 < 40) q1472 rfl rfl dX5_melons_90 ?_
    refine v_sipush (pc := 93) (v := 157) X dX5_melons_93 rfl ?_
    refine v_iload (pc := 96) X dX5_melons_96 4 rfl ?_
    refine v_iadd (pc := 98) X dX5_melons_98 ?_
    refine v_iald (pc := 99) X wT_n1 wT_l1 dX5_melons_99 ?_
    refine v_iload_n (pc := 100) X dX5_melons_100 1 rfl ?_
    refine v_icmp_ne (pc := 101) (tgt := 113) X dX5_melons_101 (by decide) (fun c101 => ?_) (fun c101 => ?_)
    · refine v_iconst (pc := 113) (v := 0) X dX5_melons_113 rfl ?_
      refine v_iadd (pc := 114) X dX5_melons_114 ?_
      refine v_istore_nN (pc := 115) (lvf := fun x3_6 => [(3, .int x3_6), (0, .ref (v_E g 0)), (1, .int p1), (2, .int x2), (4, .int x4)]) X dX5_melons_115 rfl (Nat.le_of_ble_eq_true rfl) (fun _ => rfl) (fun x3_6 => ?_)
      refine v_iinc (pc := 116) (v := x4 + (1 : Int32)) (lv' := [(4, .int (x4 + (1 : Int32))), (3, .int x3_6), (0, .ref (v_E g 0)), (1, .int p1), (2, .int x2)]) (k := 4) X dX5_melons_116 rfl rfl (Nat.le_of_ble_eq_true rfl) rfl ?_
      refine v_goto (pc := 119) (tgt := 77) X dX5_melons_119 (by decide) ?_
      refine v_sub [2, 3, 4, 1, 0] rfl ?_
      exact h77 x2 x3_6 (x4 + (1 : Int32)) s
    · refine v_aload_n (pc := 104) X dX5_melons_104 0 rfl ?_
      refine v_iload (pc := 105) X dX5_melons_105 4 rfl ?_
      refine v_cGi (pc := 107) X (m_T_shortOfFlood l g fu x4 _) (v_rc_n X wT_o0) (Or.inl q1811) hy_T_shortOfFlood rfl rfl rfl rfl dX5_melons_107 (fun z_7 _ => ?_)
      refine v_goto (pc := 110) (tgt := 114) X dX5_melons_110 (by decide) ?_
      refine v_iadd (pc := 114) X dX5_melons_114 ?_
      refine v_istore_nN (pc := 115) (lvf := fun x3_8 => [(3, .int x3_8), (0, .ref (v_E g 0)), (1, .int p1), (2, .int x2), (4, .int x4)]) X dX5_melons_115 rfl (Nat.le_of_ble_eq_true rfl) (fun _ => rfl) (fun x3_8 => ?_)
      refine v_iinc (pc := 116) (v := x4 + (1 : Int32)) (lv' := [(4, .int (x4 + (1 : Int32))), (3, .int x3_8), (0, .ref (v_E g 0)), (1, .int p1), (2, .int x2)]) (k := 4) X dX5_melons_116 rfl rfl (Nat.le_of_ble_eq_true rfl) rfl ?_
      refine v_goto (pc := 119) (tgt := 77) X dX5_melons_119 (by decide) ?_
      refine v_sub [2, 3, 4, 1, 0] rfl ?_
      exact h77 x2 x3_8 (x4 + (1 : Int32)) s
theorem w_T_melons_77L {Γ : v_Ctx} {l : Launch} {g : v_G} (fu : Nat) (p1 : Int32) (X : v_C Γ l rm_T_melons cX5_melons 5 RX5 (some .int) wT g)  : ∀ (n : Nat), ∀ (x2 : Int32) (x3 : Int32) (x4 : Int32) (s : v_S), v_V Γ 5 wT g (fun z : Int32 × v_S => (some (.int z.1), z.2)) 77 [(0, .ref (v_E g 0)), (1, .int p1), (2, .int x2), (3, .int x3), (4, .int x4)] [] s (v_loop (t_T_melons_77B fu p1) n (x2, x3, x4, s)) := by
  intro n
  induction n with
  | zero => exact fun _ _ _ _ => v_none
  | succ n ih => exact fun x2 x3 x4 s => w_T_melons_77 fu p1 X  _ ih x2 x3 x4 s
theorem w_T_melons_33 {Γ : v_Ctx} {l : Launch} {g : v_G} (fu : Nat) (p1 : Int32) (X : v_C Γ l rm_T_melons cX5_melons 5 RX5 (some .int) wT g) (r33 : Int32 × Int32 × Int32 × v_S → Option (Int32 × v_S)) (h33 : ∀ (x2 : Int32) (x3 : Int32) (x4 : Int32) (s : v_S), v_V Γ 5 wT g (fun z : Int32 × v_S => (some (.int z.1), z.2)) 33 [(0, .ref (v_E g 0)), (1, .int p1), (2, .int x2), (3, .int x3), (4, .int x4)] [] s (r33 (x2, x3, x4, s))) (x2 : Int32) (x3 : Int32) (x4 : Int32) (s : v_S) : v_V Γ 5 wT g (fun z : Int32 × v_S => (some (.int z.1), z.2)) 33 [(0, .ref (v_E g 0)), (1, .int p1), (2, .int x2), (3, .int x3), (4, .int x4)] [] s (t_T_melons_33 fu p1 r33 x2 x3 x4 s) := by
  unfold t_T_melons_33
  refine v_iload (pc := 33) X dX5_melons_33 4 rfl ?_
  refine v_aload_n (pc := 35) X dX5_melons_35 0 rfl ?_
  refine v_get (pc := 36) (kind := 4) (v := .ref (v_E g 1)) X wT_n0 wT_l0 wT_c0 in_X5 (Nat.le_of_ble_eq_true rfl : 1 < 40) q1472 rfl rfl dX5_melons_36 ?_
  refine v_iconst (pc := 39) (v := 3) X dX5_melons_39 rfl ?_
  refine v_ialdC (pc := 40) (k := 3) X wT_n1 wT_l1 rfl dX5_melons_40 ?_
  refine v_icmp_ge (pc := 41) (tgt := 74) X dX5_melons_41 (by decide) (fun c41 => ?_) (fun c41 => ?_)
  · refine v_iconst (pc := 74) (v := 0) X dX5_melons_74 rfl ?_
    refine v_istore (pc := 75) (lv' := [(4, .int (0 : Int32)), (0, .ref (v_E g 0)), (1, .int p1), (2, .int x2), (3, .int x3)]) X dX5_melons_75 (Nat.le_of_ble_eq_true rfl) rfl ?_
    refine v_sub [1, 2, 3, 4, 0] rfl ?_
    exact w_T_melons_77L fu p1 X  fu x2 x3 (0 : Int32) s
  · refine v_iload_n (pc := 44) X dX5_melons_44 3 rfl ?_
    refine v_aload_n (pc := 45) X dX5_melons_45 0 rfl ?_
    refine v_iload (pc := 46) X dX5_melons_46 4 rfl ?_
    refine v_iconst (pc := 48) (v := 1) X dX5_melons_48 rfl ?_
    refine v_cGi (pc := 49) X (m_T_ofLoan l g fu x4 (1 : Int32) _) (v_rc_n X wT_o0) (Or.inl q1782) hy_T_ofLoan rfl rfl rfl rfl dX5_melons_49 (fun z_9 _ => ?_)
    refine v_iload_n (pc := 52) X dX5_melons_52 1 rfl ?_
    refine v_icmp_ne (pc := 53) (tgt := 65) X dX5_melons_53 (by decide) (fun c53 => ?_) (fun c53 => ?_)
    · refine v_iconst (pc := 65) (v := 0) X dX5_melons_65 rfl ?_
      refine v_iadd (pc := 66) X dX5_melons_66 ?_
      refine v_istore_nN (pc := 67) (lvf := fun x3_10 => [(3, .int x3_10), (0, .ref (v_E g 0)), (1, .int p1), (2, .int x2), (4, .int x4)]) X dX5_melons_67 rfl (Nat.le_of_ble_eq_true rfl) (fun _ => rfl) (fun x3_10 => ?_)
      refine v_iinc (pc := 68) (v := x4 + (1 : Int32)) (lv' := [(4, .int (x4 + (1 : Int32))), (3, .int x3_10), (0, .ref (v_E g 0)), (1, .int p1), (2, .int x2)]) (k := 4) X dX5_melons_68 rfl rfl (Nat.le_of_ble_eq_true rfl) rfl ?_
      refine v_goto (pc := 71) (tgt := 33) X dX5_melons_71 (by decide) ?_
      refine v_sub [2, 3, 4, 1, 0] rfl ?_
      exact h33 x2 x3_10 (x4 + (1 : Int32)) s
    · refine v_aload_n (pc := 56) X dX5_melons_56 0 rfl ?_
      refine v_iload (pc := 57) X dX5_melons_57 4 rfl ?_
      refine v_cGi (pc := 59) X (m_T_shortOfLoan l g fu x4 _) (v_rc_n X wT_o0) (Or.inl q1819) hy_T_shortOfLoan rfl rfl rfl rfl dX5_melons_59 (fun z_11 _ => ?_)
      refine v_goto (pc := 62) (tgt := 66) X dX5_melons_62 (by decide) ?_
      refine v_iadd (pc := 66) X dX5_melons_66 ?_
      refine v_istore_nN (pc := 67) (lvf := fun x3_12 => [(3, .int x3_12), (0, .ref (v_E g 0)), (1, .int p1), (2, .int x2), (4, .int x4)]) X dX5_melons_67 rfl (Nat.le_of_ble_eq_true rfl) (fun _ => rfl) (fun x3_12 => ?_)
      refine v_iinc (pc := 68) (v := x4 + (1 : Int32)) (lv' := [(4, .int (x4 + (1 : Int32))), (3, .int x3_12), (0, .ref (v_E g 0)), (1, .int p1), (2, .int x2)]) (k := 4) X dX5_melons_68 rfl rfl (Nat.le_of_ble_eq_true rfl) rfl ?_
      refine v_goto (pc := 71) (tgt := 33) X dX5_melons_71 (by decide) ?_
      refine v_sub [2, 3, 4, 1, 0] rfl ?_
      exact h33 x2 x3_12 (x4 + (1 : Int32)) s
theorem w_T_melons_33L {Γ : v_Ctx} {l : Launch} {g : v_G} (fu : Nat) (p1 : Int32) (X : v_C Γ l rm_T_melons cX5_melons 5 RX5 (some .int) wT g)  : ∀ (n : Nat), ∀ (x2 : Int32) (x3 : Int32) (x4 : Int32) (s : v_S), v_V Γ 5 wT g (fun z : Int32 × v_S => (some (.int z.1), z.2)) 33 [(0, .ref (v_E g 0)), (1, .int p1), (2, .int x2), (3, .int x3), (4, .int x4)] [] s (v_loop (t_T_melons_33B fu p1) n (x2, x3, x4, s)) := by
  intro n
  induction n with
  | zero => exact fun _ _ _ _ => v_none
  | succ n ih => exact fun x2 x3 x4 s => w_T_melons_33 fu p1 X  _ ih x2 x3 x4 s
theorem m_T_melons (l : Launch) (g : v_G) (fu : Nat) (p1 : Int32) (s : v_S) : v_M l yX5_melons cX5_melons 5 (some .int) rm_T_melons wT g [.ref (v_E g 0), .int p1] s (fun z : Int32 × v_S => (some (.int z.1), z.2)) (t_T_melons fu p1 s) := by
  refine v_met (by decide +kernel) (Nat.le_of_ble_eq_true rfl) (fun Γ X => ?_)
  refine v_lv (lv' := [(0, .ref (v_E g 0)), (1, .int p1)]) rfl ?_
  unfold t_T_melons
  refine v_aload_n (pc := 0) X dX5_melons_0 0 rfl ?_
  refine v_iload_n (pc := 1) X dX5_melons_1 1 rfl ?_
  refine v_cGi (pc := 2) X (m_T_isVillage l g fu p1 _) (v_rc_n X wT_o0) (Or.inl q1721) hy_T_isVillage rfl rfl rfl rfl dX5_melons_2 (fun z_1 _ => ?_)
  refine v_if_ne (pc := 5) (tgt := 11) X dX5_melons_5 (by decide) (fun c5 => ?_) (fun c5 => ?_)
  · refine v_aload_n (pc := 11) X dX5_melons_11 0 rfl ?_
    refine v_iload_n (pc := 12) X dX5_melons_12 1 rfl ?_
    refine v_cGi (pc := 13) X (m_T_firstCrop l g fu p1 _) (v_rc_n X wT_o0) (Or.inl q2048) hy_T_firstCrop rfl rfl rfl rfl dX5_melons_13 (fun z_2 _ => ?_)
    refine v_istore_n (pc := 16) (lv' := [(2, .int z_2), (0, .ref (v_E g 0)), (1, .int p1)]) X dX5_melons_16 rfl (Nat.le_of_ble_eq_true rfl) rfl ?_
    refine v_iload_n (pc := 17) X dX5_melons_17 0 rfl ?_
    refine v_iconst (pc := 18) (v := -1) X dX5_melons_18 rfl ?_
    refine v_icmp_ne (pc := 19) (tgt := 24) X dX5_melons_19 (by decide) (fun c19 => ?_) (fun c19 => ?_)
    · refine v_aload_n (pc := 24) X dX5_melons_24 1 rfl ?_
      refine v_cGs (pc := 25) X (m_T_year l g fu _) (v_rc_n X wT_o0) (Or.inl q1750) hy_T_year rfl rfl rfl rfl dX5_melons_25 (fun s_3 _ => ?_)
      refine v_iconst (pc := 28) (v := 0) X dX5_melons_28 rfl ?_
      refine v_istore_n (pc := 29) (lv' := [(3, .int (0 : Int32)), (2, .int z_2), (0, .ref (v_E g 0)), (1, .int p1)]) X dX5_melons_29 rfl (Nat.le_of_ble_eq_true rfl) rfl ?_
      refine v_iconst (pc := 30) (v := 0) X dX5_melons_30 rfl ?_
      refine v_istore (pc := 31) (lv' := [(4, .int (0 : Int32)), (3, .int (0 : Int32)), (2, .int z_2), (0, .ref (v_E g 0)), (1, .int p1)]) X dX5_melons_31 (Nat.le_of_ble_eq_true rfl) rfl ?_
      refine v_sub [3, 4, 2, 1, 0] rfl ?_
      exact w_T_melons_33L fu p1 X  fu z_2 (0 : Int32) (0 : Int32) s_3
    · refine v_iconst (pc := 22) (v := -1) X dX5_melons_22 rfl ?_
      exact v_iret (pc := 23) X dX5_melons_23 rfl
  · refine v_bipush (pc := 8) (v := -2) X dX5_melons_8 rfl ?_
    exact v_iret (pc := 10) X dX5_melons_10 rfl
/-! FloodLentModel.shareOf(I)I -/
abbrev rm_T_shareOf : Room := { frames := 2, cells := 0, slots := 0, locals := 43 }
theorem hy_T_shareOf : v_yV yX5_shareOf cX5_shareOf 4 (some .int) 1 := ⟨q2058, qs128, q141, q2059, by decide +kernel⟩
def t_T_shareOf_4 (fu : Nat) (p1 : Int32) (s : v_S) (r4 : Int32 × Int32 → Option Int32) (x2 : Int32) (x3 : Int32) : Option Int32 :=
if p1 < x3 then (some x2) else (v_b1 (t_T_of fu x3 (4 : Int32) s) fun (z_1 : Int32) => v_b1 (t_T_villages fu s) fun (z_2 : Int32) => if (z_2 - x3) = 0 then none else v_n (x2 + (z_1 / (z_2 - x3))) fun (x2_3 : Int32) => r4 (x2_3, x3 + (1 : Int32)))
def t_T_shareOf_4B (fu : Nat) (p1 : Int32) (s : v_S) (r4 : Int32 × Int32 → Option Int32) (a : Int32 × Int32) : Option Int32 := t_T_shareOf_4 fu p1 s r4 a.1 a.2
def t_T_shareOf (fu : Nat) (p1 : Int32) (s : v_S) : Option Int32 :=
  v_loop (t_T_shareOf_4B fu p1 s) fu ((0 : Int32), (0 : Int32))
theorem w_T_shareOf_4 {Γ : v_Ctx} {l : Launch} {g : v_G} (fu : Nat) (p1 : Int32) (s : v_S) (X : v_C Γ l rm_T_shareOf cX5_shareOf 4 RX5 (some .int) wT g) (r4 : Int32 × Int32 → Option Int32) (h4 : ∀ (x2 : Int32) (x3 : Int32), v_V Γ 4 wT g (fun z : Int32 => (some (.int z), s)) 4 [(0, .ref (v_E g 0)), (1, .int p1), (2, .int x2), (3, .int x3)] [] s (r4 (x2, x3))) (x2 : Int32) (x3 : Int32) : v_V Γ 4 wT g (fun z : Int32 => (some (.int z), s)) 4 [(0, .ref (v_E g 0)), (1, .int p1), (2, .int x2), (3, .int x3)] [] s (t_T_shareOf_4 fu p1 s r4 x2 x3) := by
  unfold t_T_shareOf_4
  refine v_iload_n (pc := 4) X dX5_shareOf_4 3 rfl ?_
  refine v_iload_n (pc := 5) X dX5_shareOf_5 1 rfl ?_
  refine v_icmp_gt (pc := 6) (tgt := 31) X dX5_shareOf_6 (by decide) (fun c6 => ?_) (fun c6 => ?_)
  · refine v_iload_n (pc := 31) X dX5_shareOf_31 2 rfl ?_
    exact v_iret (pc := 32) X dX5_shareOf_32 rfl
  · refine v_iload_n (pc := 9) X dX5_shareOf_9 2 rfl ?_
    refine v_aload_n (pc := 10) X dX5_shareOf_10 0 rfl ?_
    refine v_iload_n (pc := 11) X dX5_shareOf_11 3 rfl ?_
    refine v_iconst (pc := 12) (v := 4) X dX5_shareOf_12 rfl ?_
    refine v_cGi (pc := 13) X (m_T_of l g fu x3 (4 : Int32) _) (v_rc_n X wT_o0) (Or.inl q1730) hy_T_of rfl rfl rfl rfl dX5_shareOf_13 (fun z_1 _ => ?_)
    refine v_aload_n (pc := 16) X dX5_shareOf_16 0 rfl ?_
    refine v_cGi (pc := 17) X (m_T_villages l g fu _) (v_rc_n X wT_o0) (Or.inl q1725) hy_T_villages rfl rfl rfl rfl dX5_shareOf_17 (fun z_2 _ => ?_)
    refine v_iload_n (pc := 20) X dX5_shareOf_20 3 rfl ?_
    refine v_isub (pc := 21) X dX5_shareOf_21 ?_
    refine v_idiv (pc := 22) X dX5_shareOf_22 ?_
    refine v_iadd (pc := 23) X dX5_shareOf_23 ?_
    refine v_istore_nN (pc := 24) (lvf := fun x2_3 => [(2, .int x2_3), (0, .ref (v_E g 0)), (1, .int p1), (3, .int x3)]) X dX5_shareOf_24 rfl (Nat.le_of_ble_eq_true rfl) (fun _ => rfl) (fun x2_3 => ?_)
    refine v_iinc (pc := 25) (v := x3 + (1 : Int32)) (lv' := [(3, .int (x3 + (1 : Int32))), (2, .int x2_3), (0, .ref (v_E g 0)), (1, .int p1)]) (k := 3) X dX5_shareOf_25 rfl rfl (Nat.le_of_ble_eq_true rfl) rfl ?_
    refine v_goto (pc := 28) (tgt := 4) X dX5_shareOf_28 (by decide) ?_
    refine v_sub [2, 3, 1, 0] rfl ?_
    exact h4 x2_3 (x3 + (1 : Int32))
theorem w_T_shareOf_4L {Γ : v_Ctx} {l : Launch} {g : v_G} (fu : Nat) (p1 : Int32) (s : v_S) (X : v_C Γ l rm_T_shareOf cX5_shareOf 4 RX5 (some .int) wT g)  : ∀ (n : Nat), ∀ (x2 : Int32) (x3 : Int32), v_V Γ 4 wT g (fun z : Int32 => (some (.int z), s)) 4 [(0, .ref (v_E g 0)), (1, .int p1), (2, .int x2), (3, .int x3)] [] s (v_loop (t_T_shareOf_4B fu p1 s) n (x2, x3)) := by
  intro n
  induction n with
  | zero => exact fun _ _ => v_none
  | succ n ih => exact fun x2 x3 => w_T_shareOf_4 fu p1 s X  _ ih x2 x3
theorem m_T_shareOf (l : Launch) (g : v_G) (fu : Nat) (p1 : Int32) (s : v_S) : v_M l yX5_shareOf cX5_shareOf 4 (some .int) rm_T_shareOf wT g [.ref (v_E g 0), .int p1] s (fun z : Int32 => (some (.int z), s)) (t_T_shareOf fu p1 s) := by
  refine v_met (by decide +kernel) (Nat.le_of_ble_eq_true rfl) (fun Γ X => ?_)
  refine v_lv (lv' := [(0, .ref (v_E g 0)), (1, .int p1)]) rfl ?_
  unfold t_T_shareOf
  refine v_iconst (pc := 0) (v := 0) X dX5_shareOf_0 rfl ?_
  refine v_istore_n (pc := 1) (lv' := [(2, .int (0 : Int32)), (0, .ref (v_E g 0)), (1, .int p1)]) X dX5_shareOf_1 rfl (Nat.le_of_ble_eq_true rfl) rfl ?_
  refine v_iconst (pc := 2) (v := 0) X dX5_shareOf_2 rfl ?_
  refine v_istore_n (pc := 3) (lv' := [(3, .int (0 : Int32)), (2, .int (0 : Int32)), (0, .ref (v_E g 0)), (1, .int p1)]) X dX5_shareOf_3 rfl (Nat.le_of_ble_eq_true rfl) rfl ?_
  refine v_sub [2, 3, 1, 0] rfl ?_
  exact w_T_shareOf_4L fu p1 s X  fu (0 : Int32) (0 : Int32)
/-! FloodLentModel.share(I)I -/
abbrev rm_T_share : Room := { frames := 3, cells := 0, slots := 0, locals := 67 }
theorem hy_T_share : v_yV yX5_share cX5_share 4 (some .int) 1 := ⟨q2053, q2054, q141, q2055, by decide +kernel⟩
def t_T_share_60 (fu : Nat) (p1 : Int32) (s : v_S) (r31 : Int32 × Int32 → Option Int32) (x3 : Int32) (y0 : Int32) (y1 : Int32) (y2 : Int32) : Option Int32 :=
v_n (y2 + (y1 - y0)) fun (x2_5 : Int32) => r31 (x2_5, x3 + (1 : Int32))
def t_T_share_31 (fu : Nat) (p1 : Int32) (s : v_S) (r31 : Int32 × Int32 → Option Int32) (x2 : Int32) (x3 : Int32) : Option Int32 :=
v_b1 (t_T_villages fu s) fun (z_3 : Int32) => if z_3 ≤ x3 then (some x2) else (v_b1 (t_T_of fu x3 (4 : Int32) s) fun (z_4 : Int32) => if p1 ≤ x3 then (t_T_share_60 fu p1 s r31 x3 (0 : Int32) z_4 x2) else (v_b1 (t_T_shareOf fu x3 s) fun (z_6 : Int32) => t_T_share_60 fu p1 s r31 x3 z_6 z_4 x2))
def t_T_share_31B (fu : Nat) (p1 : Int32) (s : v_S) (r31 : Int32 × Int32 → Option Int32) (a : Int32 × Int32) : Option Int32 := t_T_share_31 fu p1 s r31 a.1 a.2
def t_T_share (fu : Nat) (p1 : Int32) (s : v_S) : Option Int32 :=
  v_b1 (t_T_isVillage fu p1 s) fun (z_1 : Int32) => if z_1 = 0 then (some (-2 : Int32)) else (v_b1 (t_T_villages fu s) fun (z_2 : Int32) => if z_2 - (1 : Int32) ≤ p1 then (v_loop (t_T_share_31B fu p1 s) fu ((0 : Int32), (0 : Int32))) else (v_b1 (t_T_shareOf fu p1 s) fun (z_7 : Int32) => some z_7))
theorem w_T_share_60 {Γ : v_Ctx} {l : Launch} {g : v_G} (fu : Nat) (p1 : Int32) (s : v_S) (X : v_C Γ l rm_T_share cX5_share 4 RX5 (some .int) wT g) (r31 : Int32 × Int32 → Option Int32) (h31 : ∀ (x2 : Int32) (x3 : Int32), v_V Γ 4 wT g (fun z : Int32 => (some (.int z), s)) 31 [(0, .ref (v_E g 0)), (1, .int p1), (2, .int x2), (3, .int x3)] [] s (r31 (x2, x3))) (x3 : Int32) (y0 : Int32) (y1 : Int32) (y2 : Int32) : v_V Γ 4 wT g (fun z : Int32 => (some (.int z), s)) 60 [(0, .ref (v_E g 0)), (1, .int p1), (3, .int x3)] [.int y0, .int y1, .int y2] s (t_T_share_60 fu p1 s r31 x3 y0 y1 y2) := by
  unfold t_T_share_60
  refine v_isub (pc := 60) X dX5_share_60 ?_
  refine v_iadd (pc := 61) X dX5_share_61 ?_
  refine v_istore_nN (pc := 62) (lvf := fun x2_5 => [(2, .int x2_5), (0, .ref (v_E g 0)), (1, .int p1), (3, .int x3)]) X dX5_share_62 rfl (Nat.le_of_ble_eq_true rfl) (fun _ => rfl) (fun x2_5 => ?_)
  refine v_iinc (pc := 63) (v := x3 + (1 : Int32)) (lv' := [(3, .int (x3 + (1 : Int32))), (2, .int x2_5), (0, .ref (v_E g 0)), (1, .int p1)]) (k := 3) X dX5_share_63 rfl rfl (Nat.le_of_ble_eq_true rfl) rfl ?_
  refine v_goto (pc := 66) (tgt := 31) X dX5_share_66 (by decide) ?_
  refine v_sub [2, 3, 1, 0] rfl ?_
  exact h31 x2_5 (x3 + (1 : Int32))
theorem w_T_share_31 {Γ : v_Ctx} {l : Launch} {g : v_G} (fu : Nat) (p1 : Int32) (s : v_S) (X : v_C Γ l rm_T_share cX5_share 4 RX5 (some .int) wT g) (r31 : Int32 × Int32 → Option Int32) (h31 : ∀ (x2 : Int32) (x3 : Int32), v_V Γ 4 wT g (fun z : Int32 => (some (.int z), s)) 31 [(0, .ref (v_E g 0)), (1, .int p1), (2, .int x2), (3, .int x3)] [] s (r31 (x2, x3))) (x2 : Int32) (x3 : Int32) : v_V Γ 4 wT g (fun z : Int32 => (some (.int z), s)) 31 [(0, .ref (v_E g 0)), (1, .int p1), (2, .int x2), (3, .int x3)] [] s (t_T_share_31 fu p1 s r31 x2 x3) := by
  unfold t_T_share_31
  refine v_iload_n (pc := 31) X dX5_share_31 3 rfl ?_
  refine v_aload_n (pc := 32) X dX5_share_32 0 rfl ?_
  refine v_cGi (pc := 33) X (m_T_villages l g fu _) (v_rc_n X wT_o0) (Or.inl q1725) hy_T_villages rfl rfl rfl rfl dX5_share_33 (fun z_3 _ => ?_)
  refine v_icmp_ge (pc := 36) (tgt := 69) X dX5_share_36 (by decide) (fun c36 => ?_) (fun c36 => ?_)
  · refine v_iload_n (pc := 69) X dX5_share_69 2 rfl ?_
    exact v_iret (pc := 70) X dX5_share_70 rfl
  · refine v_iload_n (pc := 39) X dX5_share_39 2 rfl ?_
    refine v_aload_n (pc := 40) X dX5_share_40 0 rfl ?_
    refine v_iload_n (pc := 41) X dX5_share_41 3 rfl ?_
    refine v_iconst (pc := 42) (v := 4) X dX5_share_42 rfl ?_
    refine v_cGi (pc := 43) X (m_T_of l g fu x3 (4 : Int32) _) (v_rc_n X wT_o0) (Or.inl q1730) hy_T_of rfl rfl rfl rfl dX5_share_43 (fun z_4 _ => ?_)
    refine v_iload_n (pc := 46) X dX5_share_46 3 rfl ?_
    refine v_iload_n (pc := 47) X dX5_share_47 1 rfl ?_
    refine v_icmp_ge (pc := 48) (tgt := 59) X dX5_share_48 (by decide) (fun c48 => ?_) (fun c48 => ?_)
    · refine v_iconst (pc := 59) (v := 0) X dX5_share_59 rfl ?_
      refine v_sub [0, 1, 3] rfl ?_
      exact w_T_share_60 fu p1 s X r31 h31 x3 (0 : Int32) z_4 x2
    · refine v_aload_n (pc := 51) X dX5_share_51 0 rfl ?_
      refine v_iload_n (pc := 52) X dX5_share_52 3 rfl ?_
      refine v_cGi (pc := 53) X (m_T_shareOf l g fu x3 _) (v_rc_n X wT_o0) (Or.inl q2056) hy_T_shareOf rfl rfl rfl rfl dX5_share_53 (fun z_6 _ => ?_)
      refine v_goto (pc := 56) (tgt := 60) X dX5_share_56 (by decide) ?_
      refine v_sub [0, 1, 3] rfl ?_
      exact w_T_share_60 fu p1 s X r31 h31 x3 z_6 z_4 x2
theorem w_T_share_31L {Γ : v_Ctx} {l : Launch} {g : v_G} (fu : Nat) (p1 : Int32) (s : v_S) (X : v_C Γ l rm_T_share cX5_share 4 RX5 (some .int) wT g)  : ∀ (n : Nat), ∀ (x2 : Int32) (x3 : Int32), v_V Γ 4 wT g (fun z : Int32 => (some (.int z), s)) 31 [(0, .ref (v_E g 0)), (1, .int p1), (2, .int x2), (3, .int x3)] [] s (v_loop (t_T_share_31B fu p1 s) n (x2, x3)) := by
  intro n
  induction n with
  | zero => exact fun _ _ => v_none
  | succ n ih => exact fun x2 x3 => w_T_share_31 fu p1 s X  _ ih x2 x3
theorem m_T_share (l : Launch) (g : v_G) (fu : Nat) (p1 : Int32) (s : v_S) : v_M l yX5_share cX5_share 4 (some .int) rm_T_share wT g [.ref (v_E g 0), .int p1] s (fun z : Int32 => (some (.int z), s)) (t_T_share fu p1 s) := by
  refine v_met (by decide +kernel) (Nat.le_of_ble_eq_true rfl) (fun Γ X => ?_)
  refine v_lv (lv' := [(0, .ref (v_E g 0)), (1, .int p1)]) rfl ?_
  unfold t_T_share
  refine v_aload_n (pc := 0) X dX5_share_0 0 rfl ?_
  refine v_iload_n (pc := 1) X dX5_share_1 1 rfl ?_
  refine v_cGi (pc := 2) X (m_T_isVillage l g fu p1 _) (v_rc_n X wT_o0) (Or.inl q1721) hy_T_isVillage rfl rfl rfl rfl dX5_share_2 (fun z_1 _ => ?_)
  refine v_if_ne (pc := 5) (tgt := 11) X dX5_share_5 (by decide) (fun c5 => ?_) (fun c5 => ?_)
  · refine v_iload_n (pc := 11) X dX5_share_11 1 rfl ?_
    refine v_aload_n (pc := 12) X dX5_share_12 0 rfl ?_
    refine v_cGi (pc := 13) X (m_T_villages l g fu _) (v_rc_n X wT_o0) (Or.inl q1725) hy_T_villages rfl rfl rfl rfl dX5_share_13 (fun z_2 _ => ?_)
    refine v_iconst (pc := 16) (v := 1) X dX5_share_16 rfl ?_
    refine v_isub (pc := 17) X dX5_share_17 ?_
    refine v_icmp_ge (pc := 18) (tgt := 27) X dX5_share_18 (by decide) (fun c18 => ?_) (fun c18 => ?_)
    · refine v_iconst (pc := 27) (v := 0) X dX5_share_27 rfl ?_
      refine v_istore_n (pc := 28) (lv' := [(2, .int (0 : Int32)), (0, .ref (v_E g 0)), (1, .int p1)]) X dX5_share_28 rfl (Nat.le_of_ble_eq_true rfl) rfl ?_
      refine v_iconst (pc := 29) (v := 0) X dX5_share_29 rfl ?_
      refine v_istore_n (pc := 30) (lv' := [(3, .int (0 : Int32)), (2, .int (0 : Int32)), (0, .ref (v_E g 0)), (1, .int p1)]) X dX5_share_30 rfl (Nat.le_of_ble_eq_true rfl) rfl ?_
      refine v_sub [2, 3, 1, 0] rfl ?_
      exact w_T_share_31L fu p1 s X  fu (0 : Int32) (0 : Int32)
    · refine v_aload_n (pc := 21) X dX5_share_21 0 rfl ?_
      refine v_iload_n (pc := 22) X dX5_share_22 1 rfl ?_
      refine v_cGi (pc := 23) X (m_T_shareOf l g fu p1 _) (v_rc_n X wT_o0) (Or.inl q2056) hy_T_shareOf rfl rfl rfl rfl dX5_share_23 (fun z_7 _ => ?_)
      exact v_iret (pc := 26) X dX5_share_26 rfl
  · refine v_bipush (pc := 8) (v := -2) X dX5_share_8 rfl ?_
    exact v_iret (pc := 10) X dX5_share_10 rfl
/-! FloodLentModel.isNeverDry(I)Z -/
abbrev rm_T_isNeverDry : Room := { frames := 2, cells := 0, slots := 0, locals := 43 }
theorem hy_T_isNeverDry : v_yV yX5_isNeverDry cX5_isNeverDry 3 (some .boolean) 1 := ⟨q2066, qs129, q141, q2067, by decide +kernel⟩
def t_T_isNeverDry_2 (fu : Nat) (p1 : Int32) (s : v_S) (r2 : Int32 → Option Int32) (x2 : Int32) : Option Int32 :=
if s.1 1 1 ≤ x2 then (some (1 : Int32)) else (v_b1 (t_T_ofCrop fu x2 (0 : Int32) s) fun (z_1 : Int32) => if z_1 = p1 then (v_g (((3 : Int32) * x2) + (1 : Int32)) 24 <| if s.1 11 (Int32.toNatClampNeg (((3 : Int32) * x2) + (1 : Int32))) ≤ 0 then (r2 (x2 + (1 : Int32))) else (some (0 : Int32))) else (r2 (x2 + (1 : Int32))))
def t_T_isNeverDry_2B (fu : Nat) (p1 : Int32) (s : v_S) (r2 : Int32 → Option Int32) (a : Int32) : Option Int32 := t_T_isNeverDry_2 fu p1 s r2 a
def t_T_isNeverDry (fu : Nat) (p1 : Int32) (s : v_S) : Option Int32 :=
  v_loop (t_T_isNeverDry_2B fu p1 s) fu (0 : Int32)
theorem w_T_isNeverDry_2 {Γ : v_Ctx} {l : Launch} {g : v_G} (fu : Nat) (p1 : Int32) (s : v_S) (X : v_C Γ l rm_T_isNeverDry cX5_isNeverDry 3 RX5 (some .boolean) wT g) (r2 : Int32 → Option Int32) (h2 : ∀ (x2 : Int32), v_V Γ 3 wT g (fun z : Int32 => (some (.int z), s)) 2 [(0, .ref (v_E g 0)), (1, .int p1), (2, .int x2)] [] s (r2 x2)) (x2 : Int32) : v_V Γ 3 wT g (fun z : Int32 => (some (.int z), s)) 2 [(0, .ref (v_E g 0)), (1, .int p1), (2, .int x2)] [] s (t_T_isNeverDry_2 fu p1 s r2 x2) := by
  unfold t_T_isNeverDry_2
  refine v_iload_n (pc := 2) X dX5_isNeverDry_2 2 rfl ?_
  refine v_aload_n (pc := 3) X dX5_isNeverDry_3 0 rfl ?_
  refine v_get (pc := 4) (kind := 4) (v := .ref (v_E g 1)) X wT_n0 wT_l0 wT_c0 in_X5 (Nat.le_of_ble_eq_true rfl : 1 < 40) q1472 rfl rfl dX5_isNeverDry_4 ?_
  refine v_iconst (pc := 7) (v := 1) X dX5_isNeverDry_7 rfl ?_
  refine v_ialdC (pc := 8) (k := 1) X wT_n1 wT_l1 rfl dX5_isNeverDry_8 ?_
  refine v_icmp_ge (pc := 9) (tgt := 43) X dX5_isNeverDry_9 (by decide) (fun c9 => ?_) (fun c9 => ?_)
  · refine v_iconst (pc := 43) (v := 1) X dX5_isNeverDry_43 rfl ?_
    exact v_zret (pc := 44) X dX5_isNeverDry_44 rfl rfl
  · refine v_aload_n (pc := 12) X dX5_isNeverDry_12 0 rfl ?_
    refine v_iload_n (pc := 13) X dX5_isNeverDry_13 2 rfl ?_
    refine v_iconst (pc := 14) (v := 0) X dX5_isNeverDry_14 rfl ?_
    refine v_cGi (pc := 15) X (m_T_ofCrop l g fu x2 (0 : Int32) _) (v_rc_n X wT_o0) (Or.inl q1798) hy_T_ofCrop rfl rfl rfl rfl dX5_isNeverDry_15 (fun z_1 _ => ?_)
    refine v_iload_n (pc := 18) X dX5_isNeverDry_18 1 rfl ?_
    refine v_icmp_ne (pc := 19) (tgt := 37) X dX5_isNeverDry_19 (by decide) (fun c19 => ?_) (fun c19 => ?_)
    · refine v_iinc (pc := 37) (v := x2 + (1 : Int32)) (lv' := [(2, .int (x2 + (1 : Int32))), (0, .ref (v_E g 0)), (1, .int p1)]) (k := 2) X dX5_isNeverDry_37 rfl rfl (Nat.le_of_ble_eq_true rfl) rfl ?_
      refine v_goto (pc := 40) (tgt := 2) X dX5_isNeverDry_40 (by decide) ?_
      refine v_sub [1, 2, 0] rfl ?_
      exact h2 (x2 + (1 : Int32))
    · refine v_aload_n (pc := 22) X dX5_isNeverDry_22 0 rfl ?_
      refine v_get (pc := 23) (kind := 14) (v := .ref (v_E g 11)) X wT_n0 wT_l0 wT_c0 in_X5 (Nat.le_of_ble_eq_true rfl : 19 < 40) q1490 rfl rfl dX5_isNeverDry_23 ?_
      refine v_iconst (pc := 26) (v := 3) X dX5_isNeverDry_26 rfl ?_
      refine v_iload_n (pc := 27) X dX5_isNeverDry_27 2 rfl ?_
      refine v_imul (pc := 28) X dX5_isNeverDry_28 ?_
      refine v_iconst (pc := 29) (v := 1) X dX5_isNeverDry_29 rfl ?_
      refine v_iadd (pc := 30) X dX5_isNeverDry_30 ?_
      refine v_iald (pc := 31) X wT_n11 wT_l11 dX5_isNeverDry_31 ?_
      refine v_if_le (pc := 32) (tgt := 37) X dX5_isNeverDry_32 (by decide) (fun c32 => ?_) (fun c32 => ?_)
      · refine v_iinc (pc := 37) (v := x2 + (1 : Int32)) (lv' := [(2, .int (x2 + (1 : Int32))), (0, .ref (v_E g 0)), (1, .int p1)]) (k := 2) X dX5_isNeverDry_37 rfl rfl (Nat.le_of_ble_eq_true rfl) rfl ?_
        refine v_goto (pc := 40) (tgt := 2) X dX5_isNeverDry_40 (by decide) ?_
        refine v_sub [1, 2, 0] rfl ?_
        exact h2 (x2 + (1 : Int32))
      · refine v_iconst (pc := 35) (v := 0) X dX5_isNeverDry_35 rfl ?_
        exact v_zret (pc := 36) X dX5_isNeverDry_36 rfl rfl
theorem w_T_isNeverDry_2L {Γ : v_Ctx} {l : Launch} {g : v_G} (fu : Nat) (p1 : Int32) (s : v_S) (X : v_C Γ l rm_T_isNeverDry cX5_isNeverDry 3 RX5 (some .boolean) wT g)  : ∀ (n : Nat), ∀ (x2 : Int32), v_V Γ 3 wT g (fun z : Int32 => (some (.int z), s)) 2 [(0, .ref (v_E g 0)), (1, .int p1), (2, .int x2)] [] s (v_loop (t_T_isNeverDry_2B fu p1 s) n x2) := by
  intro n
  induction n with
  | zero => exact fun _ => v_none
  | succ n ih => exact fun x2 => w_T_isNeverDry_2 fu p1 s X  _ ih x2
theorem m_T_isNeverDry (l : Launch) (g : v_G) (fu : Nat) (p1 : Int32) (s : v_S) : v_M l yX5_isNeverDry cX5_isNeverDry 3 (some .boolean) rm_T_isNeverDry wT g [.ref (v_E g 0), .int p1] s (fun z : Int32 => (some (.int z), s)) (t_T_isNeverDry fu p1 s) := by
  refine v_met (by decide +kernel) (Nat.le_of_ble_eq_true rfl) (fun Γ X => ?_)
  refine v_lv (lv' := [(0, .ref (v_E g 0)), (1, .int p1)]) rfl ?_
  unfold t_T_isNeverDry
  refine v_iconst (pc := 0) (v := 0) X dX5_isNeverDry_0 rfl ?_
  refine v_istore_n (pc := 1) (lv' := [(2, .int (0 : Int32)), (0, .ref (v_E g 0)), (1, .int p1)]) X dX5_isNeverDry_1 rfl (Nat.le_of_ble_eq_true rfl) rfl ?_
  refine v_sub [1, 2, 0] rfl ?_
  exact w_T_isNeverDry_2L fu p1 s X  fu (0 : Int32)
/-! FloodLentModel.enough(I)I -/
abbrev rm_T_enough : Room := { frames := 6, cells := 0, slots := 0, locals := 132 }
theorem hy_T_enough : v_yV yX5_enough cX5_enough 6 (some .int) 1 := ⟨q2061, q2062, q141, q2063, by decide +kernel⟩
def t_T_enough_84 (fu : Nat) (p1 : Int32) (x2 : Int32) (x3 : Int32) (x4 : Int32) (s : v_S) : Option (Int32 × v_S) :=
v_g x2 160 <| v_n (v_uI s 1 (Int32.toNatClampNeg x2) x3) fun (s_5 : v_S) => some (x4, s_5)
def t_T_enough_33 (fu : Nat) (p1 : Int32) (r33 : Int32 × Int32 × Int32 × Int32 × v_S → Option (Int32 × v_S)) (x2 : Int32) (x3 : Int32) (x4 : Int32) (x5 : Int32) (s : v_S) : Option (Int32 × v_S) :=
v_b1 (t_T_of fu p1 (0 : Int32) s) fun (z_4 : Int32) => if z_4 < x5 then (t_T_enough_84 fu p1 x2 x3 x4 s) else (if x4 = (-1 : Int32) then (v_g x2 160 <| v_n (v_uI s 1 (Int32.toNatClampNeg x2) x5) fun (s_6 : v_S) => v_b1 (t_T_year fu s_6) fun (s_7 : v_S) => v_b1 (t_T_isNeverDry fu p1 s_7) fun (z_8 : Int32) => if z_8 = 0 then (r33 (x2, x3, (-1 : Int32), x5 + (1 : Int32), s_7)) else (r33 (x2, x3, x5, x5 + (1 : Int32), s_7))) else (t_T_enough_84 fu p1 x2 x3 x4 s))
def t_T_enough_33B (fu : Nat) (p1 : Int32) (r33 : Int32 × Int32 × Int32 × Int32 × v_S → Option (Int32 × v_S)) (a : Int32 × Int32 × Int32 × Int32 × v_S) : Option (Int32 × v_S) := t_T_enough_33 fu p1 r33 a.1 a.2.1 a.2.2.1 a.2.2.2.1 a.2.2.2.2
def t_T_enough (fu : Nat) (p1 : Int32) (s : v_S) : Option (Int32 × v_S) :=
  v_b1 (t_T_isVillage fu p1 s) fun (z_1 : Int32) => if z_1 = 0 then (some ((-2 : Int32), s)) else (v_n (((8 : Int32) + ((5 : Int32) * p1)) + (1 : Int32)) fun (x2_2 : Int32) => v_g x2_2 160 <| v_n (s.1 1 (Int32.toNatClampNeg x2_2)) fun (x3_3 : Int32) => v_loop (t_T_enough_33B fu p1) fu (x2_2, x3_3, (-1 : Int32), (0 : Int32), s))
theorem w_T_enough_84 {Γ : v_Ctx} {l : Launch} {g : v_G} (fu : Nat) (p1 : Int32) (X : v_C Γ l rm_T_enough cX5_enough 6 RX5 (some .int) wT g)  (x2 : Int32) (x3 : Int32) (x4 : Int32) (s : v_S) : v_V Γ 6 wT g (fun z : Int32 × v_S => (some (.int z.1), z.2)) 84 [(0, .ref (v_E g 0)), (2, .int x2), (3, .int x3), (4, .int x4)] [] s (t_T_enough_84 fu p1 x2 x3 x4 s) := by
  unfold t_T_enough_84
  refine v_aload_n (pc := 84) X dX5_enough_84 0 rfl ?_
  refine v_get (pc := 85) (kind := 4) (v := .ref (v_E g 1)) X wT_n0 wT_l0 wT_c0 in_X5 (Nat.le_of_ble_eq_true rfl : 1 < 40) q1472 rfl rfl dX5_enough_85 ?_
  refine v_iload_n (pc := 88) X dX5_enough_88 1 rfl ?_
  refine v_iload_n (pc := 89) X dX5_enough_89 2 rfl ?_
  refine v_iast (pc := 90) X wT_n1 wT_l1 dX5_enough_90 (fun s_5 => ?_)
  refine v_iload (pc := 91) X dX5_enough_91 3 rfl ?_
  exact v_iret (pc := 93) X dX5_enough_93 rfl
theorem w_T_enough_33 {Γ : v_Ctx} {l : Launch} {g : v_G} (fu : Nat) (p1 : Int32) (X : v_C Γ l rm_T_enough cX5_enough 6 RX5 (some .int) wT g) (r33 : Int32 × Int32 × Int32 × Int32 × v_S → Option (Int32 × v_S)) (h33 : ∀ (x2 : Int32) (x3 : Int32) (x4 : Int32) (x5 : Int32) (s : v_S), v_V Γ 6 wT g (fun z : Int32 × v_S => (some (.int z.1), z.2)) 33 [(0, .ref (v_E g 0)), (1, .int p1), (2, .int x2), (3, .int x3), (4, .int x4), (5, .int x5)] [] s (r33 (x2, x3, x4, x5, s))) (x2 : Int32) (x3 : Int32) (x4 : Int32) (x5 : Int32) (s : v_S) : v_V Γ 6 wT g (fun z : Int32 × v_S => (some (.int z.1), z.2)) 33 [(0, .ref (v_E g 0)), (1, .int p1), (2, .int x2), (3, .int x3), (4, .int x4), (5, .int x5)] [] s (t_T_enough_33 fu p1 r33 x2 x3 x4 x5 s) := by
  unfold t_T_enough_33
  refine v_iload (pc := 33) X dX5_enough_33 5 rfl ?_
  refine v_aload_n (pc := 35) X dX5_enough_35 0 rfl ?_
  refine v_iload_n (pc := 36) X dX5_enough_36 1 rfl ?_
  refine v_iconst (pc := 37) (v := 0) X dX5_enough_37 rfl ?_
  refine v_cGi (pc := 38) X (m_T_of l g fu p1 (0 : Int32) _) (v_rc_n X wT_o0) (Or.inl q1730) hy_T_of rfl rfl rfl rfl dX5_enough_38 (fun z_4 _ => ?_)
  refine v_icmp_gt (pc := 41) (tgt := 84) X dX5_enough_41 (by decide) (fun c41 => ?_) (fun c41 => ?_)
  · refine v_sub [0, 2, 3, 4] rfl ?_
    exact w_T_enough_84 fu p1 X  x2 x3 x4 s
  · refine v_iload (pc := 44) X dX5_enough_44 4 rfl ?_
    refine v_iconst (pc := 46) (v := -1) X dX5_enough_46 rfl ?_
    refine v_icmp_ne (pc := 47) (tgt := 84) X dX5_enough_47 (by decide) (fun c47 => ?_) (fun c47 => ?_)
    · refine v_sub [0, 2, 3, 4] rfl ?_
      exact w_T_enough_84 fu p1 X  x2 x3 x4 s
    · refine v_aload_n (pc := 50) X dX5_enough_50 0 rfl ?_
      refine v_get (pc := 51) (kind := 4) (v := .ref (v_E g 1)) X wT_n0 wT_l0 wT_c0 in_X5 (Nat.le_of_ble_eq_true rfl : 1 < 40) q1472 rfl rfl dX5_enough_51 ?_
      refine v_iload_n (pc := 54) X dX5_enough_54 2 rfl ?_
      refine v_iload (pc := 55) X dX5_enough_55 5 rfl ?_
      refine v_iast (pc := 57) X wT_n1 wT_l1 dX5_enough_57 (fun s_6 => ?_)
      refine v_aload_n (pc := 58) X dX5_enough_58 0 rfl ?_
      refine v_cGs (pc := 59) X (m_T_year l g fu _) (v_rc_n X wT_o0) (Or.inl q1750) hy_T_year rfl rfl rfl rfl dX5_enough_59 (fun s_7 _ => ?_)
      refine v_aload_n (pc := 62) X dX5_enough_62 0 rfl ?_
      refine v_iload_n (pc := 63) X dX5_enough_63 1 rfl ?_
      refine v_cGi (pc := 64) X (m_T_isNeverDry l g fu p1 _) (v_rc_n X wT_o0) (Or.inl q2064) hy_T_isNeverDry rfl rfl rfl rfl dX5_enough_64 (fun z_8 _ => ?_)
      refine v_if_eq (pc := 67) (tgt := 75) X dX5_enough_67 (by decide) (fun c67 => ?_) (fun c67 => ?_)
      · refine v_iconst (pc := 75) (v := -1) X dX5_enough_75 rfl ?_
        refine v_istore (pc := 76) (lv' := [(4, .int (-1 : Int32)), (0, .ref (v_E g 0)), (1, .int p1), (2, .int x2), (3, .int x3), (5, .int x5)]) X dX5_enough_76 (Nat.le_of_ble_eq_true rfl) rfl ?_
        refine v_iinc (pc := 78) (v := x5 + (1 : Int32)) (lv' := [(5, .int (x5 + (1 : Int32))), (4, .int (-1 : Int32)), (0, .ref (v_E g 0)), (1, .int p1), (2, .int x2), (3, .int x3)]) (k := 5) X dX5_enough_78 rfl rfl (Nat.le_of_ble_eq_true rfl) rfl ?_
        refine v_goto (pc := 81) (tgt := 33) X dX5_enough_81 (by decide) ?_
        refine v_sub [2, 3, 4, 5, 1, 0] rfl ?_
        exact h33 x2 x3 (-1 : Int32) (x5 + (1 : Int32)) s_7
      · refine v_iload (pc := 70) X dX5_enough_70 5 rfl ?_
        refine v_goto (pc := 72) (tgt := 76) X dX5_enough_72 (by decide) ?_
        refine v_istore (pc := 76) (lv' := [(4, .int x5), (0, .ref (v_E g 0)), (1, .int p1), (2, .int x2), (3, .int x3), (5, .int x5)]) X dX5_enough_76 (Nat.le_of_ble_eq_true rfl) rfl ?_
        refine v_iinc (pc := 78) (v := x5 + (1 : Int32)) (lv' := [(5, .int (x5 + (1 : Int32))), (4, .int x5), (0, .ref (v_E g 0)), (1, .int p1), (2, .int x2), (3, .int x3)]) (k := 5) X dX5_enough_78 rfl rfl (Nat.le_of_ble_eq_true rfl) rfl ?_
        refine v_goto (pc := 81) (tgt := 33) X dX5_enough_81 (by decide) ?_
        refine v_sub [2, 3, 4, 5, 1, 0] rfl ?_
        exact h33 x2 x3 x5 (x5 + (1 : Int32)) s_7
theorem w_T_enough_33L {Γ : v_Ctx} {l : Launch} {g : v_G} (fu : Nat) (p1 : Int32) (X : v_C Γ l rm_T_enough cX5_enough 6 RX5 (some .int) wT g)  : ∀ (n : Nat), ∀ (x2 : Int32) (x3 : Int32) (x4 : Int32) (x5 : Int32) (s : v_S), v_V Γ 6 wT g (fun z : Int32 × v_S => (some (.int z.1), z.2)) 33 [(0, .ref (v_E g 0)), (1, .int p1), (2, .int x2), (3, .int x3), (4, .int x4), (5, .int x5)] [] s (v_loop (t_T_enough_33B fu p1) n (x2, x3, x4, x5, s)) := by
  intro n
  induction n with
  | zero => exact fun _ _ _ _ _ => v_none
  | succ n ih => exact fun x2 x3 x4 x5 s => w_T_enough_33 fu p1 X  _ ih x2 x3 x4 x5 s
theorem m_T_enough (l : Launch) (g : v_G) (fu : Nat) (p1 : Int32) (s : v_S) : v_M l yX5_enough cX5_enough 6 (some .int) rm_T_enough wT g [.ref (v_E g 0), .int p1] s (fun z : Int32 × v_S => (some (.int z.1), z.2)) (t_T_enough fu p1 s) := by
  refine v_met (by decide +kernel) (Nat.le_of_ble_eq_true rfl) (fun Γ X => ?_)
  refine v_lv (lv' := [(0, .ref (v_E g 0)), (1, .int p1)]) rfl ?_
  unfold t_T_enough
  refine v_aload_n (pc := 0) X dX5_enough_0 0 rfl ?_
  refine v_iload_n (pc := 1) X dX5_enough_1 1 rfl ?_
  refine v_cGi (pc := 2) X (m_T_isVillage l g fu p1 _) (v_rc_n X wT_o0) (Or.inl q1721) hy_T_isVillage rfl rfl rfl rfl dX5_enough_2 (fun z_1 _ => ?_)
  refine v_if_ne (pc := 5) (tgt := 11) X dX5_enough_5 (by decide) (fun c5 => ?_) (fun c5 => ?_)
  · refine v_bipush (pc := 11) (v := 8) X dX5_enough_11 rfl ?_
    refine v_iconst (pc := 13) (v := 5) X dX5_enough_13 rfl ?_
    refine v_iload_n (pc := 14) X dX5_enough_14 1 rfl ?_
    refine v_imul (pc := 15) X dX5_enough_15 ?_
    refine v_iadd (pc := 16) X dX5_enough_16 ?_
    refine v_iconst (pc := 17) (v := 1) X dX5_enough_17 rfl ?_
    refine v_iadd (pc := 18) X dX5_enough_18 ?_
    refine v_istore_nN (pc := 19) (lvf := fun x2_2 => [(2, .int x2_2), (0, .ref (v_E g 0)), (1, .int p1)]) X dX5_enough_19 rfl (Nat.le_of_ble_eq_true rfl) (fun _ => rfl) (fun x2_2 => ?_)
    refine v_aload_n (pc := 20) X dX5_enough_20 1 rfl ?_
    refine v_get (pc := 21) (kind := 4) (v := .ref (v_E g 1)) X wT_n0 wT_l0 wT_c0 in_X5 (Nat.le_of_ble_eq_true rfl : 1 < 40) q1472 rfl rfl dX5_enough_21 ?_
    refine v_iload_n (pc := 24) X dX5_enough_24 0 rfl ?_
    refine v_iald (pc := 25) X wT_n1 wT_l1 dX5_enough_25 ?_
    refine v_istore_nN (pc := 26) (lvf := fun x3_3 => [(3, .int x3_3), (2, .int x2_2), (0, .ref (v_E g 0)), (1, .int p1)]) X dX5_enough_26 rfl (Nat.le_of_ble_eq_true rfl) (fun _ => rfl) (fun x3_3 => ?_)
    refine v_iconst (pc := 27) (v := -1) X dX5_enough_27 rfl ?_
    refine v_istore (pc := 28) (lv' := [(4, .int (-1 : Int32)), (3, .int x3_3), (2, .int x2_2), (0, .ref (v_E g 0)), (1, .int p1)]) X dX5_enough_28 (Nat.le_of_ble_eq_true rfl) rfl ?_
    refine v_iconst (pc := 30) (v := 0) X dX5_enough_30 rfl ?_
    refine v_istore (pc := 31) (lv' := [(5, .int (0 : Int32)), (4, .int (-1 : Int32)), (3, .int x3_3), (2, .int x2_2), (0, .ref (v_E g 0)), (1, .int p1)]) X dX5_enough_31 (Nat.le_of_ble_eq_true rfl) rfl ?_
    refine v_sub [4, 5, 3, 2, 1, 0] rfl ?_
    exact w_T_enough_33L fu p1 X  fu x2_2 x3_3 (-1 : Int32) (0 : Int32) s
  · refine v_bipush (pc := 8) (v := -2) X dX5_enough_8 rfl ?_
    exact v_iret (pc := 10) X dX5_enough_10 rfl
/-! FloodLentModel.draw()I -/
abbrev rm_T_draw : Room := { frames := 1, cells := 0, slots := 0, locals := 21 }
theorem hy_T_draw : v_yV yX5_draw cX5_draw 1 (some .int) 0 := ⟨q2079, qs131, q141, q2080, by decide +kernel⟩
def t_T_draw (fu : Nat)  (s : v_S) : Option (Int32 × v_S) :=
  v_n (v_uL s 0 35 ((((1103515245 : Int64) * (s.2.1 0 35)) + (12345 : Int64)) - (((1103515245 : Int64) * (s.2.1 0 35)) + (12345 : Int64)) / (2147483648 : Int64) * (2147483648 : Int64))) fun (s_1 : v_S) => some (Int64.toInt32 (((s_1.2.1 0 35) / (65536 : Int64)) - ((s_1.2.1 0 35) / (65536 : Int64)) / (100 : Int64) * (100 : Int64)), s_1)
theorem m_T_draw (l : Launch) (g : v_G) (fu : Nat)  (s : v_S) : v_M l yX5_draw cX5_draw 1 (some .int) rm_T_draw wT g [.ref (v_E g 0)] s (fun z : Int32 × v_S => (some (.int z.1), z.2)) (t_T_draw fu  s) := by
  refine v_met (by decide +kernel) (Nat.le_of_ble_eq_true rfl) (fun Γ X => ?_)
  refine v_lv (lv' := [(0, .ref (v_E g 0))]) rfl ?_
  unfold t_T_draw
  refine v_aload_n (pc := 0) X dX5_draw_0 0 rfl ?_
  refine v_ldc2 (pc := 1) X q2081 dX5_draw_1 ?_
  refine v_aload_n (pc := 4) X dX5_draw_4 0 rfl ?_
  refine v_get (pc := 5) (kind := 1) (v := .long (s.2.1 0 35)) X wT_n0 wT_l0 wT_c0 in_X5 (Nat.le_of_ble_eq_true rfl : 35 < 40) q1506 rfl rfl dX5_draw_5 ?_
  refine v_lmul (pc := 8) X dX5_draw_8 ?_
  refine v_ldc2 (pc := 9) X q2082 dX5_draw_9 ?_
  refine v_ladd (pc := 12) X dX5_draw_12 ?_
  refine v_ldc2 (pc := 13) X q2083 dX5_draw_13 ?_
  refine v_lremC (pc := 16) X (by decide) dX5_draw_16 ?_
  refine v_putL (pc := 17) X wT_n0 wT_l0 wT_c0 in_X5 tyX5 tyX5_ok nmX5 (Nat.le_of_ble_eq_true rfl : 35 < 40) q1506 rfl rfl rfl dX5_draw_17 (fun s_1 => ?_)
  refine v_aload_n (pc := 20) X dX5_draw_20 0 rfl ?_
  refine v_get (pc := 21) (kind := 1) (v := .long (s_1.2.1 0 35)) X wT_n0 wT_l0 wT_c0 in_X5 (Nat.le_of_ble_eq_true rfl : 35 < 40) q1506 rfl rfl dX5_draw_21 ?_
  refine v_ldc2 (pc := 24) X q2084 dX5_draw_24 ?_
  refine v_ldivC (pc := 27) X (by decide) dX5_draw_27 ?_
  refine v_ldc2 (pc := 28) X q1908 dX5_draw_28 ?_
  refine v_lremC (pc := 31) X (by decide) dX5_draw_31 ?_
  refine v_l2i (pc := 32) X dX5_draw_32 ?_
  exact v_iret (pc := 33) X dX5_draw_33 rfl
/-! FloodLentModel.floodsDrawn(J)I -/
abbrev rm_T_floodsDrawn : Room := { frames := 2, cells := 0, slots := 0, locals := 43 }
theorem hy_T_floodsDrawn : v_yV yX5_floodsDrawn cX5_floodsDrawn 5 (some .int) 1 := ⟨q2075, qs130, q141, q2076, by decide +kernel⟩
def t_T_floodsDrawn_10 (fu : Nat) (p1 : Int64) (r10 : Int32 × Int32 × v_S → Option (Int32 × v_S)) (x3 : Int32) (x4 : Int32) (s : v_S) : Option (Int32 × v_S) :=
if s.1 1 2 ≤ x4 then (some (x3, s)) else (v_b2 (t_T_draw fu s) fun (z_2 : Int32) (s_3 : v_S) => v_b1 (t_T_ofFlood fu x4 (2 : Int32) s_3) fun (z_4 : Int32) => if z_4 ≤ z_2 then (v_n (x3 ||| (0 : Int32)) fun (x3_5 : Int32) => r10 (x3_5, x4 + (1 : Int32), s_3)) else (v_n (x3 ||| ((1 : Int32) <<< (x4 &&& 31))) fun (x3_6 : Int32) => r10 (x3_6, x4 + (1 : Int32), s_3)))
def t_T_floodsDrawn_10B (fu : Nat) (p1 : Int64) (r10 : Int32 × Int32 × v_S → Option (Int32 × v_S)) (a : Int32 × Int32 × v_S) : Option (Int32 × v_S) := t_T_floodsDrawn_10 fu p1 r10 a.1 a.2.1 a.2.2
def t_T_floodsDrawn (fu : Nat) (p1 : Int64) (s : v_S) : Option (Int32 × v_S) :=
  v_n (v_uL s 0 35 p1) fun (s_1 : v_S) => v_loop (t_T_floodsDrawn_10B fu p1) fu ((0 : Int32), (0 : Int32), s_1)
theorem w_T_floodsDrawn_10 {Γ : v_Ctx} {l : Launch} {g : v_G} (fu : Nat) (p1 : Int64) (X : v_C Γ l rm_T_floodsDrawn cX5_floodsDrawn 5 RX5 (some .int) wT g) (r10 : Int32 × Int32 × v_S → Option (Int32 × v_S)) (h10 : ∀ (x3 : Int32) (x4 : Int32) (s : v_S), v_V Γ 5 wT g (fun z : Int32 × v_S => (some (.int z.1), z.2)) 10 [(0, .ref (v_E g 0)), (3, .int x3), (4, .int x4)] [] s (r10 (x3, x4, s))) (x3 : Int32) (x4 : Int32) (s : v_S) : v_V Γ 5 wT g (fun z : Int32 × v_S => (some (.int z.1), z.2)) 10 [(0, .ref (v_E g 0)), (3, .int x3), (4, .int x4)] [] s (t_T_floodsDrawn_10 fu p1 r10 x3 x4 s) := by
  unfold t_T_floodsDrawn_10
  refine v_iload (pc := 10) X dX5_floodsDrawn_10 2 rfl ?_
  refine v_aload_n (pc := 12) X dX5_floodsDrawn_12 0 rfl ?_
  refine v_get (pc := 13) (kind := 4) (v := .ref (v_E g 1)) X wT_n0 wT_l0 wT_c0 in_X5 (Nat.le_of_ble_eq_true rfl : 1 < 40) q1472 rfl rfl dX5_floodsDrawn_13 ?_
  refine v_iconst (pc := 16) (v := 2) X dX5_floodsDrawn_16 rfl ?_
  refine v_ialdC (pc := 17) (k := 2) X wT_n1 wT_l1 rfl dX5_floodsDrawn_17 ?_
  refine v_icmp_ge (pc := 18) (tgt := 52) X dX5_floodsDrawn_18 (by decide) (fun c18 => ?_) (fun c18 => ?_)
  · refine v_iload_n (pc := 52) X dX5_floodsDrawn_52 1 rfl ?_
    exact v_iret (pc := 53) X dX5_floodsDrawn_53 rfl
  · refine v_iload_n (pc := 21) X dX5_floodsDrawn_21 1 rfl ?_
    refine v_aload_n (pc := 22) X dX5_floodsDrawn_22 0 rfl ?_
    refine v_cGis (pc := 23) X (m_T_draw l g fu _) (v_rc_n X wT_o0) (Or.inl q2077) hy_T_draw rfl rfl rfl rfl dX5_floodsDrawn_23 (fun z_2 s_3 _ => ?_)
    refine v_aload_n (pc := 26) X dX5_floodsDrawn_26 0 rfl ?_
    refine v_iload (pc := 27) X dX5_floodsDrawn_27 2 rfl ?_
    refine v_iconst (pc := 29) (v := 2) X dX5_floodsDrawn_29 rfl ?_
    refine v_cGi (pc := 30) X (m_T_ofFlood l g fu x4 (2 : Int32) _) (v_rc_n X wT_o0) (Or.inl q1766) hy_T_ofFlood rfl rfl rfl rfl dX5_floodsDrawn_30 (fun z_4 _ => ?_)
    refine v_icmp_ge (pc := 33) (tgt := 43) X dX5_floodsDrawn_33 (by decide) (fun c33 => ?_) (fun c33 => ?_)
    · refine v_iconst (pc := 43) (v := 0) X dX5_floodsDrawn_43 rfl ?_
      refine v_ior (pc := 44) X dX5_floodsDrawn_44 ?_
      refine v_istore_nN (pc := 45) (lvf := fun x3_5 => [(3, .int x3_5), (0, .ref (v_E g 0)), (4, .int x4)]) X dX5_floodsDrawn_45 rfl (Nat.le_of_ble_eq_true rfl) (fun _ => rfl) (fun x3_5 => ?_)
      refine v_iinc (pc := 46) (v := x4 + (1 : Int32)) (lv' := [(4, .int (x4 + (1 : Int32))), (3, .int x3_5), (0, .ref (v_E g 0))]) (k := 2) X dX5_floodsDrawn_46 rfl rfl (Nat.le_of_ble_eq_true rfl) rfl ?_
      refine v_goto (pc := 49) (tgt := 10) X dX5_floodsDrawn_49 (by decide) ?_
      refine v_sub [2, 1, 0] rfl ?_
      exact h10 x3_5 (x4 + (1 : Int32)) s_3
    · refine v_iconst (pc := 36) (v := 1) X dX5_floodsDrawn_36 rfl ?_
      refine v_iload (pc := 37) X dX5_floodsDrawn_37 2 rfl ?_
      refine v_ishl (pc := 39) X dX5_floodsDrawn_39 ?_
      refine v_goto (pc := 40) (tgt := 44) X dX5_floodsDrawn_40 (by decide) ?_
      refine v_ior (pc := 44) X dX5_floodsDrawn_44 ?_
      refine v_istore_nN (pc := 45) (lvf := fun x3_6 => [(3, .int x3_6), (0, .ref (v_E g 0)), (4, .int x4)]) X dX5_floodsDrawn_45 rfl (Nat.le_of_ble_eq_true rfl) (fun _ => rfl) (fun x3_6 => ?_)
      refine v_iinc (pc := 46) (v := x4 + (1 : Int32)) (lv' := [(4, .int (x4 + (1 : Int32))), (3, .int x3_6), (0, .ref (v_E g 0))]) (k := 2) X dX5_floodsDrawn_46 rfl rfl (Nat.le_of_ble_eq_true rfl) rfl ?_
      refine v_goto (pc := 49) (tgt := 10) X dX5_floodsDrawn_49 (by decide) ?_
      refine v_sub [2, 1, 0] rfl ?_
      exact h10 x3_6 (x4 + (1 : Int32)) s_3
theorem w_T_floodsDrawn_10L {Γ : v_Ctx} {l : Launch} {g : v_G} (fu : Nat) (p1 : Int64) (X : v_C Γ l rm_T_floodsDrawn cX5_floodsDrawn 5 RX5 (some .int) wT g)  : ∀ (n : Nat), ∀ (x3 : Int32) (x4 : Int32) (s : v_S), v_V Γ 5 wT g (fun z : Int32 × v_S => (some (.int z.1), z.2)) 10 [(0, .ref (v_E g 0)), (3, .int x3), (4, .int x4)] [] s (v_loop (t_T_floodsDrawn_10B fu p1) n (x3, x4, s)) := by
  intro n
  induction n with
  | zero => exact fun _ _ _ => v_none
  | succ n ih => exact fun x3 x4 s => w_T_floodsDrawn_10 fu p1 X  _ ih x3 x4 s
theorem m_T_floodsDrawn (l : Launch) (g : v_G) (fu : Nat) (p1 : Int64) (s : v_S) : v_M l yX5_floodsDrawn cX5_floodsDrawn 5 (some .int) rm_T_floodsDrawn wT g [.ref (v_E g 0), .long p1] s (fun z : Int32 × v_S => (some (.int z.1), z.2)) (t_T_floodsDrawn fu p1 s) := by
  refine v_met (by decide +kernel) (Nat.le_of_ble_eq_true rfl) (fun Γ X => ?_)
  refine v_lv (lv' := [(0, .ref (v_E g 0)), (1, .long p1)]) rfl ?_
  unfold t_T_floodsDrawn
  refine v_aload_n (pc := 0) X dX5_floodsDrawn_0 0 rfl ?_
  refine v_lload_n (pc := 1) X dX5_floodsDrawn_1 1 rfl ?_
  refine v_putL (pc := 2) X wT_n0 wT_l0 wT_c0 in_X5 tyX5 tyX5_ok nmX5 (Nat.le_of_ble_eq_true rfl : 35 < 40) q1506 rfl rfl rfl dX5_floodsDrawn_2 (fun s_1 => ?_)
  refine v_iconst (pc := 5) (v := 0) X dX5_floodsDrawn_5 rfl ?_
  refine v_istore_n (pc := 6) (lv' := [(3, .int (0 : Int32)), (0, .ref (v_E g 0)), (1, .long p1)]) X dX5_floodsDrawn_6 rfl (Nat.le_of_ble_eq_true rfl) rfl ?_
  refine v_iconst (pc := 7) (v := 0) X dX5_floodsDrawn_7 rfl ?_
  refine v_istore (pc := 8) (lv' := [(4, .int (0 : Int32)), (3, .int (0 : Int32)), (0, .ref (v_E g 0)), (1, .long p1)]) X dX5_floodsDrawn_8 (Nat.le_of_ble_eq_true rfl) rfl ?_
  refine v_sub [2, 1, 0] rfl ?_
  exact w_T_floodsDrawn_10L fu p1 X  fu (0 : Int32) (0 : Int32) s_1
/-! FloodLentModel.year(II)I -/
abbrev rm_T_year_2 : Room := { frames := 5, cells := 0, slots := 0, locals := 112 }
theorem hy_T_year_2 : v_yV yX5_year_2 cX5_year_2 4 (some .int) 2 := ⟨q2069, q2070, q141, q2071, by decide +kernel⟩
def t_T_year_2 (fu : Nat) (p1 : Int32) (p2 : Int32) (s : v_S) : Option (Int32 × v_S) :=
  v_b1 (t_T_isPlain fu s) fun (z_1 : Int32) => if z_1 = 0 then (some ((-2 : Int32), s)) else (v_b1 (t_T_in fu (Int32.toInt64 p1) (0 : Int64) (2000000000 : Int64) s) fun (z_2 : Int32) => if z_2 = 0 then (some ((-2 : Int32), s)) else (v_b1 (t_T_in fu (Int32.toInt64 p2) (0 : Int64) (2 : Int64) s) fun (z_3 : Int32) => if z_3 = 0 then (some ((-2 : Int32), s)) else (v_b2 (t_T_floodsDrawn fu (Int32.toInt64 p1) s) fun (z_4 : Int32) (s_5 : v_S) => v_b1 (t_T_runs fu z_4 s_5) fun (s_6 : v_S) => if p2 = 0 then (v_b1 (t_T_brought fu s_6) fun (z_8 : Int32) => some (z_8, s_6)) else (if p2 = (1 : Int32) then (v_b1 (t_T_shortOfAll fu s_6) fun (z_7 : Int32) => some (z_7, s_6)) else (some (z_4, s_6))))))
theorem m_T_year_2 (l : Launch) (g : v_G) (fu : Nat) (p1 : Int32) (p2 : Int32) (s : v_S) : v_M l yX5_year_2 cX5_year_2 4 (some .int) rm_T_year_2 wT g [.ref (v_E g 0), .int p1, .int p2] s (fun z : Int32 × v_S => (some (.int z.1), z.2)) (t_T_year_2 fu p1 p2 s) := by
  refine v_met (by decide +kernel) (Nat.le_of_ble_eq_true rfl) (fun Γ X => ?_)
  refine v_lv (lv' := [(0, .ref (v_E g 0)), (1, .int p1), (2, .int p2)]) rfl ?_
  unfold t_T_year_2
  refine v_aload_n (pc := 0) X dX5_year_2_0 0 rfl ?_
  refine v_cGi (pc := 1) X (m_T_isPlain l g fu _) (v_rc_n X wT_o0) (Or.inl q1831) hy_T_isPlain rfl rfl rfl rfl dX5_year_2_1 (fun z_1 _ => ?_)
  refine v_if_eq (pc := 4) (tgt := 31) X dX5_year_2_4 (by decide) (fun c4 => ?_) (fun c4 => ?_)
  · refine v_bipush (pc := 31) (v := -2) X dX5_year_2_31 rfl ?_
    exact v_iret (pc := 33) X dX5_year_2_33 rfl
  · refine v_iload_n (pc := 7) X dX5_year_2_7 1 rfl ?_
    refine v_i2l (pc := 8) X dX5_year_2_8 ?_
    refine v_lconst (pc := 9) (v := 0) X dX5_year_2_9 rfl ?_
    refine v_ldc2 (pc := 10) X q2072 dX5_year_2_10 ?_
    refine v_cSi (pc := 13) X (m_T_in l g fu (Int32.toInt64 p1) (0 : Int64) (2000000000 : Int64) _) q1598 hy_T_in rfl rfl rfl rfl dX5_year_2_13 (fun z_2 _ => ?_)
    refine v_if_eq (pc := 16) (tgt := 31) X dX5_year_2_16 (by decide) (fun c16 => ?_) (fun c16 => ?_)
    · refine v_bipush (pc := 31) (v := -2) X dX5_year_2_31 rfl ?_
      exact v_iret (pc := 33) X dX5_year_2_33 rfl
    · refine v_iload_n (pc := 19) X dX5_year_2_19 2 rfl ?_
      refine v_i2l (pc := 20) X dX5_year_2_20 ?_
      refine v_lconst (pc := 21) (v := 0) X dX5_year_2_21 rfl ?_
      refine v_ldc2 (pc := 22) X q1597 dX5_year_2_22 ?_
      refine v_cSi (pc := 25) X (m_T_in l g fu (Int32.toInt64 p2) (0 : Int64) (2 : Int64) _) q1598 hy_T_in rfl rfl rfl rfl dX5_year_2_25 (fun z_3 _ => ?_)
      refine v_if_ne (pc := 28) (tgt := 34) X dX5_year_2_28 (by decide) (fun c28 => ?_) (fun c28 => ?_)
      · refine v_aload_n (pc := 34) X dX5_year_2_34 0 rfl ?_
        refine v_iload_n (pc := 35) X dX5_year_2_35 1 rfl ?_
        refine v_i2l (pc := 36) X dX5_year_2_36 ?_
        refine v_cGis (pc := 37) X (m_T_floodsDrawn l g fu (Int32.toInt64 p1) _) (v_rc_n X wT_o0) (Or.inl q2073) hy_T_floodsDrawn rfl rfl rfl rfl dX5_year_2_37 (fun z_4 s_5 _ => ?_)
        refine v_istore_n (pc := 40) (lv' := [(3, .int z_4), (0, .ref (v_E g 0)), (1, .int p1), (2, .int p2)]) X dX5_year_2_40 rfl (Nat.le_of_ble_eq_true rfl) rfl ?_
        refine v_aload_n (pc := 41) X dX5_year_2_41 1 rfl ?_
        refine v_iload_n (pc := 42) X dX5_year_2_42 0 rfl ?_
        refine v_cGs (pc := 43) X (m_T_runs l g fu z_4 _) (v_rc_n X wT_o0) (Or.inl q1754) hy_T_runs rfl rfl rfl rfl dX5_year_2_43 (fun s_6 _ => ?_)
        refine v_iload_n (pc := 46) X dX5_year_2_46 3 rfl ?_
        refine v_if_ne (pc := 47) (tgt := 57) X dX5_year_2_47 (by decide) (fun c47 => ?_) (fun c47 => ?_)
        · refine v_iload_n (pc := 57) X dX5_year_2_57 3 rfl ?_
          refine v_iconst (pc := 58) (v := 1) X dX5_year_2_58 rfl ?_
          refine v_icmp_ne (pc := 59) (tgt := 69) X dX5_year_2_59 (by decide) (fun c59 => ?_) (fun c59 => ?_)
          · refine v_iload_n (pc := 69) X dX5_year_2_69 0 rfl ?_
            exact v_iret (pc := 70) X dX5_year_2_70 rfl
          · refine v_aload_n (pc := 62) X dX5_year_2_62 1 rfl ?_
            refine v_cGi (pc := 63) X (m_T_shortOfAll l g fu _) (v_rc_n X wT_o0) (Or.inl q1876) hy_T_shortOfAll rfl rfl rfl rfl dX5_year_2_63 (fun z_7 _ => ?_)
            refine v_goto (pc := 66) (tgt := 70) X dX5_year_2_66 (by decide) ?_
            exact v_iret (pc := 70) X dX5_year_2_70 rfl
        · refine v_aload_n (pc := 50) X dX5_year_2_50 1 rfl ?_
          refine v_cGi (pc := 51) X (m_T_brought l g fu _) (v_rc_n X wT_o0) (Or.inl q1836) hy_T_brought rfl rfl rfl rfl dX5_year_2_51 (fun z_8 _ => ?_)
          refine v_goto (pc := 54) (tgt := 70) X dX5_year_2_54 (by decide) ?_
          exact v_iret (pc := 70) X dX5_year_2_70 rfl
      · refine v_bipush (pc := 31) (v := -2) X dX5_year_2_31 rfl ?_
        exact v_iret (pc := 33) X dX5_year_2_33 rfl
/-! FloodLentModel.years(II)I -/
abbrev rm_T_years : Room := { frames := 5, cells := 0, slots := 0, locals := 112 }
theorem hy_T_years : v_yV yX5_years cX5_years 5 (some .int) 2 := ⟨q2086, q2087, q141, q2088, by decide +kernel⟩
def t_T_years_39 (fu : Nat) (p1 : Int32) (p2 : Int32) (r39 : Int32 × Int32 × v_S → Option (Int32 × v_S)) (x3 : Int32) (x4 : Int32) (s : v_S) : Option (Int32 × v_S) :=
if p2 ≤ x4 then (some (x3, s)) else (v_b2 (t_T_floodsDrawn fu ((Int32.toInt64 p1) + (Int32.toInt64 x4)) s) fun (z_4 : Int32) (s_5 : v_S) => v_b1 (t_T_runs fu z_4 s_5) fun (s_6 : v_S) => v_b1 (t_T_shortOfAll fu s_6) fun (z_7 : Int32) => if z_7 = 0 then (v_n (x3 + (1 : Int32)) fun (x3_9 : Int32) => r39 (x3_9, x4 + (1 : Int32), s_6)) else (v_n (x3 + (0 : Int32)) fun (x3_8 : Int32) => r39 (x3_8, x4 + (1 : Int32), s_6)))
def t_T_years_39B (fu : Nat) (p1 : Int32) (p2 : Int32) (r39 : Int32 × Int32 × v_S → Option (Int32 × v_S)) (a : Int32 × Int32 × v_S) : Option (Int32 × v_S) := t_T_years_39 fu p1 p2 r39 a.1 a.2.1 a.2.2
def t_T_years (fu : Nat) (p1 : Int32) (p2 : Int32) (s : v_S) : Option (Int32 × v_S) :=
  v_b1 (t_T_isPlain fu s) fun (z_1 : Int32) => if z_1 = 0 then (some ((-2 : Int32), s)) else (v_b1 (t_T_in fu (Int32.toInt64 p1) (0 : Int64) (2000000000 : Int64) s) fun (z_2 : Int32) => if z_2 = 0 then (some ((-2 : Int32), s)) else (v_b1 (t_T_in fu (Int32.toInt64 p2) (1 : Int64) (20 : Int64) s) fun (z_3 : Int32) => if z_3 = 0 then (some ((-2 : Int32), s)) else (v_loop (t_T_years_39B fu p1 p2) fu ((0 : Int32), (0 : Int32), s))))
theorem w_T_years_39 {Γ : v_Ctx} {l : Launch} {g : v_G} (fu : Nat) (p1 : Int32) (p2 : Int32) (X : v_C Γ l rm_T_years cX5_years 5 RX5 (some .int) wT g) (r39 : Int32 × Int32 × v_S → Option (Int32 × v_S)) (h39 : ∀ (x3 : Int32) (x4 : Int32) (s : v_S), v_V Γ 5 wT g (fun z : Int32 × v_S => (some (.int z.1), z.2)) 39 [(0, .ref (v_E g 0)), (1, .int p1), (2, .int p2), (3, .int x3), (4, .int x4)] [] s (r39 (x3, x4, s))) (x3 : Int32) (x4 : Int32) (s : v_S) : v_V Γ 5 wT g (fun z : Int32 × v_S => (some (.int z.1), z.2)) 39 [(0, .ref (v_E g 0)), (1, .int p1), (2, .int p2), (3, .int x3), (4, .int x4)] [] s (t_T_years_39 fu p1 p2 r39 x3 x4 s) := by
  unfold t_T_years_39
  refine v_iload (pc := 39) X dX5_years_39 4 rfl ?_
  refine v_iload_n (pc := 41) X dX5_years_41 2 rfl ?_
  refine v_icmp_ge (pc := 42) (tgt := 80) X dX5_years_42 (by decide) (fun c42 => ?_) (fun c42 => ?_)
  · refine v_iload_n (pc := 80) X dX5_years_80 3 rfl ?_
    exact v_iret (pc := 81) X dX5_years_81 rfl
  · refine v_aload_n (pc := 45) X dX5_years_45 0 rfl ?_
    refine v_aload_n (pc := 46) X dX5_years_46 0 rfl ?_
    refine v_iload_n (pc := 47) X dX5_years_47 1 rfl ?_
    refine v_i2l (pc := 48) X dX5_years_48 ?_
    refine v_iload (pc := 49) X dX5_years_49 4 rfl ?_
    refine v_i2l (pc := 51) X dX5_years_51 ?_
    refine v_ladd (pc := 52) X dX5_years_52 ?_
    refine v_cGis (pc := 53) X (m_T_floodsDrawn l g fu ((Int32.toInt64 p1) + (Int32.toInt64 x4)) _) (v_rc_n X wT_o0) (Or.inl q2073) hy_T_floodsDrawn rfl rfl rfl rfl dX5_years_53 (fun z_4 s_5 _ => ?_)
    refine v_cGs (pc := 56) X (m_T_runs l g fu z_4 _) (v_rc_n X wT_o0) (Or.inl q1754) hy_T_runs rfl rfl rfl rfl dX5_years_56 (fun s_6 _ => ?_)
    refine v_iload_n (pc := 59) X dX5_years_59 3 rfl ?_
    refine v_aload_n (pc := 60) X dX5_years_60 0 rfl ?_
    refine v_cGi (pc := 61) X (m_T_shortOfAll l g fu _) (v_rc_n X wT_o0) (Or.inl q1876) hy_T_shortOfAll rfl rfl rfl rfl dX5_years_61 (fun z_7 _ => ?_)
    refine v_if_ne (pc := 64) (tgt := 71) X dX5_years_64 (by decide) (fun c64 => ?_) (fun c64 => ?_)
    · refine v_iconst (pc := 71) (v := 0) X dX5_years_71 rfl ?_
      refine v_iadd (pc := 72) X dX5_years_72 ?_
      refine v_istore_nN (pc := 73) (lvf := fun x3_8 => [(3, .int x3_8), (0, .ref (v_E g 0)), (1, .int p1), (2, .int p2), (4, .int x4)]) X dX5_years_73 rfl (Nat.le_of_ble_eq_true rfl) (fun _ => rfl) (fun x3_8 => ?_)
      refine v_iinc (pc := 74) (v := x4 + (1 : Int32)) (lv' := [(4, .int (x4 + (1 : Int32))), (3, .int x3_8), (0, .ref (v_E g 0)), (1, .int p1), (2, .int p2)]) (k := 4) X dX5_years_74 rfl rfl (Nat.le_of_ble_eq_true rfl) rfl ?_
      refine v_goto (pc := 77) (tgt := 39) X dX5_years_77 (by decide) ?_
      refine v_sub [2, 3, 4, 1, 0] rfl ?_
      exact h39 x3_8 (x4 + (1 : Int32)) s_6
    · refine v_iconst (pc := 67) (v := 1) X dX5_years_67 rfl ?_
      refine v_goto (pc := 68) (tgt := 72) X dX5_years_68 (by decide) ?_
      refine v_iadd (pc := 72) X dX5_years_72 ?_
      refine v_istore_nN (pc := 73) (lvf := fun x3_9 => [(3, .int x3_9), (0, .ref (v_E g 0)), (1, .int p1), (2, .int p2), (4, .int x4)]) X dX5_years_73 rfl (Nat.le_of_ble_eq_true rfl) (fun _ => rfl) (fun x3_9 => ?_)
      refine v_iinc (pc := 74) (v := x4 + (1 : Int32)) (lv' := [(4, .int (x4 + (1 : Int32))), (3, .int x3_9), (0, .ref (v_E g 0)), (1, .int p1), (2, .int p2)]) (k := 4) X dX5_years_74 rfl rfl (Nat.le_of_ble_eq_true rfl) rfl ?_
      refine v_goto (pc := 77) (tgt := 39) X dX5_years_77 (by decide) ?_
      refine v_sub [2, 3, 4, 1, 0] rfl ?_
      exact h39 x3_9 (x4 + (1 : Int32)) s_6
theorem w_T_years_39L {Γ : v_Ctx} {l : Launch} {g : v_G} (fu : Nat) (p1 : Int32) (p2 : Int32) (X : v_C Γ l rm_T_years cX5_years 5 RX5 (some .int) wT g)  : ∀ (n : Nat), ∀ (x3 : Int32) (x4 : Int32) (s : v_S), v_V Γ 5 wT g (fun z : Int32 × v_S => (some (.int z.1), z.2)) 39 [(0, .ref (v_E g 0)), (1, .int p1), (2, .int p2), (3, .int x3), (4, .int x4)] [] s (v_loop (t_T_years_39B fu p1 p2) n (x3, x4, s)) := by
  intro n
  induction n with
  | zero => exact fun _ _ _ => v_none
  | succ n ih => exact fun x3 x4 s => w_T_years_39 fu p1 p2 X  _ ih x3 x4 s
theorem m_T_years (l : Launch) (g : v_G) (fu : Nat) (p1 : Int32) (p2 : Int32) (s : v_S) : v_M l yX5_years cX5_years 5 (some .int) rm_T_years wT g [.ref (v_E g 0), .int p1, .int p2] s (fun z : Int32 × v_S => (some (.int z.1), z.2)) (t_T_years fu p1 p2 s) := by
  refine v_met (by decide +kernel) (Nat.le_of_ble_eq_true rfl) (fun Γ X => ?_)
  refine v_lv (lv' := [(0, .ref (v_E g 0)), (1, .int p1), (2, .int p2)]) rfl ?_
  unfold t_T_years
  refine v_aload_n (pc := 0) X dX5_years_0 0 rfl ?_
  refine v_cGi (pc := 1) X (m_T_isPlain l g fu _) (v_rc_n X wT_o0) (Or.inl q1831) hy_T_isPlain rfl rfl rfl rfl dX5_years_1 (fun z_1 _ => ?_)
  refine v_if_eq (pc := 4) (tgt := 31) X dX5_years_4 (by decide) (fun c4 => ?_) (fun c4 => ?_)
  · refine v_bipush (pc := 31) (v := -2) X dX5_years_31 rfl ?_
    exact v_iret (pc := 33) X dX5_years_33 rfl
  · refine v_iload_n (pc := 7) X dX5_years_7 1 rfl ?_
    refine v_i2l (pc := 8) X dX5_years_8 ?_
    refine v_lconst (pc := 9) (v := 0) X dX5_years_9 rfl ?_
    refine v_ldc2 (pc := 10) X q2072 dX5_years_10 ?_
    refine v_cSi (pc := 13) X (m_T_in l g fu (Int32.toInt64 p1) (0 : Int64) (2000000000 : Int64) _) q1598 hy_T_in rfl rfl rfl rfl dX5_years_13 (fun z_2 _ => ?_)
    refine v_if_eq (pc := 16) (tgt := 31) X dX5_years_16 (by decide) (fun c16 => ?_) (fun c16 => ?_)
    · refine v_bipush (pc := 31) (v := -2) X dX5_years_31 rfl ?_
      exact v_iret (pc := 33) X dX5_years_33 rfl
    · refine v_iload_n (pc := 19) X dX5_years_19 2 rfl ?_
      refine v_i2l (pc := 20) X dX5_years_20 ?_
      refine v_lconst (pc := 21) (v := 1) X dX5_years_21 rfl ?_
      refine v_ldc2 (pc := 22) X q2089 dX5_years_22 ?_
      refine v_cSi (pc := 25) X (m_T_in l g fu (Int32.toInt64 p2) (1 : Int64) (20 : Int64) _) q1598 hy_T_in rfl rfl rfl rfl dX5_years_25 (fun z_3 _ => ?_)
      refine v_if_ne (pc := 28) (tgt := 34) X dX5_years_28 (by decide) (fun c28 => ?_) (fun c28 => ?_)
      · refine v_iconst (pc := 34) (v := 0) X dX5_years_34 rfl ?_
        refine v_istore_n (pc := 35) (lv' := [(3, .int (0 : Int32)), (0, .ref (v_E g 0)), (1, .int p1), (2, .int p2)]) X dX5_years_35 rfl (Nat.le_of_ble_eq_true rfl) rfl ?_
        refine v_iconst (pc := 36) (v := 0) X dX5_years_36 rfl ?_
        refine v_istore (pc := 37) (lv' := [(4, .int (0 : Int32)), (3, .int (0 : Int32)), (0, .ref (v_E g 0)), (1, .int p1), (2, .int p2)]) X dX5_years_37 (Nat.le_of_ble_eq_true rfl) rfl ?_
        refine v_sub [2, 3, 4, 1, 0] rfl ?_
        exact w_T_years_39L fu p1 p2 X  fu (0 : Int32) (0 : Int32) s
      · refine v_bipush (pc := 31) (v := -2) X dX5_years_31 rfl ?_
        exact v_iret (pc := 33) X dX5_years_33 rfl
/-! FloodLentModel.count(I)I -/
abbrev rm_T_count : Room := { frames := 2, cells := 0, slots := 0, locals := 41 }
theorem hy_T_count : v_yV yX5_count cX5_count 4 (some .int) 1 := ⟨q2091, q2092, q141, q2093, by decide +kernel⟩
def t_T_count_119 (fu : Nat) (p1 : Int32) (s : v_S) (r119 : Int32 × Int32 → Option Int32) (x2 : Int32) (x3 : Int32) : Option Int32 :=
if (4 : Int32) ≤ x3 then (some x2) else (v_g x3 4 <| if s.1 17 (Int32.toNatClampNeg x3) = (-1 : Int32) then (v_n (x2 + (0 : Int32)) fun (x2_3 : Int32) => r119 (x2_3, x3 + (1 : Int32))) else (v_n (x2 + (1 : Int32)) fun (x2_2 : Int32) => r119 (x2_2, x3 + (1 : Int32))))
def t_T_count_119B (fu : Nat) (p1 : Int32) (s : v_S) (r119 : Int32 × Int32 → Option Int32) (a : Int32 × Int32) : Option Int32 := t_T_count_119 fu p1 s r119 a.1 a.2
def t_T_count (fu : Nat) (p1 : Int32) (s : v_S) : Option Int32 :=
  v_tw (p1) 0 9 (some (-1 : Int32)) (fun (j : Nat) => match j with | 0 => (some (s.1 1 5)) | 1 => (v_b1 (t_T_villages fu s) fun (z_1 : Int32) => some z_1) | 2 => (some (s.1 1 1)) | 3 => (some (s.1 1 2)) | 4 => (some (s.1 1 3)) | 5 => (some (s.1 1 4)) | 6 => (some (s.1 0 5)) | 7 => (some (s.1 1 6)) | 8 => (some (s.1 1 7)) | 9 => (v_loop (t_T_count_119B fu p1 s) fu ((0 : Int32), (0 : Int32))) | _ => none)
theorem w_T_count_119 {Γ : v_Ctx} {l : Launch} {g : v_G} (fu : Nat) (p1 : Int32) (s : v_S) (X : v_C Γ l rm_T_count cX5_count 4 RX5 (some .int) wT g) (r119 : Int32 × Int32 → Option Int32) (h119 : ∀ (x2 : Int32) (x3 : Int32), v_V Γ 4 wT g (fun z : Int32 => (some (.int z), s)) 119 [(0, .ref (v_E g 0)), (2, .int x2), (3, .int x3)] [] s (r119 (x2, x3))) (x2 : Int32) (x3 : Int32) : v_V Γ 4 wT g (fun z : Int32 => (some (.int z), s)) 119 [(0, .ref (v_E g 0)), (2, .int x2), (3, .int x3)] [] s (t_T_count_119 fu p1 s r119 x2 x3) := by
  unfold t_T_count_119
  refine v_iload_n (pc := 119) X dX5_count_119 2 rfl ?_
  refine v_iconst (pc := 120) (v := 4) X dX5_count_120 rfl ?_
  refine v_icmp_ge (pc := 121) (tgt := 148) X dX5_count_121 (by decide) (fun c121 => ?_) (fun c121 => ?_)
  · refine v_iload_n (pc := 148) X dX5_count_148 1 rfl ?_
    exact v_iret (pc := 149) X dX5_count_149 rfl
  · refine v_iload_n (pc := 124) X dX5_count_124 1 rfl ?_
    refine v_aload_n (pc := 125) X dX5_count_125 0 rfl ?_
    refine v_get (pc := 126) (kind := 20) (v := .ref (v_E g 17)) X wT_n0 wT_l0 wT_c0 in_X5 (Nat.le_of_ble_eq_true rfl : 36 < 40) q1507 rfl rfl dX5_count_126 ?_
    refine v_iload_n (pc := 129) X dX5_count_129 2 rfl ?_
    refine v_iald (pc := 130) X wT_n17 wT_l17 dX5_count_130 ?_
    refine v_iconst (pc := 131) (v := -1) X dX5_count_131 rfl ?_
    refine v_icmp_ne (pc := 132) (tgt := 139) X dX5_count_132 (by decide) (fun c132 => ?_) (fun c132 => ?_)
    · refine v_iconst (pc := 139) (v := 1) X dX5_count_139 rfl ?_
      refine v_iadd (pc := 140) X dX5_count_140 ?_
      refine v_istore_nN (pc := 141) (lvf := fun x2_2 => [(2, .int x2_2), (0, .ref (v_E g 0)), (3, .int x3)]) X dX5_count_141 rfl (Nat.le_of_ble_eq_true rfl) (fun _ => rfl) (fun x2_2 => ?_)
      refine v_iinc (pc := 142) (v := x3 + (1 : Int32)) (lv' := [(3, .int (x3 + (1 : Int32))), (2, .int x2_2), (0, .ref (v_E g 0))]) (k := 2) X dX5_count_142 rfl rfl (Nat.le_of_ble_eq_true rfl) rfl ?_
      refine v_goto (pc := 145) (tgt := 119) X dX5_count_145 (by decide) ?_
      refine v_sub [2, 1, 0] rfl ?_
      exact h119 x2_2 (x3 + (1 : Int32))
    · refine v_iconst (pc := 135) (v := 0) X dX5_count_135 rfl ?_
      refine v_goto (pc := 136) (tgt := 140) X dX5_count_136 (by decide) ?_
      refine v_iadd (pc := 140) X dX5_count_140 ?_
      refine v_istore_nN (pc := 141) (lvf := fun x2_3 => [(2, .int x2_3), (0, .ref (v_E g 0)), (3, .int x3)]) X dX5_count_141 rfl (Nat.le_of_ble_eq_true rfl) (fun _ => rfl) (fun x2_3 => ?_)
      refine v_iinc (pc := 142) (v := x3 + (1 : Int32)) (lv' := [(3, .int (x3 + (1 : Int32))), (2, .int x2_3), (0, .ref (v_E g 0))]) (k := 2) X dX5_count_142 rfl rfl (Nat.le_of_ble_eq_true rfl) rfl ?_
      refine v_goto (pc := 145) (tgt := 119) X dX5_count_145 (by decide) ?_
      refine v_sub [2, 1, 0] rfl ?_
      exact h119 x2_3 (x3 + (1 : Int32))
theorem w_T_count_119L {Γ : v_Ctx} {l : Launch} {g : v_G} (fu : Nat) (p1 : Int32) (s : v_S) (X : v_C Γ l rm_T_count cX5_count 4 RX5 (some .int) wT g)  : ∀ (n : Nat), ∀ (x2 : Int32) (x3 : Int32), v_V Γ 4 wT g (fun z : Int32 => (some (.int z), s)) 119 [(0, .ref (v_E g 0)), (2, .int x2), (3, .int x3)] [] s (v_loop (t_T_count_119B fu p1 s) n (x2, x3)) := by
  intro n
  induction n with
  | zero => exact fun _ _ => v_none
  | succ n ih => exact fun x2 x3 => w_T_count_119 fu p1 s X  _ ih x2 x3
theorem m_T_count (l : Launch) (g : v_G) (fu : Nat) (p1 : Int32) (s : v_S) : v_M l yX5_count cX5_count 4 (some .int) rm_T_count wT g [.ref (v_E g 0), .int p1] s (fun z : Int32 => (some (.int z), s)) (t_T_count fu p1 s) := by
  refine v_met (by decide +kernel) (Nat.le_of_ble_eq_true rfl) (fun Γ X => ?_)
  refine v_lv (lv' := [(0, .ref (v_E g 0)), (1, .int p1)]) rfl ?_
  unfold t_T_count
  refine v_iconst (pc := 0) (v := 0) X dX5_count_0 rfl ?_
  refine v_istore_n (pc := 1) (lv' := [(2, .int (0 : Int32)), (0, .ref (v_E g 0)), (1, .int p1)]) X dX5_count_1 rfl (Nat.le_of_ble_eq_true rfl) rfl ?_
  refine v_iload_n (pc := 2) X dX5_count_2 2 rfl ?_
  refine v_tsw (pc := 3) (tgt := 150) [56, 63, 68, 75, 82, 89, 96, 101, 109, 117] X dX5_count_3 (by decide) (by decide) (by decide) ?_ (fun j t hj => ?_)
  · refine v_iconst (pc := 150) (v := -1) X dX5_count_150 rfl ?_
    exact v_iret (pc := 151) X dX5_count_151 rfl
  · match j, hj with
    | 0, hj =>
      cases hj
      refine v_aload_n (pc := 56) X dX5_count_56 1 rfl ?_
      refine v_get (pc := 57) (kind := 4) (v := .ref (v_E g 1)) X wT_n0 wT_l0 wT_c0 in_X5 (Nat.le_of_ble_eq_true rfl : 1 < 40) q1472 rfl rfl dX5_count_57 ?_
      refine v_iconst (pc := 60) (v := 5) X dX5_count_60 rfl ?_
      refine v_ialdC (pc := 61) (k := 5) X wT_n1 wT_l1 rfl dX5_count_61 ?_
      exact v_iret (pc := 62) X dX5_count_62 rfl
    | 1, hj =>
      cases hj
      refine v_aload_n (pc := 63) X dX5_count_63 1 rfl ?_
      refine v_cGi (pc := 64) X (m_T_villages l g fu _) (v_rc_n X wT_o0) (Or.inl q1725) hy_T_villages rfl rfl rfl rfl dX5_count_64 (fun z_1 _ => ?_)
      exact v_iret (pc := 67) X dX5_count_67 rfl
    | 2, hj =>
      cases hj
      refine v_aload_n (pc := 68) X dX5_count_68 1 rfl ?_
      refine v_get (pc := 69) (kind := 4) (v := .ref (v_E g 1)) X wT_n0 wT_l0 wT_c0 in_X5 (Nat.le_of_ble_eq_true rfl : 1 < 40) q1472 rfl rfl dX5_count_69 ?_
      refine v_iconst (pc := 72) (v := 1) X dX5_count_72 rfl ?_
      refine v_ialdC (pc := 73) (k := 1) X wT_n1 wT_l1 rfl dX5_count_73 ?_
      exact v_iret (pc := 74) X dX5_count_74 rfl
    | 3, hj =>
      cases hj
      refine v_aload_n (pc := 75) X dX5_count_75 1 rfl ?_
      refine v_get (pc := 76) (kind := 4) (v := .ref (v_E g 1)) X wT_n0 wT_l0 wT_c0 in_X5 (Nat.le_of_ble_eq_true rfl : 1 < 40) q1472 rfl rfl dX5_count_76 ?_
      refine v_iconst (pc := 79) (v := 2) X dX5_count_79 rfl ?_
      refine v_ialdC (pc := 80) (k := 2) X wT_n1 wT_l1 rfl dX5_count_80 ?_
      exact v_iret (pc := 81) X dX5_count_81 rfl
    | 4, hj =>
      cases hj
      refine v_aload_n (pc := 82) X dX5_count_82 1 rfl ?_
      refine v_get (pc := 83) (kind := 4) (v := .ref (v_E g 1)) X wT_n0 wT_l0 wT_c0 in_X5 (Nat.le_of_ble_eq_true rfl : 1 < 40) q1472 rfl rfl dX5_count_83 ?_
      refine v_iconst (pc := 86) (v := 3) X dX5_count_86 rfl ?_
      refine v_ialdC (pc := 87) (k := 3) X wT_n1 wT_l1 rfl dX5_count_87 ?_
      exact v_iret (pc := 88) X dX5_count_88 rfl
    | 5, hj =>
      cases hj
      refine v_aload_n (pc := 89) X dX5_count_89 1 rfl ?_
      refine v_get (pc := 90) (kind := 4) (v := .ref (v_E g 1)) X wT_n0 wT_l0 wT_c0 in_X5 (Nat.le_of_ble_eq_true rfl : 1 < 40) q1472 rfl rfl dX5_count_90 ?_
      refine v_iconst (pc := 93) (v := 4) X dX5_count_93 rfl ?_
      refine v_ialdC (pc := 94) (k := 4) X wT_n1 wT_l1 rfl dX5_count_94 ?_
      exact v_iret (pc := 95) X dX5_count_95 rfl
    | 6, hj =>
      cases hj
      refine v_aload_n (pc := 96) X dX5_count_96 1 rfl ?_
      refine v_get (pc := 97) (kind := 0) (v := .int (s.1 0 5)) X wT_n0 wT_l0 wT_c0 in_X5 (Nat.le_of_ble_eq_true rfl : 5 < 40) q1476 rfl rfl dX5_count_97 ?_
      exact v_iret (pc := 100) X dX5_count_100 rfl
    | 7, hj =>
      cases hj
      refine v_aload_n (pc := 101) X dX5_count_101 1 rfl ?_
      refine v_get (pc := 102) (kind := 4) (v := .ref (v_E g 1)) X wT_n0 wT_l0 wT_c0 in_X5 (Nat.le_of_ble_eq_true rfl : 1 < 40) q1472 rfl rfl dX5_count_102 ?_
      refine v_bipush (pc := 105) (v := 6) X dX5_count_105 rfl ?_
      refine v_ialdC (pc := 107) (k := 6) X wT_n1 wT_l1 rfl dX5_count_107 ?_
      exact v_iret (pc := 108) X dX5_count_108 rfl
    | 8, hj =>
      cases hj
      refine v_aload_n (pc := 109) X dX5_count_109 1 rfl ?_
      refine v_get (pc := 110) (kind := 4) (v := .ref (v_E g 1)) X wT_n0 wT_l0 wT_c0 in_X5 (Nat.le_of_ble_eq_true rfl : 1 < 40) q1472 rfl rfl dX5_count_110 ?_
      refine v_bipush (pc := 113) (v := 7) X dX5_count_113 rfl ?_
      refine v_ialdC (pc := 115) (k := 7) X wT_n1 wT_l1 rfl dX5_count_115 ?_
      exact v_iret (pc := 116) X dX5_count_116 rfl
    | 9, hj =>
      cases hj
      refine v_iconst (pc := 117) (v := 0) X dX5_count_117 rfl ?_
      refine v_istore_n (pc := 118) (lv' := [(3, .int (0 : Int32)), (2, .int (0 : Int32)), (0, .ref (v_E g 0)), (1, .int p1)]) X dX5_count_118 rfl (Nat.le_of_ble_eq_true rfl) rfl ?_
      refine v_sub [2, 1, 0] rfl ?_
      exact w_T_count_119L fu p1 s X  fu (0 : Int32) (0 : Int32)
    | j + 10, hj => simp at hj
/-! FloodLentModel.row(III)I -/
abbrev rm_T_row : Room := { frames := 3, cells := 0, slots := 0, locals := 66 }
theorem hy_T_row : v_yV yX5_row cX5_row 5 (some .int) 3 := ⟨q2095, q2096, q141, q2097, by decide +kernel⟩
def t_T_row_52 (fu : Nat) (p1 : Int32) (p2 : Int32) (p3 : Int32) (r52 : Int32 × v_S → Option (Int32 × v_S)) (x4 : Int32) (s : v_S) : Option (Int32 × v_S) :=
if (60 : Int32) ≤ x4 then (some ((0 : Int32), s)) else (v_g (((60 : Int32) * p1) + x4) 240 <| v_n (v_uL s 19 (Int32.toNatClampNeg (((60 : Int32) * p1) + x4)) (0 : Int64)) fun (s_5 : v_S) => r52 (x4 + (1 : Int32), s_5))
def t_T_row_52B (fu : Nat) (p1 : Int32) (p2 : Int32) (p3 : Int32) (r52 : Int32 × v_S → Option (Int32 × v_S)) (a : Int32 × v_S) : Option (Int32 × v_S) := t_T_row_52 fu p1 p2 p3 r52 a.1 a.2
def t_T_row (fu : Nat) (p1 : Int32) (p2 : Int32) (p3 : Int32) (s : v_S) : Option (Int32 × v_S) :=
  v_b1 (t_T_isSlot fu p1 s) fun (z_1 : Int32) => if z_1 = 0 then (some ((-2 : Int32), s)) else (v_b1 (t_T_in fu (Int32.toInt64 p2) (0 : Int64) (3 : Int64) s) fun (z_2 : Int32) => if z_2 = 0 then (some ((-2 : Int32), s)) else (if p3 ≤ (60 : Int32) then (if (0 : Int32) ≤ p3 then (v_g p1 4 <| v_n (v_uI s 17 (Int32.toNatClampNeg p1) p3) fun (s_3 : v_S) => v_g p1 4 <| v_n (v_uI s_3 18 (Int32.toNatClampNeg p1) p2) fun (s_4 : v_S) => v_loop (t_T_row_52B fu p1 p2 p3) fu ((0 : Int32), s_4)) else (some ((-3 : Int32), s))) else (some ((-2 : Int32), s))))
theorem w_T_row_52 {Γ : v_Ctx} {l : Launch} {g : v_G} (fu : Nat) (p1 : Int32) (p2 : Int32) (p3 : Int32) (X : v_C Γ l rm_T_row cX5_row 5 RX5 (some .int) wT g) (r52 : Int32 × v_S → Option (Int32 × v_S)) (h52 : ∀ (x4 : Int32) (s : v_S), v_V Γ 5 wT g (fun z : Int32 × v_S => (some (.int z.1), z.2)) 52 [(0, .ref (v_E g 0)), (1, .int p1), (4, .int x4)] [] s (r52 (x4, s))) (x4 : Int32) (s : v_S) : v_V Γ 5 wT g (fun z : Int32 × v_S => (some (.int z.1), z.2)) 52 [(0, .ref (v_E g 0)), (1, .int p1), (4, .int x4)] [] s (t_T_row_52 fu p1 p2 p3 r52 x4 s) := by
  unfold t_T_row_52
  refine v_iload (pc := 52) X dX5_row_52 2 rfl ?_
  refine v_bipush (pc := 54) (v := 60) X dX5_row_54 rfl ?_
  refine v_icmp_ge (pc := 56) (tgt := 78) X dX5_row_56 (by decide) (fun c56 => ?_) (fun c56 => ?_)
  · refine v_iconst (pc := 78) (v := 0) X dX5_row_78 rfl ?_
    exact v_iret (pc := 79) X dX5_row_79 rfl
  · refine v_aload_n (pc := 59) X dX5_row_59 0 rfl ?_
    refine v_get (pc := 60) (kind := 22) (v := .ref (v_E g 19)) X wT_n0 wT_l0 wT_c0 in_X5 (Nat.le_of_ble_eq_true rfl : 38 < 40) q1509 rfl rfl dX5_row_60 ?_
    refine v_bipush (pc := 63) (v := 60) X dX5_row_63 rfl ?_
    refine v_iload_n (pc := 65) X dX5_row_65 1 rfl ?_
    refine v_imul (pc := 66) X dX5_row_66 ?_
    refine v_iload (pc := 67) X dX5_row_67 2 rfl ?_
    refine v_iadd (pc := 69) X dX5_row_69 ?_
    refine v_lconst (pc := 70) (v := 0) X dX5_row_70 rfl ?_
    refine v_last (pc := 71) X wT_n19 wT_l19 dX5_row_71 (fun s_5 => ?_)
    refine v_iinc (pc := 72) (v := x4 + (1 : Int32)) (lv' := [(4, .int (x4 + (1 : Int32))), (0, .ref (v_E g 0)), (1, .int p1)]) (k := 2) X dX5_row_72 rfl rfl (Nat.le_of_ble_eq_true rfl) rfl ?_
    refine v_goto (pc := 75) (tgt := 52) X dX5_row_75 (by decide) ?_
    refine v_sub [1, 2, 0] rfl ?_
    exact h52 (x4 + (1 : Int32)) s_5
theorem w_T_row_52L {Γ : v_Ctx} {l : Launch} {g : v_G} (fu : Nat) (p1 : Int32) (p2 : Int32) (p3 : Int32) (X : v_C Γ l rm_T_row cX5_row 5 RX5 (some .int) wT g)  : ∀ (n : Nat), ∀ (x4 : Int32) (s : v_S), v_V Γ 5 wT g (fun z : Int32 × v_S => (some (.int z.1), z.2)) 52 [(0, .ref (v_E g 0)), (1, .int p1), (4, .int x4)] [] s (v_loop (t_T_row_52B fu p1 p2 p3) n (x4, s)) := by
  intro n
  induction n with
  | zero => exact fun _ _ => v_none
  | succ n ih => exact fun x4 s => w_T_row_52 fu p1 p2 p3 X  _ ih x4 s
theorem m_T_row (l : Launch) (g : v_G) (fu : Nat) (p1 : Int32) (p2 : Int32) (p3 : Int32) (s : v_S) : v_M l yX5_row cX5_row 5 (some .int) rm_T_row wT g [.ref (v_E g 0), .int p1, .int p2, .int p3] s (fun z : Int32 × v_S => (some (.int z.1), z.2)) (t_T_row fu p1 p2 p3 s) := by
  refine v_met (by decide +kernel) (Nat.le_of_ble_eq_true rfl) (fun Γ X => ?_)
  refine v_lv (lv' := [(0, .ref (v_E g 0)), (1, .int p1), (2, .int p2), (3, .int p3)]) rfl ?_
  unfold t_T_row
  refine v_iload_n (pc := 0) X dX5_row_0 1 rfl ?_
  refine v_cSi (pc := 1) X (m_T_isSlot l g fu p1 _) q1934 hy_T_isSlot rfl rfl rfl rfl dX5_row_1 (fun z_1 _ => ?_)
  refine v_if_eq (pc := 4) (tgt := 25) X dX5_row_4 (by decide) (fun c4 => ?_) (fun c4 => ?_)
  · refine v_bipush (pc := 25) (v := -2) X dX5_row_25 rfl ?_
    exact v_iret (pc := 27) X dX5_row_27 rfl
  · refine v_iload_n (pc := 7) X dX5_row_7 2 rfl ?_
    refine v_i2l (pc := 8) X dX5_row_8 ?_
    refine v_lconst (pc := 9) (v := 0) X dX5_row_9 rfl ?_
    refine v_ldc2 (pc := 10) X q1810 dX5_row_10 ?_
    refine v_cSi (pc := 13) X (m_T_in l g fu (Int32.toInt64 p2) (0 : Int64) (3 : Int64) _) q1598 hy_T_in rfl rfl rfl rfl dX5_row_13 (fun z_2 _ => ?_)
    refine v_if_eq (pc := 16) (tgt := 25) X dX5_row_16 (by decide) (fun c16 => ?_) (fun c16 => ?_)
    · refine v_bipush (pc := 25) (v := -2) X dX5_row_25 rfl ?_
      exact v_iret (pc := 27) X dX5_row_27 rfl
    · refine v_iload_n (pc := 19) X dX5_row_19 3 rfl ?_
      refine v_bipush (pc := 20) (v := 60) X dX5_row_20 rfl ?_
      refine v_icmp_le (pc := 22) (tgt := 28) X dX5_row_22 (by decide) (fun c22 => ?_) (fun c22 => ?_)
      · refine v_iload_n (pc := 28) X dX5_row_28 3 rfl ?_
        refine v_if_ge (pc := 29) (tgt := 35) X dX5_row_29 (by decide) (fun c29 => ?_) (fun c29 => ?_)
        · refine v_aload_n (pc := 35) X dX5_row_35 0 rfl ?_
          refine v_get (pc := 36) (kind := 20) (v := .ref (v_E g 17)) X wT_n0 wT_l0 wT_c0 in_X5 (Nat.le_of_ble_eq_true rfl : 36 < 40) q1507 rfl rfl dX5_row_36 ?_
          refine v_iload_n (pc := 39) X dX5_row_39 1 rfl ?_
          refine v_iload_n (pc := 40) X dX5_row_40 3 rfl ?_
          refine v_iast (pc := 41) X wT_n17 wT_l17 dX5_row_41 (fun s_3 => ?_)
          refine v_aload_n (pc := 42) X dX5_row_42 0 rfl ?_
          refine v_get (pc := 43) (kind := 21) (v := .ref (v_E g 18)) X wT_n0 wT_l0 wT_c0 in_X5 (Nat.le_of_ble_eq_true rfl : 37 < 40) q1508 rfl rfl dX5_row_43 ?_
          refine v_iload_n (pc := 46) X dX5_row_46 1 rfl ?_
          refine v_iload_n (pc := 47) X dX5_row_47 2 rfl ?_
          refine v_iast (pc := 48) X wT_n18 wT_l18 dX5_row_48 (fun s_4 => ?_)
          refine v_iconst (pc := 49) (v := 0) X dX5_row_49 rfl ?_
          refine v_istore (pc := 50) (lv' := [(4, .int (0 : Int32)), (0, .ref (v_E g 0)), (1, .int p1), (2, .int p2), (3, .int p3)]) X dX5_row_50 (Nat.le_of_ble_eq_true rfl) rfl ?_
          refine v_sub [1, 2, 0] rfl ?_
          exact w_T_row_52L fu p1 p2 p3 X  fu (0 : Int32) s_4
        · refine v_bipush (pc := 32) (v := -3) X dX5_row_32 rfl ?_
          exact v_iret (pc := 34) X dX5_row_34 rfl
      · refine v_bipush (pc := 25) (v := -2) X dX5_row_25 rfl ?_
        exact v_iret (pc := 27) X dX5_row_27 rfl
/-! FloodLentModel.cut(JI)J -/
abbrev rm_T_cut : Room := { frames := 1, cells := 0, slots := 0, locals := 21 }
theorem hy_T_cut : v_yS yX5_cut cX5_cut 4 (some .long) 2 := ⟨q2103, q141, q2104, by decide +kernel⟩
def t_T_cut (fu : Nat) (p0 : Int64) (p2 : Int32) (s : v_S) : Option Int64 :=
  v_n ((64 : Int32) - ((8 : Int32) <<< (p2 &&& 31))) fun (x3_1 : Int32) => some ((p0 <<< (Int32.toInt64 x3_1 &&& 63)) >>> (Int32.toInt64 x3_1 &&& 63))
theorem m_T_cut (l : Launch) (g : v_G) (fu : Nat) (p0 : Int64) (p2 : Int32) (s : v_S) : v_M l yX5_cut cX5_cut 4 (some .long) rm_T_cut wT g [.long p0, .int p2] s (fun z : Int64 => (some (.long z), s)) (t_T_cut fu p0 p2 s) := by
  refine v_met (by decide +kernel) (Nat.le_of_ble_eq_true rfl) (fun Γ X => ?_)
  refine v_lv (lv' := [(0, .long p0), (2, .int p2)]) rfl ?_
  unfold t_T_cut
  refine v_bipush (pc := 0) (v := 64) X dX5_cut_0 rfl ?_
  refine v_bipush (pc := 2) (v := 8) X dX5_cut_2 rfl ?_
  refine v_iload_n (pc := 4) X dX5_cut_4 1 rfl ?_
  refine v_ishl (pc := 5) X dX5_cut_5 ?_
  refine v_isub (pc := 6) X dX5_cut_6 ?_
  refine v_istore_nN (pc := 7) (lvf := fun x3_1 => [(3, .int x3_1), (0, .long p0), (2, .int p2)]) X dX5_cut_7 rfl (Nat.le_of_ble_eq_true rfl) (fun _ => rfl) (fun x3_1 => ?_)
  refine v_lload_n (pc := 8) X dX5_cut_8 1 rfl ?_
  refine v_iload_n (pc := 9) X dX5_cut_9 0 rfl ?_
  refine v_lshl (pc := 10) X dX5_cut_10 ?_
  refine v_iload_n (pc := 11) X dX5_cut_11 0 rfl ?_
  refine v_lshr (pc := 12) X dX5_cut_12 ?_
  exact v_lret (pc := 13) X dX5_cut_13 rfl
/-! FloodLentModel.write(IIJ)I -/
abbrev rm_T_write : Room := { frames := 3, cells := 0, slots := 0, locals := 66 }
theorem hy_T_write : v_yV yX5_write cX5_write 5 (some .int) 3 := ⟨q2099, q2100, q141, q2101, by decide +kernel⟩
def t_T_write (fu : Nat) (p1 : Int32) (p2 : Int32) (p3 : Int64) (s : v_S) : Option (Int32 × v_S) :=
  v_b1 (t_T_isSlot fu p1 s) fun (z_1 : Int32) => if z_1 = 0 then (some ((-2 : Int32), s)) else (v_g p1 4 <| if s.1 17 (Int32.toNatClampNeg p1) = (-1 : Int32) then (some ((-6 : Int32), s)) else (v_g p1 4 <| v_b1 (t_T_in fu (Int32.toInt64 p2) (0 : Int64) (Int32.toInt64 ((s.1 17 (Int32.toNatClampNeg p1)) - (1 : Int32))) s) fun (z_2 : Int32) => if z_2 = 0 then (some ((-7 : Int32), s)) else (v_g p1 4 <| v_b1 (t_T_cut fu p3 (s.1 18 (Int32.toNatClampNeg p1)) s) fun (z_3 : Int64) => v_g (((60 : Int32) * p1) + p2) 240 <| v_n (v_uL s 19 (Int32.toNatClampNeg (((60 : Int32) * p1) + p2)) z_3) fun (s_4 : v_S) => some ((0 : Int32), s_4))))
theorem m_T_write (l : Launch) (g : v_G) (fu : Nat) (p1 : Int32) (p2 : Int32) (p3 : Int64) (s : v_S) : v_M l yX5_write cX5_write 5 (some .int) rm_T_write wT g [.ref (v_E g 0), .int p1, .int p2, .long p3] s (fun z : Int32 × v_S => (some (.int z.1), z.2)) (t_T_write fu p1 p2 p3 s) := by
  refine v_met (by decide +kernel) (Nat.le_of_ble_eq_true rfl) (fun Γ X => ?_)
  refine v_lv (lv' := [(0, .ref (v_E g 0)), (1, .int p1), (2, .int p2), (3, .long p3)]) rfl ?_
  unfold t_T_write
  refine v_iload_n (pc := 0) X dX5_write_0 1 rfl ?_
  refine v_cSi (pc := 1) X (m_T_isSlot l g fu p1 _) q1934 hy_T_isSlot rfl rfl rfl rfl dX5_write_1 (fun z_1 _ => ?_)
  refine v_if_ne (pc := 4) (tgt := 10) X dX5_write_4 (by decide) (fun c4 => ?_) (fun c4 => ?_)
  · refine v_aload_n (pc := 10) X dX5_write_10 0 rfl ?_
    refine v_get (pc := 11) (kind := 20) (v := .ref (v_E g 17)) X wT_n0 wT_l0 wT_c0 in_X5 (Nat.le_of_ble_eq_true rfl : 36 < 40) q1507 rfl rfl dX5_write_11 ?_
    refine v_iload_n (pc := 14) X dX5_write_14 1 rfl ?_
    refine v_iald (pc := 15) X wT_n17 wT_l17 dX5_write_15 ?_
    refine v_iconst (pc := 16) (v := -1) X dX5_write_16 rfl ?_
    refine v_icmp_ne (pc := 17) (tgt := 23) X dX5_write_17 (by decide) (fun c17 => ?_) (fun c17 => ?_)
    · refine v_iload_n (pc := 23) X dX5_write_23 2 rfl ?_
      refine v_i2l (pc := 24) X dX5_write_24 ?_
      refine v_lconst (pc := 25) (v := 0) X dX5_write_25 rfl ?_
      refine v_aload_n (pc := 26) X dX5_write_26 0 rfl ?_
      refine v_get (pc := 27) (kind := 20) (v := .ref (v_E g 17)) X wT_n0 wT_l0 wT_c0 in_X5 (Nat.le_of_ble_eq_true rfl : 36 < 40) q1507 rfl rfl dX5_write_27 ?_
      refine v_iload_n (pc := 30) X dX5_write_30 1 rfl ?_
      refine v_iald (pc := 31) X wT_n17 wT_l17 dX5_write_31 ?_
      refine v_iconst (pc := 32) (v := 1) X dX5_write_32 rfl ?_
      refine v_isub (pc := 33) X dX5_write_33 ?_
      refine v_i2l (pc := 34) X dX5_write_34 ?_
      refine v_cSi (pc := 35) X (m_T_in l g fu (Int32.toInt64 p2) (0 : Int64) (Int32.toInt64 ((s.1 17 (Int32.toNatClampNeg p1)) - (1 : Int32))) _) q1598 hy_T_in rfl rfl rfl rfl dX5_write_35 (fun z_2 _ => ?_)
      refine v_if_ne (pc := 38) (tgt := 44) X dX5_write_38 (by decide) (fun c38 => ?_) (fun c38 => ?_)
      · refine v_aload_n (pc := 44) X dX5_write_44 0 rfl ?_
        refine v_get (pc := 45) (kind := 22) (v := .ref (v_E g 19)) X wT_n0 wT_l0 wT_c0 in_X5 (Nat.le_of_ble_eq_true rfl : 38 < 40) q1509 rfl rfl dX5_write_45 ?_
        refine v_bipush (pc := 48) (v := 60) X dX5_write_48 rfl ?_
        refine v_iload_n (pc := 50) X dX5_write_50 1 rfl ?_
        refine v_imul (pc := 51) X dX5_write_51 ?_
        refine v_iload_n (pc := 52) X dX5_write_52 2 rfl ?_
        refine v_iadd (pc := 53) X dX5_write_53 ?_
        refine v_lload_n (pc := 54) X dX5_write_54 3 rfl ?_
        refine v_aload_n (pc := 55) X dX5_write_55 0 rfl ?_
        refine v_get (pc := 56) (kind := 21) (v := .ref (v_E g 18)) X wT_n0 wT_l0 wT_c0 in_X5 (Nat.le_of_ble_eq_true rfl : 37 < 40) q1508 rfl rfl dX5_write_56 ?_
        refine v_iload_n (pc := 59) X dX5_write_59 1 rfl ?_
        refine v_iald (pc := 60) X wT_n18 wT_l18 dX5_write_60 ?_
        refine v_cSl (pc := 61) X (m_T_cut l g fu p3 (s.1 18 (Int32.toNatClampNeg p1)) _) q2102 hy_T_cut rfl rfl rfl rfl dX5_write_61 (fun z_3 _ => ?_)
        refine v_last (pc := 64) X wT_n19 wT_l19 dX5_write_64 (fun s_4 => ?_)
        refine v_iconst (pc := 65) (v := 0) X dX5_write_65 rfl ?_
        exact v_iret (pc := 66) X dX5_write_66 rfl
      · refine v_bipush (pc := 41) (v := -7) X dX5_write_41 rfl ?_
        exact v_iret (pc := 43) X dX5_write_43 rfl
    · refine v_bipush (pc := 20) (v := -6) X dX5_write_20 rfl ?_
      exact v_iret (pc := 22) X dX5_write_22 rfl
  · refine v_bipush (pc := 7) (v := -2) X dX5_write_7 rfl ?_
    exact v_iret (pc := 9) X dX5_write_9 rfl
/-! FloodLentModel.paste(IIIII)I -/
abbrev rm_T_paste : Room := { frames := 3, cells := 0, slots := 0, locals := 66 }
theorem hy_T_paste : v_yV yX5_paste cX5_paste 7 (some .int) 5 := ⟨q2106, q2107, q141, q2108, by decide +kernel⟩
def t_T_paste_150 (fu : Nat) (p1 : Int32) (p2 : Int32) (p3 : Int32) (p4 : Int32) (p5 : Int32) (r150 : Int32 × v_S → Option (Int32 × v_S)) (x6 : Int32) (s : v_S) : Option (Int32 × v_S) :=
if p5 ≤ x6 then (some ((0 : Int32), s)) else (v_g x6 60 <| v_g ((((60 : Int32) * p3) + p4) + x6) 240 <| v_n (v_uL s 19 (Int32.toNatClampNeg ((((60 : Int32) * p3) + p4) + x6)) (s.2.1 20 (Int32.toNatClampNeg x6))) fun (s_3 : v_S) => r150 (x6 + (1 : Int32), s_3))
def t_T_paste_150B (fu : Nat) (p1 : Int32) (p2 : Int32) (p3 : Int32) (p4 : Int32) (p5 : Int32) (r150 : Int32 × v_S → Option (Int32 × v_S)) (a : Int32 × v_S) : Option (Int32 × v_S) := t_T_paste_150 fu p1 p2 p3 p4 p5 r150 a.1 a.2
def t_T_paste_113 (fu : Nat) (p1 : Int32) (p2 : Int32) (p3 : Int32) (p4 : Int32) (p5 : Int32) (r113 : Int32 × v_S → Option (Int32 × v_S)) (x6 : Int32) (s : v_S) : Option (Int32 × v_S) :=
if p5 ≤ x6 then (v_loop (t_T_paste_150B fu p1 p2 p3 p4 p5) fu ((0 : Int32), s)) else (v_g ((((60 : Int32) * p1) + p2) + x6) 240 <| v_g x6 60 <| v_n (v_uL s 20 (Int32.toNatClampNeg x6) (s.2.1 19 (Int32.toNatClampNeg ((((60 : Int32) * p1) + p2) + x6)))) fun (s_4 : v_S) => r113 (x6 + (1 : Int32), s_4))
def t_T_paste_113B (fu : Nat) (p1 : Int32) (p2 : Int32) (p3 : Int32) (p4 : Int32) (p5 : Int32) (r113 : Int32 × v_S → Option (Int32 × v_S)) (a : Int32 × v_S) : Option (Int32 × v_S) := t_T_paste_113 fu p1 p2 p3 p4 p5 r113 a.1 a.2
def t_T_paste (fu : Nat) (p1 : Int32) (p2 : Int32) (p3 : Int32) (p4 : Int32) (p5 : Int32) (s : v_S) : Option (Int32 × v_S) :=
  v_b1 (t_T_isSlot fu p1 s) fun (z_1 : Int32) => if z_1 = 0 then (some ((-2 : Int32), s)) else (v_b1 (t_T_isSlot fu p3 s) fun (z_2 : Int32) => if z_2 = 0 then (some ((-2 : Int32), s)) else (v_g p1 4 <| if s.1 17 (Int32.toNatClampNeg p1) = (-1 : Int32) then (some ((-6 : Int32), s)) else (v_g p3 4 <| if s.1 17 (Int32.toNatClampNeg p3) = (-1 : Int32) then (some ((-6 : Int32), s)) else (v_g p1 4 <| v_g p3 4 <| if s.1 18 (Int32.toNatClampNeg p1) = s.1 18 (Int32.toNatClampNeg p3) then (if p2 < 0 then (some ((-7 : Int32), s)) else (if p4 < 0 then (some ((-7 : Int32), s)) else (if p5 < 0 then (some ((-7 : Int32), s)) else (v_g p1 4 <| if (0 : Int32) < lg_cmp ((Int32.toInt64 p2) + (Int32.toInt64 p5)) (Int32.toInt64 (s.1 17 (Int32.toNatClampNeg p1))) then (some ((-7 : Int32), s)) else (v_g p3 4 <| if lg_cmp ((Int32.toInt64 p4) + (Int32.toInt64 p5)) (Int32.toInt64 (s.1 17 (Int32.toNatClampNeg p3))) ≤ 0 then (v_loop (t_T_paste_113B fu p1 p2 p3 p4 p5) fu ((0 : Int32), s)) else (some ((-7 : Int32), s))))))) else (some ((-8 : Int32), s))))))
theorem w_T_paste_150 {Γ : v_Ctx} {l : Launch} {g : v_G} (fu : Nat) (p1 : Int32) (p2 : Int32) (p3 : Int32) (p4 : Int32) (p5 : Int32) (X : v_C Γ l rm_T_paste cX5_paste 7 RX5 (some .int) wT g) (r150 : Int32 × v_S → Option (Int32 × v_S)) (h150 : ∀ (x6 : Int32) (s : v_S), v_V Γ 7 wT g (fun z : Int32 × v_S => (some (.int z.1), z.2)) 150 [(0, .ref (v_E g 0)), (3, .int p3), (4, .int p4), (5, .int p5), (6, .int x6)] [] s (r150 (x6, s))) (x6 : Int32) (s : v_S) : v_V Γ 7 wT g (fun z : Int32 × v_S => (some (.int z.1), z.2)) 150 [(0, .ref (v_E g 0)), (3, .int p3), (4, .int p4), (5, .int p5), (6, .int x6)] [] s (t_T_paste_150 fu p1 p2 p3 p4 p5 r150 x6 s) := by
  unfold t_T_paste_150
  refine v_iload (pc := 150) X dX5_paste_150 4 rfl ?_
  refine v_iload (pc := 152) X dX5_paste_152 3 rfl ?_
  refine v_icmp_ge (pc := 154) (tgt := 185) X dX5_paste_154 (by decide) (fun c154 => ?_) (fun c154 => ?_)
  · refine v_iconst (pc := 185) (v := 0) X dX5_paste_185 rfl ?_
    exact v_iret (pc := 186) X dX5_paste_186 rfl
  · refine v_aload_n (pc := 157) X dX5_paste_157 0 rfl ?_
    refine v_get (pc := 158) (kind := 22) (v := .ref (v_E g 19)) X wT_n0 wT_l0 wT_c0 in_X5 (Nat.le_of_ble_eq_true rfl : 38 < 40) q1509 rfl rfl dX5_paste_158 ?_
    refine v_bipush (pc := 161) (v := 60) X dX5_paste_161 rfl ?_
    refine v_iload_n (pc := 163) X dX5_paste_163 1 rfl ?_
    refine v_imul (pc := 164) X dX5_paste_164 ?_
    refine v_iload (pc := 165) X dX5_paste_165 2 rfl ?_
    refine v_iadd (pc := 167) X dX5_paste_167 ?_
    refine v_iload (pc := 168) X dX5_paste_168 4 rfl ?_
    refine v_iadd (pc := 170) X dX5_paste_170 ?_
    refine v_aload_n (pc := 171) X dX5_paste_171 0 rfl ?_
    refine v_get (pc := 172) (kind := 23) (v := .ref (v_E g 20)) X wT_n0 wT_l0 wT_c0 in_X5 (Nat.le_of_ble_eq_true rfl : 39 < 40) q1510 rfl rfl dX5_paste_172 ?_
    refine v_iload (pc := 175) X dX5_paste_175 4 rfl ?_
    refine v_lald (pc := 177) X wT_n20 wT_l20 dX5_paste_177 ?_
    refine v_last (pc := 178) X wT_n19 wT_l19 dX5_paste_178 (fun s_3 => ?_)
    refine v_iinc (pc := 179) (v := x6 + (1 : Int32)) (lv' := [(6, .int (x6 + (1 : Int32))), (0, .ref (v_E g 0)), (3, .int p3), (4, .int p4), (5, .int p5)]) (k := 4) X dX5_paste_179 rfl rfl (Nat.le_of_ble_eq_true rfl) rfl ?_
    refine v_goto (pc := 182) (tgt := 150) X dX5_paste_182 (by decide) ?_
    refine v_sub [1, 2, 3, 4, 0] rfl ?_
    exact h150 (x6 + (1 : Int32)) s_3
theorem w_T_paste_150L {Γ : v_Ctx} {l : Launch} {g : v_G} (fu : Nat) (p1 : Int32) (p2 : Int32) (p3 : Int32) (p4 : Int32) (p5 : Int32) (X : v_C Γ l rm_T_paste cX5_paste 7 RX5 (some .int) wT g)  : ∀ (n : Nat), ∀ (x6 : Int32) (s : v_S), v_V Γ 7 wT g (fun z : Int32 × v_S => (some (.int z.1), z.2)) 150 [(0, .ref (v_E g 0)), (3, .int p3), (4, .int p4), (5, .int p5), (6, .int x6)] [] s (v_loop (t_T_paste_150B fu p1 p2 p3 p4 p5) n (x6, s)) := by
  intro n
  induction n with
  | zero => exact fun _ _ => v_none
  | succ n ih => exact fun x6 s => w_T_paste_150 fu p1 p2 p3 p4 p5 X  _ ih x6 s
theorem w_T_paste_113 {Γ : v_Ctx} {l : Launch} {g : v_G} (fu : Nat) (p1 : Int32) (p2 : Int32) (p3 : Int32) (p4 : Int32) (p5 : Int32) (X : v_C Γ l rm_T_paste cX5_paste 7 RX5 (some .int) wT g) (r113 : Int32 × v_S → Option (Int32 × v_S)) (h113 : ∀ (x6 : Int32) (s : v_S), v_V Γ 7 wT g (fun z : Int32 × v_S => (some (.int z.1), z.2)) 113 [(0, .ref (v_E g 0)), (1, .int p1), (2, .int p2), (3, .int p3), (4, .int p4), (5, .int p5), (6, .int x6)] [] s (r113 (x6, s))) (x6 : Int32) (s : v_S) : v_V Γ 7 wT g (fun z : Int32 × v_S => (some (.int z.1), z.2)) 113 [(0, .ref (v_E g 0)), (1, .int p1), (2, .int p2), (3, .int p3), (4, .int p4), (5, .int p5), (6, .int x6)] [] s (t_T_paste_113 fu p1 p2 p3 p4 p5 r113 x6 s) := by
  unfold t_T_paste_113
  refine v_iload (pc := 113) X dX5_paste_113 6 rfl ?_
  refine v_iload (pc := 115) X dX5_paste_115 5 rfl ?_
  refine v_icmp_ge (pc := 117) (tgt := 147) X dX5_paste_117 (by decide) (fun c117 => ?_) (fun c117 => ?_)
  · refine v_iconst (pc := 147) (v := 0) X dX5_paste_147 rfl ?_
    refine v_istore (pc := 148) (lv' := [(6, .int (0 : Int32)), (0, .ref (v_E g 0)), (1, .int p1), (2, .int p2), (3, .int p3), (4, .int p4), (5, .int p5)]) X dX5_paste_148 (Nat.le_of_ble_eq_true rfl) rfl ?_
    refine v_sub [1, 4, 5, 6, 0] rfl ?_
    exact w_T_paste_150L fu p1 p2 p3 p4 p5 X  fu (0 : Int32) s
  · refine v_aload_n (pc := 120) X dX5_paste_120 0 rfl ?_
    refine v_get (pc := 121) (kind := 23) (v := .ref (v_E g 20)) X wT_n0 wT_l0 wT_c0 in_X5 (Nat.le_of_ble_eq_true rfl : 39 < 40) q1510 rfl rfl dX5_paste_121 ?_
    refine v_iload (pc := 124) X dX5_paste_124 6 rfl ?_
    refine v_aload_n (pc := 126) X dX5_paste_126 0 rfl ?_
    refine v_get (pc := 127) (kind := 22) (v := .ref (v_E g 19)) X wT_n0 wT_l0 wT_c0 in_X5 (Nat.le_of_ble_eq_true rfl : 38 < 40) q1509 rfl rfl dX5_paste_127 ?_
    refine v_bipush (pc := 130) (v := 60) X dX5_paste_130 rfl ?_
    refine v_iload_n (pc := 132) X dX5_paste_132 1 rfl ?_
    refine v_imul (pc := 133) X dX5_paste_133 ?_
    refine v_iload_n (pc := 134) X dX5_paste_134 2 rfl ?_
    refine v_iadd (pc := 135) X dX5_paste_135 ?_
    refine v_iload (pc := 136) X dX5_paste_136 6 rfl ?_
    refine v_iadd (pc := 138) X dX5_paste_138 ?_
    refine v_lald (pc := 139) X wT_n19 wT_l19 dX5_paste_139 ?_
    refine v_last (pc := 140) X wT_n20 wT_l20 dX5_paste_140 (fun s_4 => ?_)
    refine v_iinc (pc := 141) (v := x6 + (1 : Int32)) (lv' := [(6, .int (x6 + (1 : Int32))), (0, .ref (v_E g 0)), (1, .int p1), (2, .int p2), (3, .int p3), (4, .int p4), (5, .int p5)]) (k := 6) X dX5_paste_141 rfl rfl (Nat.le_of_ble_eq_true rfl) rfl ?_
    refine v_goto (pc := 144) (tgt := 113) X dX5_paste_144 (by decide) ?_
    refine v_sub [1, 2, 3, 4, 5, 6, 0] rfl ?_
    exact h113 (x6 + (1 : Int32)) s_4
theorem w_T_paste_113L {Γ : v_Ctx} {l : Launch} {g : v_G} (fu : Nat) (p1 : Int32) (p2 : Int32) (p3 : Int32) (p4 : Int32) (p5 : Int32) (X : v_C Γ l rm_T_paste cX5_paste 7 RX5 (some .int) wT g)  : ∀ (n : Nat), ∀ (x6 : Int32) (s : v_S), v_V Γ 7 wT g (fun z : Int32 × v_S => (some (.int z.1), z.2)) 113 [(0, .ref (v_E g 0)), (1, .int p1), (2, .int p2), (3, .int p3), (4, .int p4), (5, .int p5), (6, .int x6)] [] s (v_loop (t_T_paste_113B fu p1 p2 p3 p4 p5) n (x6, s)) := by
  intro n
  induction n with
  | zero => exact fun _ _ => v_none
  | succ n ih => exact fun x6 s => w_T_paste_113 fu p1 p2 p3 p4 p5 X  _ ih x6 s
theorem m_T_paste (l : Launch) (g : v_G) (fu : Nat) (p1 : Int32) (p2 : Int32) (p3 : Int32) (p4 : Int32) (p5 : Int32) (s : v_S) : v_M l yX5_paste cX5_paste 7 (some .int) rm_T_paste wT g [.ref (v_E g 0), .int p1, .int p2, .int p3, .int p4, .int p5] s (fun z : Int32 × v_S => (some (.int z.1), z.2)) (t_T_paste fu p1 p2 p3 p4 p5 s) := by
  refine v_met (by decide +kernel) (Nat.le_of_ble_eq_true rfl) (fun Γ X => ?_)
  refine v_lv (lv' := [(0, .ref (v_E g 0)), (1, .int p1), (2, .int p2), (3, .int p3), (4, .int p4), (5, .int p5)]) rfl ?_
  unfold t_T_paste
  refine v_iload_n (pc := 0) X dX5_paste_0 1 rfl ?_
  refine v_cSi (pc := 1) X (m_T_isSlot l g fu p1 _) q1934 hy_T_isSlot rfl rfl rfl rfl dX5_paste_1 (fun z_1 _ => ?_)
  refine v_if_eq (pc := 4) (tgt := 14) X dX5_paste_4 (by decide) (fun c4 => ?_) (fun c4 => ?_)
  · refine v_bipush (pc := 14) (v := -2) X dX5_paste_14 rfl ?_
    exact v_iret (pc := 16) X dX5_paste_16 rfl
  · refine v_iload_n (pc := 7) X dX5_paste_7 3 rfl ?_
    refine v_cSi (pc := 8) X (m_T_isSlot l g fu p3 _) q1934 hy_T_isSlot rfl rfl rfl rfl dX5_paste_8 (fun z_2 _ => ?_)
    refine v_if_ne (pc := 11) (tgt := 17) X dX5_paste_11 (by decide) (fun c11 => ?_) (fun c11 => ?_)
    · refine v_aload_n (pc := 17) X dX5_paste_17 0 rfl ?_
      refine v_get (pc := 18) (kind := 20) (v := .ref (v_E g 17)) X wT_n0 wT_l0 wT_c0 in_X5 (Nat.le_of_ble_eq_true rfl : 36 < 40) q1507 rfl rfl dX5_paste_18 ?_
      refine v_iload_n (pc := 21) X dX5_paste_21 1 rfl ?_
      refine v_iald (pc := 22) X wT_n17 wT_l17 dX5_paste_22 ?_
      refine v_iconst (pc := 23) (v := -1) X dX5_paste_23 rfl ?_
      refine v_icmp_eq (pc := 24) (tgt := 37) X dX5_paste_24 (by decide) (fun c24 => ?_) (fun c24 => ?_)
      · refine v_bipush (pc := 37) (v := -6) X dX5_paste_37 rfl ?_
        exact v_iret (pc := 39) X dX5_paste_39 rfl
      · refine v_aload_n (pc := 27) X dX5_paste_27 0 rfl ?_
        refine v_get (pc := 28) (kind := 20) (v := .ref (v_E g 17)) X wT_n0 wT_l0 wT_c0 in_X5 (Nat.le_of_ble_eq_true rfl : 36 < 40) q1507 rfl rfl dX5_paste_28 ?_
        refine v_iload_n (pc := 31) X dX5_paste_31 3 rfl ?_
        refine v_iald (pc := 32) X wT_n17 wT_l17 dX5_paste_32 ?_
        refine v_iconst (pc := 33) (v := -1) X dX5_paste_33 rfl ?_
        refine v_icmp_ne (pc := 34) (tgt := 40) X dX5_paste_34 (by decide) (fun c34 => ?_) (fun c34 => ?_)
        · refine v_aload_n (pc := 40) X dX5_paste_40 0 rfl ?_
          refine v_get (pc := 41) (kind := 21) (v := .ref (v_E g 18)) X wT_n0 wT_l0 wT_c0 in_X5 (Nat.le_of_ble_eq_true rfl : 37 < 40) q1508 rfl rfl dX5_paste_41 ?_
          refine v_iload_n (pc := 44) X dX5_paste_44 1 rfl ?_
          refine v_iald (pc := 45) X wT_n18 wT_l18 dX5_paste_45 ?_
          refine v_aload_n (pc := 46) X dX5_paste_46 0 rfl ?_
          refine v_get (pc := 47) (kind := 21) (v := .ref (v_E g 18)) X wT_n0 wT_l0 wT_c0 in_X5 (Nat.le_of_ble_eq_true rfl : 37 < 40) q1508 rfl rfl dX5_paste_47 ?_
          refine v_iload_n (pc := 50) X dX5_paste_50 3 rfl ?_
          refine v_iald (pc := 51) X wT_n18 wT_l18 dX5_paste_51 ?_
          refine v_icmp_eq (pc := 52) (tgt := 58) X dX5_paste_52 (by decide) (fun c52 => ?_) (fun c52 => ?_)
          · refine v_iload_n (pc := 58) X dX5_paste_58 2 rfl ?_
            refine v_if_lt (pc := 59) (tgt := 107) X dX5_paste_59 (by decide) (fun c59 => ?_) (fun c59 => ?_)
            · refine v_bipush (pc := 107) (v := -7) X dX5_paste_107 rfl ?_
              exact v_iret (pc := 109) X dX5_paste_109 rfl
            · refine v_iload (pc := 62) X dX5_paste_62 4 rfl ?_
              refine v_if_lt (pc := 64) (tgt := 107) X dX5_paste_64 (by decide) (fun c64 => ?_) (fun c64 => ?_)
              · refine v_bipush (pc := 107) (v := -7) X dX5_paste_107 rfl ?_
                exact v_iret (pc := 109) X dX5_paste_109 rfl
              · refine v_iload (pc := 67) X dX5_paste_67 5 rfl ?_
                refine v_if_lt (pc := 69) (tgt := 107) X dX5_paste_69 (by decide) (fun c69 => ?_) (fun c69 => ?_)
                · refine v_bipush (pc := 107) (v := -7) X dX5_paste_107 rfl ?_
                  exact v_iret (pc := 109) X dX5_paste_109 rfl
                · refine v_iload_n (pc := 72) X dX5_paste_72 2 rfl ?_
                  refine v_i2l (pc := 73) X dX5_paste_73 ?_
                  refine v_iload (pc := 74) X dX5_paste_74 5 rfl ?_
                  refine v_i2l (pc := 76) X dX5_paste_76 ?_
                  refine v_ladd (pc := 77) X dX5_paste_77 ?_
                  refine v_aload_n (pc := 78) X dX5_paste_78 0 rfl ?_
                  refine v_get (pc := 79) (kind := 20) (v := .ref (v_E g 17)) X wT_n0 wT_l0 wT_c0 in_X5 (Nat.le_of_ble_eq_true rfl : 36 < 40) q1507 rfl rfl dX5_paste_79 ?_
                  refine v_iload_n (pc := 82) X dX5_paste_82 1 rfl ?_
                  refine v_iald (pc := 83) X wT_n17 wT_l17 dX5_paste_83 ?_
                  refine v_i2l (pc := 84) X dX5_paste_84 ?_
                  refine v_lcmp (pc := 85) X dX5_paste_85 ?_
                  refine v_if_gt (pc := 86) (tgt := 107) X dX5_paste_86 (by decide) (fun c86 => ?_) (fun c86 => ?_)
                  · refine v_bipush (pc := 107) (v := -7) X dX5_paste_107 rfl ?_
                    exact v_iret (pc := 109) X dX5_paste_109 rfl
                  · refine v_iload (pc := 89) X dX5_paste_89 4 rfl ?_
                    refine v_i2l (pc := 91) X dX5_paste_91 ?_
                    refine v_iload (pc := 92) X dX5_paste_92 5 rfl ?_
                    refine v_i2l (pc := 94) X dX5_paste_94 ?_
                    refine v_ladd (pc := 95) X dX5_paste_95 ?_
                    refine v_aload_n (pc := 96) X dX5_paste_96 0 rfl ?_
                    refine v_get (pc := 97) (kind := 20) (v := .ref (v_E g 17)) X wT_n0 wT_l0 wT_c0 in_X5 (Nat.le_of_ble_eq_true rfl : 36 < 40) q1507 rfl rfl dX5_paste_97 ?_
                    refine v_iload_n (pc := 100) X dX5_paste_100 3 rfl ?_
                    refine v_iald (pc := 101) X wT_n17 wT_l17 dX5_paste_101 ?_
                    refine v_i2l (pc := 102) X dX5_paste_102 ?_
                    refine v_lcmp (pc := 103) X dX5_paste_103 ?_
                    refine v_if_le (pc := 104) (tgt := 110) X dX5_paste_104 (by decide) (fun c104 => ?_) (fun c104 => ?_)
                    · refine v_iconst (pc := 110) (v := 0) X dX5_paste_110 rfl ?_
                      refine v_istore (pc := 111) (lv' := [(6, .int (0 : Int32)), (0, .ref (v_E g 0)), (1, .int p1), (2, .int p2), (3, .int p3), (4, .int p4), (5, .int p5)]) X dX5_paste_111 (Nat.le_of_ble_eq_true rfl) rfl ?_
                      refine v_sub [1, 2, 3, 4, 5, 6, 0] rfl ?_
                      exact w_T_paste_113L fu p1 p2 p3 p4 p5 X  fu (0 : Int32) s
                    · refine v_bipush (pc := 107) (v := -7) X dX5_paste_107 rfl ?_
                      exact v_iret (pc := 109) X dX5_paste_109 rfl
          · refine v_bipush (pc := 55) (v := -8) X dX5_paste_55 rfl ?_
            exact v_iret (pc := 57) X dX5_paste_57 rfl
        · refine v_bipush (pc := 37) (v := -6) X dX5_paste_37 rfl ?_
          exact v_iret (pc := 39) X dX5_paste_39 rfl
    · refine v_bipush (pc := 14) (v := -2) X dX5_paste_14 rfl ?_
      exact v_iret (pc := 16) X dX5_paste_16 rfl
