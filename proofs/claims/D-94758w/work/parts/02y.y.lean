/-! THE LAYER x_, second part: returns, calls, new cells, stores into cells without number -/
section Y
variable {ρ : Type} {Γ : v_Ctx} {l0 : Launch} {R0 : Room} {cc : ByteArray} {nL : Nat} {own : String} {ret : Option FieldType} {w : v_Wd} {g : v_G} {mc ms k9 n9 : Nat} {toR : ρ → Option Value × v_S} {pc : Nat} {lv lv' : List (Nat × Value)} {st : List Value} {σ : v_S} {mdl : x_M ρ}
theorem x_wd {k n : Nat} (h1 : k9 ≤ k) (h2 : n9 ≤ n) (kk : x_V Γ nL w g mc ms toR k n pc lv st σ mdl) : x_V Γ nL w g mc ms toR k9 n9 pc lv st σ mdl :=
  fun P E hx ls H locs a1 a2 a3 T hT X => kk P E hx ls H locs a1 a2 a3 T hT (stand_widen X h1 h2)
theorem x_iret {z : Int32} {y : ρ} (X : v_C Γ l0 R0 cc nL own (some .int) w g) (hk : k9 ≤ mc) (hn : n9 ≤ ms) (hd : decode cc pc = .ok (.ireturn, 1)) (hy : toR y = (some (.int z), σ)) : x_V Γ nL w g mc ms toR k9 n9 pc lv [.int z] σ (x_ret y) := by
  refine x_wd hk hn fun P E hx ls H locs h1 h2 h3 => vx_ret ?_
  exact W.iret X.1 X.2.1 X.2.2.2.2.2.1 (fun t ht hW => ⟨y, hx, by rw [hy], by rw [hy, ht]; exact h2, h3.F ht⟩) h3.2.2 hd X.2.2.2.2.2.2.1
theorem x_lret {z : Int64} {y : ρ} (X : v_C Γ l0 R0 cc nL own (some .long) w g) (hk : k9 ≤ mc) (hn : n9 ≤ ms) (hd : decode cc pc = .ok (.lreturn, 1)) (hy : toR y = (some (.long z), σ)) : x_V Γ nL w g mc ms toR k9 n9 pc lv [.long z] σ (x_ret y) := by
  refine x_wd hk hn fun P E hx ls H locs h1 h2 h3 => vx_ret ?_
  exact W.lret X.1 X.2.1 X.2.2.2.2.2.1 (fun t ht hW => ⟨y, hx, by rw [hy], by rw [hy, ht]; exact h2, h3.F ht⟩) h3.2.2 hd X.2.2.2.2.2.2.1
theorem x_zret {z : Int32} {y : ρ} (X : v_C Γ l0 R0 cc nL own (some .boolean) w g) (hk : k9 ≤ mc) (hn : n9 ≤ ms) (hd : decode cc pc = .ok (.ireturn, 1)) (hz : narrow .boolean (.int z) = .int z) (hy : toR y = (some (.int z), σ)) : x_V Γ nL w g mc ms toR k9 n9 pc lv [.int z] σ (x_ret y) := by
  refine x_wd hk hn fun P E hx ls H locs h1 h2 h3 => vx_ret ?_
  exact W.zret X.1 X.2.1 X.2.2.2.2.2.1 hz (fun t ht hW => ⟨y, hx, by rw [hy], by rw [hy, ht]; exact h2, h3.F ht⟩) h3.2.2 hd X.2.2.2.2.2.2.1
theorem x_zretG {z : Int32} {y : ρ} (X : v_C Γ l0 R0 cc nL own (some .boolean) w g) (hk : k9 ≤ mc) (hn : n9 ≤ ms) (hd : decode cc pc = .ok (.ireturn, 1)) (hy : toR y = (some (.int z), σ)) : x_V Γ nL w g mc ms toR k9 n9 pc lv [.int z] σ (if z = 0 ∨ z = 1 then x_ret y else x_no) := by
  by_cases q : z = 0 ∨ z = 1
  · rw [if_pos q]
    refine x_zret X hk hn hd ?_ hy
    rcases q with rfl | rfl <;> rfl
  · rw [if_neg q]
    exact x_none
theorem x_vret {y : ρ} (X : v_C Γ l0 R0 cc nL own none w g) (hk : k9 ≤ mc) (hn : n9 ≤ ms) (hd : decode cc pc = .ok (.return_, 1)) (hy : toR y = (none, σ)) : x_V Γ nL w g mc ms toR k9 n9 pc lv [] σ (x_ret y) := by
  refine x_wd hk hn fun P E hx ls H locs h1 h2 h3 => vx_ret ?_
  exact W.vret X.1 X.2.1 X.2.2.2.2.2.1 (fun t ht hW => ⟨y, hx, by rw [hy], by rw [hy, ht]; exact h2, h3.F ht⟩) h3.2.2 hd X.2.2.2.2.2.2.1
theorem x_aret {C : String} {z : Nat} {y : ρ} (X : v_C Γ l0 R0 cc nL own (some (.object C)) w g) (hk : k9 ≤ mc) (hn : n9 ≤ ms) (hd : decode cc pc = .ok (.areturn, 1)) (hy : toR y = (some (.ref z), σ)) : x_V Γ nL w g mc ms toR k9 n9 pc lv [.ref z] σ (x_ret y) := by
  refine x_wd hk hn fun P E hx ls H locs h1 h2 h3 => vx_ret ?_
  exact W.aret X.1 X.2.1 X.2.2.2.2.2.1 (Or.inl ⟨C, rfl⟩) (Or.inr ⟨z, rfl⟩) (fun t ht hW => ⟨y, hx, by rw [hy], by rw [hy, ht]; exact h2, h3.F ht⟩) h3.2.2 hd X.2.2.2.2.2.2.1
theorem x_aretA {ty : FieldType} {z : Nat} {y : ρ} (X : v_C Γ l0 R0 cc nL own (some (.array ty)) w g) (hk : k9 ≤ mc) (hn : n9 ≤ ms) (hd : decode cc pc = .ok (.areturn, 1)) (hy : toR y = (some (.ref z), σ)) : x_V Γ nL w g mc ms toR k9 n9 pc lv [.ref z] σ (x_ret y) := by
  refine x_wd hk hn fun P E hx ls H locs h1 h2 h3 => vx_ret ?_
  exact W.aret X.1 X.2.1 X.2.2.2.2.2.1 (Or.inr ⟨ty, rfl⟩) (Or.inr ⟨z, rfl⟩) (fun t ht hW => ⟨y, hx, by rw [hy], by rw [hy, ht]; exact h2, h3.F ht⟩) h3.2.2 hd X.2.2.2.2.2.2.1
theorem x_aretq {C : String} {z : Option Nat} {y : ρ} (X : v_C Γ l0 R0 cc nL own (some (.object C)) w g) (hk : k9 ≤ mc) (hn : n9 ≤ ms) (hd : decode cc pc = .ok (.areturn, 1)) (hy : toR y = (some (va_rf z), σ)) : x_V Γ nL w g mc ms toR k9 n9 pc lv [va_rf z] σ (x_ret y) := by
  refine x_wd hk hn fun P E hx ls H locs h1 h2 h3 => vx_ret ?_
  exact W.aret X.1 X.2.1 X.2.2.2.2.2.1 (Or.inl ⟨C, rfl⟩) (by cases z with | none => exact Or.inl rfl | some a => exact Or.inr ⟨a, rfl⟩) (fun t ht hW => ⟨y, hx, by rw [hy], by rw [hy, ht]; exact h2, h3.F ht⟩) h3.2.2 hd X.2.2.2.2.2.2.1
/-- what may stand behind a throw: handed on to the caller -/
def x_VX (Γ : v_Ctx) (nL : Nat) (w : v_Wd) (g : v_G) (mc ms : Nat) (toR : ρ → Option Value × v_S) (k9 n9 : Nat) (pc : Nat) (lv : List (Nat × Value)) (C : String) (q : Nat) (σ : v_S) (mdl : x_M ρ) : Prop :=
  ∀ P E, mdl P E → ∀ (ls : Array Slot) (H : Heap) (locs : List Loc) (rest : List Value) (ce : Cell), lv_has ls nL lv → v_I w g σ H → va_S (v_A g) (v_s Γ).heap H locs → H[q]? = some ce → ce.vm = .none → (v_s Γ).vm.findClass C = some ce.cls →
    vx_W (v_p Γ) (v_l Γ) (v_e Γ) (v_R Γ) (v_s Γ) (v_m Γ) (v_a Γ) (v_b Γ) (v_me Γ) (v_c Γ) H locs k9 n9 (vx_MQ (v_b Γ) (x_Q w g toR P) (x_XC w g E) (v_a Γ) (v_s Γ) mc ms (v_A g)) (F0 (v_m Γ) pc ls rest) q
/-- no row of the method's table covers pc -/
theorem x_out {C : String} {q : Nat} (X : v_C Γ l0 R0 cc nL own ret w g) (hout : ∀ x ∈ (v_c Γ).exceptionTable.toList, covers x pc = false) (hk : k9 ≤ mc) (hn : n9 ≤ ms) : x_VX Γ nL w g mc ms toR k9 n9 pc lv C q σ (x_thr C q σ) :=
  fun P E hx ls H locs rest ce h1 h2 h3 hc hv hcl => vx_out hout X.2.2.2.2.2.2.1 hc hv hcl (fun t ht hW => ⟨σ, hx, by rw [ht]; exact h2, h3.F ht⟩) h3.2.2 hk hn
theorem x_nohh (h : (v_c Γ).exceptionTable.toList = []) : ∀ x ∈ (v_c Γ).exceptionTable.toList, covers x pc = false := fun x hx => by rw [h] at hx; cases hx
/-- behind a throw that the row of the method's table catches -/
theorem x_catch {C name : String} {q : Nat} (X : v_C Γ l0 R0 cc nL own ret w g) (pre : List ExceptionTableEntry) (x : ExceptionTableEntry) (suf : List ExceptionTableEntry) (hsplit : (v_c Γ).exceptionTable.toList = pre ++ x :: suf)
    (hpass : ∀ z ∈ pre, covers z pc = false ∨ (z.catchType ≠ 0 ∧ ∃ nm : String, Cond.classLink own z.catchType nm ∈ lw_all ∧ va_Nc C nm (v_s Γ))) (hx : covers x pc = true) (h0 : x.catchType ≠ 0) (hlink : Cond.classLink own x.catchType name ∈ lw_all) (hcast : Cond.castable C name ∈ lw_all)
    (kk : x_V Γ nL w g mc ms toR k9 n9 x.handlerPc lv [.ref q] σ mdl) : x_VX Γ nL w g mc ms toR k9 n9 pc lv C q σ mdl :=
  fun P E hm ls H locs rest ce h1 h2 h3 hc hv hcl => vx_catch X.2.2.2.1 pre x suf hsplit (fun z hz => (hpass z hz).elim Or.inl fun h => Or.inr ⟨h.1, h.2.elim fun nm h2 => ⟨nm, X.2.2.2.2.1 _ h2.1, h2.2⟩⟩) hx h0 (X.2.2.2.2.1 _ hlink) (X.2.2.2.2.1 _ hcast) hc hv hcl (kk P E hm ls H locs h1 h2 h3)
theorem x_athrow {C : String} {q : Nat} (X : v_C Γ l0 R0 cc nL own ret w g) (hd : decode cc pc = .ok (.athrow, 1)) (hc : v_rc Γ w g σ q C) (hv : ∀ (H : Heap) (ce : Cell), v_I w g σ H → H[q]? = some ce → ce.vm = .none) (kk : x_VX Γ nL w g mc ms toR k9 n9 pc lv C q σ mdl) : x_V Γ nL w g mc ms toR k9 n9 pc lv (.ref q :: st) σ mdl := by
  intro P E hx ls H locs h1 h2 h3
  obtain ⟨ce, hce, -, hcl⟩ := hc H locs h2 h3
  exact vx_athrow X.1 X.2.1 hd (kk P E hx ls H locs st ce h1 h2 h3 hce (hv H ce h2 hce) hcl)
/-! calls of methods whose model is an Option -/
theorem x_run {α : Type} {as : List Value} {toR' : α → Option Value × v_S} {ls : Array Slot} {H : Heap} {locs : List Loc} {rest : List Value} {Q : State → Prop} {z : α} {st0 : List Value}
    (h3 : va_S (v_A g) (v_s Γ).heap H locs) (run : va_Run (v_p Γ) (v_l Γ) (v_e Γ) (v_R Γ) (v_s Γ) (v_m Γ) (v_a Γ) (v_b Γ) (v_me Γ) (v_c Γ) H locs k9 n9 0 0 (F0 (v_m Γ) pc ls st0) rest (v_Q w g (toR' z) as.toArray) (v_A g))
    (kk : ∀ (H1 : Heap) (locs1 : List Loc), v_I w g (toR' z).2 H1 → va_S (v_A g) (v_s Γ).heap H1 locs1 → v_W Γ H1 locs1 k9 n9 Q (F0 (v_m Γ) (pc + 3) ls ((toR' z).1.toList ++ rest))) : v_W Γ H locs k9 n9 Q (F0 (v_m Γ) pc ls st0) := by
  intro T hT Y
  obtain ⟨v, st₀, t, T', L, e0, Y', hL, e1, e2, ⟨hv, hI, hz, hk⟩, st1⟩ := run T hT Y
  have hv : v = (toR' z).1 := by injection hv
  subst hv
  rw [e0] at hz hk
  obtain ⟨t2, a1, b1⟩ := kk T'.heap (locs ++ L) (by rw [e1]; exact hI) ⟨Nat.le_trans h3.1 (by rw [e1]; exact hz), fun q g1 g2 => by rw [e1, hk q (Nat.lt_of_lt_of_le g1 h3.1) g2]; exact h3.2.1 q g1 g2, fun q hq => by
      rcases List.mem_append.mp hq with h | h
      · exact h3.2.2 q h
      · exact hL q h⟩ T' rfl Y'
  exact ⟨t2, st1 t2 a1, b1⟩
def x_rm (rm R0 : Room) (maxL : Nat) (mc' ms' : Nat) : Bool := rm.cells == mc' && (rm.slots == ms' && (Nat.ble (rm.frames + 1) R0.frames && Nat.ble (8 + (maxL + 11) + rm.locals) R0.locals))
theorem x_callG {α : Type} {y : MethodName} {bytes : ByteArray} {maxL index : Nat} {ret' : Option FieldType} {rm : Room} {b np : Nat} {As rest st0 : List Value} {toR' : α → Option Value × v_S} {f : Option α} {k : α → x_M ρ} (X : v_C Γ l0 R0 cc nL own ret w g)
    (hM : v_M l0 y bytes maxL ret' rm w g (.ref b :: As) σ toR' f) (ho : v_rc Γ w g σ b y.cls) (hq : Cond.methodLink own index y ∈ lw_all ∨ ∃ host, Cond.methodLinkNest own index y host ∈ lw_tbl) (hy : v_yV y bytes maxL ret' np)
    (hnp : As.length = np) (hrm : v_rm rm R0 maxL = true) (hkR : k9 ≤ R0.cells ∧ n9 ≤ R0.slots) (hst : st0 = As.reverse ++ .ref b :: rest) (hroom : Nat.ble ((rest.map fun v => v.category).sum) 8 = true) (hd : decode cc pc = .ok (.invokevirtual index, 3))
    (kk : ∀ z, f = some z → x_V Γ nL w g mc ms toR k9 n9 (pc + 3) lv ((toR' z).1.toList ++ rest) (toR' z).2 (k z)) : x_V Γ nL w g mc ms toR k9 n9 pc lv st0 σ (x_b1 f k) := by
  intro P E hx ls H locs h1 h2 h3
  obtain ⟨z, hz, hx⟩ := hx
  obtain ⟨a1, a2, a3, a4, a5⟩ := hy
  simp only [v_rm, Bool.and_eq_true, beq_iff_eq, Nat.ble_eq] at hrm
  obtain ⟨r1, r2, r3, r4⟩ := hrm
  have hM' := hM z hz
  rw [← X.2.2.2.2.2.2.2.2.2.2.1] at hM'
  have hf : k9 + 0 ≤ (v_R Γ).cells ∧ n9 + 0 ≤ (v_R Γ).slots := by rw [X.2.2.2.2.2.2.2.2.2.2.2]; exact hkR
  have run : va_Run (v_p Γ) (v_l Γ) (v_e Γ) (v_R Γ) (v_s Γ) (v_m Γ) (v_a Γ) (v_b Γ) (v_me Γ) (v_c Γ) H locs k9 n9 0 0 (F0 (v_m Γ) pc ls st0) rest (v_Q w g (toR' z) (Value.ref b :: As).toArray) (v_A g) := by
    rcases hq with q1 | ⟨host, q1⟩
    · have cw : CallW (v_R Γ) (v_s Γ) (v_a Γ) own y.cls index y bytes maxL ret' (ws_ y bytes maxL ret') rm 0 0 np := cwV np X.2.2.2.2.1 (lw_V q1 a1 a2 a3 a4) rfl r1 r2 ⟨rfl, a5⟩ ⟨by rw [X.2.2.2.2.2.2.2.2.2.2.2]; exact r3, by rw [X.2.2.2.2.2.2.2.2.2.2.2]; exact r4⟩
      exact va_runV (p := v_p Γ) (e := v_e Γ) (below := v_b Γ) (meth := v_me Γ) (m := v_m Γ) (c := v_c Γ) (g := F0 (v_m Γ) pc ls st0) (rest := rest) (As := As) (locs := locs) (cells := k9) (slots := n9) ⟨X.1, X.2.1, X.2.2.1, X.2.2.2.1, X.2.2.2.2.1⟩ hM' cw ⟨v_P.blind, ho H locs h2 h3, fun U hU hW => ⟨rfl, v_pre X h2 h3 U hU hW⟩⟩ rfl hnp h1.1 hst (lv_room (Nat.le_of_ble_eq_true hroom)) hd hf
    · have cw := va_cnB (R := v_R Γ) (s := v_s Γ) (args := v_a Γ) (own := own) (index := index) (rm := rm) (host := host) np X.2.2.2.2.1 (lw_meth a4) rfl r1 r2 (X.2.2.2.2.2.2.2.2.2.1.nestM q1) (X.2.2.2.2.1 _ a3) a5 ⟨by rw [X.2.2.2.2.2.2.2.2.2.2.2]; exact r3, by rw [X.2.2.2.2.2.2.2.2.2.2.2]; exact r4⟩
      exact va_runVN (p := v_p Γ) (e := v_e Γ) (below := v_b Γ) (meth := v_me Γ) (m := v_m Γ) (c := v_c Γ) (g := F0 (v_m Γ) pc ls st0) (rest := rest) (As := As) (locs := locs) (cells := k9) (slots := n9) (C := y.cls) ⟨X.1, X.2.1, X.2.2.1, X.2.2.2.1, X.2.2.2.2.1⟩ hM' ⟨cw, X.2.2.2.2.1 _ a1, X.2.2.2.2.1 _ a2⟩ ⟨v_P.blind, ho H locs h2 h3, fun U hU hW => ⟨rfl, v_pre X h2 h3 U hU hW⟩⟩ rfl hnp h1.1 hst (lv_room (Nat.le_of_ble_eq_true hroom)) hd hf
  exact x_run (as := .ref b :: As) h3 run fun H1 locs1 hI hS => kk z hz P E hx ls H1 locs1 h1 hI hS
/-- a static call; its name resolved in the own class, or in a nest mate's -/
theorem x_callS {α : Type} {y : MethodName} {bytes : ByteArray} {maxL index : Nat} {ret' : Option FieldType} {rm : Room} {np : Nat} {As rest st0 : List Value} {toR' : α → Option Value × v_S} {f : Option α} {k : α → x_M ρ} (X : v_C Γ l0 R0 cc nL own ret w g)
    (hM : v_M l0 y bytes maxL ret' rm w g As σ toR' f) (hq : Cond.methodLink own index y ∈ lw_all ∨ ∃ host, Cond.methodLinkNest own index y host ∈ lw_tbl) (hy : v_yS y bytes maxL ret' np)
    (hnp : As.length = np) (hrm : v_rm rm R0 maxL = true) (hkR : k9 ≤ R0.cells ∧ n9 ≤ R0.slots) (hst : st0 = As.reverse ++ rest) (hroom : Nat.ble ((rest.map fun v => v.category).sum) 8 = true) (hd : decode cc pc = .ok (.invokestatic index, 3))
    (kk : ∀ z, f = some z → x_V Γ nL w g mc ms toR k9 n9 (pc + 3) lv ((toR' z).1.toList ++ rest) (toR' z).2 (k z)) : x_V Γ nL w g mc ms toR k9 n9 pc lv st0 σ (x_b1 f k) := by
  intro P E hx ls H locs h1 h2 h3
  obtain ⟨z, hz, hx⟩ := hx
  obtain ⟨a2, a3, a4, a5⟩ := hy
  simp only [v_rm, Bool.and_eq_true, beq_iff_eq, Nat.ble_eq] at hrm
  obtain ⟨r1, r2, r3, r4⟩ := hrm
  have hM' := hM z hz
  rw [← X.2.2.2.2.2.2.2.2.2.2.1] at hM'
  have hf : k9 + 0 ≤ (v_R Γ).cells ∧ n9 + 0 ≤ (v_R Γ).slots := by rw [X.2.2.2.2.2.2.2.2.2.2.2]; exact hkR
  have run : va_Run (v_p Γ) (v_l Γ) (v_e Γ) (v_R Γ) (v_s Γ) (v_m Γ) (v_a Γ) (v_b Γ) (v_me Γ) (v_c Γ) H locs k9 n9 0 0 (F0 (v_m Γ) pc ls st0) rest (v_Q w g (toR' z) As.toArray) (v_A g) := by
    rcases hq with q1 | ⟨host, q1⟩
    · have cw := va_cwS (R := v_R Γ) (s := v_s Γ) (args := v_a Γ) (own := own) (index := index) (rm := rm) np X.2.2.2.2.1 (lw_S q1 a2 a3 a4) rfl r1 r2 a5 ⟨by rw [X.2.2.2.2.2.2.2.2.2.2.2]; exact r3, by rw [X.2.2.2.2.2.2.2.2.2.2.2]; exact r4⟩
      exact va_runS (p := v_p Γ) (e := v_e Γ) (below := v_b Γ) (meth := v_me Γ) (m := v_m Γ) (c := v_c Γ) (g := F0 (v_m Γ) pc ls st0) (rest := rest) (As := As) (locs := locs) (cells := k9) (slots := n9) ⟨X.1, X.2.1, X.2.2.1, X.2.2.2.1, X.2.2.2.2.1⟩ hM' cw ⟨v_P.blind, fun U hU hW => ⟨rfl, v_pre X h2 h3 U hU hW⟩⟩ rfl hnp h1.1 hst (lv_room (Nat.le_of_ble_eq_true hroom)) hd hf
    · have cw := va_cnB (R := v_R Γ) (s := v_s Γ) (args := v_a Γ) (own := own) (index := index) (rm := rm) (host := host) np X.2.2.2.2.1 (lw_meth a4) rfl r1 r2 (X.2.2.2.2.2.2.2.2.2.1.nestM q1) (X.2.2.2.2.1 _ a3) a5 ⟨by rw [X.2.2.2.2.2.2.2.2.2.2.2]; exact r3, by rw [X.2.2.2.2.2.2.2.2.2.2.2]; exact r4⟩
      exact va_runSN (p := v_p Γ) (e := v_e Γ) (below := v_b Γ) (meth := v_me Γ) (m := v_m Γ) (c := v_c Γ) (g := F0 (v_m Γ) pc ls st0) (rest := rest) (As := As) (locs := locs) (cells := k9) (slots := n9) ⟨X.1, X.2.1, X.2.2.1, X.2.2.2.1, X.2.2.2.2.1⟩ hM' ⟨cw, X.2.2.2.2.1 _ a2, trivial⟩ ⟨v_P.blind, fun U hU hW => ⟨rfl, v_pre X h2 h3 U hU hW⟩⟩ rfl hnp h1.1 hst (lv_room (Nat.le_of_ble_eq_true hroom)) hd hf
  exact x_run (as := As) h3 run fun H1 locs1 hI hS => kk z hz P E hx ls H1 locs1 h1 hI hS
/-! calls of methods of this layer -/
theorem x_P.blind {as : List Value} : FrameBlind (va_Pc as (v_P w g σ)) := v_P.blind
/-- behind a call that returns or throws -/
theorem x_runX {α : Type} {as : List Value} {toR' : α → Option Value × v_S} {P' : α → Prop} {E' : x_E → Prop} {mc' ms' : Nat} {ls : Array Slot} {H : Heap} {locs : List Loc} {rest : List Value} {Q : State → Prop} {st0 : List Value}
    (h3 : va_S (v_A g) (v_s Γ).heap H locs) (run : vx_Run (v_p Γ) (v_l Γ) (v_e Γ) (v_R Γ) (v_s Γ) (v_m Γ) (v_a Γ) (v_b Γ) (v_me Γ) (v_c Γ) H locs k9 n9 mc' ms' (F0 (v_m Γ) pc ls st0) rest (x_Q w g toR' P' as.toArray) (x_XC w g E') (v_A g))
    (kx : ∀ (C : String) (q : Nat) (σ1 : v_S) (ce : Cell) (H1 : Heap) (locs1 : List Loc), E' (C, q, σ1) → v_I w g σ1 H1 → va_S (v_A g) (v_s Γ).heap H1 locs1 → H1[q]? = some ce → ce.vm = .none → (v_s Γ).vm.findClass C = some ce.cls → vx_W (v_p Γ) (v_l Γ) (v_e Γ) (v_R Γ) (v_s Γ) (v_m Γ) (v_a Γ) (v_b Γ) (v_me Γ) (v_c Γ) H1 locs1 (k9 + mc') (n9 + ms') Q (F0 (v_m Γ) pc ls rest) q)
    (kk : ∀ (z : α) (H1 : Heap) (locs1 : List Loc), P' z → v_I w g (toR' z).2 H1 → va_S (v_A g) (v_s Γ).heap H1 locs1 → v_W Γ H1 locs1 (k9 + mc') (n9 + ms') Q (F0 (v_m Γ) (pc + 3) ls ((toR' z).1.toList ++ rest))) : v_W Γ H locs k9 n9 Q (F0 (v_m Γ) pc ls st0) := by
  intro T hT Y
  have keep : ∀ (st₀ t T' : State) (L : List Loc), st₀.heap = H → T'.heap = t.heap → (∀ q ∈ L, v_A g q.base) → va_F (v_A g) st₀ t → va_S (v_A g) (v_s Γ).heap T'.heap (locs ++ L) := by
    intro st₀ t T' L e0 e1 hL ⟨hz, hk⟩
    rw [e0] at hz hk
    exact ⟨Nat.le_trans h3.1 (by rw [e1]; exact hz), fun q g1 g2 => by rw [e1, hk q (Nat.lt_of_lt_of_le g1 h3.1) g2]; exact h3.2.1 q g1 g2, fun q hq => by
      rcases List.mem_append.mp hq with h | h
      · exact h3.2.2 q h
      · exact hL q h⟩
  rcases run T hT Y with ⟨v, st₀, t, T', L, e0, Y', hL, e1, e2, ⟨z, hp, hv, hI, hF⟩, st1⟩ | ⟨q, st₀, t, T', L, C, ce, e0, Y', hL, e1, e2, ⟨σ1, hE, hI, hF⟩, hce, hcv, hcl, st1⟩
  · have hv : v = (toR' z).1 := by injection hv
    subst hv
    obtain ⟨t2, a1, b1⟩ := kk z T'.heap (locs ++ L) hp (by rw [e1]; exact hI) (keep st₀ t T' L e0 e1 hL hF) T' rfl Y'
    exact ⟨t2, st1 t2 a1, b1⟩
  · obtain ⟨t2, a1, b1⟩ := kx C q σ1 ce T'.heap (locs ++ L) hE (by rw [e1]; exact hI) (keep st₀ t T' L e0 e1 hL hF) (by rw [e1]; exact hce) hcv hcl T' rfl Y'
    exact ⟨t2, st1.trans a1, b1⟩

end Y
