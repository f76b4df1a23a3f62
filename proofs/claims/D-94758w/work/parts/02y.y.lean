/-! THE LAYER x_, second part: returns, calls, new cells, stores into cells without number -/
section Y
variable {ρ : Type} {Γ : v_Ctx} {l0 : Launch} {R0 : Room} {cc : ByteArray} {nL : Nat} {own : String} {ret : Option FieldType} {w : v_Wd} {g : v_G} {mc ms k9 n9 : Nat} {toR : ρ → Option Value × v_S} {pc : Nat} {lv lv' : List (Nat × Value)} {st : List Value} {σ : v_S} {mdl : x_M ρ}
theorem x_wd {k n : Nat} (h1 : k9 ≤ k) (h2 : n9 ≤ n) (kk : x_V Γ nL w g mc ms toR k n pc lv st σ mdl) : x_V Γ nL w g mc ms toR k9 n9 pc lv st σ mdl :=
  fun P E hx ls H locs a1 a2 a3 T hT X => kk P E hx ls H locs a1 a2 a3 T hT (stand_widen X h1 h2)
theorem x_iret {z : Int32} {y : ρ} (X : v_C Γ l0 R0 cc nL own (some .int) w g) (hk : k9 ≤ mc) (hn : n9 ≤ ms) (hd : decode cc pc = .ok (.ireturn, 1)) (hy : toR y = (some (.int z), σ)) : x_V Γ nL w g mc ms toR k9 n9 pc lv [.int z] σ (x_ret y) := by
  refine x_wd hk hn fun P E hx ls H locs h1 h2 h3 => vx_ret ?_
  exact W.iret X.1 X.2.1 X.2.2.2.2.2.1 (fun t ht hW => ⟨y, hx, by rw [hy], by rw [hy, ht]; exact h2, h3.F ht⟩) h3.2.2 hd X.2.2.2.2.2.2.1
theorem x_lret {z : Int64} {y : ρ} (X : v_C Γ l0 R0 cc nL own (some .long) w g) (hk : k9 ≤ mc) (hn : n9 ≤ ms) (hd : decode cc pc = .ok (.lreturn, 1)) (hy : toR y = (some (.long z), σ)) : x_V Γ nL w g mc ms toR k9 n9 pc lv [.long z] σ (x_ret y) := by
  refine x_wd hk hn fun P E hx ls H locs h1 h2 h3 => vx_ret ?_
  exact W.lret X.1 X.2.1 X.2.2.2.2.2.1 (fun t ht hW => ⟨y, hx, by rw [hy], by rw [hy, ht]; exact h2, h3.F ht⟩) h3.2.2 hd X.2.2.2.2.2.2.1
theorem x_zret {z : Int32} {y : ρ} (X : v_C Γ l0 R0 cc nL own (some .boolean) w g) (hk : k9 ≤ mc) (hn : n9 ≤ ms) (hd : decode cc pc = .ok (.ireturn, 1)) (hz : narrow .boolean (.int z) = .int z) (hy : toR y = (some (.int z), σ)) : x_V Γ nL w g mc ms toR k9 n9 pc lv [.int z] σ (x_ret y) := by
  refine x_wd hk hn fun P E hx ls H locs h1 h2 h3 => vx_ret ?_
  exact W.zret X.1 X.2.1 X.2.2.2.2.2.1 hz (fun t ht hW => ⟨y, hx, by rw [hy], by rw [hy, ht]; exact h2, h3.F ht⟩) h3.2.2 hd X.2.2.2.2.2.2.1
theorem x_zretG {z : Int32} {y : ρ} (X : v_C Γ l0 R0 cc nL own (some .boolean) w g) (hk : k9 ≤ mc) (hn : n9 ≤ ms) (hd : decode cc pc = .ok (.ireturn, 1)) (hy : toR y = (some (.int z), σ)) : x_V Γ nL w g mc ms toR k9 n9 pc lv [.int z] σ (if z = 0 ∨ z = 1 then x_ret y else x_no) := by
  by_cases q : z = 0 ∨ z = 1
  · rw [if_pos q]
    refine x_zret X hk hn hd ?_ hy
    rcases q with rfl | rfl <;> rfl
  · rw [if_neg q]
    exact x_none
theorem x_vret {y : ρ} (X : v_C Γ l0 R0 cc nL own none w g) (hk : k9 ≤ mc) (hn : n9 ≤ ms) (hd : decode cc pc = .ok (.return_, 1)) (hy : toR y = (none, σ)) : x_V Γ nL w g mc ms toR k9 n9 pc lv [] σ (x_ret y) := by
  refine x_wd hk hn fun P E hx ls H locs h1 h2 h3 => vx_ret ?_
  exact W.vret X.1 X.2.1 X.2.2.2.2.2.1 (fun t ht hW => ⟨y, hx, by rw [hy], by rw [hy, ht]; exact h2, h3.F ht⟩) h3.2.2 hd X.2.2.2.2.2.2.1
theorem x_aret {C : String} {z : Nat} {y : ρ} (X : v_C Γ l0 R0 cc nL own (some (.object C)) w g) (hk : k9 ≤ mc) (hn : n9 ≤ ms) (hd : decode cc pc = .ok (.areturn, 1)) (hy : toR y = (some (.ref z), σ)) : x_V Γ nL w g mc ms toR k9 n9 pc lv [.ref z] σ (x_ret y) := by
  refine x_wd hk hn fun P E hx ls H locs h1 h2 h3 => vx_ret ?_
  exact W.aret X.1 X.2.1 X.2.2.2.2.2.1 (Or.inl ⟨C, rfl⟩) (Or.inr ⟨z, rfl⟩) (fun t ht hW => ⟨y, hx, by rw [hy], by rw [hy, ht]; exact h2, h3.F ht⟩) h3.2.2 hd X.2.2.2.2.2.2.1
theorem x_aretA {ty : FieldType} {z : Nat} {y : ρ} (X : v_C Γ l0 R0 cc nL own (some (.array ty)) w g) (hk : k9 ≤ mc) (hn : n9 ≤ ms) (hd : decode cc pc = .ok (.areturn, 1)) (hy : toR y = (some (.ref z), σ)) : x_V Γ nL w g mc ms toR k9 n9 pc lv [.ref z] σ (x_ret y) := by
  refine x_wd hk hn fun P E hx ls H locs h1 h2 h3 => vx_ret ?_
  exact W.aret X.1 X.2.1 X.2.2.2.2.2.1 (Or.inr ⟨ty, rfl⟩) (Or.inr ⟨z, rfl⟩) (fun t ht hW => ⟨y, hx, by rw [hy], by rw [hy, ht]; exact h2, h3.F ht⟩) h3.2.2 hd X.2.2.2.2.2.2.1
theorem x_aretq {C : String} {z : Option Nat} {y : ρ} (X : v_C Γ l0 R0 cc nL own (some (.object C)) w g) (hk : k9 ≤ mc) (hn : n9 ≤ ms) (hd : decode cc pc = .ok (.areturn, 1)) (hy : toR y = (some (va_rf z), σ)) : x_V Γ nL w g mc ms toR k9 n9 pc lv [va_rf z] σ (x_ret y) := by
  refine x_wd hk hn fun P E hx ls H locs h1 h2 h3 => vx_ret ?_
  exact W.aret X.1 X.2.1 X.2.2.2.2.2.1 (Or.inl ⟨C, rfl⟩) (by cases z with | none => exact Or.inl rfl | some a => exact Or.inr ⟨a, rfl⟩) (fun t ht hW => ⟨y, hx, by rw [hy], by rw [hy, ht]; exact h2, h3.F ht⟩) h3.2.2 hd X.2.2.2.2.2.2.1
/-- what may stand behind a throw: handed on to the caller -/
def x_VX (Γ : v_Ctx) (nL : Nat) (w : v_Wd) (g : v_G) (mc ms : Nat) (toR : ρ → Option Value × v_S) (k9 n9 : Nat) (pc : Nat) (lv : List (Nat × Value)) (C : String) (q : Nat) (σ : v_S) (mdl : x_M ρ) : Prop :=
  ∀ P E, mdl P E → ∀ (ls : Array Slot) (H : Heap) (locs : List Loc) (rest : List Value) (ce : Cell), lv_has ls nL lv → v_I w g σ H → va_S (v_A g) (v_s Γ).heap H locs → H[q]? = some ce → ce.vm = .none → (v_s Γ).vm.findClass C = some ce.cls →
    vx_W (v_p Γ) (v_l Γ) (v_e Γ) (v_R Γ) (v_s Γ) (v_m Γ) (v_a Γ) (v_b Γ) (v_me Γ) (v_c Γ) H locs k9 n9 (vx_MQ (v_b Γ) (x_Q w g toR P) (x_XC w g E) (v_a Γ) (v_s Γ) mc ms (v_A g)) (F0 (v_m Γ) pc ls rest) q
/-- no row of the method's table covers pc -/
theorem x_out {C : String} {q : Nat} (X : v_C Γ l0 R0 cc nL own ret w g) (hout : ∀ x ∈ (v_c Γ).exceptionTable.toList, covers x pc = false) (hk : k9 ≤ mc) (hn : n9 ≤ ms) : x_VX Γ nL w g mc ms toR k9 n9 pc lv C q σ (x_thr C q σ) :=
  fun P E hx ls H locs rest ce h1 h2 h3 hc hv hcl => vx_out hout X.2.2.2.2.2.2.1 hc hv hcl (fun t ht hW => ⟨σ, hx, by rw [ht]; exact h2, h3.F ht⟩) h3.2.2 hk hn
theorem x_nohh (h : (v_c Γ).exceptionTable.toList = []) : ∀ x ∈ (v_c Γ).exceptionTable.toList, covers x pc = false := fun x hx => by rw [h] at hx; cases hx
/-- behind a throw that the row of the method's table catches -/
theorem x_catch {C name : String} {q : Nat} (X : v_C Γ l0 R0 cc nL own ret w g) (pre : List ExceptionTableEntry) (x : ExceptionTableEntry) (suf : List ExceptionTableEntry) (hsplit : (v_c Γ).exceptionTable.toList = pre ++ x :: suf)
    (hpass : ∀ z ∈ pre, covers z pc = false ∨ (z.catchType ≠ 0 ∧ ∃ nm : String, Cond.classLink own z.catchType nm ∈ lw_all ∧ va_Nc C nm (v_s Γ))) (hx : covers x pc = true) (h0 : x.catchType ≠ 0) (hlink : Cond.classLink own x.catchType name ∈ lw_all) (hcast : Cond.castable C name ∈ lw_all)
    (kk : x_V Γ nL w g mc ms toR k9 n9 x.handlerPc lv [.ref q] σ mdl) : x_VX Γ nL w g mc ms toR k9 n9 pc lv C q σ mdl :=
  fun P E hm ls H locs rest ce h1 h2 h3 hc hv hcl => vx_catch X.2.2.2.1 pre x suf hsplit (fun z hz => (hpass z hz).elim Or.inl fun h => Or.inr ⟨h.1, h.2.elim fun nm h2 => ⟨nm, X.2.2.2.2.1 _ h2.1, h2.2⟩⟩) hx h0 (X.2.2.2.2.1 _ hlink) (X.2.2.2.2.1 _ hcast) hc hv hcl (kk P E hm ls H locs h1 h2 h3)
theorem x_athrow {C : String} {q : Nat} (X : v_C Γ l0 R0 cc nL own ret w g) (hd : decode cc pc = .ok (.athrow, 1)) (hc : v_rc Γ w g σ q C) (hv : ∀ (H : Heap) (ce : Cell), v_I w g σ H → H[q]? = some ce → ce.vm = .none) (kk : x_VX Γ nL w g mc ms toR k9 n9 pc lv C q σ mdl) : x_V Γ nL w g mc ms toR k9 n9 pc lv (.ref q :: st) σ mdl := by
  intro P E hx ls H locs h1 h2 h3
  obtain ⟨ce, hce, -, hcl⟩ := hc H locs h2 h3
  exact vx_athrow X.1 X.2.1 hd (kk P E hx ls H locs st ce h1 h2 h3 hce (hv H ce h2 hce) hcl)
/-! calls of methods whose model is an Option -/
theorem x_run {α : Type} {as : List Value} {toR' : α → Option Value × v_S} {ls : Array Slot} {H : Heap} {locs : List Loc} {rest : List Value} {Q : State → Prop} {z : α} {st0 : List Value}
    (h3 : va_S (v_A g) (v_s Γ).heap H locs) (run : va_Run (v_p Γ) (v_l Γ) (v_e Γ) (v_R Γ) (v_s Γ) (v_m Γ) (v_a Γ) (v_b Γ) (v_me Γ) (v_c Γ) H locs k9 n9 0 0 (F0 (v_m Γ) pc ls st0) rest (v_Q w g (toR' z) as.toArray) (v_A g))
    (kk : ∀ (H1 : Heap) (locs1 : List Loc), v_I w g (toR' z).2 H1 → va_S (v_A g) (v_s Γ).heap H1 locs1 → v_W Γ H1 locs1 k9 n9 Q (F0 (v_m Γ) (pc + 3) ls ((toR' z).1.toList ++ rest))) : v_W Γ H locs k9 n9 Q (F0 (v_m Γ) pc ls st0) := by
  intro T hT Y
  obtain ⟨v, st₀, t, T', L, e0, Y', hL, e1, e2, ⟨hv, hI, hz, hk⟩, st1⟩ := run T hT Y
  have hv : v = (toR' z).1 := by injection hv
  subst hv
  rw [e0] at hz hk
  obtain ⟨t2, a1, b1⟩ := kk T'.heap (locs ++ L) (by rw [e1]; exact hI) ⟨Nat.le_trans h3.1 (by rw [e1]; exact hz), fun q g1 g2 => by rw [e1, hk q (Nat.lt_of_lt_of_le g1 h3.1) g2]; exact h3.2.1 q g1 g2, fun q hq => by
      rcases List.mem_append.mp hq with h | h
      · exact h3.2.2 q h
      · exact hL q h⟩ T' rfl Y'
  exact ⟨t2, st1 t2 a1, b1⟩
def x_rm (rm R0 : Room) (maxL : Nat) (mc' ms' : Nat) : Bool := rm.cells == mc' && (rm.slots == ms' && (Nat.ble (rm.frames + 1) R0.frames && Nat.ble (8 + (maxL + 11) + rm.locals) R0.locals))
theorem x_callG {α : Type} {y : MethodName} {bytes : ByteArray} {maxL index : Nat} {ret' : Option FieldType} {rm : Room} {b np : Nat} {As rest st0 : List Value} {toR' : α → Option Value × v_S} {f : Option α} {k : α → x_M ρ} (X : v_C Γ l0 R0 cc nL own ret w g)
    (hM : v_M l0 y bytes maxL ret' rm w g (.ref b :: As) σ toR' f) (ho : v_rc Γ w g σ b y.cls) (hq : Cond.methodLink own index y ∈ lw_all ∨ ∃ host, Cond.methodLinkNest own index y host ∈ lw_tbl) (hy : v_yV y bytes maxL ret' np)
    (hnp : As.length = np) (hrm : v_rm rm R0 maxL = true) (hkR : k9 ≤ R0.cells ∧ n9 ≤ R0.slots) (hst : st0 = As.reverse ++ .ref b :: rest) (hroom : Nat.ble ((rest.map fun v => v.category).sum) 8 = true) (hd : decode cc pc = .ok (.invokevirtual index, 3))
    (kk : ∀ z, f = some z → x_V Γ nL w g mc ms toR k9 n9 (pc + 3) lv ((toR' z).1.toList ++ rest) (toR' z).2 (k z)) : x_V Γ nL w g mc ms toR k9 n9 pc lv st0 σ (x_b1 f k) := by
  intro P E hx ls H locs h1 h2 h3
  obtain ⟨z, hz, hx⟩ := hx
  obtain ⟨a1, a2, a3, a4, a5⟩ := hy
  simp only [v_rm, Bool.and_eq_true, beq_iff_eq, Nat.ble_eq] at hrm
  obtain ⟨r1, r2, r3, r4⟩ := hrm
  have hM' := hM z hz
  rw [← X.2.2.2.2.2.2.2.2.2.2.1] at hM'
  have hf : k9 + 0 ≤ (v_R Γ).cells ∧ n9 + 0 ≤ (v_R Γ).slots := by rw [X.2.2.2.2.2.2.2.2.2.2.2]; exact hkR
  have run : va_Run (v_p Γ) (v_l Γ) (v_e Γ) (v_R Γ) (v_s Γ) (v_m Γ) (v_a Γ) (v_b Γ) (v_me Γ) (v_c Γ) H locs k9 n9 0 0 (F0 (v_m Γ) pc ls st0) rest (v_Q w g (toR' z) (Value.ref b :: As).toArray) (v_A g) := by
    rcases hq with q1 | ⟨host, q1⟩
    · have cw : CallW (v_R Γ) (v_s Γ) (v_a Γ) own y.cls index y bytes maxL ret' (ws_ y bytes maxL ret') rm 0 0 np := cwV np X.2.2.2.2.1 (lw_V q1 a1 a2 a3 a4) rfl r1 r2 ⟨rfl, a5⟩ ⟨by rw [X.2.2.2.2.2.2.2.2.2.2.2]; exact r3, by rw [X.2.2.2.2.2.2.2.2.2.2.2]; exact r4⟩
      exact va_runV (p := v_p Γ) (e := v_e Γ) (below := v_b Γ) (meth := v_me Γ) (m := v_m Γ) (c := v_c Γ) (g := F0 (v_m Γ) pc ls st0) (rest := rest) (As := As) (locs := locs) (cells := k9) (slots := n9) ⟨X.1, X.2.1, X.2.2.1, X.2.2.2.1, X.2.2.2.2.1⟩ hM' cw ⟨v_P.blind, ho H locs h2 h3, fun U hU hW => ⟨rfl, v_pre X h2 h3 U hU hW⟩⟩ rfl hnp h1.1 hst (lv_room (Nat.le_of_ble_eq_true hroom)) hd hf
    · have cw := va_cnB (R := v_R Γ) (s := v_s Γ) (args := v_a Γ) (own := own) (index := index) (rm := rm) (host := host) np X.2.2.2.2.1 (lw_meth a4) rfl r1 r2 (X.2.2.2.2.2.2.2.2.2.1.nestM q1) (X.2.2.2.2.1 _ a3) a5 ⟨by rw [X.2.2.2.2.2.2.2.2.2.2.2]; exact r3, by rw [X.2.2.2.2.2.2.2.2.2.2.2]; exact r4⟩
      exact va_runVN (p := v_p Γ) (e := v_e Γ) (below := v_b Γ) (meth := v_me Γ) (m := v_m Γ) (c := v_c Γ) (g := F0 (v_m Γ) pc ls st0) (rest := rest) (As := As) (locs := locs) (cells := k9) (slots := n9) (C := y.cls) ⟨X.1, X.2.1, X.2.2.1, X.2.2.2.1, X.2.2.2.2.1⟩ hM' ⟨cw, X.2.2.2.2.1 _ a1, X.2.2.2.2.1 _ a2⟩ ⟨v_P.blind, ho H locs h2 h3, fun U hU hW => ⟨rfl, v_pre X h2 h3 U hU hW⟩⟩ rfl hnp h1.1 hst (lv_room (Nat.le_of_ble_eq_true hroom)) hd hf
  exact x_run (as := .ref b :: As) h3 run fun H1 locs1 hI hS => kk z hz P E hx ls H1 locs1 h1 hI hS
/-- a static call; its name resolved in the own class, or in a nest mate's -/
theorem x_callS {α : Type} {y : MethodName} {bytes : ByteArray} {maxL index : Nat} {ret' : Option FieldType} {rm : Room} {np : Nat} {As rest st0 : List Value} {toR' : α → Option Value × v_S} {f : Option α} {k : α → x_M ρ} (X : v_C Γ l0 R0 cc nL own ret w g)
    (hM : v_M l0 y bytes maxL ret' rm w g As σ toR' f) (hq : Cond.methodLink own index y ∈ lw_all ∨ ∃ host, Cond.methodLinkNest own index y host ∈ lw_tbl) (hy : v_yS y bytes maxL ret' np)
    (hnp : As.length = np) (hrm : v_rm rm R0 maxL = true) (hkR : k9 ≤ R0.cells ∧ n9 ≤ R0.slots) (hst : st0 = As.reverse ++ rest) (hroom : Nat.ble ((rest.map fun v => v.category).sum) 8 = true) (hd : decode cc pc = .ok (.invokestatic index, 3))
    (kk : ∀ z, f = some z → x_V Γ nL w g mc ms toR k9 n9 (pc + 3) lv ((toR' z).1.toList ++ rest) (toR' z).2 (k z)) : x_V Γ nL w g mc ms toR k9 n9 pc lv st0 σ (x_b1 f k) := by
  intro P E hx ls H locs h1 h2 h3
  obtain ⟨z, hz, hx⟩ := hx
  obtain ⟨a2, a3, a4, a5⟩ := hy
  simp only [v_rm, Bool.and_eq_true, beq_iff_eq, Nat.ble_eq] at hrm
  obtain ⟨r1, r2, r3, r4⟩ := hrm
  have hM' := hM z hz
  rw [← X.2.2.2.2.2.2.2.2.2.2.1] at hM'
  have hf : k9 + 0 ≤ (v_R Γ).cells ∧ n9 + 0 ≤ (v_R Γ).slots := by rw [X.2.2.2.2.2.2.2.2.2.2.2]; exact hkR
  have run : va_Run (v_p Γ) (v_l Γ) (v_e Γ) (v_R Γ) (v_s Γ) (v_m Γ) (v_a Γ) (v_b Γ) (v_me Γ) (v_c Γ) H locs k9 n9 0 0 (F0 (v_m Γ) pc ls st0) rest (v_Q w g (toR' z) As.toArray) (v_A g) := by
    rcases hq with q1 | ⟨host, q1⟩
    · have cw := va_cwS (R := v_R Γ) (s := v_s Γ) (args := v_a Γ) (own := own) (index := index) (rm := rm) np X.2.2.2.2.1 (lw_S q1 a2 a3 a4) rfl r1 r2 a5 ⟨by rw [X.2.2.2.2.2.2.2.2.2.2.2]; exact r3, by rw [X.2.2.2.2.2.2.2.2.2.2.2]; exact r4⟩
      exact va_runS (p := v_p Γ) (e := v_e Γ) (below := v_b Γ) (meth := v_me Γ) (m := v_m Γ) (c := v_c Γ) (g := F0 (v_m Γ) pc ls st0) (rest := rest) (As := As) (locs := locs) (cells := k9) (slots := n9) ⟨X.1, X.2.1, X.2.2.1, X.2.2.2.1, X.2.2.2.2.1⟩ hM' cw ⟨v_P.blind, fun U hU hW => ⟨rfl, v_pre X h2 h3 U hU hW⟩⟩ rfl hnp h1.1 hst (lv_room (Nat.le_of_ble_eq_true hroom)) hd hf
    · have cw := va_cnB (R := v_R Γ) (s := v_s Γ) (args := v_a Γ) (own := own) (index := index) (rm := rm) (host := host) np X.2.2.2.2.1 (lw_meth a4) rfl r1 r2 (X.2.2.2.2.2.2.2.2.2.1.nestM q1) (X.2.2.2.2.1 _ a3) a5 ⟨by rw [X.2.2.2.2.2.2.2.2.2.2.2]; exact r3, by rw [X.2.2.2.2.2.2.2.2.2.2.2]; exact r4⟩
      exact va_runSN (p := v_p Γ) (e := v_e Γ) (below := v_b Γ) (meth := v_me Γ) (m := v_m Γ) (c := v_c Γ) (g := F0 (v_m Γ) pc ls st0) (rest := rest) (As := As) (locs := locs) (cells := k9) (slots := n9) ⟨X.1, X.2.1, X.2.2.1, X.2.2.2.1, X.2.2.2.2.1⟩ hM' ⟨cw, X.2.2.2.2.1 _ a2, trivial⟩ ⟨v_P.blind, fun U hU hW => ⟨rfl, v_pre X h2 h3 U hU hW⟩⟩ rfl hnp h1.1 hst (lv_room (Nat.le_of_ble_eq_true hroom)) hd hf
  exact x_run (as := As) h3 run fun H1 locs1 hI hS => kk z hz P E hx ls H1 locs1 h1 hI hS
/-! calls of methods of this layer -/
theorem x_P.blind {as : List Value} : FrameBlind (va_Pc as (v_P w g σ)) := v_P.blind
/-- behind a call that returns or throws -/
theorem x_runX {α : Type} {as : List Value} {toR' : α → Option Value × v_S} {P' : α → Prop} {E' : x_E → Prop} {mc' ms' : Nat} {ls : Array Slot} {H : Heap} {locs : List Loc} {rest : List Value} {Q : State → Prop} {st0 : List Value}
    (h3 : va_S (v_A g) (v_s Γ).heap H locs) (run : vx_Run (v_p Γ) (v_l Γ) (v_e Γ) (v_R Γ) (v_s Γ) (v_m Γ) (v_a Γ) (v_b Γ) (v_me Γ) (v_c Γ) H locs k9 n9 mc' ms' (F0 (v_m Γ) pc ls st0) rest (x_Q w g toR' P' as.toArray) (x_XC w g E') (v_A g))
    (kx : ∀ (C : String) (q : Nat) (σ1 : v_S) (ce : Cell) (H1 : Heap) (locs1 : List Loc), E' (C, q, σ1) → v_I w g σ1 H1 → va_S (v_A g) (v_s Γ).heap H1 locs1 → H1[q]? = some ce → ce.vm = .none → (v_s Γ).vm.findClass C = some ce.cls → vx_W (v_p Γ) (v_l Γ) (v_e Γ) (v_R Γ) (v_s Γ) (v_m Γ) (v_a Γ) (v_b Γ) (v_me Γ) (v_c Γ) H1 locs1 (k9 + mc') (n9 + ms') Q (F0 (v_m Γ) pc ls rest) q)
    (kk : ∀ (z : α) (H1 : Heap) (locs1 : List Loc), P' z → v_I w g (toR' z).2 H1 → va_S (v_A g) (v_s Γ).heap H1 locs1 → v_W Γ H1 locs1 (k9 + mc') (n9 + ms') Q (F0 (v_m Γ) (pc + 3) ls ((toR' z).1.toList ++ rest))) : v_W Γ H locs k9 n9 Q (F0 (v_m Γ) pc ls st0) := by
  intro T hT Y
  have keep : ∀ (st₀ t T' : State) (L : List Loc), st₀.heap = H → T'.heap = t.heap → (∀ q ∈ L, v_A g q.base) → va_F (v_A g) st₀ t → va_S (v_A g) (v_s Γ).heap T'.heap (locs ++ L) := by
    intro st₀ t T' L e0 e1 hL ⟨hz, hk⟩
    rw [e0] at hz hk
    exact ⟨Nat.le_trans h3.1 (by rw [e1]; exact hz), fun q g1 g2 => by rw [e1, hk q (Nat.lt_of_lt_of_le g1 h3.1) g2]; exact h3.2.1 q g1 g2, fun q hq => by
      rcases List.mem_append.mp hq with h | h
      · exact h3.2.2 q h
      · exact hL q h⟩
  rcases run T hT Y with ⟨v, st₀, t, T', L, e0, Y', hL, e1, e2, ⟨z, hp, hv, hI, hF⟩, st1⟩ | ⟨q, st₀, t, T', L, C, ce, e0, Y', hL, e1, e2, ⟨σ1, hE, hI, hF⟩, hce, hcv, hcl, st1⟩
  · have hv : v = (toR' z).1 := by injection hv
    subst hv
    obtain ⟨t2, a1, b1⟩ := kk z T'.heap (locs ++ L) hp (by rw [e1]; exact hI) (keep st₀ t T' L e0 e1 hL hF) T' rfl Y'
    exact ⟨t2, st1 t2 a1, b1⟩
  · obtain ⟨t2, a1, b1⟩ := kx C q σ1 ce T'.heap (locs ++ L) hE (by rw [e1]; exact hI) (keep st₀ t T' L e0 e1 hL hF) (by rw [e1]; exact hce) hcv hcl T' rfl Y'
    exact ⟨t2, st1.trans a1, b1⟩

def x_try {ρ α : Type} (f : x_M α) (k : α → x_M ρ) (h : x_E → x_M ρ) : x_M ρ := fun P E => f (fun z => k z P E) (fun e => h e P E)
/-- what is known of a method with handlers; of a constructor -/
def x_yV (y : MethodName) (bytes : ByteArray) (maxL : Nat) (ret' : Option FieldType) (hh : List (Nat × Nat × Nat × Nat)) (np : Nat) : Prop := Cond.instanceMethod y ∈ lw_all ∧ Cond.selects y.cls y y ∈ lw_all ∧ Cond.initialized y.cls ∈ lw_all ∧ Cond.codeWith y bytes maxL ret' hh ∈ lw_all ∧ (y.cls ≠ "java/lang/invoke/MethodHandle" ∧ y.cls ≠ "java/lang/invoke/VarHandle" ∧ (parseMethodDescriptor y.desc).map (fun d => d.parameters.length) = some np)
def x_yI (y : MethodName) (bytes : ByteArray) (maxL : Nat) (np : Nat) : Prop := Cond.instanceMethod y ∈ lw_all ∧ Cond.initialized y.cls ∈ lw_all ∧ Cond.code y bytes maxL none ∈ lw_all ∧ y.name = "<init>" ∧ (y.cls ≠ "java/lang/invoke/MethodHandle" ∧ y.cls ≠ "java/lang/invoke/VarHandle" ∧ (parseMethodDescriptor y.desc).map (fun d => d.parameters.length) = some np)
theorem x_cxG {α : Type} {y : MethodName} {bytes : ByteArray} {maxL index : Nat} {ret' : Option FieldType} {rm : Room} {b np mc' ms' : Nat} {As rest st0 : List Value} {toR' : α → Option Value × v_S} {f : x_M α} {k : α → x_M ρ} {h : x_E → x_M ρ} (X : v_C Γ l0 R0 cc nL own ret w g)
    (hM : x_MC l0 y bytes maxL ret' rm w g mc' ms' (.ref b :: As) σ toR' f) (ho : v_rc Γ w g σ b y.cls) (hq : Cond.methodLink own index y ∈ lw_all ∨ ∃ host, Cond.methodLinkNest own index y host ∈ lw_tbl) (hy : v_yV y bytes maxL ret' np) (hnp : As.length = np) (hrm : x_rm rm R0 maxL mc' ms' = true) (hkR : k9 + mc' ≤ R0.cells ∧ n9 + ms' ≤ R0.slots) (hst : st0 = As.reverse ++ .ref b :: rest) (hroom : Nat.ble ((rest.map fun v => v.category).sum) 8 = true) (hd : decode cc pc = .ok (.invokevirtual index, 3))
    (kx : ∀ C q σ1, x_VX Γ nL w g mc ms toR (k9 + mc') (n9 + ms') pc lv C q σ1 (h (C, q, σ1)))
    (kk : ∀ z, x_V Γ nL w g mc ms toR (k9 + mc') (n9 + ms') (pc + 3) lv ((toR' z).1.toList ++ rest) (toR' z).2 (k z)) : x_V Γ nL w g mc ms toR k9 n9 pc lv st0 σ (x_try f k h) := by
  intro P E hx ls H locs h1 h2 h3
  obtain ⟨a1, a2, a3, a4, a5⟩ := hy
  simp only [x_rm, Bool.and_eq_true, beq_iff_eq, Nat.ble_eq] at hrm
  obtain ⟨r1, r2, r3, r4⟩ := hrm
  have hM' := hM _ _ hx
  rw [← X.2.2.2.2.2.2.2.2.2.2.1] at hM'
  have hf : k9 + mc' ≤ (v_R Γ).cells ∧ n9 + ms' ≤ (v_R Γ).slots := by rw [X.2.2.2.2.2.2.2.2.2.2.2]; exact hkR
  have hR : rm.frames + 1 ≤ (v_R Γ).frames ∧ 8 + (maxL + 11) + rm.locals ≤ (v_R Γ).locals := ⟨by rw [X.2.2.2.2.2.2.2.2.2.2.2]; exact r3, by rw [X.2.2.2.2.2.2.2.2.2.2.2]; exact r4⟩
  have run : vx_Run (v_p Γ) (v_l Γ) (v_e Γ) (v_R Γ) (v_s Γ) (v_m Γ) (v_a Γ) (v_b Γ) (v_me Γ) (v_c Γ) H locs k9 n9 mc' ms' (F0 (v_m Γ) pc ls st0) rest (x_Q w g toR' (fun z => k z P E) (Value.ref b :: As).toArray) (x_XC w g (fun e => h e P E)) (v_A g) := by
    rcases hq with q1 | ⟨host, q1⟩
    · have cw : CallW (v_R Γ) (v_s Γ) (v_a Γ) own y.cls index y bytes maxL ret' (ws_ y bytes maxL ret') rm mc' ms' np := cwV np X.2.2.2.2.1 (lw_V q1 a1 a2 a3 a4) rfl r1 r2 ⟨rfl, a5⟩ hR
      exact vx_runV (p := v_p Γ) (e := v_e Γ) (below := v_b Γ) (meth := v_me Γ) (m := v_m Γ) (c := v_c Γ) (g := F0 (v_m Γ) pc ls st0) (rest := rest) (As := As) (locs := locs) (cells := k9) (slots := n9) ⟨X.1, X.2.1, X.2.2.1, X.2.2.2.1, X.2.2.2.2.1⟩ hM' cw ⟨v_P.blind, ho H locs h2 h3, fun U hU hW => ⟨rfl, v_pre X h2 h3 U hU hW⟩⟩ rfl hnp h1.1 hst (lv_room (Nat.le_of_ble_eq_true hroom)) hd hf
    · have cw := va_cnB (R := v_R Γ) (s := v_s Γ) (args := v_a Γ) (own := own) (index := index) (rm := rm) (host := host) np X.2.2.2.2.1 (lw_meth a4) rfl r1 r2 (X.2.2.2.2.2.2.2.2.2.1.nestM q1) (X.2.2.2.2.1 _ a3) a5 hR
      exact vx_runVN (p := v_p Γ) (e := v_e Γ) (below := v_b Γ) (meth := v_me Γ) (m := v_m Γ) (c := v_c Γ) (g := F0 (v_m Γ) pc ls st0) (rest := rest) (As := As) (locs := locs) (cells := k9) (slots := n9) (C := y.cls) ⟨X.1, X.2.1, X.2.2.1, X.2.2.2.1, X.2.2.2.2.1⟩ hM' ⟨cw, X.2.2.2.2.1 _ a1, X.2.2.2.2.1 _ a2⟩ ⟨v_P.blind, ho H locs h2 h3, fun U hU hW => ⟨rfl, v_pre X h2 h3 U hU hW⟩⟩ rfl hnp h1.1 hst (lv_room (Nat.le_of_ble_eq_true hroom)) hd hf
  exact x_runX h3 run (fun C q σ1 ce H1 locs1 hE hI hS hc hv hcl => kx C q σ1 P E hE ls H1 locs1 rest ce h1 hI hS hc hv hcl) (fun z H1 locs1 hp hI hS => kk z P E hp ls H1 locs1 h1 hI hS)
/-- .. of a method with handlers -/
theorem x_cxGX {α : Type} {y : MethodName} {bytes : ByteArray} {maxL index : Nat} {ret' : Option FieldType} {rm : Room} {hh : List (Nat × Nat × Nat × Nat)} {b np mc' ms' : Nat} {As rest st0 : List Value} {toR' : α → Option Value × v_S} {f : x_M α} {k : α → x_M ρ} {h : x_E → x_M ρ} (X : v_C Γ l0 R0 cc nL own ret w g)
    (hM : x_MH l0 y bytes maxL ret' hh rm w g mc' ms' (.ref b :: As) σ toR' f) (ho : v_rc Γ w g σ b y.cls) (q1 : Cond.methodLink own index y ∈ lw_all) (hy : x_yV y bytes maxL ret' hh np) (hnp : As.length = np) (hrm : x_rm rm R0 maxL mc' ms' = true) (hkR : k9 + mc' ≤ R0.cells ∧ n9 + ms' ≤ R0.slots) (hst : st0 = As.reverse ++ .ref b :: rest) (hroom : Nat.ble ((rest.map fun v => v.category).sum) 8 = true) (hd : decode cc pc = .ok (.invokevirtual index, 3))
    (kx : ∀ C q σ1, x_VX Γ nL w g mc ms toR (k9 + mc') (n9 + ms') pc lv C q σ1 (h (C, q, σ1)))
    (kk : ∀ z, x_V Γ nL w g mc ms toR (k9 + mc') (n9 + ms') (pc + 3) lv ((toR' z).1.toList ++ rest) (toR' z).2 (k z)) : x_V Γ nL w g mc ms toR k9 n9 pc lv st0 σ (x_try f k h) := by
  intro P E hx ls H locs h1 h2 h3
  obtain ⟨a1, a2, a3, a4, a5⟩ := hy
  simp only [x_rm, Bool.and_eq_true, beq_iff_eq, Nat.ble_eq] at hrm
  obtain ⟨r1, r2, r3, r4⟩ := hrm
  have hM' := hM _ _ hx
  rw [← X.2.2.2.2.2.2.2.2.2.2.1] at hM'
  have hf : k9 + mc' ≤ (v_R Γ).cells ∧ n9 + ms' ≤ (v_R Γ).slots := by rw [X.2.2.2.2.2.2.2.2.2.2.2]; exact hkR
  have hR : rm.frames + 1 ≤ (v_R Γ).frames ∧ 8 + (maxL + 11) + rm.locals ≤ (v_R Γ).locals := ⟨by rw [X.2.2.2.2.2.2.2.2.2.2.2]; exact r3, by rw [X.2.2.2.2.2.2.2.2.2.2.2]; exact r4⟩
  have cw : vx_CVW (v_R Γ) (v_s Γ) (v_a Γ) own y.cls index y bytes maxL ret' hh (wsW_ y bytes maxL ret' hh) rm mc' ms' np := vx_cwVW np X.2.2.2.2.1 (lw_VW q1 a1 a2 a3 a4) rfl r1 r2 ⟨rfl, a5⟩ hR
  have run : vx_Run (v_p Γ) (v_l Γ) (v_e Γ) (v_R Γ) (v_s Γ) (v_m Γ) (v_a Γ) (v_b Γ) (v_me Γ) (v_c Γ) H locs k9 n9 mc' ms' (F0 (v_m Γ) pc ls st0) rest (x_Q w g toR' (fun z => k z P E) (Value.ref b :: As).toArray) (x_XC w g (fun e => h e P E)) (v_A g) := vx_runVX (p := v_p Γ) (e := v_e Γ) (below := v_b Γ) (meth := v_me Γ) (m := v_m Γ) (c := v_c Γ) (g := F0 (v_m Γ) pc ls st0) (rest := rest) (As := As) (locs := locs) (cells := k9) (slots := n9) ⟨X.1, X.2.1, X.2.2.1, X.2.2.2.1, X.2.2.2.2.1⟩ hM' cw ⟨v_P.blind, ho H locs h2 h3, fun U hU hW => ⟨rfl, v_pre X h2 h3 U hU hW⟩⟩ rfl hnp h1.1 hst (lv_room (Nat.le_of_ble_eq_true hroom)) hd hf
  exact x_runX h3 run (fun C q σ1 ce H1 locs1 hE hI hS hc hv hcl => kx C q σ1 P E hE ls H1 locs1 rest ce h1 hI hS hc hv hcl) (fun z H1 locs1 hp hI hS => kk z P E hp ls H1 locs1 h1 hI hS)
theorem x_cxS {α : Type} {y : MethodName} {bytes : ByteArray} {maxL index : Nat} {ret' : Option FieldType} {rm : Room} {np mc' ms' : Nat} {As rest st0 : List Value} {toR' : α → Option Value × v_S} {f : x_M α} {k : α → x_M ρ} {h : x_E → x_M ρ} (X : v_C Γ l0 R0 cc nL own ret w g)
    (hM : x_MC l0 y bytes maxL ret' rm w g mc' ms' As σ toR' f) (hq : Cond.methodLink own index y ∈ lw_all ∨ ∃ host, Cond.methodLinkNest own index y host ∈ lw_tbl) (hy : v_yS y bytes maxL ret' np) (hnp : As.length = np) (hrm : x_rm rm R0 maxL mc' ms' = true) (hkR : k9 + mc' ≤ R0.cells ∧ n9 + ms' ≤ R0.slots) (hst : st0 = As.reverse ++ rest) (hroom : Nat.ble ((rest.map fun v => v.category).sum) 8 = true) (hd : decode cc pc = .ok (.invokestatic index, 3))
    (kx : ∀ C q σ1, x_VX Γ nL w g mc ms toR (k9 + mc') (n9 + ms') pc lv C q σ1 (h (C, q, σ1)))
    (kk : ∀ z, x_V Γ nL w g mc ms toR (k9 + mc') (n9 + ms') (pc + 3) lv ((toR' z).1.toList ++ rest) (toR' z).2 (k z)) : x_V Γ nL w g mc ms toR k9 n9 pc lv st0 σ (x_try f k h) := by
  intro P E hx ls H locs h1 h2 h3
  obtain ⟨a2, a3, a4, a5⟩ := hy
  simp only [x_rm, Bool.and_eq_true, beq_iff_eq, Nat.ble_eq] at hrm
  obtain ⟨r1, r2, r3, r4⟩ := hrm
  have hM' := hM _ _ hx
  rw [← X.2.2.2.2.2.2.2.2.2.2.1] at hM'
  have hf : k9 + mc' ≤ (v_R Γ).cells ∧ n9 + ms' ≤ (v_R Γ).slots := by rw [X.2.2.2.2.2.2.2.2.2.2.2]; exact hkR
  have hR : rm.frames + 1 ≤ (v_R Γ).frames ∧ 8 + (maxL + 11) + rm.locals ≤ (v_R Γ).locals := ⟨by rw [X.2.2.2.2.2.2.2.2.2.2.2]; exact r3, by rw [X.2.2.2.2.2.2.2.2.2.2.2]; exact r4⟩
  have run : vx_Run (v_p Γ) (v_l Γ) (v_e Γ) (v_R Γ) (v_s Γ) (v_m Γ) (v_a Γ) (v_b Γ) (v_me Γ) (v_c Γ) H locs k9 n9 mc' ms' (F0 (v_m Γ) pc ls st0) rest (x_Q w g toR' (fun z => k z P E) (As).toArray) (x_XC w g (fun e => h e P E)) (v_A g) := by
    rcases hq with q1 | ⟨host, q1⟩
    · have cw := va_cwS (R := v_R Γ) (s := v_s Γ) (args := v_a Γ) (own := own) (index := index) (rm := rm) np X.2.2.2.2.1 (lw_S q1 a2 a3 a4) rfl r1 r2 a5 hR
      exact vx_runS (p := v_p Γ) (e := v_e Γ) (below := v_b Γ) (meth := v_me Γ) (m := v_m Γ) (c := v_c Γ) (g := F0 (v_m Γ) pc ls st0) (rest := rest) (As := As) (locs := locs) (cells := k9) (slots := n9) ⟨X.1, X.2.1, X.2.2.1, X.2.2.2.1, X.2.2.2.2.1⟩ hM' cw ⟨v_P.blind, fun U hU hW => ⟨rfl, v_pre X h2 h3 U hU hW⟩⟩ rfl hnp h1.1 hst (lv_room (Nat.le_of_ble_eq_true hroom)) hd hf
    · have cw := va_cnB (R := v_R Γ) (s := v_s Γ) (args := v_a Γ) (own := own) (index := index) (rm := rm) (host := host) np X.2.2.2.2.1 (lw_meth a4) rfl r1 r2 (X.2.2.2.2.2.2.2.2.2.1.nestM q1) (X.2.2.2.2.1 _ a3) a5 hR
      exact vx_runSN (p := v_p Γ) (e := v_e Γ) (below := v_b Γ) (meth := v_me Γ) (m := v_m Γ) (c := v_c Γ) (g := F0 (v_m Γ) pc ls st0) (rest := rest) (As := As) (locs := locs) (cells := k9) (slots := n9) ⟨X.1, X.2.1, X.2.2.1, X.2.2.2.1, X.2.2.2.2.1⟩ hM' ⟨cw, X.2.2.2.2.1 _ a2, trivial⟩ ⟨v_P.blind, fun U hU hW => ⟨rfl, v_pre X h2 h3 U hU hW⟩⟩ rfl hnp h1.1 hst (lv_room (Nat.le_of_ble_eq_true hroom)) hd hf
  exact x_runX h3 run (fun C q σ1 ce H1 locs1 hE hI hS hc hv hcl => kx C q σ1 P E hE ls H1 locs1 rest ce h1 hI hS hc hv hcl) (fun z H1 locs1 hp hI hS => kk z P E hp ls H1 locs1 h1 hI hS)
/-- a constructor -/
theorem x_cxI {α : Type} {y : MethodName} {bytes : ByteArray} {maxL index : Nat} {rm : Room} {b np mc' ms' : Nat} {As rest st0 : List Value} {toR' : α → Option Value × v_S} {f : x_M α} {k : α → x_M ρ} {h : x_E → x_M ρ} (X : v_C Γ l0 R0 cc nL own ret w g)
    (hM : x_MC l0 y bytes maxL none rm w g mc' ms' (.ref b :: As) σ toR' f) (hq : Cond.methodLink own index y ∈ lw_all ∨ ∃ host, Cond.methodLinkNest own index y host ∈ lw_tbl) (hy : x_yI y bytes maxL np) (hnp : As.length = np) (hrm : x_rm rm R0 maxL mc' ms' = true) (hkR : k9 + mc' ≤ R0.cells ∧ n9 + ms' ≤ R0.slots) (hst : st0 = As.reverse ++ .ref b :: rest) (hroom : Nat.ble ((rest.map fun v => v.category).sum) 8 = true) (hd : decode cc pc = .ok (.invokespecial index, 3))
    (kx : ∀ C q σ1, x_VX Γ nL w g mc ms toR (k9 + mc') (n9 + ms') pc lv C q σ1 (h (C, q, σ1)))
    (kk : ∀ z, x_V Γ nL w g mc ms toR (k9 + mc') (n9 + ms') (pc + 3) lv ((toR' z).1.toList ++ rest) (toR' z).2 (k z)) : x_V Γ nL w g mc ms toR k9 n9 pc lv st0 σ (x_try f k h) := by
  intro P E hx ls H locs h1 h2 h3
  obtain ⟨a1, a3, a4, a6, a5⟩ := hy
  simp only [x_rm, Bool.and_eq_true, beq_iff_eq, Nat.ble_eq] at hrm
  obtain ⟨r1, r2, r3, r4⟩ := hrm
  have hM' := hM _ _ hx
  rw [← X.2.2.2.2.2.2.2.2.2.2.1] at hM'
  have hf : k9 + mc' ≤ (v_R Γ).cells ∧ n9 + ms' ≤ (v_R Γ).slots := by rw [X.2.2.2.2.2.2.2.2.2.2.2]; exact hkR
  have hR : rm.frames + 1 ≤ (v_R Γ).frames ∧ 8 + (maxL + 11) + rm.locals ≤ (v_R Γ).locals := ⟨by rw [X.2.2.2.2.2.2.2.2.2.2.2]; exact r3, by rw [X.2.2.2.2.2.2.2.2.2.2.2]; exact r4⟩
  have run : vx_Run (v_p Γ) (v_l Γ) (v_e Γ) (v_R Γ) (v_s Γ) (v_m Γ) (v_a Γ) (v_b Γ) (v_me Γ) (v_c Γ) H locs k9 n9 mc' ms' (F0 (v_m Γ) pc ls st0) rest (x_Q w g toR' (fun z => k z P E) (Value.ref b :: As).toArray) (x_XC w g (fun e => h e P E)) (v_A g) := by
    rcases hq with q1 | ⟨host, q1⟩
    · have cw := cwI (R := v_R Γ) (s := v_s Γ) (args := v_a Γ) (own := own) (index := index) (rm := rm) np X.2.2.2.2.1 (lw_meth a4) rfl r1 r2 (X.2.2.2.2.1 _ a3) (X.2.2.2.2.1 _ q1) (X.2.2.2.2.1 _ a1) a6 a5 hR
      exact vx_runI (p := v_p Γ) (e := v_e Γ) (below := v_b Γ) (meth := v_me Γ) (m := v_m Γ) (c := v_c Γ) (g := F0 (v_m Γ) pc ls st0) (rest := rest) (As := As) (locs := locs) (cells := k9) (slots := n9) ⟨X.1, X.2.1, X.2.2.1, X.2.2.2.1, X.2.2.2.2.1⟩ hM' cw ⟨v_P.blind, fun U hU hW => ⟨rfl, v_pre X h2 h3 U hU hW⟩⟩ rfl hnp h1.1 hst (lv_room (Nat.le_of_ble_eq_true hroom)) hd hf
    · have cw := va_cnB (R := v_R Γ) (s := v_s Γ) (args := v_a Γ) (own := own) (index := index) (rm := rm) (host := host) np X.2.2.2.2.1 (lw_meth a4) rfl r1 r2 (X.2.2.2.2.2.2.2.2.2.1.nestM q1) (X.2.2.2.2.1 _ a3) a5 hR
      exact vx_runIN (p := v_p Γ) (e := v_e Γ) (below := v_b Γ) (meth := v_me Γ) (m := v_m Γ) (c := v_c Γ) (g := F0 (v_m Γ) pc ls st0) (rest := rest) (As := As) (locs := locs) (cells := k9) (slots := n9) ⟨X.1, X.2.1, X.2.2.1, X.2.2.2.1, X.2.2.2.2.1⟩ hM' ⟨cw, a6, X.2.2.2.2.1 _ a1⟩ ⟨v_P.blind, fun U hU hW => ⟨rfl, v_pre X h2 h3 U hU hW⟩⟩ rfl hnp h1.1 hst (lv_room (Nat.le_of_ble_eq_true hroom)) hd hf
  exact x_runX h3 run (fun C q σ1 ce H1 locs1 hE hI hS hc hv hcl => kx C q σ1 P E hE ls H1 locs1 rest ce h1 hI hS hc hv hcl) (fun z H1 locs1 hp hI hS => kk z P E hp ls H1 locs1 h1 hI hS)
/-- the constructor of Object -/
theorem x_objInit {index a : Nat} (X : v_C Γ l0 R0 cc nL own ret w g) (q1 : Cond.methodLink own index Lib.objectInit ∈ lw_all) (q2 : Cond.instanceMethod Lib.objectInit ∈ lw_all) (q3 : Cond.code Lib.objectInit ⟨#[0xb1]⟩ 1 none ∈ lw_all) (hR : (Nat.ble 1 R0.frames && Nat.ble ((st.map fun v => v.category).sum + 12) R0.locals) = true) (hd : decode cc pc = .ok (.invokespecial index, 3))
    (kk : x_V Γ nL w g mc ms toR k9 n9 (pc + 3) lv st σ mdl) : x_V Γ nL w g mc ms toR k9 n9 pc lv (.ref a :: st) σ mdl := by
  intro P E hx ls H locs h1 h2 h3
  simp only [Bool.and_eq_true, Nat.ble_eq] at hR
  exact W.objInit X.1 X.2.1 X.2.2.2.1 (X.2.2.2.2.1 _ q1) (X.2.2.2.2.1 _ q2) (X.2.2.2.2.1 _ q3) (g := F0 (v_m Γ) pc ls (.ref a :: st)) rfl (h1.1.trans X.2.2.1.symm) rfl hd (by rw [X.2.2.2.2.2.2.2.2.2.2.2]; exact hR.1) (by rw [X.2.2.2.2.2.2.2.2.2.2.2]; show 2 * 0 + _ + 12 ≤ _; omega) (kk P E hx ls H locs h1 h2 h3)

/-! new cells -/
theorem x_wl_app {q : Nat} {c : (Nat × vp_A) ⊕ (Nat × List Value)} : v_wl w g (x_cell σ q c) = v_wl w g σ ++ [v_dm g (q, c)] := by
  unfold v_wl x_cell
  have e : ∀ n, v_cell w.1 g (σ.1, σ.2.1, σ.2.2.1, σ.2.2.2 ++ [(q, c)]) n = v_cell w.1 g σ n := fun n => v_cell_n (fun _ => rfl) (fun _ => rfl) (fun _ => rfl)
  simp only [e, List.map_append, List.map_cons, List.map_nil, List.append_assoc]
theorem x_fresh {A : Nat → Prop} {q : Nat} {e : va_E} (h : va_D A (v_wl w g σ ++ [(q, e)])) : v_df σ.2.2.2 q = none := by
  cases hc : v_df σ.2.2.2 q with
  | none => rfl
  | some c =>
    obtain ⟨k, hk⟩ := v_wl_d (w := w) (g := g) hc
    have hl : k < (v_wl w g σ).length := (List.getElem?_eq_some_iff.mp hk).1
    have := h.1 k (v_wl w g σ).length (v_dm g (q, c)) (q, e) (by rw [List.getElem?_append_left hl]; exact hk) (by rw [List.getElem?_append_right (Nat.le_refl _), Nat.sub_self]; rfl) rfl
    omega
theorem x_newO {ci N index : Nat} {C : String} {T : u_T} {fs : List Value} {k1 : Nat → v_S → x_M ρ} (X : v_C Γ l0 R0 cc nL own ret w g) (hc : w.2.2[ci]? = some (C, T, N)) (hin : ∀ q ∈ u_ws C T N, q ∈ lw_all) (ty0 : Nat → FieldType) (hty : ∀ k, k < N → parseFieldDescriptor (T k).2.2.1 = some (ty0 k)) (hl : Cond.classLink own index C ∈ lw_all) (hi : Cond.instantiable C N ∈ lw_all) (hini : Cond.initialized C ∈ lw_all) (hfs : ∀ j, j < N → defaultValue (ty0 j) = vp_V fs j) (hkR : k9 + 1 ≤ R0.cells ∧ n9 + N ≤ R0.slots) (hd : decode cc pc = .ok (.new index, 3))
    (kk : ∀ q, v_df σ.2.2.2 q = none → x_V Γ nL w g mc ms toR (k9 + 1) (n9 + N) (pc + 3) lv (.ref q :: st) (x_cell σ q (.inr (ci, fs))) (k1 q (x_cell σ q (.inr (ci, fs))))) : x_V Γ nL w g mc ms toR k9 n9 pc lv st σ (x_new σ (.inr (ci, fs)) k1) := by
  intro P E hx ls H locs h1 h2 h3
  refine va_new X.1 X.2.1 X.2.2.2.2.1 hin ty0 hty X.2.2.2.1 (X.2.2.2.2.1 _ hl) (X.2.2.2.2.1 _ hi) (X.2.2.2.2.1 _ hini) X.2.2.2.2.2.2.2.1 h2.1 h2.2 h3 X.2.2.2.2.2.2.2.2.1 hc hfs (by rw [X.2.2.2.2.2.2.2.2.2.2.2]; exact hkR.1) (by rw [X.2.2.2.2.2.2.2.2.2.2.2]; exact hkR.2) hd (fun q H1 hP hD hS => ?_)
  have hf := x_fresh hD
  have e : v_wl w g (x_cell σ q (.inr (ci, fs))) = v_wl w g σ ++ [(q, .inr (ci, fs))] := x_wl_app
  rw [← e] at hP hD
  exact kk q hf P E (hx q hf) ls H1 locs h1 ⟨hP, hD⟩ hS
/-- an array of the type number t, of n elements, at most nb -/
theorem x_newA {atype : ArrayType} {ty : FieldType} {t nb : Nat} {n : Int32} {a0 : Nat → vp_A} {k1 : Nat → v_S → x_M ρ} {m0 : x_M ρ} (X : v_C Γ l0 R0 cc nL own ret w g) (harr : Cond.arrayClass (newarray.typeOf atype) ∈ lw_all) (hty : newarray.typeOf atype = ty) (ht : ∀ dA, (v_tys dA)[t]? = some (dA t, ty)) (hra : ∀ (U : State) (cA : ClassId), va_RA U cA ty → U.vm.findClass ("[" ++ ty.toString) = some cA) (ha : ∀ (cA : ClassId) (N' : Nat), vp_cell cA (a0 N') = arrV cA N' (fun _ => defaultValue ty)) (hb : nb * componentBytes ty ≤ 536870912) (hkR : k9 + 1 ≤ R0.cells ∧ n9 + nb ≤ R0.slots) (hd : decode cc pc = .ok (.newarray atype, 2))
    (kn : n < 0 → x_V Γ nL w g mc ms toR k9 n9 pc lv (.int n :: st) σ m0)
    (kk : ¬ n < 0 → n.toNatClampNeg ≤ nb → ∀ q, v_df σ.2.2.2 q = none → x_V Γ nL w g mc ms toR (k9 + 1) (n9 + nb) (pc + 2) lv (.ref q :: st) (x_cell σ q (.inl (t, a0 n.toNatClampNeg))) (k1 q (x_cell σ q (.inl (t, a0 n.toNatClampNeg))))) : x_V Γ nL w g mc ms toR k9 n9 pc lv (.int n :: st) σ (if n < 0 then m0 else if n.toNatClampNeg ≤ nb then x_new σ (.inl (t, a0 n.toNatClampNeg)) k1 else x_no) := by
  by_cases hn : n < 0
  · rw [if_pos hn]; exact kn hn
  rw [if_neg hn]
  by_cases hN : n.toNatClampNeg ≤ nb
  · rw [if_pos hN]
    intro P E hx ls H locs h1 h2 h3
    have hbytes : n.toNatClampNeg * componentBytes ty ≤ 536870912 := Nat.le_trans (Nat.mul_le_mul_right _ hN) hb
    refine va_newa X.1 X.2.1 (X.2.2.2.2.1 _ harr) hty X.2.2.2.2.2.2.2.1 h2.1 h2.2 h3 X.2.2.2.2.2.2.2.2.1 (a0 := a0 n.toNatClampNeg) (fun cA => ha cA _) hn rfl hbytes (by rw [X.2.2.2.2.2.2.2.2.2.2.2]; exact hkR.1) (by rw [X.2.2.2.2.2.2.2.2.2.2.2]; have := hkR.2; omega) hd (fun q cA H1 hK hP hD hS => ?_)
    have hf := x_fresh hD
    have hcA : cA = v_dA g t := by
      have e1 := hra _ _ (hK.2 (v_tys (v_dA g)).length (cA, ty) (by rw [List.getElem?_append_right (Nat.le_refl _), Nat.sub_self]; rfl)).2
      have e2 := hra _ _ (X.2.2.2.2.2.2.2.1.2 t _ (ht (v_dA g))).2
      exact Option.some.inj (e1.symm.trans e2)
    subst hcA
    have e : v_wl w g (x_cell σ q (.inl (t, a0 n.toNatClampNeg))) = v_wl w g σ ++ [(q, .inl (v_dA g t, a0 n.toNatClampNeg))] := x_wl_app
    rw [← e] at hP hD
    exact x_wd (Nat.le_refl _) (Nat.add_le_add_left hN _) (kk hn hN q hf) P E (hx q hf) ls H1 locs h1 ⟨hP, hD⟩ hS
  · rw [if_neg hN]; exact x_none
/-- .. of a length that is written there -/
theorem x_newL {atype : ArrayType} {ty : FieldType} {t nb : Nat} {n : Int32} {a0 : Nat → vp_A} {k1 : Nat → v_S → x_M ρ} (X : v_C Γ l0 R0 cc nL own ret w g) (hn : ¬ n < 0) (hN : n.toNatClampNeg = nb) (harr : Cond.arrayClass (newarray.typeOf atype) ∈ lw_all) (hty : newarray.typeOf atype = ty) (ht : ∀ dA, (v_tys dA)[t]? = some (dA t, ty)) (hra : ∀ (U : State) (cA : ClassId), va_RA U cA ty → U.vm.findClass ("[" ++ ty.toString) = some cA) (ha : ∀ (cA : ClassId) (N' : Nat), vp_cell cA (a0 N') = arrV cA N' (fun _ => defaultValue ty)) (hb : nb * componentBytes ty ≤ 536870912) (hkR : k9 + 1 ≤ R0.cells ∧ n9 + nb ≤ R0.slots) (hd : decode cc pc = .ok (.newarray atype, 2))
    (kk : ∀ q, v_df σ.2.2.2 q = none → x_V Γ nL w g mc ms toR (k9 + 1) (n9 + nb) (pc + 2) lv (.ref q :: st) (x_cell σ q (.inl (t, a0 nb))) (k1 q (x_cell σ q (.inl (t, a0 nb))))) : x_V Γ nL w g mc ms toR k9 n9 pc lv (.int n :: st) σ (x_new σ (.inl (t, a0 nb)) k1) := by
  subst hN
  refine x_eq ?_ (x_newA (m0 := x_no) (k1 := k1) X harr hty ht hra ha hb hkR hd (fun _ => x_none) (fun _ _ q hq => kk q hq))
  rw [if_neg hn, if_pos (Nat.le_refl _)]
/-- an array of references to C -/
theorem x_newQ {C : String} {t nb index : Nat} {n : Int32} {k1 : Nat → v_S → x_M ρ} (X : v_C Γ l0 R0 cc nL own ret w g) (hn : ¬ n < 0) (hN : n.toNatClampNeg = nb) (hl : Cond.classLink own index C ∈ lw_all) (hov : Cond.arrayOver (.object C) ∈ lw_tbl) (ht : ∀ dA, (v_tys dA)[t]? = some (dA t, .object C)) (hb : nb * 4 ≤ 536870912) (hkR : k9 + 1 ≤ R0.cells ∧ n9 + nb ≤ R0.slots) (hd : decode cc pc = .ok (.anewarray index, 3))
    (kk : ∀ q, v_df σ.2.2.2 q = none → x_V Γ nL w g mc ms toR (k9 + 1) (n9 + nb) (pc + 3) lv (.ref q :: st) (x_cell σ q (.inl (t, nb, .inr (.inr (.inr (.inr (fun _ => none))))))) (k1 q (x_cell σ q (.inl (t, nb, .inr (.inr (.inr (.inr (fun _ => none))))))))) : x_V Γ nL w g mc ms toR k9 n9 pc lv (.int n :: st) σ (x_new σ (.inl (t, nb, .inr (.inr (.inr (.inr (fun _ => none)))))) k1) := by
  intro P E hx ls H locs h1 h2 h3
  have Bz := X.2.2.2.2.2.2.2.2.2.1
  have hAO : va_AO C (v_s Γ) := va_AO.moved Bz.1.alike (va_AO.of (Bz.2.2.2.1 _ hov))
  refine va_newq X.1 X.2.1 X.2.2.2.1 (X.2.2.2.2.1 _ hl) hAO X.2.2.2.2.2.2.2.1 h2.1 h2.2 h3 X.2.2.2.2.2.2.2.2.1 hn hN hb (by rw [X.2.2.2.2.2.2.2.2.2.2.2]; exact hkR.1) (by rw [X.2.2.2.2.2.2.2.2.2.2.2]; exact hkR.2) hd (fun q cA H1 hK hP hD hS => ?_)
  have hf := x_fresh hD
  have hcA : cA = v_dA g t := by
    obtain ⟨-, -, -, -, -, e1⟩ := (hK.2 (v_tys (v_dA g)).length (cA, .object C) (by rw [List.getElem?_append_right (Nat.le_refl _), Nat.sub_self]; rfl)).2
    obtain ⟨-, -, -, -, -, e2⟩ := (X.2.2.2.2.2.2.2.1.2 t _ (ht (v_dA g))).2
    exact Option.some.inj (e1.symm.trans e2)
  subst hcA
  have e : v_wl w g (x_cell σ q (.inl (t, nb, .inr (.inr (.inr (.inr (fun _ => none))))))) = v_wl w g σ ++ [(q, .inl (v_dA g t, nb, .inr (.inr (.inr (.inr (fun _ => none))))))] := x_wl_app
  rw [← e] at hP hD
  exact kk q hf P E (hx q hf) ls H1 locs h1 ⟨hP, hD⟩ hS
theorem x_zi {cA : ClassId} {N' : Nat} : vp_cell cA (N', .inl (fun _ => 0)) = arrV cA N' (fun _ => .int 0) := vp_cell_i ..
theorem x_zl {cA : ClassId} {N' : Nat} : vp_cell cA (N', .inr (.inl (fun _ => 0))) = arrV cA N' (fun _ => .long 0) := vp_cell_l ..

theorem x_newLI {nb : Nat} {n : Int32} {k1 : Nat → v_S → x_M ρ} (X : v_C Γ l0 R0 cc nL own ret w g) (hn : ¬ n < 0) (hN : n.toNatClampNeg = nb) (harr : Cond.arrayClass .int ∈ lw_all) (hb : Nat.ble nb 1000000 = true) (hkR : k9 + 1 ≤ R0.cells ∧ n9 + nb ≤ R0.slots) (hd : decode cc pc = .ok (.newarray .int, 2))
    (kk : ∀ q, v_df σ.2.2.2 q = none → x_V Γ nL w g mc ms toR (k9 + 1) (n9 + nb) (pc + 2) lv (.ref q :: st) (x_cell σ q (.inl (0, nb, .inl (fun _ => 0)))) (k1 q (x_cell σ q (.inl (0, nb, .inl (fun _ => 0)))))) : x_V Γ nL w g mc ms toR k9 n9 pc lv (.int n :: st) σ (x_new σ (.inl (0, nb, .inl (fun _ => 0))) k1) :=
  x_newL (atype := .int) (t := 0) (ty := .int) (a0 := fun N' => (N', .inl (fun _ => 0))) X hn hN harr rfl (fun _ => rfl) (fun _ _ h => h) (fun _ _ => x_zi) (by have := Nat.le_of_ble_eq_true hb; simp only [componentBytes]; omega) hkR hd kk
theorem x_newAI {nb : Nat} {n : Int32} {k1 : Nat → v_S → x_M ρ} {m0 : x_M ρ} (X : v_C Γ l0 R0 cc nL own ret w g) (harr : Cond.arrayClass .int ∈ lw_all) (hb : Nat.ble nb 1000000 = true) (hkR : k9 + 1 ≤ R0.cells ∧ n9 + nb ≤ R0.slots) (hd : decode cc pc = .ok (.newarray .int, 2))
    (kn : n < 0 → x_V Γ nL w g mc ms toR k9 n9 pc lv (.int n :: st) σ m0)
    (kk : ∀ q, v_df σ.2.2.2 q = none → x_V Γ nL w g mc ms toR (k9 + 1) (n9 + nb) (pc + 2) lv (.ref q :: st) (x_cell σ q (.inl (0, n.toNatClampNeg, .inl (fun _ => 0)))) (k1 q (x_cell σ q (.inl (0, n.toNatClampNeg, .inl (fun _ => 0)))))) : x_V Γ nL w g mc ms toR k9 n9 pc lv (.int n :: st) σ (if n < 0 then m0 else if n.toNatClampNeg ≤ nb then x_new σ (.inl (0, n.toNatClampNeg, .inl (fun _ => 0))) k1 else x_no) :=
  x_newA (atype := .int) (t := 0) (ty := .int) (a0 := fun N' => (N', .inl (fun _ => 0))) X harr rfl (fun _ => rfl) (fun _ _ h => h) (fun _ _ => x_zi) (by have := Nat.le_of_ble_eq_true hb; simp only [componentBytes]; omega) hkR hd kn (fun _ _ q hq => kk q hq)
theorem x_newLB {nb : Nat} {n : Int32} {k1 : Nat → v_S → x_M ρ} (X : v_C Γ l0 R0 cc nL own ret w g) (hn : ¬ n < 0) (hN : n.toNatClampNeg = nb) (harr : Cond.arrayClass .byte ∈ lw_all) (hb : Nat.ble nb 1000000 = true) (hkR : k9 + 1 ≤ R0.cells ∧ n9 + nb ≤ R0.slots) (hd : decode cc pc = .ok (.newarray .byte, 2))
    (kk : ∀ q, v_df σ.2.2.2 q = none → x_V Γ nL w g mc ms toR (k9 + 1) (n9 + nb) (pc + 2) lv (.ref q :: st) (x_cell σ q (.inl (1, nb, .inl (fun _ => 0)))) (k1 q (x_cell σ q (.inl (1, nb, .inl (fun _ => 0)))))) : x_V Γ nL w g mc ms toR k9 n9 pc lv (.int n :: st) σ (x_new σ (.inl (1, nb, .inl (fun _ => 0))) k1) :=
  x_newL (atype := .byte) (t := 1) (ty := .byte) (a0 := fun N' => (N', .inl (fun _ => 0))) X hn hN harr rfl (fun _ => rfl) (fun _ _ h => h) (fun _ _ => x_zi) (by have := Nat.le_of_ble_eq_true hb; simp only [componentBytes]; omega) hkR hd kk
theorem x_newAB {nb : Nat} {n : Int32} {k1 : Nat → v_S → x_M ρ} {m0 : x_M ρ} (X : v_C Γ l0 R0 cc nL own ret w g) (harr : Cond.arrayClass .byte ∈ lw_all) (hb : Nat.ble nb 1000000 = true) (hkR : k9 + 1 ≤ R0.cells ∧ n9 + nb ≤ R0.slots) (hd : decode cc pc = .ok (.newarray .byte, 2))
    (kn : n < 0 → x_V Γ nL w g mc ms toR k9 n9 pc lv (.int n :: st) σ m0)
    (kk : ∀ q, v_df σ.2.2.2 q = none → x_V Γ nL w g mc ms toR (k9 + 1) (n9 + nb) (pc + 2) lv (.ref q :: st) (x_cell σ q (.inl (1, n.toNatClampNeg, .inl (fun _ => 0)))) (k1 q (x_cell σ q (.inl (1, n.toNatClampNeg, .inl (fun _ => 0)))))) : x_V Γ nL w g mc ms toR k9 n9 pc lv (.int n :: st) σ (if n < 0 then m0 else if n.toNatClampNeg ≤ nb then x_new σ (.inl (1, n.toNatClampNeg, .inl (fun _ => 0))) k1 else x_no) :=
  x_newA (atype := .byte) (t := 1) (ty := .byte) (a0 := fun N' => (N', .inl (fun _ => 0))) X harr rfl (fun _ => rfl) (fun _ _ h => h) (fun _ _ => x_zi) (by have := Nat.le_of_ble_eq_true hb; simp only [componentBytes]; omega) hkR hd kn (fun _ _ q hq => kk q hq)
theorem x_newLZ {nb : Nat} {n : Int32} {k1 : Nat → v_S → x_M ρ} (X : v_C Γ l0 R0 cc nL own ret w g) (hn : ¬ n < 0) (hN : n.toNatClampNeg = nb) (harr : Cond.arrayClass .boolean ∈ lw_all) (hb : Nat.ble nb 1000000 = true) (hkR : k9 + 1 ≤ R0.cells ∧ n9 + nb ≤ R0.slots) (hd : decode cc pc = .ok (.newarray .boolean, 2))
    (kk : ∀ q, v_df σ.2.2.2 q = none → x_V Γ nL w g mc ms toR (k9 + 1) (n9 + nb) (pc + 2) lv (.ref q :: st) (x_cell σ q (.inl (2, nb, .inl (fun _ => 0)))) (k1 q (x_cell σ q (.inl (2, nb, .inl (fun _ => 0)))))) : x_V Γ nL w g mc ms toR k9 n9 pc lv (.int n :: st) σ (x_new σ (.inl (2, nb, .inl (fun _ => 0))) k1) :=
  x_newL (atype := .boolean) (t := 2) (ty := .boolean) (a0 := fun N' => (N', .inl (fun _ => 0))) X hn hN harr rfl (fun _ => rfl) (fun _ _ h => h) (fun _ _ => x_zi) (by have := Nat.le_of_ble_eq_true hb; simp only [componentBytes]; omega) hkR hd kk
theorem x_newAZ {nb : Nat} {n : Int32} {k1 : Nat → v_S → x_M ρ} {m0 : x_M ρ} (X : v_C Γ l0 R0 cc nL own ret w g) (harr : Cond.arrayClass .boolean ∈ lw_all) (hb : Nat.ble nb 1000000 = true) (hkR : k9 + 1 ≤ R0.cells ∧ n9 + nb ≤ R0.slots) (hd : decode cc pc = .ok (.newarray .boolean, 2))
    (kn : n < 0 → x_V Γ nL w g mc ms toR k9 n9 pc lv (.int n :: st) σ m0)
    (kk : ∀ q, v_df σ.2.2.2 q = none → x_V Γ nL w g mc ms toR (k9 + 1) (n9 + nb) (pc + 2) lv (.ref q :: st) (x_cell σ q (.inl (2, n.toNatClampNeg, .inl (fun _ => 0)))) (k1 q (x_cell σ q (.inl (2, n.toNatClampNeg, .inl (fun _ => 0)))))) : x_V Γ nL w g mc ms toR k9 n9 pc lv (.int n :: st) σ (if n < 0 then m0 else if n.toNatClampNeg ≤ nb then x_new σ (.inl (2, n.toNatClampNeg, .inl (fun _ => 0))) k1 else x_no) :=
  x_newA (atype := .boolean) (t := 2) (ty := .boolean) (a0 := fun N' => (N', .inl (fun _ => 0))) X harr rfl (fun _ => rfl) (fun _ _ h => h) (fun _ _ => x_zi) (by have := Nat.le_of_ble_eq_true hb; simp only [componentBytes]; omega) hkR hd kn (fun _ _ q hq => kk q hq)
theorem x_newLJ {nb : Nat} {n : Int32} {k1 : Nat → v_S → x_M ρ} (X : v_C Γ l0 R0 cc nL own ret w g) (hn : ¬ n < 0) (hN : n.toNatClampNeg = nb) (harr : Cond.arrayClass .long ∈ lw_all) (hb : Nat.ble nb 1000000 = true) (hkR : k9 + 1 ≤ R0.cells ∧ n9 + nb ≤ R0.slots) (hd : decode cc pc = .ok (.newarray .long, 2))
    (kk : ∀ q, v_df σ.2.2.2 q = none → x_V Γ nL w g mc ms toR (k9 + 1) (n9 + nb) (pc + 2) lv (.ref q :: st) (x_cell σ q (.inl (3, nb, .inr (.inl (fun _ => 0))))) (k1 q (x_cell σ q (.inl (3, nb, .inr (.inl (fun _ => 0))))))) : x_V Γ nL w g mc ms toR k9 n9 pc lv (.int n :: st) σ (x_new σ (.inl (3, nb, .inr (.inl (fun _ => 0)))) k1) :=
  x_newL (atype := .long) (t := 3) (ty := .long) (a0 := fun N' => (N', .inr (.inl (fun _ => 0)))) X hn hN harr rfl (fun _ => rfl) (fun _ _ h => h) (fun _ _ => x_zl) (by have := Nat.le_of_ble_eq_true hb; simp only [componentBytes]; omega) hkR hd kk
theorem x_newAJ {nb : Nat} {n : Int32} {k1 : Nat → v_S → x_M ρ} {m0 : x_M ρ} (X : v_C Γ l0 R0 cc nL own ret w g) (harr : Cond.arrayClass .long ∈ lw_all) (hb : Nat.ble nb 1000000 = true) (hkR : k9 + 1 ≤ R0.cells ∧ n9 + nb ≤ R0.slots) (hd : decode cc pc = .ok (.newarray .long, 2))
    (kn : n < 0 → x_V Γ nL w g mc ms toR k9 n9 pc lv (.int n :: st) σ m0)
    (kk : ∀ q, v_df σ.2.2.2 q = none → x_V Γ nL w g mc ms toR (k9 + 1) (n9 + nb) (pc + 2) lv (.ref q :: st) (x_cell σ q (.inl (3, n.toNatClampNeg, .inr (.inl (fun _ => 0))))) (k1 q (x_cell σ q (.inl (3, n.toNatClampNeg, .inr (.inl (fun _ => 0))))))) : x_V Γ nL w g mc ms toR k9 n9 pc lv (.int n :: st) σ (if n < 0 then m0 else if n.toNatClampNeg ≤ nb then x_new σ (.inl (3, n.toNatClampNeg, .inr (.inl (fun _ => 0)))) k1 else x_no) :=
  x_newA (atype := .long) (t := 3) (ty := .long) (a0 := fun N' => (N', .inr (.inl (fun _ => 0)))) X harr rfl (fun _ => rfl) (fun _ _ h => h) (fun _ _ => x_zl) (by have := Nat.le_of_ble_eq_true hb; simp only [componentBytes]; omega) hkR hd kn (fun _ _ q hq => kk q hq)
theorem x_newLS {nb : Nat} {n : Int32} {k1 : Nat → v_S → x_M ρ} (X : v_C Γ l0 R0 cc nL own ret w g) (hn : ¬ n < 0) (hN : n.toNatClampNeg = nb) (harr : Cond.arrayClass .short ∈ lw_all) (hb : Nat.ble nb 1000000 = true) (hkR : k9 + 1 ≤ R0.cells ∧ n9 + nb ≤ R0.slots) (hd : decode cc pc = .ok (.newarray .short, 2))
    (kk : ∀ q, v_df σ.2.2.2 q = none → x_V Γ nL w g mc ms toR (k9 + 1) (n9 + nb) (pc + 2) lv (.ref q :: st) (x_cell σ q (.inl (4, nb, .inl (fun _ => 0)))) (k1 q (x_cell σ q (.inl (4, nb, .inl (fun _ => 0)))))) : x_V Γ nL w g mc ms toR k9 n9 pc lv (.int n :: st) σ (x_new σ (.inl (4, nb, .inl (fun _ => 0))) k1) :=
  x_newL (atype := .short) (t := 4) (ty := .short) (a0 := fun N' => (N', .inl (fun _ => 0))) X hn hN harr rfl (fun _ => rfl) (fun _ _ h => h) (fun _ _ => x_zi) (by have := Nat.le_of_ble_eq_true hb; simp only [componentBytes]; omega) hkR hd kk
theorem x_newAS {nb : Nat} {n : Int32} {k1 : Nat → v_S → x_M ρ} {m0 : x_M ρ} (X : v_C Γ l0 R0 cc nL own ret w g) (harr : Cond.arrayClass .short ∈ lw_all) (hb : Nat.ble nb 1000000 = true) (hkR : k9 + 1 ≤ R0.cells ∧ n9 + nb ≤ R0.slots) (hd : decode cc pc = .ok (.newarray .short, 2))
    (kn : n < 0 → x_V Γ nL w g mc ms toR k9 n9 pc lv (.int n :: st) σ m0)
    (kk : ∀ q, v_df σ.2.2.2 q = none → x_V Γ nL w g mc ms toR (k9 + 1) (n9 + nb) (pc + 2) lv (.ref q :: st) (x_cell σ q (.inl (4, n.toNatClampNeg, .inl (fun _ => 0)))) (k1 q (x_cell σ q (.inl (4, n.toNatClampNeg, .inl (fun _ => 0)))))) : x_V Γ nL w g mc ms toR k9 n9 pc lv (.int n :: st) σ (if n < 0 then m0 else if n.toNatClampNeg ≤ nb then x_new σ (.inl (4, n.toNatClampNeg, .inl (fun _ => 0))) k1 else x_no) :=
  x_newA (atype := .short) (t := 4) (ty := .short) (a0 := fun N' => (N', .inl (fun _ => 0))) X harr rfl (fun _ => rfl) (fun _ _ h => h) (fun _ _ => x_zi) (by have := Nat.le_of_ble_eq_true hb; simp only [componentBytes]; omega) hkR hd kn (fun _ _ q hq => kk q hq)
/-! stores into cells without number -/
def v_dset : v_DL → Nat → ((Nat × vp_A) ⊕ (Nat × List Value)) → v_DL
  | [], _, _ => []
  | q :: r, a, e => if q.1 = a then (q.1, e) :: r else q :: v_dset r a e
def x_st (σ : v_S) (a : Nat) (e : (Nat × vp_A) ⊕ (Nat × List Value)) : v_S := (σ.1, σ.2.1, σ.2.2.1, v_dset σ.2.2.2 a e)
theorem v_ds_at : ∀ {dl : v_DL} {a : Nat} {e : (Nat × vp_A) ⊕ (Nat × List Value)}, v_df dl a = some e → ∃ k : Nat, dl[k]? = some (a, e) ∧ ∀ e', dl.set k (a, e') = v_dset dl a e'
  | [], a, e, h => by cases h
  | q :: r, a, e, h => by
    unfold v_df at h
    split at h
    · rename_i hq
      cases h
      exact ⟨0, by rw [← hq]; rfl, fun e' => by unfold v_dset; rw [if_pos hq, ← hq]; rfl⟩
    · rename_i hq
      obtain ⟨k, hk, hs⟩ := v_ds_at h
      exact ⟨k + 1, hk, fun e' => by unfold v_dset; rw [if_neg hq, ← hs e']; rfl⟩
theorem x_wl_st {a : Nat} {e : (Nat × vp_A) ⊕ (Nat × List Value)} (h : v_df σ.2.2.2 a = some e) : ∃ q0 : Nat, (v_wl w g σ)[q0]? = some (v_dm g (a, e)) ∧ ∀ e', (v_wl w g σ).set q0 (v_dm g (a, e')) = v_wl w g (x_st σ a e') := by
  obtain ⟨k, hk, hs⟩ := v_ds_at h
  refine ⟨w.2.1 + k, by rw [v_wl_dl, hk]; rfl, fun e' => ?_⟩
  unfold v_wl x_st
  have e : ∀ n, v_cell w.1 g (σ.1, σ.2.1, σ.2.2.1, v_dset σ.2.2.2 a e') n = v_cell w.1 g σ n := fun n => v_cell_n (fun _ => rfl) (fun _ => rfl) (fun _ => rfl)
  simp only [e]
  rw [List.set_append_right _ _ (by simp)]
  congr 1
  rw [← hs e', List.map_set]
  simp
/-- the fields of an object of the class ci, where k is one -/
def v_dfk (σ : v_S) (a ci k : Nat) : Option (List Value) := match v_df σ.2.2.2 a with
  | some (.inr (c, fs)) => if c = ci ∧ k < fs.length then some fs else none
  | _ => none
theorem v_dfk_at {a ci k : Nat} {fs : List Value} (h : v_dfk σ a ci k = some fs) : v_df σ.2.2.2 a = some (.inr (ci, fs)) ∧ k < fs.length := by
  unfold v_dfk at h
  split at h
  · rename_i c fs' hd
    split at h
    · rename_i hc
      cases h
      exact ⟨by rw [hd, hc.1], hc.2⟩
    · cases h
  · cases h
theorem x_dput {a ci k N index : Nat} {C : String} {T : u_T} {ty : FieldType} {v : Value} {k1 : v_S → x_M ρ} (X : v_C Γ l0 R0 cc nL own ret w g) (hc : w.2.2[ci]? = some (C, T, N)) (hin : ∀ q ∈ u_ws C T N, q ∈ lw_all) (ty0 : Nat → FieldType) (hty : ∀ k, k < N → parseFieldDescriptor (T k).2.2.1 = some (ty0 k)) (hnm : ∀ a, a < N → ∀ b, b < N → a ≠ b → (T a).2.1 ≠ (T b).2.1) (hk : k < N) (hlink : Cond.fieldLink own index (T k).1 (T k).2.1 (T k).2.2.1 ∈ lw_all) (hfin : (T k).2.2.2 = false) (hty1 : ty0 k = ty) (hn : narrow ty v = v) (hft : fits ty v = true) (hd : decode cc pc = .ok (.putfield index, 3))
    (kk : ∀ σ', x_V Γ nL w g mc ms toR k9 n9 (pc + 3) lv st σ' (k1 σ')) : x_V Γ nL w g mc ms toR k9 n9 pc lv (v :: .ref a :: st) σ (x_b1 (v_dfk σ a ci k) fun fs => x_n (x_st σ a (.inr (ci, fs.set k v))) k1) := by
  intro P E hx ls H locs h1 h2 h3
  obtain ⟨fs, hfs, hx⟩ := hx
  obtain ⟨hdf, hl⟩ := v_dfk_at hfs
  obtain ⟨q0, hq0, hs⟩ := x_wl_st (w := w) (g := g) hdf
  refine va_put (ref := (T k).1) (v := v) (ty := ty) X.1 X.2.1 X.2.2.2.2.1 hin ty0 hty hnm X.2.2.2.1 X.2.2.2.2.2.2.2.1 h2.1 h2.2 h3 q0 (fs := fs) hq0 hc k hk (X.2.2.2.2.1 _ hlink) (fun _ h => h) hfin (by rw [hty k hk, hty1]) hn hft hl hd (fun H1 locs1 hP hD hS => ?_)
  have e : (v_wl w g σ).set q0 (a, .inr (ci, fs.set k v)) = v_wl w g (x_st σ a (.inr (ci, fs.set k v))) := hs (.inr (ci, fs.set k v))
  rw [e] at hP hD
  exact kk _ P E hx ls H1 locs1 h1 ⟨hP, hD⟩ hS
theorem x_dputF {a ci k N index : Nat} {C : String} {T : u_T} {ty : FieldType} {v : Value} {k1 : v_S → x_M ρ} (X : v_C Γ l0 R0 cc nL own ret w g) (hc : w.2.2[ci]? = some (C, T, N)) (hin : ∀ q ∈ u_ws C T N, q ∈ lw_all) (ty0 : Nat → FieldType) (hty : ∀ k, k < N → parseFieldDescriptor (T k).2.2.1 = some (ty0 k)) (hnm : ∀ a, a < N → ∀ b, b < N → a ≠ b → (T a).2.1 ≠ (T b).2.1) (hk : k < N) (hlink : Cond.fieldLink own index (T k).1 (T k).2.1 (T k).2.2.1 ∈ lw_all) (hfin : (T k).2.2.2 = true) (hin2 : (v_me Γ).name = "<init>") (hdecl : (T k).1 = own) (hty1 : ty0 k = ty) (hn : narrow ty v = v) (hft : fits ty v = true) (hd : decode cc pc = .ok (.putfield index, 3))
    (kk : ∀ σ', x_V Γ nL w g mc ms toR k9 n9 (pc + 3) lv st σ' (k1 σ')) : x_V Γ nL w g mc ms toR k9 n9 pc lv (v :: .ref a :: st) σ (x_b1 (v_dfk σ a ci k) fun fs => x_n (x_st σ a (.inr (ci, fs.set k v))) k1) := by
  intro P E hx ls H locs h1 h2 h3
  obtain ⟨fs, hfs, hx⟩ := hx
  obtain ⟨hdf, hl⟩ := v_dfk_at hfs
  obtain ⟨q0, hq0, hs⟩ := x_wl_st (w := w) (g := g) hdf
  refine va_putF (ref := (T k).1) (v := v) (ty := ty) X.1 X.2.1 X.2.2.2.2.1 hin ty0 hty hnm X.2.2.2.1 X.2.2.2.2.2.2.2.1 h2.1 h2.2 h3 q0 (fs := fs) hq0 hc k hk (X.2.2.2.2.1 _ hlink) (fun _ h => h) hfin hin2 hdecl (by rw [hty k hk, hty1]) hn hft hl hd (fun H1 locs1 hP hD hS => ?_)
  have e : (v_wl w g σ).set q0 (a, .inr (ci, fs.set k v)) = v_wl w g (x_st σ a (.inr (ci, fs.set k v))) := hs (.inr (ci, fs.set k v))
  rw [e] at hP hD
  exact kk _ P E hx ls H1 locs1 h1 ⟨hP, hD⟩ hS
theorem x_dputN {a ci k N index : Nat} {host : String} {C : String} {T : u_T} {ty : FieldType} {v : Value} {k1 : v_S → x_M ρ} (X : v_C Γ l0 R0 cc nL own ret w g) (hc : w.2.2[ci]? = some (C, T, N)) (hin : ∀ q ∈ u_ws C T N, q ∈ lw_all) (ty0 : Nat → FieldType) (hty : ∀ k, k < N → parseFieldDescriptor (T k).2.2.1 = some (ty0 k)) (hnm : ∀ a, a < N → ∀ b, b < N → a ≠ b → (T a).2.1 ≠ (T b).2.1) (hk : k < N) (hlink : Cond.fieldLinkNest own index (T k).1 (T k).2.1 (T k).2.2.1 host ∈ lw_tbl) (hfin : (T k).2.2.2 = false) (hty1 : ty0 k = ty) (hn : narrow ty v = v) (hft : fits ty v = true) (hd : decode cc pc = .ok (.putfield index, 3))
    (kk : ∀ σ', x_V Γ nL w g mc ms toR k9 n9 (pc + 3) lv st σ' (k1 σ')) : x_V Γ nL w g mc ms toR k9 n9 pc lv (v :: .ref a :: st) σ (x_b1 (v_dfk σ a ci k) fun fs => x_n (x_st σ a (.inr (ci, fs.set k v))) k1) := by
  intro P E hx ls H locs h1 h2 h3
  obtain ⟨fs, hfs, hx⟩ := hx
  obtain ⟨hdf, hl⟩ := v_dfk_at hfs
  obtain ⟨q0, hq0, hs⟩ := x_wl_st (w := w) (g := g) hdf
  refine va_putN (ref := (T k).1) (v := v) (ty := ty) X.1 X.2.1 X.2.2.2.2.1 hin ty0 hty hnm X.2.2.2.1 X.2.2.2.2.2.2.2.1 h2.1 h2.2 h3 q0 (fs := fs) hq0 hc k hk (X.2.2.2.2.2.2.2.2.2.1.nestF hlink) (fun _ h => h) hfin (by rw [hty k hk, hty1]) hn hft hl hd (fun H1 locs1 hP hD hS => ?_)
  have e : (v_wl w g σ).set q0 (a, .inr (ci, fs.set k v)) = v_wl w g (x_st σ a (.inr (ci, fs.set k v))) := hs (.inr (ci, fs.set k v))
  rw [e] at hP hD
  exact kk _ P E hx ls H1 locs1 h1 ⟨hP, hD⟩ hS
theorem x_dputS {a ci k N index : Nat} {ref : String} {C : String} {T : u_T} {ty : FieldType} {v : Value} {k1 : v_S → x_M ρ} (X : v_C Γ l0 R0 cc nL own ret w g) (hc : w.2.2[ci]? = some (C, T, N)) (hin : ∀ q ∈ u_ws C T N, q ∈ lw_all) (ty0 : Nat → FieldType) (hty : ∀ k, k < N → parseFieldDescriptor (T k).2.2.1 = some (ty0 k)) (hnm : ∀ a, a < N → ∀ b, b < N → a ≠ b → (T a).2.1 ≠ (T b).2.1) (hk : k < N) (hlink : Cond.fieldLink own index ref (T k).2.1 (T k).2.2.1 ∈ lw_all) (hsame : Cond.sameField ref (T k).1 (T k).2.1 (T k).2.2.1 ∈ lw_all) (hfin : (T k).2.2.2 = false) (hty1 : ty0 k = ty) (hn : narrow ty v = v) (hft : fits ty v = true) (hd : decode cc pc = .ok (.putfield index, 3))
    (kk : ∀ σ', x_V Γ nL w g mc ms toR k9 n9 (pc + 3) lv st σ' (k1 σ')) : x_V Γ nL w g mc ms toR k9 n9 pc lv (v :: .ref a :: st) σ (x_b1 (v_dfk σ a ci k) fun fs => x_n (x_st σ a (.inr (ci, fs.set k v))) k1) := by
  intro P E hx ls H locs h1 h2 h3
  obtain ⟨fs, hfs, hx⟩ := hx
  obtain ⟨hdf, hl⟩ := v_dfk_at hfs
  obtain ⟨q0, hq0, hs⟩ := x_wl_st (w := w) (g := g) hdf
  refine va_put (ref := ref) (v := v) (ty := ty) X.1 X.2.1 X.2.2.2.2.1 hin ty0 hty hnm X.2.2.2.1 X.2.2.2.2.2.2.2.1 h2.1 h2.2 h3 q0 (fs := fs) hq0 hc k hk (X.2.2.2.2.1 _ hlink) (u_same (X.2.2.2.2.1 _ hsame)) hfin (by rw [hty k hk, hty1]) hn hft hl hd (fun H1 locs1 hP hD hS => ?_)
  have e : (v_wl w g σ).set q0 (a, .inr (ci, fs.set k v)) = v_wl w g (x_st σ a (.inr (ci, fs.set k v))) := hs (.inr (ci, fs.set k v))
  rw [e] at hP hD
  exact kk _ P E hx ls H1 locs1 h1 ⟨hP, hD⟩ hS
theorem x_diast {a : Nat} {i : Int32} {x : Int32} {k1 : v_S → x_M ρ} (X : v_C Γ l0 R0 cc nL own ret w g) (hd : decode cc pc = .ok (.iastore, 1))
    (kk : ∀ σ', x_V Γ nL w g mc ms toR k9 n9 (pc + 1) lv st σ' (k1 σ')) : x_V Γ nL w g mc ms toR k9 n9 pc lv (.int x :: .int i :: .ref a :: st) σ (x_b2 (v_da σ a 0) fun n f => x_g i n (x_n (x_st σ a (.inl (0, n, .inl (upd f i.toNatClampNeg x)))) k1)) := by
  intro P E hx ls H locs h1 h2 h3
  obtain ⟨n, f, hz, hin, hx⟩ := hx
  have hdf := v_da_at hz
  obtain ⟨q0, hq0, hs⟩ := x_wl_st (w := w) (g := g) hdf
  refine va_iast X.1 X.2.1 X.2.2.2.2.2.2.2.1 h2.1 h2.2 h3 q0 0 hq0 rfl hin hd (fun H1 locs1 hP hD hS => ?_)
  have e : (v_wl w g σ).set q0 (a, .inl (v_dA g 0, n, .inl (upd f i.toNatClampNeg x))) = v_wl w g (x_st σ a (.inl (0, n, .inl (upd f i.toNatClampNeg x)))) := hs (.inl (0, n, .inl (upd f i.toNatClampNeg x)))
  rw [e] at hP hD
  exact kk _ P E hx ls H1 locs1 h1 ⟨hP, hD⟩ hS
theorem x_dbast {a : Nat} {i : Int32} {x : Int32} {k1 : v_S → x_M ρ} (X : v_C Γ l0 R0 cc nL own ret w g) (hd : decode cc pc = .ok (.bastore, 1))
    (kk : ∀ σ', x_V Γ nL w g mc ms toR k9 n9 (pc + 1) lv st σ' (k1 σ')) : x_V Γ nL w g mc ms toR k9 n9 pc lv (.int x :: .int i :: .ref a :: st) σ (x_b2 (v_da σ a 1) fun n f => x_g i n (x_n (x_st σ a (.inl (1, n, .inl (upd f i.toNatClampNeg (vp_nar .byte x))))) k1)) := by
  intro P E hx ls H locs h1 h2 h3
  obtain ⟨n, f, hz, hin, hx⟩ := hx
  have hdf := v_da_at hz
  obtain ⟨q0, hq0, hs⟩ := x_wl_st (w := w) (g := g) hdf
  refine va_bast X.1 X.2.1 X.2.2.2.2.2.2.2.1 h2.1 h2.2 h3 q0 1 hq0 rfl hin hd (fun H1 locs1 hP hD hS => ?_)
  have e : (v_wl w g σ).set q0 (a, .inl (v_dA g 1, n, .inl (upd f i.toNatClampNeg (vp_nar .byte x)))) = v_wl w g (x_st σ a (.inl (1, n, .inl (upd f i.toNatClampNeg (vp_nar .byte x))))) := hs (.inl (1, n, .inl (upd f i.toNatClampNeg (vp_nar .byte x))))
  rw [e] at hP hD
  exact kk _ P E hx ls H1 locs1 h1 ⟨hP, hD⟩ hS
theorem x_dsast {a : Nat} {i : Int32} {x : Int32} {k1 : v_S → x_M ρ} (X : v_C Γ l0 R0 cc nL own ret w g) (hd : decode cc pc = .ok (.sastore, 1))
    (kk : ∀ σ', x_V Γ nL w g mc ms toR k9 n9 (pc + 1) lv st σ' (k1 σ')) : x_V Γ nL w g mc ms toR k9 n9 pc lv (.int x :: .int i :: .ref a :: st) σ (x_b2 (v_da σ a 4) fun n f => x_g i n (x_n (x_st σ a (.inl (4, n, .inl (upd f i.toNatClampNeg (vp_nar .short x))))) k1)) := by
  intro P E hx ls H locs h1 h2 h3
  obtain ⟨n, f, hz, hin, hx⟩ := hx
  have hdf := v_da_at hz
  obtain ⟨q0, hq0, hs⟩ := x_wl_st (w := w) (g := g) hdf
  refine va_sast X.1 X.2.1 X.2.2.2.2.2.2.2.1 h2.1 h2.2 h3 q0 4 hq0 rfl hin hd (fun H1 locs1 hP hD hS => ?_)
  have e : (v_wl w g σ).set q0 (a, .inl (v_dA g 4, n, .inl (upd f i.toNatClampNeg (vp_nar .short x)))) = v_wl w g (x_st σ a (.inl (4, n, .inl (upd f i.toNatClampNeg (vp_nar .short x))))) := hs (.inl (4, n, .inl (upd f i.toNatClampNeg (vp_nar .short x))))
  rw [e] at hP hD
  exact kk _ P E hx ls H1 locs1 h1 ⟨hP, hD⟩ hS
theorem x_dlast {a : Nat} {i : Int32} {x : Int64} {k1 : v_S → x_M ρ} (X : v_C Γ l0 R0 cc nL own ret w g) (hd : decode cc pc = .ok (.lastore, 1))
    (kk : ∀ σ', x_V Γ nL w g mc ms toR k9 n9 (pc + 1) lv st σ' (k1 σ')) : x_V Γ nL w g mc ms toR k9 n9 pc lv (.long x :: .int i :: .ref a :: st) σ (x_b2 (v_dl σ a 3) fun n f => x_g i n (x_n (x_st σ a (.inl (3, n, .inr (.inl (vp_updL f i.toNatClampNeg x))))) k1)) := by
  intro P E hx ls H locs h1 h2 h3
  obtain ⟨n, f, hz, hin, hx⟩ := hx
  have hdf := v_dl_at hz
  obtain ⟨q0, hq0, hs⟩ := x_wl_st (w := w) (g := g) hdf
  refine va_last X.1 X.2.1 X.2.2.2.2.2.2.2.1 h2.1 h2.2 h3 q0 3 hq0 rfl hin hd (fun H1 locs1 hP hD hS => ?_)
  have e : (v_wl w g σ).set q0 (a, .inl (v_dA g 3, n, .inr (.inl (vp_updL f i.toNatClampNeg x)))) = v_wl w g (x_st σ a (.inl (3, n, .inr (.inl (vp_updL f i.toNatClampNeg x))))) := hs (.inl (3, n, .inr (.inl (vp_updL f i.toNatClampNeg x))))
  rw [e] at hP hD
  exact kk _ P E hx ls H1 locs1 h1 ⟨hP, hD⟩ hS
/-- the class number of a cell -/
def v_cc (σ : v_S) (v : Nat) : Option Nat := match v_df σ.2.2.2 v with
  | some (.inr (c, _)) => some c
  | _ => none
theorem v_cc_at {v c : Nat} (h : v_cc σ v = some c) : ∃ vs, v_df σ.2.2.2 v = some (.inr (c, vs)) := by
  unfold v_cc at h
  split at h
  · rename_i c' vs hd
    cases h
    exact ⟨vs, hd⟩
  · cases h
theorem x_dqast {a t v : Nat} {cs : List Nat} {E0 : String} {i : Int32} {k1 : v_S → x_M ρ} (X : v_C Γ l0 R0 cc nL own ret w g) (ht : ∀ dA, (v_tys dA)[t]? = some (dA t, .object E0)) (hcs : ∀ c ∈ cs, ∃ r : vw_C, w.2.2[c]? = some r ∧ (r.1 = E0 ∨ Cond.castable r.1 E0 ∈ lw_tbl)) (hd : decode cc pc = .ok (.aastore, 1))
    (kk : ∀ σ', x_V Γ nL w g mc ms toR k9 n9 (pc + 1) lv st σ' (k1 σ')) : x_V Γ nL w g mc ms toR k9 n9 pc lv (.ref v :: .int i :: .ref a :: st) σ (x_b1 (v_cc σ v) fun c => if c ∈ cs then x_b2 (v_dq σ a t) fun n f => x_g i n (x_n (x_st σ a (.inl (t, n, .inr (.inr (.inr (.inr (va_up f i.toNatClampNeg (some v)))))))) k1) else x_no) := by
  intro P E hx ls H locs h1 h2 h3
  obtain ⟨c, hcc, hx⟩ := hx
  by_cases hm : c ∈ cs
  · rw [if_pos hm] at hx
    obtain ⟨n, f, hz, hin, hx⟩ := hx
    obtain ⟨vs, hv⟩ := v_cc_at hcc
    obtain ⟨qk, hqk⟩ := v_wl_d (w := w) (g := g) hv
    have hdf := v_dq_at hz
    obtain ⟨q0, hq0, hs⟩ := x_wl_st (w := w) (g := g) hdf
    obtain ⟨r, hr, hcast⟩ := hcs c hm
    have e : (v_wl w g σ).set q0 (a, .inl (v_dA g t, n, .inr (.inr (.inr (.inr (va_up f i.toNatClampNeg (some v))))))) = v_wl w g (x_st σ a (.inl (t, n, .inr (.inr (.inr (.inr (va_up f i.toNatClampNeg (some v)))))))) := hs (.inl (t, n, .inr (.inr (.inr (.inr (va_up f i.toNatClampNeg (some v)))))))
    rcases hcast with hcast | hcast
    · refine va_astq X.1 X.2.1 X.2.2.2.2.2.2.2.1 h2.1 h2.2 h3 q0 t qk c (r := r) hq0 (by rw [hcast]; exact ht _) hqk hr hin hd (fun H1 locs1 hP hD hS => ?_)
      rw [e] at hP hD
      exact kk _ P E hx ls H1 locs1 h1 ⟨hP, hD⟩ hS
    · refine va_astqO X.1 X.2.1 X.2.2.2.2.2.2.2.1 h2.1 h2.2 h3 q0 t qk c (r := r) hq0 (ht _) (X.2.2.2.2.2.2.2.2.2.1.cast hcast) hqk hr hin hd (fun H1 locs1 hP hD hS => ?_)
      rw [e] at hP hD
      exact kk _ P E hx ls H1 locs1 h1 ⟨hP, hD⟩ hS
  · rw [if_neg hm] at hx
    exact False.elim hx
/-- .. into a numbered array -/
theorem x_qast {n len t v : Nat} {cs : List Nat} {E0 : String} {i : Int32} {k1 : v_S → x_M ρ} (X : v_C Γ l0 R0 cc nL own ret w g) (hn : n < w.2.1) (hlay : w.1 n = .inr (t, len, 2)) (ht : ∀ dA, (v_tys dA)[t]? = some (dA t, .object E0)) (hcs : ∀ c ∈ cs, ∃ r : vw_C, w.2.2[c]? = some r ∧ (r.1 = E0 ∨ Cond.castable r.1 E0 ∈ lw_tbl)) (hd : decode cc pc = .ok (.aastore, 1))
    (kk : ∀ σ', x_V Γ nL w g mc ms toR k9 n9 (pc + 1) lv st σ' (k1 σ')) : x_V Γ nL w g mc ms toR k9 n9 pc lv (.ref v :: .int i :: .ref (v_E g n) :: st) σ (x_b1 (v_cc σ v) fun c => if c ∈ cs then x_g i len (x_n (v_uR σ n i.toNatClampNeg (some v)) k1) else x_no) := by
  intro P E hx ls H locs h1 h2 h3
  obtain ⟨c, hcc, hx⟩ := hx
  by_cases hm : c ∈ cs
  · rw [if_pos hm] at hx
    obtain ⟨hin, hx⟩ := hx
    obtain ⟨vs, hv⟩ := v_cc_at hcc
    obtain ⟨qk, hqk⟩ := v_wl_d (w := w) (g := g) hv
    obtain ⟨r, hr, hcast⟩ := hcs c hm
    have e := v_wl_set (g := g) (σ := σ) (σ' := v_uR σ n i.toNatClampNeg (some v)) (e := .inl (v_dA g t, len, .inr (.inr (.inr (.inr (va_up (σ.2.2.1 n) i.toNatClampNeg (some v))))))) hn (by rw [v_cell_a hlay]; exact congrArg (fun q => Sum.inl (v_dA g t, len, Sum.inr (Sum.inr (Sum.inr (Sum.inr q))))) (funext fun j => by simp [v_uR, va_up])) (fun m hm => v_cell_n (fun k => by simp [v_uR, hm]) (fun k => by simp [v_uR, hm]) (fun k => by simp [v_uR, hm])) rfl
    rcases hcast with hcast | hcast
    · refine va_astq X.1 X.2.1 X.2.2.2.2.2.2.2.1 h2.1 h2.2 h3 n t qk c (r := r) ((v_wl_at hn).trans (by rw [v_cell_a hlay]; rfl)) (by rw [hcast]; exact ht _) hqk hr hin hd (fun H1 locs1 hP hD hS => ?_)
      rw [e] at hP hD
      exact kk _ P E hx ls H1 locs1 h1 ⟨hP, hD⟩ hS
    · refine va_astqO X.1 X.2.1 X.2.2.2.2.2.2.2.1 h2.1 h2.2 h3 n t qk c (r := r) ((v_wl_at hn).trans (by rw [v_cell_a hlay]; rfl)) (ht _) (X.2.2.2.2.2.2.2.2.2.1.cast hcast) hqk hr hin hd (fun H1 locs1 hP hD hS => ?_)
      rw [e] at hP hD
      exact kk _ P E hx ls H1 locs1 h1 ⟨hP, hD⟩ hS
  · rw [if_neg hm] at hx
    exact False.elim hx
/-! loops, Math.min, calls by kind -/
def x_loop {α : Type} (B : (α → x_M ρ) → α → x_M ρ) : Nat → α → x_M ρ
  | 0, _ => x_no
  | n + 1, a => B (x_loop B n) a
theorem x_mmin {index : Nat} {x1 y1 : Int32} (X : v_C Γ l0 R0 cc nL own ret w g) (q1 : Cond.methodLink own index Lib.Math.min.name ∈ lw_all) (q2 : Cond.static Lib.Math.min.name ∈ lw_all) (q3 : Cond.initialized "java/lang/Math" ∈ lw_all) (q4 : Cond.code Lib.Math.min.name Lib.Math.min.code 2 (some .int) ∈ lw_all) (hR : (Nat.ble 1 R0.frames && Nat.ble ((st.map fun v => v.category).sum + 13) R0.locals) = true) (hkR : k9 ≤ R0.cells ∧ n9 ≤ R0.slots) (hd : decode cc pc = .ok (.invokestatic index, 3))
    (kk : x_V Γ nL w g mc ms toR k9 n9 (pc + 3) lv (.int (if y1 < x1 then y1 else x1) :: st) σ mdl) : x_V Γ nL w g mc ms toR k9 n9 pc lv (.int y1 :: .int x1 :: st) σ mdl := by
  intro P E hx ls H locs h1 h2 h3
  simp only [Bool.and_eq_true, Nat.ble_eq] at hR
  exact va_mmin X.1 X.2.1 (X.2.2.1.trans h1.1.symm) X.2.2.2.1 (X.2.2.2.2.1 _ q1) (X.2.2.2.2.1 _ q2) (X.2.2.2.2.1 _ q3) (X.2.2.2.2.1 _ q4) (by rw [X.2.2.2.2.2.2.2.2.2.2.2]; exact hR.1) (by rw [X.2.2.2.2.2.2.2.2.2.2.2]; exact hR.2) (by rw [X.2.2.2.2.2.2.2.2.2.2.2]; exact hkR.1) (by rw [X.2.2.2.2.2.2.2.2.2.2.2]; exact hkR.2) hd (kk P E hx ls H locs h1 h2 h3)
theorem x_cGi {y : MethodName} {bytes : ByteArray} {maxL index : Nat} {ret' : Option FieldType} {rm : Room} {b : Nat} {np : Nat} {As rest st0 : List Value} {f : Option (Int32)} {k : Int32 → x_M ρ} (X : v_C Γ l0 R0 cc nL own ret w g) (hM : v_M l0 y bytes maxL ret' rm w g (.ref b :: As) σ (fun z => (some (.int z), σ)) f) (ho : v_rc Γ w g σ b y.cls) (hq : Cond.methodLink own index y ∈ lw_all ∨ ∃ host, Cond.methodLinkNest own index y host ∈ lw_tbl) (hy : v_yV y bytes maxL ret' np) (hnp : As.length = np) (hrm : v_rm rm R0 maxL = true) (hkR : k9 ≤ R0.cells ∧ n9 ≤ R0.slots) (hst : st0 = As.reverse ++ .ref b :: rest) (hroom : Nat.ble ((rest.map fun v => v.category).sum) 8 = true) (hd : decode cc pc = .ok (.invokevirtual index, 3))
    (kk : ∀ z : Int32, x_V Γ nL w g mc ms toR k9 n9 (pc + 3) lv (.int z :: rest) σ (k z)) : x_V Γ nL w g mc ms toR k9 n9 pc lv st0 σ (x_b1 f k) := (x_callG X hM ho hq hy hnp hrm hkR hst hroom hd (fun z _ => kk z))
theorem x_cSi {y : MethodName} {bytes : ByteArray} {maxL index : Nat} {ret' : Option FieldType} {rm : Room} {np : Nat} {As rest st0 : List Value} {f : Option (Int32)} {k : Int32 → x_M ρ} (X : v_C Γ l0 R0 cc nL own ret w g) (hM : v_M l0 y bytes maxL ret' rm w g (As) σ (fun z => (some (.int z), σ)) f) (hq : Cond.methodLink own index y ∈ lw_all ∨ ∃ host, Cond.methodLinkNest own index y host ∈ lw_tbl) (hy : v_yS y bytes maxL ret' np) (hnp : As.length = np) (hrm : v_rm rm R0 maxL = true) (hkR : k9 ≤ R0.cells ∧ n9 ≤ R0.slots) (hst : st0 = As.reverse ++ rest) (hroom : Nat.ble ((rest.map fun v => v.category).sum) 8 = true) (hd : decode cc pc = .ok (.invokestatic index, 3))
    (kk : ∀ z : Int32, x_V Γ nL w g mc ms toR k9 n9 (pc + 3) lv (.int z :: rest) σ (k z)) : x_V Γ nL w g mc ms toR k9 n9 pc lv st0 σ (x_b1 f k) := (x_callS X hM hq hy hnp hrm hkR hst hroom hd (fun z _ => kk z))
theorem x_cGl {y : MethodName} {bytes : ByteArray} {maxL index : Nat} {ret' : Option FieldType} {rm : Room} {b : Nat} {np : Nat} {As rest st0 : List Value} {f : Option (Int64)} {k : Int64 → x_M ρ} (X : v_C Γ l0 R0 cc nL own ret w g) (hM : v_M l0 y bytes maxL ret' rm w g (.ref b :: As) σ (fun z => (some (.long z), σ)) f) (ho : v_rc Γ w g σ b y.cls) (hq : Cond.methodLink own index y ∈ lw_all ∨ ∃ host, Cond.methodLinkNest own index y host ∈ lw_tbl) (hy : v_yV y bytes maxL ret' np) (hnp : As.length = np) (hrm : v_rm rm R0 maxL = true) (hkR : k9 ≤ R0.cells ∧ n9 ≤ R0.slots) (hst : st0 = As.reverse ++ .ref b :: rest) (hroom : Nat.ble ((rest.map fun v => v.category).sum) 8 = true) (hd : decode cc pc = .ok (.invokevirtual index, 3))
    (kk : ∀ z : Int64, x_V Γ nL w g mc ms toR k9 n9 (pc + 3) lv (.long z :: rest) σ (k z)) : x_V Γ nL w g mc ms toR k9 n9 pc lv st0 σ (x_b1 f k) := (x_callG X hM ho hq hy hnp hrm hkR hst hroom hd (fun z _ => kk z))
theorem x_cSl {y : MethodName} {bytes : ByteArray} {maxL index : Nat} {ret' : Option FieldType} {rm : Room} {np : Nat} {As rest st0 : List Value} {f : Option (Int64)} {k : Int64 → x_M ρ} (X : v_C Γ l0 R0 cc nL own ret w g) (hM : v_M l0 y bytes maxL ret' rm w g (As) σ (fun z => (some (.long z), σ)) f) (hq : Cond.methodLink own index y ∈ lw_all ∨ ∃ host, Cond.methodLinkNest own index y host ∈ lw_tbl) (hy : v_yS y bytes maxL ret' np) (hnp : As.length = np) (hrm : v_rm rm R0 maxL = true) (hkR : k9 ≤ R0.cells ∧ n9 ≤ R0.slots) (hst : st0 = As.reverse ++ rest) (hroom : Nat.ble ((rest.map fun v => v.category).sum) 8 = true) (hd : decode cc pc = .ok (.invokestatic index, 3))
    (kk : ∀ z : Int64, x_V Γ nL w g mc ms toR k9 n9 (pc + 3) lv (.long z :: rest) σ (k z)) : x_V Γ nL w g mc ms toR k9 n9 pc lv st0 σ (x_b1 f k) := (x_callS X hM hq hy hnp hrm hkR hst hroom hd (fun z _ => kk z))
theorem x_cGu {y : MethodName} {bytes : ByteArray} {maxL index : Nat} {ret' : Option FieldType} {rm : Room} {b : Nat} {np : Nat} {As rest st0 : List Value} {f : Option (Unit)} {k : Unit → x_M ρ} (X : v_C Γ l0 R0 cc nL own ret w g) (hM : v_M l0 y bytes maxL ret' rm w g (.ref b :: As) σ (fun _ => ((none : Option Value), σ)) f) (ho : v_rc Γ w g σ b y.cls) (hq : Cond.methodLink own index y ∈ lw_all ∨ ∃ host, Cond.methodLinkNest own index y host ∈ lw_tbl) (hy : v_yV y bytes maxL ret' np) (hnp : As.length = np) (hrm : v_rm rm R0 maxL = true) (hkR : k9 ≤ R0.cells ∧ n9 ≤ R0.slots) (hst : st0 = As.reverse ++ .ref b :: rest) (hroom : Nat.ble ((rest.map fun v => v.category).sum) 8 = true) (hd : decode cc pc = .ok (.invokevirtual index, 3))
    (kk : ∀ z : Unit, x_V Γ nL w g mc ms toR k9 n9 (pc + 3) lv (rest) σ (k z)) : x_V Γ nL w g mc ms toR k9 n9 pc lv st0 σ (x_b1 f k) := (x_callG X hM ho hq hy hnp hrm hkR hst hroom hd (fun z _ => kk z))
theorem x_cSu {y : MethodName} {bytes : ByteArray} {maxL index : Nat} {ret' : Option FieldType} {rm : Room} {np : Nat} {As rest st0 : List Value} {f : Option (Unit)} {k : Unit → x_M ρ} (X : v_C Γ l0 R0 cc nL own ret w g) (hM : v_M l0 y bytes maxL ret' rm w g (As) σ (fun _ => ((none : Option Value), σ)) f) (hq : Cond.methodLink own index y ∈ lw_all ∨ ∃ host, Cond.methodLinkNest own index y host ∈ lw_tbl) (hy : v_yS y bytes maxL ret' np) (hnp : As.length = np) (hrm : v_rm rm R0 maxL = true) (hkR : k9 ≤ R0.cells ∧ n9 ≤ R0.slots) (hst : st0 = As.reverse ++ rest) (hroom : Nat.ble ((rest.map fun v => v.category).sum) 8 = true) (hd : decode cc pc = .ok (.invokestatic index, 3))
    (kk : ∀ z : Unit, x_V Γ nL w g mc ms toR k9 n9 (pc + 3) lv (rest) σ (k z)) : x_V Γ nL w g mc ms toR k9 n9 pc lv st0 σ (x_b1 f k) := (x_callS X hM hq hy hnp hrm hkR hst hroom hd (fun z _ => kk z))
theorem x_cGq {y : MethodName} {bytes : ByteArray} {maxL index : Nat} {ret' : Option FieldType} {rm : Room} {b : Nat} {np : Nat} {As rest st0 : List Value} {f : Option (Option Nat)} {k : Option Nat → x_M ρ} (X : v_C Γ l0 R0 cc nL own ret w g) (hM : v_M l0 y bytes maxL ret' rm w g (.ref b :: As) σ (fun z => (some (va_rf z), σ)) f) (ho : v_rc Γ w g σ b y.cls) (hq : Cond.methodLink own index y ∈ lw_all ∨ ∃ host, Cond.methodLinkNest own index y host ∈ lw_tbl) (hy : v_yV y bytes maxL ret' np) (hnp : As.length = np) (hrm : v_rm rm R0 maxL = true) (hkR : k9 ≤ R0.cells ∧ n9 ≤ R0.slots) (hst : st0 = As.reverse ++ .ref b :: rest) (hroom : Nat.ble ((rest.map fun v => v.category).sum) 8 = true) (hd : decode cc pc = .ok (.invokevirtual index, 3))
    (kk : ∀ z : Option Nat, x_V Γ nL w g mc ms toR k9 n9 (pc + 3) lv (va_rf z :: rest) σ (k z)) : x_V Γ nL w g mc ms toR k9 n9 pc lv st0 σ (x_b1 f k) := (x_callG X hM ho hq hy hnp hrm hkR hst hroom hd (fun z _ => kk z))
theorem x_cSq {y : MethodName} {bytes : ByteArray} {maxL index : Nat} {ret' : Option FieldType} {rm : Room} {np : Nat} {As rest st0 : List Value} {f : Option (Option Nat)} {k : Option Nat → x_M ρ} (X : v_C Γ l0 R0 cc nL own ret w g) (hM : v_M l0 y bytes maxL ret' rm w g (As) σ (fun z => (some (va_rf z), σ)) f) (hq : Cond.methodLink own index y ∈ lw_all ∨ ∃ host, Cond.methodLinkNest own index y host ∈ lw_tbl) (hy : v_yS y bytes maxL ret' np) (hnp : As.length = np) (hrm : v_rm rm R0 maxL = true) (hkR : k9 ≤ R0.cells ∧ n9 ≤ R0.slots) (hst : st0 = As.reverse ++ rest) (hroom : Nat.ble ((rest.map fun v => v.category).sum) 8 = true) (hd : decode cc pc = .ok (.invokestatic index, 3))
    (kk : ∀ z : Option Nat, x_V Γ nL w g mc ms toR k9 n9 (pc + 3) lv (va_rf z :: rest) σ (k z)) : x_V Γ nL w g mc ms toR k9 n9 pc lv st0 σ (x_b1 f k) := (x_callS X hM hq hy hnp hrm hkR hst hroom hd (fun z _ => kk z))
theorem x_cGs {y : MethodName} {bytes : ByteArray} {maxL index : Nat} {ret' : Option FieldType} {rm : Room} {b : Nat} {np : Nat} {As rest st0 : List Value} {f : Option (v_S)} {k : v_S → x_M ρ} (X : v_C Γ l0 R0 cc nL own ret w g) (hM : v_M l0 y bytes maxL ret' rm w g (.ref b :: As) σ (fun z => ((none : Option Value), z)) f) (ho : v_rc Γ w g σ b y.cls) (hq : Cond.methodLink own index y ∈ lw_all ∨ ∃ host, Cond.methodLinkNest own index y host ∈ lw_tbl) (hy : v_yV y bytes maxL ret' np) (hnp : As.length = np) (hrm : v_rm rm R0 maxL = true) (hkR : k9 ≤ R0.cells ∧ n9 ≤ R0.slots) (hst : st0 = As.reverse ++ .ref b :: rest) (hroom : Nat.ble ((rest.map fun v => v.category).sum) 8 = true) (hd : decode cc pc = .ok (.invokevirtual index, 3))
    (kk : ∀ z : v_S, x_V Γ nL w g mc ms toR k9 n9 (pc + 3) lv (rest) z (k z)) : x_V Γ nL w g mc ms toR k9 n9 pc lv st0 σ (x_b1 f k) := (x_callG X hM ho hq hy hnp hrm hkR hst hroom hd (fun z _ => kk z))
theorem x_cSs {y : MethodName} {bytes : ByteArray} {maxL index : Nat} {ret' : Option FieldType} {rm : Room} {np : Nat} {As rest st0 : List Value} {f : Option (v_S)} {k : v_S → x_M ρ} (X : v_C Γ l0 R0 cc nL own ret w g) (hM : v_M l0 y bytes maxL ret' rm w g (As) σ (fun z => ((none : Option Value), z)) f) (hq : Cond.methodLink own index y ∈ lw_all ∨ ∃ host, Cond.methodLinkNest own index y host ∈ lw_tbl) (hy : v_yS y bytes maxL ret' np) (hnp : As.length = np) (hrm : v_rm rm R0 maxL = true) (hkR : k9 ≤ R0.cells ∧ n9 ≤ R0.slots) (hst : st0 = As.reverse ++ rest) (hroom : Nat.ble ((rest.map fun v => v.category).sum) 8 = true) (hd : decode cc pc = .ok (.invokestatic index, 3))
    (kk : ∀ z : v_S, x_V Γ nL w g mc ms toR k9 n9 (pc + 3) lv (rest) z (k z)) : x_V Γ nL w g mc ms toR k9 n9 pc lv st0 σ (x_b1 f k) := (x_callS X hM hq hy hnp hrm hkR hst hroom hd (fun z _ => kk z))
theorem x_xGs {y : MethodName} {bytes : ByteArray} {maxL index : Nat} {ret' : Option FieldType} {rm : Room} {b : Nat} {np mc' ms' : Nat} {As rest st0 : List Value} {f : x_M (v_S)} {k : v_S → x_M ρ} (X : v_C Γ l0 R0 cc nL own ret w g) (ht : (v_c Γ).exceptionTable.toList = []) (hk : k9 + mc' ≤ mc) (hn : n9 + ms' ≤ ms) (hM : x_MC l0 y bytes maxL ret' rm w g mc' ms' (.ref b :: As) σ (fun z => ((none : Option Value), z)) f) (ho : v_rc Γ w g σ b y.cls) (hq : Cond.methodLink own index y ∈ lw_all ∨ ∃ host, Cond.methodLinkNest own index y host ∈ lw_tbl) (hy : v_yV y bytes maxL ret' np) (hnp : As.length = np) (hrm : x_rm rm R0 maxL mc' ms' = true) (hkR : k9 + mc' ≤ R0.cells ∧ n9 + ms' ≤ R0.slots) (hst : st0 = As.reverse ++ .ref b :: rest) (hroom : Nat.ble ((rest.map fun v => v.category).sum) 8 = true) (hd : decode cc pc = .ok (.invokevirtual index, 3))
    (kk : ∀ z : v_S, x_V Γ nL w g mc ms toR (k9 + mc') (n9 + ms') (pc + 3) lv (rest) z (k z)) : x_V Γ nL w g mc ms toR k9 n9 pc lv st0 σ (x_call f k) :=
  x_cxG (k := k) (h := fun e => x_thr e.1 e.2.1 e.2.2) X hM ho hq hy hnp hrm hkR hst hroom hd (fun C q σ1 => x_out X (x_nohh ht) hk hn) (fun z => kk z)
theorem x_xSs {y : MethodName} {bytes : ByteArray} {maxL index : Nat} {ret' : Option FieldType} {rm : Room} {np mc' ms' : Nat} {As rest st0 : List Value} {f : x_M (v_S)} {k : v_S → x_M ρ} (X : v_C Γ l0 R0 cc nL own ret w g) (ht : (v_c Γ).exceptionTable.toList = []) (hk : k9 + mc' ≤ mc) (hn : n9 + ms' ≤ ms) (hM : x_MC l0 y bytes maxL ret' rm w g mc' ms' (As) σ (fun z => ((none : Option Value), z)) f) (hq : Cond.methodLink own index y ∈ lw_all ∨ ∃ host, Cond.methodLinkNest own index y host ∈ lw_tbl) (hy : v_yS y bytes maxL ret' np) (hnp : As.length = np) (hrm : x_rm rm R0 maxL mc' ms' = true) (hkR : k9 + mc' ≤ R0.cells ∧ n9 + ms' ≤ R0.slots) (hst : st0 = As.reverse ++ rest) (hroom : Nat.ble ((rest.map fun v => v.category).sum) 8 = true) (hd : decode cc pc = .ok (.invokestatic index, 3))
    (kk : ∀ z : v_S, x_V Γ nL w g mc ms toR (k9 + mc') (n9 + ms') (pc + 3) lv (rest) z (k z)) : x_V Γ nL w g mc ms toR k9 n9 pc lv st0 σ (x_call f k) :=
  x_cxS (k := k) (h := fun e => x_thr e.1 e.2.1 e.2.2) X hM hq hy hnp hrm hkR hst hroom hd (fun C q σ1 => x_out X (x_nohh ht) hk hn) (fun z => kk z)
theorem x_xIs {y : MethodName} {bytes : ByteArray} {maxL index : Nat} {rm : Room} {b : Nat} {np mc' ms' : Nat} {As rest st0 : List Value} {f : x_M (v_S)} {k : v_S → x_M ρ} (X : v_C Γ l0 R0 cc nL own ret w g) (ht : (v_c Γ).exceptionTable.toList = []) (hk : k9 + mc' ≤ mc) (hn : n9 + ms' ≤ ms) (hM : x_MC l0 y bytes maxL none rm w g mc' ms' (.ref b :: As) σ (fun z => ((none : Option Value), z)) f) (hq : Cond.methodLink own index y ∈ lw_all ∨ ∃ host, Cond.methodLinkNest own index y host ∈ lw_tbl) (hy : x_yI y bytes maxL np) (hnp : As.length = np) (hrm : x_rm rm R0 maxL mc' ms' = true) (hkR : k9 + mc' ≤ R0.cells ∧ n9 + ms' ≤ R0.slots) (hst : st0 = As.reverse ++ .ref b :: rest) (hroom : Nat.ble ((rest.map fun v => v.category).sum) 8 = true) (hd : decode cc pc = .ok (.invokespecial index, 3))
    (kk : ∀ z : v_S, x_V Γ nL w g mc ms toR (k9 + mc') (n9 + ms') (pc + 3) lv (rest) z (k z)) : x_V Γ nL w g mc ms toR k9 n9 pc lv st0 σ (x_call f k) :=
  x_cxI (k := k) (h := fun e => x_thr e.1 e.2.1 e.2.2) X hM hq hy hnp hrm hkR hst hroom hd (fun C q σ1 => x_out X (x_nohh ht) hk hn) (fun z => kk z)
theorem x_b2_b1 {α β : Type} (f : Option (α × β)) (k : α → β → x_M ρ) : x_b2 f k = x_b1 f (fun z => k z.1 z.2) := funext fun P => funext fun E => propext ⟨fun ⟨z, y, h1, h2⟩ => ⟨(z, y), h1, h2⟩, fun ⟨z, h1, h2⟩ => ⟨z.1, z.2, h1, h2⟩⟩
theorem x_cGis {y : MethodName} {bytes : ByteArray} {maxL index : Nat} {ret' : Option FieldType} {rm : Room} {b : Nat} {np : Nat} {As rest st0 : List Value} {f : Option (Int32 × v_S)} {k : Int32 → v_S → x_M ρ} (X : v_C Γ l0 R0 cc nL own ret w g) (hM : v_M l0 y bytes maxL ret' rm w g (.ref b :: As) σ (fun z => (some (.int z.1), z.2)) f) (ho : v_rc Γ w g σ b y.cls) (hq : Cond.methodLink own index y ∈ lw_all ∨ ∃ host, Cond.methodLinkNest own index y host ∈ lw_tbl) (hy : v_yV y bytes maxL ret' np) (hnp : As.length = np) (hrm : v_rm rm R0 maxL = true) (hkR : k9 ≤ R0.cells ∧ n9 ≤ R0.slots) (hst : st0 = As.reverse ++ .ref b :: rest) (hroom : Nat.ble ((rest.map fun v => v.category).sum) 8 = true) (hd : decode cc pc = .ok (.invokevirtual index, 3))
    (kk : ∀ (z1 : Int32) (z2 : v_S), x_V Γ nL w g mc ms toR k9 n9 (pc + 3) lv (.int z1 :: rest) z2 (k z1 z2)) : x_V Γ nL w g mc ms toR k9 n9 pc lv st0 σ (x_b2 f k) := x_eq (x_b2_b1 f k) (x_callG X hM ho hq hy hnp hrm hkR hst hroom hd (fun z _ => kk z.1 z.2))
theorem x_cSis {y : MethodName} {bytes : ByteArray} {maxL index : Nat} {ret' : Option FieldType} {rm : Room} {np : Nat} {As rest st0 : List Value} {f : Option (Int32 × v_S)} {k : Int32 → v_S → x_M ρ} (X : v_C Γ l0 R0 cc nL own ret w g) (hM : v_M l0 y bytes maxL ret' rm w g (As) σ (fun z => (some (.int z.1), z.2)) f) (hq : Cond.methodLink own index y ∈ lw_all ∨ ∃ host, Cond.methodLinkNest own index y host ∈ lw_tbl) (hy : v_yS y bytes maxL ret' np) (hnp : As.length = np) (hrm : v_rm rm R0 maxL = true) (hkR : k9 ≤ R0.cells ∧ n9 ≤ R0.slots) (hst : st0 = As.reverse ++ rest) (hroom : Nat.ble ((rest.map fun v => v.category).sum) 8 = true) (hd : decode cc pc = .ok (.invokestatic index, 3))
    (kk : ∀ (z1 : Int32) (z2 : v_S), x_V Γ nL w g mc ms toR k9 n9 (pc + 3) lv (.int z1 :: rest) z2 (k z1 z2)) : x_V Γ nL w g mc ms toR k9 n9 pc lv st0 σ (x_b2 f k) := x_eq (x_b2_b1 f k) (x_callS X hM hq hy hnp hrm hkR hst hroom hd (fun z _ => kk z.1 z.2))
theorem x_xGis {y : MethodName} {bytes : ByteArray} {maxL index : Nat} {ret' : Option FieldType} {rm : Room} {b : Nat} {np mc' ms' : Nat} {As rest st0 : List Value} {f : x_M (Int32 × v_S)} {k : Int32 → v_S → x_M ρ} (X : v_C Γ l0 R0 cc nL own ret w g) (ht : (v_c Γ).exceptionTable.toList = []) (hk : k9 + mc' ≤ mc) (hn : n9 + ms' ≤ ms) (hM : x_MC l0 y bytes maxL ret' rm w g mc' ms' (.ref b :: As) σ (fun z => (some (.int z.1), z.2)) f) (ho : v_rc Γ w g σ b y.cls) (hq : Cond.methodLink own index y ∈ lw_all ∨ ∃ host, Cond.methodLinkNest own index y host ∈ lw_tbl) (hy : v_yV y bytes maxL ret' np) (hnp : As.length = np) (hrm : x_rm rm R0 maxL mc' ms' = true) (hkR : k9 + mc' ≤ R0.cells ∧ n9 + ms' ≤ R0.slots) (hst : st0 = As.reverse ++ .ref b :: rest) (hroom : Nat.ble ((rest.map fun v => v.category).sum) 8 = true) (hd : decode cc pc = .ok (.invokevirtual index, 3))
    (kk : ∀ (z1 : Int32) (z2 : v_S), x_V Γ nL w g mc ms toR (k9 + mc') (n9 + ms') (pc + 3) lv (.int z1 :: rest) z2 (k z1 z2)) : x_V Γ nL w g mc ms toR k9 n9 pc lv st0 σ (x_call2 f k) :=
  x_cxG (k := fun z => k z.1 z.2) (h := fun e => x_thr e.1 e.2.1 e.2.2) X hM ho hq hy hnp hrm hkR hst hroom hd (fun C q σ1 => x_out X (x_nohh ht) hk hn) (fun z => kk z.1 z.2)
theorem x_xSis {y : MethodName} {bytes : ByteArray} {maxL index : Nat} {ret' : Option FieldType} {rm : Room} {np mc' ms' : Nat} {As rest st0 : List Value} {f : x_M (Int32 × v_S)} {k : Int32 → v_S → x_M ρ} (X : v_C Γ l0 R0 cc nL own ret w g) (ht : (v_c Γ).exceptionTable.toList = []) (hk : k9 + mc' ≤ mc) (hn : n9 + ms' ≤ ms) (hM : x_MC l0 y bytes maxL ret' rm w g mc' ms' (As) σ (fun z => (some (.int z.1), z.2)) f) (hq : Cond.methodLink own index y ∈ lw_all ∨ ∃ host, Cond.methodLinkNest own index y host ∈ lw_tbl) (hy : v_yS y bytes maxL ret' np) (hnp : As.length = np) (hrm : x_rm rm R0 maxL mc' ms' = true) (hkR : k9 + mc' ≤ R0.cells ∧ n9 + ms' ≤ R0.slots) (hst : st0 = As.reverse ++ rest) (hroom : Nat.ble ((rest.map fun v => v.category).sum) 8 = true) (hd : decode cc pc = .ok (.invokestatic index, 3))
    (kk : ∀ (z1 : Int32) (z2 : v_S), x_V Γ nL w g mc ms toR (k9 + mc') (n9 + ms') (pc + 3) lv (.int z1 :: rest) z2 (k z1 z2)) : x_V Γ nL w g mc ms toR k9 n9 pc lv st0 σ (x_call2 f k) :=
  x_cxS (k := fun z => k z.1 z.2) (h := fun e => x_thr e.1 e.2.1 e.2.2) X hM hq hy hnp hrm hkR hst hroom hd (fun C q σ1 => x_out X (x_nohh ht) hk hn) (fun z => kk z.1 z.2)
theorem x_cGls {y : MethodName} {bytes : ByteArray} {maxL index : Nat} {ret' : Option FieldType} {rm : Room} {b : Nat} {np : Nat} {As rest st0 : List Value} {f : Option (Int64 × v_S)} {k : Int64 → v_S → x_M ρ} (X : v_C Γ l0 R0 cc nL own ret w g) (hM : v_M l0 y bytes maxL ret' rm w g (.ref b :: As) σ (fun z => (some (.long z.1), z.2)) f) (ho : v_rc Γ w g σ b y.cls) (hq : Cond.methodLink own index y ∈ lw_all ∨ ∃ host, Cond.methodLinkNest own index y host ∈ lw_tbl) (hy : v_yV y bytes maxL ret' np) (hnp : As.length = np) (hrm : v_rm rm R0 maxL = true) (hkR : k9 ≤ R0.cells ∧ n9 ≤ R0.slots) (hst : st0 = As.reverse ++ .ref b :: rest) (hroom : Nat.ble ((rest.map fun v => v.category).sum) 8 = true) (hd : decode cc pc = .ok (.invokevirtual index, 3))
    (kk : ∀ (z1 : Int64) (z2 : v_S), x_V Γ nL w g mc ms toR k9 n9 (pc + 3) lv (.long z1 :: rest) z2 (k z1 z2)) : x_V Γ nL w g mc ms toR k9 n9 pc lv st0 σ (x_b2 f k) := x_eq (x_b2_b1 f k) (x_callG X hM ho hq hy hnp hrm hkR hst hroom hd (fun z _ => kk z.1 z.2))
theorem x_cSls {y : MethodName} {bytes : ByteArray} {maxL index : Nat} {ret' : Option FieldType} {rm : Room} {np : Nat} {As rest st0 : List Value} {f : Option (Int64 × v_S)} {k : Int64 → v_S → x_M ρ} (X : v_C Γ l0 R0 cc nL own ret w g) (hM : v_M l0 y bytes maxL ret' rm w g (As) σ (fun z => (some (.long z.1), z.2)) f) (hq : Cond.methodLink own index y ∈ lw_all ∨ ∃ host, Cond.methodLinkNest own index y host ∈ lw_tbl) (hy : v_yS y bytes maxL ret' np) (hnp : As.length = np) (hrm : v_rm rm R0 maxL = true) (hkR : k9 ≤ R0.cells ∧ n9 ≤ R0.slots) (hst : st0 = As.reverse ++ rest) (hroom : Nat.ble ((rest.map fun v => v.category).sum) 8 = true) (hd : decode cc pc = .ok (.invokestatic index, 3))
    (kk : ∀ (z1 : Int64) (z2 : v_S), x_V Γ nL w g mc ms toR k9 n9 (pc + 3) lv (.long z1 :: rest) z2 (k z1 z2)) : x_V Γ nL w g mc ms toR k9 n9 pc lv st0 σ (x_b2 f k) := x_eq (x_b2_b1 f k) (x_callS X hM hq hy hnp hrm hkR hst hroom hd (fun z _ => kk z.1 z.2))
theorem x_xGls {y : MethodName} {bytes : ByteArray} {maxL index : Nat} {ret' : Option FieldType} {rm : Room} {b : Nat} {np mc' ms' : Nat} {As rest st0 : List Value} {f : x_M (Int64 × v_S)} {k : Int64 → v_S → x_M ρ} (X : v_C Γ l0 R0 cc nL own ret w g) (ht : (v_c Γ).exceptionTable.toList = []) (hk : k9 + mc' ≤ mc) (hn : n9 + ms' ≤ ms) (hM : x_MC l0 y bytes maxL ret' rm w g mc' ms' (.ref b :: As) σ (fun z => (some (.long z.1), z.2)) f) (ho : v_rc Γ w g σ b y.cls) (hq : Cond.methodLink own index y ∈ lw_all ∨ ∃ host, Cond.methodLinkNest own index y host ∈ lw_tbl) (hy : v_yV y bytes maxL ret' np) (hnp : As.length = np) (hrm : x_rm rm R0 maxL mc' ms' = true) (hkR : k9 + mc' ≤ R0.cells ∧ n9 + ms' ≤ R0.slots) (hst : st0 = As.reverse ++ .ref b :: rest) (hroom : Nat.ble ((rest.map fun v => v.category).sum) 8 = true) (hd : decode cc pc = .ok (.invokevirtual index, 3))
    (kk : ∀ (z1 : Int64) (z2 : v_S), x_V Γ nL w g mc ms toR (k9 + mc') (n9 + ms') (pc + 3) lv (.long z1 :: rest) z2 (k z1 z2)) : x_V Γ nL w g mc ms toR k9 n9 pc lv st0 σ (x_call2 f k) :=
  x_cxG (k := fun z => k z.1 z.2) (h := fun e => x_thr e.1 e.2.1 e.2.2) X hM ho hq hy hnp hrm hkR hst hroom hd (fun C q σ1 => x_out X (x_nohh ht) hk hn) (fun z => kk z.1 z.2)
theorem x_xSls {y : MethodName} {bytes : ByteArray} {maxL index : Nat} {ret' : Option FieldType} {rm : Room} {np mc' ms' : Nat} {As rest st0 : List Value} {f : x_M (Int64 × v_S)} {k : Int64 → v_S → x_M ρ} (X : v_C Γ l0 R0 cc nL own ret w g) (ht : (v_c Γ).exceptionTable.toList = []) (hk : k9 + mc' ≤ mc) (hn : n9 + ms' ≤ ms) (hM : x_MC l0 y bytes maxL ret' rm w g mc' ms' (As) σ (fun z => (some (.long z.1), z.2)) f) (hq : Cond.methodLink own index y ∈ lw_all ∨ ∃ host, Cond.methodLinkNest own index y host ∈ lw_tbl) (hy : v_yS y bytes maxL ret' np) (hnp : As.length = np) (hrm : x_rm rm R0 maxL mc' ms' = true) (hkR : k9 + mc' ≤ R0.cells ∧ n9 + ms' ≤ R0.slots) (hst : st0 = As.reverse ++ rest) (hroom : Nat.ble ((rest.map fun v => v.category).sum) 8 = true) (hd : decode cc pc = .ok (.invokestatic index, 3))
    (kk : ∀ (z1 : Int64) (z2 : v_S), x_V Γ nL w g mc ms toR (k9 + mc') (n9 + ms') (pc + 3) lv (.long z1 :: rest) z2 (k z1 z2)) : x_V Γ nL w g mc ms toR k9 n9 pc lv st0 σ (x_call2 f k) :=
  x_cxS (k := fun z => k z.1 z.2) (h := fun e => x_thr e.1 e.2.1 e.2.2) X hM hq hy hnp hrm hkR hst hroom hd (fun C q σ1 => x_out X (x_nohh ht) hk hn) (fun z => kk z.1 z.2)
theorem x_xGrs {y : MethodName} {bytes : ByteArray} {maxL index : Nat} {ret' : Option FieldType} {rm : Room} {b : Nat} {np mc' ms' : Nat} {As rest st0 : List Value} {f : x_M (Nat × v_S)} {k : Nat → v_S → x_M ρ} (X : v_C Γ l0 R0 cc nL own ret w g) (ht : (v_c Γ).exceptionTable.toList = []) (hk : k9 + mc' ≤ mc) (hn : n9 + ms' ≤ ms) (hM : x_MC l0 y bytes maxL ret' rm w g mc' ms' (.ref b :: As) σ (fun z => (some (.ref z.1), z.2)) f) (ho : v_rc Γ w g σ b y.cls) (hq : Cond.methodLink own index y ∈ lw_all ∨ ∃ host, Cond.methodLinkNest own index y host ∈ lw_tbl) (hy : v_yV y bytes maxL ret' np) (hnp : As.length = np) (hrm : x_rm rm R0 maxL mc' ms' = true) (hkR : k9 + mc' ≤ R0.cells ∧ n9 + ms' ≤ R0.slots) (hst : st0 = As.reverse ++ .ref b :: rest) (hroom : Nat.ble ((rest.map fun v => v.category).sum) 8 = true) (hd : decode cc pc = .ok (.invokevirtual index, 3))
    (kk : ∀ (z1 : Nat) (z2 : v_S), x_V Γ nL w g mc ms toR (k9 + mc') (n9 + ms') (pc + 3) lv (.ref z1 :: rest) z2 (k z1 z2)) : x_V Γ nL w g mc ms toR k9 n9 pc lv st0 σ (x_call2 f k) :=
  x_cxG (k := fun z => k z.1 z.2) (h := fun e => x_thr e.1 e.2.1 e.2.2) X hM ho hq hy hnp hrm hkR hst hroom hd (fun C q σ1 => x_out X (x_nohh ht) hk hn) (fun z => kk z.1 z.2)
theorem x_xSrs {y : MethodName} {bytes : ByteArray} {maxL index : Nat} {ret' : Option FieldType} {rm : Room} {np mc' ms' : Nat} {As rest st0 : List Value} {f : x_M (Nat × v_S)} {k : Nat → v_S → x_M ρ} (X : v_C Γ l0 R0 cc nL own ret w g) (ht : (v_c Γ).exceptionTable.toList = []) (hk : k9 + mc' ≤ mc) (hn : n9 + ms' ≤ ms) (hM : x_MC l0 y bytes maxL ret' rm w g mc' ms' (As) σ (fun z => (some (.ref z.1), z.2)) f) (hq : Cond.methodLink own index y ∈ lw_all ∨ ∃ host, Cond.methodLinkNest own index y host ∈ lw_tbl) (hy : v_yS y bytes maxL ret' np) (hnp : As.length = np) (hrm : x_rm rm R0 maxL mc' ms' = true) (hkR : k9 + mc' ≤ R0.cells ∧ n9 + ms' ≤ R0.slots) (hst : st0 = As.reverse ++ rest) (hroom : Nat.ble ((rest.map fun v => v.category).sum) 8 = true) (hd : decode cc pc = .ok (.invokestatic index, 3))
    (kk : ∀ (z1 : Nat) (z2 : v_S), x_V Γ nL w g mc ms toR (k9 + mc') (n9 + ms') (pc + 3) lv (.ref z1 :: rest) z2 (k z1 z2)) : x_V Γ nL w g mc ms toR k9 n9 pc lv st0 σ (x_call2 f k) :=
  x_cxS (k := fun z => k z.1 z.2) (h := fun e => x_thr e.1 e.2.1 e.2.2) X hM hq hy hnp hrm hkR hst hroom hd (fun C q σ1 => x_out X (x_nohh ht) hk hn) (fun z => kk z.1 z.2)
/-! calls through an interface -/
theorem x_run5 {α : Type} {as : List Value} {toR' : α → Option Value × v_S} {ls : Array Slot} {H : Heap} {locs : List Loc} {rest : List Value} {Q : State → Prop} {z : α} {st0 : List Value}
    (h3 : va_S (v_A g) (v_s Γ).heap H locs) (run : va_Run5 (v_p Γ) (v_l Γ) (v_e Γ) (v_R Γ) (v_s Γ) (v_m Γ) (v_a Γ) (v_b Γ) (v_me Γ) (v_c Γ) H locs k9 n9 0 0 (F0 (v_m Γ) pc ls st0) rest (v_Q w g (toR' z) as.toArray) (v_A g))
    (kk : ∀ (H1 : Heap) (locs1 : List Loc), v_I w g (toR' z).2 H1 → va_S (v_A g) (v_s Γ).heap H1 locs1 → v_W Γ H1 locs1 k9 n9 Q (F0 (v_m Γ) (pc + 5) ls ((toR' z).1.toList ++ rest))) : v_W Γ H locs k9 n9 Q (F0 (v_m Γ) pc ls st0) := by
  intro T hT Y
  obtain ⟨v, st₀, t, T', L, e0, Y', hL, e1, e2, ⟨hv, hI, hz, hk⟩, st1⟩ := run T hT Y
  have hv : v = (toR' z).1 := by injection hv
  subst hv
  rw [e0] at hz hk
  obtain ⟨t2, a1, b1⟩ := kk T'.heap (locs ++ L) (by rw [e1]; exact hI) ⟨Nat.le_trans h3.1 (by rw [e1]; exact hz), fun q g1 g2 => by rw [e1, hk q (Nat.lt_of_lt_of_le g1 h3.1) g2]; exact h3.2.1 q g1 g2, fun q hq => by
      rcases List.mem_append.mp hq with h | h
      · exact h3.2.2 q h
      · exact hL q h⟩ T' rfl Y'
  exact ⟨t2, st1 t2 a1, b1⟩
theorem x_runX5 {α : Type} {as : List Value} {toR' : α → Option Value × v_S} {P' : α → Prop} {E' : x_E → Prop} {mc' ms' : Nat} {ls : Array Slot} {H : Heap} {locs : List Loc} {rest : List Value} {Q : State → Prop} {st0 : List Value}
    (h3 : va_S (v_A g) (v_s Γ).heap H locs) (run : vx_Run5 (v_p Γ) (v_l Γ) (v_e Γ) (v_R Γ) (v_s Γ) (v_m Γ) (v_a Γ) (v_b Γ) (v_me Γ) (v_c Γ) H locs k9 n9 mc' ms' (F0 (v_m Γ) pc ls st0) rest (x_Q w g toR' P' as.toArray) (x_XC w g E') (v_A g))
    (kx : ∀ (C : String) (q : Nat) (σ1 : v_S) (ce : Cell) (H1 : Heap) (locs1 : List Loc), E' (C, q, σ1) → v_I w g σ1 H1 → va_S (v_A g) (v_s Γ).heap H1 locs1 → H1[q]? = some ce → ce.vm = .none → (v_s Γ).vm.findClass C = some ce.cls → vx_W (v_p Γ) (v_l Γ) (v_e Γ) (v_R Γ) (v_s Γ) (v_m Γ) (v_a Γ) (v_b Γ) (v_me Γ) (v_c Γ) H1 locs1 (k9 + mc') (n9 + ms') Q (F0 (v_m Γ) pc ls rest) q)
    (kk : ∀ (z : α) (H1 : Heap) (locs1 : List Loc), P' z → v_I w g (toR' z).2 H1 → va_S (v_A g) (v_s Γ).heap H1 locs1 → v_W Γ H1 locs1 (k9 + mc') (n9 + ms') Q (F0 (v_m Γ) (pc + 5) ls ((toR' z).1.toList ++ rest))) : v_W Γ H locs k9 n9 Q (F0 (v_m Γ) pc ls st0) := by
  intro T hT Y
  have keep : ∀ (st₀ t T' : State) (L : List Loc), st₀.heap = H → T'.heap = t.heap → (∀ q ∈ L, v_A g q.base) → va_F (v_A g) st₀ t → va_S (v_A g) (v_s Γ).heap T'.heap (locs ++ L) := by
    intro st₀ t T' L e0 e1 hL ⟨hz, hk⟩
    rw [e0] at hz hk
    exact ⟨Nat.le_trans h3.1 (by rw [e1]; exact hz), fun q g1 g2 => by rw [e1, hk q (Nat.lt_of_lt_of_le g1 h3.1) g2]; exact h3.2.1 q g1 g2, fun q hq => by
      rcases List.mem_append.mp hq with h | h
      · exact h3.2.2 q h
      · exact hL q h⟩
  rcases run T hT Y with ⟨v, st₀, t, T', L, e0, Y', hL, e1, e2, ⟨z, hp, hv, hI, hF⟩, st1⟩ | ⟨q, st₀, t, T', L, C, ce, e0, Y', hL, e1, e2, ⟨σ1, hE, hI, hF⟩, hce, hcv, hcl, st1⟩
  · have hv : v = (toR' z).1 := by injection hv
    subst hv
    obtain ⟨t2, a1, b1⟩ := kk z T'.heap (locs ++ L) hp (by rw [e1]; exact hI) (keep st₀ t T' L e0 e1 hL hF) T' rfl Y'
    exact ⟨t2, st1 t2 a1, b1⟩
  · obtain ⟨t2, a1, b1⟩ := kx C q σ1 ce T'.heap (locs ++ L) hE (by rw [e1]; exact hI) (keep st₀ t T' L e0 e1 hL hF) (by rw [e1]; exact hce) hcv hcl T' rfl Y'
    exact ⟨t2, st1.trans a1, b1⟩
theorem x_callF {α : Type} {C : String} {x y : MethodName} {bytes : ByteArray} {maxL index count ci N : Nat} {ret' : Option FieldType} {rm : Room} {b np : Nat} {T : u_T} {As rest st0 : List Value} {toR' : α → Option Value × v_S} {f : Option α} {k : α → x_M ρ} (X : v_C Γ l0 R0 cc nL own ret w g)
    (hM : v_M l0 y bytes maxL ret' rm w g (.ref b :: As) σ toR' f) (hc : w.2.2[ci]? = some (C, T, N)) (q1 : Cond.methodLink own index x ∈ lw_all) (hy : v_yF C x y bytes maxL ret' np)
    (hnp : As.length = np) (hrm : v_rm rm R0 maxL = true) (hkR : k9 ≤ R0.cells ∧ n9 ≤ R0.slots) (hst : st0 = As.reverse ++ .ref b :: rest) (hroom : Nat.ble ((rest.map fun v => v.category).sum) 8 = true) (hd : decode cc pc = .ok (.invokeinterface index count, 5))
    (kk : ∀ z, f = some z → x_V Γ nL w g mc ms toR k9 n9 (pc + 5) lv ((toR' z).1.toList ++ rest) (toR' z).2 (k z)) : x_V Γ nL w g mc ms toR k9 n9 pc lv st0 σ (if v_isc σ (some b) ci = true then x_b1 f k else x_no) := by
  by_cases q : v_isc σ (some b) ci = true
  · rw [if_pos q]
    intro P E hx ls H locs h1 h2 h3
    obtain ⟨⟨a1, a2, a3, a4⟩, ⟨b1, b2, b3, b4, b5⟩, a5⟩ := hy
    simp only [v_rm, Bool.and_eq_true, beq_iff_eq, Nat.ble_eq] at hrm
    obtain ⟨r1, r2, r3, r4⟩ := hrm
    obtain ⟨z, hz, hx⟩ := hx
    have hM' := hM z hz
    rw [← X.2.2.2.2.2.2.2.2.2.2.1] at hM'
    have Bz := X.2.2.2.2.2.2.2.2.2.1
    have t0 := Bz.2.2.2.1
    have hF : va_Fw C x y (v_s Γ) := (va_Fw.of (t0 _ b1) (t0 _ b2) (t0 _ b3) (t0 _ b4) (t0 _ b5)).moved ⟨a5.1, a5.2.1⟩ Bz.1.alike
    have hG : GoodIn lw_all (va_wsF own index C x y (ws_ y bytes maxL ret')) := lw_app (fun w hw => by
      simp only [List.mem_cons, List.not_mem_nil, or_false] at hw
      rcases hw with e | e | e | e
      · rw [e]; exact q1
      · rw [e]; exact a1
      · rw [e]; exact a2
      · rw [e]; exact a3) (lw_meth a4)
    have cw := va_cwF (R := v_R Γ) (s := v_s Γ) (args := v_a Γ) (rm := rm) np X.2.2.2.2.1 hG rfl r1 r2 hF a5 ⟨by rw [X.2.2.2.2.2.2.2.2.2.2.2]; exact r3, by rw [X.2.2.2.2.2.2.2.2.2.2.2]; exact r4⟩
    simp only [v_isc] at q
    cases hdf : v_df σ.2.2.2 b with
    | none => rw [hdf] at q; cases q
    | some ce =>
      obtain ⟨t, y9⟩ | ⟨c, fs⟩ := ce
      · rw [hdf] at q; cases q
      · rw [hdf] at q
        have hcc : c = ci := by simpa using q
        subst hcc
        have hrcv : ∃ cell : Cell, H[b]? = some cell ∧ cell.vm.isStatics = false ∧ (v_s Γ).vm.findClass C = some cell.cls := by
          obtain ⟨q0, hq0⟩ := v_wl_d (w := w) (g := g) hdf
          exact va_recv X.2.2.2.2.2.2.2.1 h2.1 hc hq0
        have hat := (X.2.2.2.2.2.2.2.1.1 _ _ hc).2
        have hf : k9 + 0 ≤ (v_R Γ).cells ∧ n9 + 0 ≤ (v_R Γ).slots := by rw [X.2.2.2.2.2.2.2.2.2.2.2]; exact hkR
        have run := va_runF (p := v_p Γ) (e := v_e Γ) (below := v_b Γ) (meth := v_me Γ) (m := v_m Γ) (c := v_c Γ) (g := F0 (v_m Γ) pc ls st0) (rest := rest) (As := As) (locs := locs) (cells := k9) (slots := n9) hat ⟨X.1, X.2.1, X.2.2.1, X.2.2.2.1, X.2.2.2.2.1⟩ hM' cw ⟨v_P.blind, hrcv, fun U hU hW => ⟨rfl, v_pre X h2 h3 U hU hW⟩⟩ rfl hnp h1.1 hst (lv_room (Nat.le_of_ble_eq_true hroom)) hd hf
        exact x_run5 (as := .ref b :: As) h3 run fun H1 locs1 hI hS => kk z hz P E hx ls H1 locs1 h1 hI hS
  · rw [if_neg q]
    exact x_none
theorem x_cxF {α : Type} {mc' ms' : Nat} {C : String} {x y : MethodName} {bytes : ByteArray} {maxL index count ci N : Nat} {ret' : Option FieldType} {rm : Room} {b np : Nat} {T : u_T} {As rest st0 : List Value} {toR' : α → Option Value × v_S} {f : x_M α} {k : α → x_M ρ} {h : x_E → x_M ρ} (X : v_C Γ l0 R0 cc nL own ret w g)
    (hM : x_MC l0 y bytes maxL ret' rm w g mc' ms' (.ref b :: As) σ toR' f) (hc : w.2.2[ci]? = some (C, T, N)) (q1 : Cond.methodLink own index x ∈ lw_all) (hy : v_yF C x y bytes maxL ret' np)
    (hnp : As.length = np) (hrm : x_rm rm R0 maxL mc' ms' = true) (hkR : k9 + mc' ≤ R0.cells ∧ n9 + ms' ≤ R0.slots) (hst : st0 = As.reverse ++ .ref b :: rest) (hroom : Nat.ble ((rest.map fun v => v.category).sum) 8 = true) (hd : decode cc pc = .ok (.invokeinterface index count, 5))
    (kx : ∀ C q σ1, x_VX Γ nL w g mc ms toR (k9 + mc') (n9 + ms') pc lv C q σ1 (h (C, q, σ1)))
    (kk : ∀ z, x_V Γ nL w g mc ms toR (k9 + mc') (n9 + ms') (pc + 5) lv ((toR' z).1.toList ++ rest) (toR' z).2 (k z)) : x_V Γ nL w g mc ms toR k9 n9 pc lv st0 σ (if v_isc σ (some b) ci = true then x_try f k h else x_no) := by
  by_cases q : v_isc σ (some b) ci = true
  · rw [if_pos q]
    intro P E hx ls H locs h1 h2 h3
    obtain ⟨⟨a1, a2, a3, a4⟩, ⟨b1, b2, b3, b4, b5⟩, a5⟩ := hy
    simp only [x_rm, Bool.and_eq_true, beq_iff_eq, Nat.ble_eq] at hrm
    obtain ⟨r1, r2, r3, r4⟩ := hrm
    have hM' := hM _ _ hx
    rw [← X.2.2.2.2.2.2.2.2.2.2.1] at hM'
    have Bz := X.2.2.2.2.2.2.2.2.2.1
    have t0 := Bz.2.2.2.1
    have hF : va_Fw C x y (v_s Γ) := (va_Fw.of (t0 _ b1) (t0 _ b2) (t0 _ b3) (t0 _ b4) (t0 _ b5)).moved ⟨a5.1, a5.2.1⟩ Bz.1.alike
    have hG : GoodIn lw_all (va_wsF own index C x y (ws_ y bytes maxL ret')) := lw_app (fun w hw => by
      simp only [List.mem_cons, List.not_mem_nil, or_false] at hw
      rcases hw with e | e | e | e
      · rw [e]; exact q1
      · rw [e]; exact a1
      · rw [e]; exact a2
      · rw [e]; exact a3) (lw_meth a4)
    have cw := va_cwF (R := v_R Γ) (s := v_s Γ) (args := v_a Γ) (rm := rm) np X.2.2.2.2.1 hG rfl r1 r2 hF a5 ⟨by rw [X.2.2.2.2.2.2.2.2.2.2.2]; exact r3, by rw [X.2.2.2.2.2.2.2.2.2.2.2]; exact r4⟩
    simp only [v_isc] at q
    cases hdf : v_df σ.2.2.2 b with
    | none => rw [hdf] at q; cases q
    | some ce =>
      obtain ⟨t, y9⟩ | ⟨c, fs⟩ := ce
      · rw [hdf] at q; cases q
      · rw [hdf] at q
        have hcc : c = ci := by simpa using q
        subst hcc
        have hrcv : ∃ cell : Cell, H[b]? = some cell ∧ cell.vm.isStatics = false ∧ (v_s Γ).vm.findClass C = some cell.cls := by
          obtain ⟨q0, hq0⟩ := v_wl_d (w := w) (g := g) hdf
          exact va_recv X.2.2.2.2.2.2.2.1 h2.1 hc hq0
        have hat := (X.2.2.2.2.2.2.2.1.1 _ _ hc).2
        have hf : k9 + mc' ≤ (v_R Γ).cells ∧ n9 + ms' ≤ (v_R Γ).slots := by rw [X.2.2.2.2.2.2.2.2.2.2.2]; exact hkR
        have run := vx_runF (p := v_p Γ) (e := v_e Γ) (below := v_b Γ) (meth := v_me Γ) (m := v_m Γ) (c := v_c Γ) (g := F0 (v_m Γ) pc ls st0) (rest := rest) (As := As) (locs := locs) (cells := k9) (slots := n9) hat ⟨X.1, X.2.1, X.2.2.1, X.2.2.2.1, X.2.2.2.2.1⟩ hM' cw ⟨v_P.blind, hrcv, fun U hU hW => ⟨rfl, v_pre X h2 h3 U hU hW⟩⟩ rfl hnp h1.1 hst (lv_room (Nat.le_of_ble_eq_true hroom)) hd hf
        exact x_runX5 (as := .ref b :: As) h3 run (fun C q σ1 ce H1 locs1 hE hI hS hc hv hcl => kx C q σ1 P E hE ls H1 locs1 rest ce h1 hI hS hc hv hcl) (fun z H1 locs1 hp hI hS => kk z P E hp ls H1 locs1 h1 hI hS)
  · rw [if_neg q]
    exact x_none
theorem x_cFi {C : String} {x y : MethodName} {bytes : ByteArray} {maxL index count ci N : Nat} {ret' : Option FieldType} {rm : Room} {b np : Nat} {T : u_T} {As rest st0 : List Value} {f : Option (Int32)} {k : Int32 → x_M ρ} (X : v_C Γ l0 R0 cc nL own ret w g)
    (hM : v_M l0 y bytes maxL ret' rm w g (.ref b :: As) σ (fun z => (some (.int z), σ)) f) (hc : w.2.2[ci]? = some (C, T, N)) (q1 : Cond.methodLink own index x ∈ lw_all) (hy : v_yF C x y bytes maxL ret' np)
    (hnp : As.length = np) (hrm : v_rm rm R0 maxL = true) (hkR : k9 ≤ R0.cells ∧ n9 ≤ R0.slots) (hst : st0 = As.reverse ++ .ref b :: rest) (hroom : Nat.ble ((rest.map fun v => v.category).sum) 8 = true) (hd : decode cc pc = .ok (.invokeinterface index count, 5))
    (kk : ∀ z : Int32, x_V Γ nL w g mc ms toR k9 n9 (pc + 5) lv (.int z :: rest) σ (k z)) : x_V Γ nL w g mc ms toR k9 n9 pc lv st0 σ (if v_isc σ (some b) ci = true then x_b1 f k else x_no) := x_callF X hM hc q1 hy hnp hrm hkR hst hroom hd (fun z _ => kk z)
theorem x_cFq {C : String} {x y : MethodName} {bytes : ByteArray} {maxL index count ci N : Nat} {ret' : Option FieldType} {rm : Room} {b np : Nat} {T : u_T} {As rest st0 : List Value} {f : Option (Option Nat)} {k : Option Nat → x_M ρ} (X : v_C Γ l0 R0 cc nL own ret w g)
    (hM : v_M l0 y bytes maxL ret' rm w g (.ref b :: As) σ (fun z => (some (va_rf z), σ)) f) (hc : w.2.2[ci]? = some (C, T, N)) (q1 : Cond.methodLink own index x ∈ lw_all) (hy : v_yF C x y bytes maxL ret' np)
    (hnp : As.length = np) (hrm : v_rm rm R0 maxL = true) (hkR : k9 ≤ R0.cells ∧ n9 ≤ R0.slots) (hst : st0 = As.reverse ++ .ref b :: rest) (hroom : Nat.ble ((rest.map fun v => v.category).sum) 8 = true) (hd : decode cc pc = .ok (.invokeinterface index count, 5))
    (kk : ∀ z : Option Nat, x_V Γ nL w g mc ms toR k9 n9 (pc + 5) lv (va_rf z :: rest) σ (k z)) : x_V Γ nL w g mc ms toR k9 n9 pc lv st0 σ (if v_isc σ (some b) ci = true then x_b1 f k else x_no) := x_callF X hM hc q1 hy hnp hrm hkR hst hroom hd (fun z _ => kk z)
theorem x_xFis {mc' ms' : Nat} {C : String} {x y : MethodName} {bytes : ByteArray} {maxL index count ci N : Nat} {ret' : Option FieldType} {rm : Room} {b np : Nat} {T : u_T} {As rest st0 : List Value} {f : x_M (Int32 × v_S)} {k : Int32 → v_S → x_M ρ} (X : v_C Γ l0 R0 cc nL own ret w g) (ht : (v_c Γ).exceptionTable.toList = []) (hk : k9 + mc' ≤ mc) (hn : n9 + ms' ≤ ms)
    (hM : x_MC l0 y bytes maxL ret' rm w g mc' ms' (.ref b :: As) σ (fun z => (some (.int z.1), z.2)) f) (hc : w.2.2[ci]? = some (C, T, N)) (q1 : Cond.methodLink own index x ∈ lw_all) (hy : v_yF C x y bytes maxL ret' np)
    (hnp : As.length = np) (hrm : x_rm rm R0 maxL mc' ms' = true) (hkR : k9 + mc' ≤ R0.cells ∧ n9 + ms' ≤ R0.slots) (hst : st0 = As.reverse ++ .ref b :: rest) (hroom : Nat.ble ((rest.map fun v => v.category).sum) 8 = true) (hd : decode cc pc = .ok (.invokeinterface index count, 5))
    (kk : ∀ (z1 : Int32) (z2 : v_S), x_V Γ nL w g mc ms toR (k9 + mc') (n9 + ms') (pc + 5) lv (.int z1 :: rest) z2 (k z1 z2)) : x_V Γ nL w g mc ms toR k9 n9 pc lv st0 σ (if v_isc σ (some b) ci = true then x_call2 f k else x_no) :=
  x_cxF (k := fun z => k z.1 z.2) (h := fun e => x_thr e.1 e.2.1 e.2.2) X hM hc q1 hy hnp hrm hkR hst hroom hd (fun C q σ1 => x_out X (x_nohh ht) hk hn) (fun z => kk z.1 z.2)
def x_tw (z : Int32) (lo hi : Int) (md : x_M ρ) (mk : Nat → x_M ρ) : x_M ρ := if z.toInt < lo ∨ hi < z.toInt then md else mk (z.toInt - lo).toNat
theorem x_tsw {dflt lo hi : Int} {offs : Array Int} {len tgt : Nat} {z : Int32} {md : x_M ρ} {mk : Nat → x_M ρ} (tgts : List Nat) (X : v_C Γ l0 R0 cc nL own ret w g) (hd : decode cc pc = .ok (.tableswitch dflt lo hi offs, len)) (ht : (pc : Int) + dflt = (tgt : Int)) (hlen : hi - lo + 1 = tgts.length) (ho : offs.toList.map (fun o => (pc : Int) + o) = tgts.map (fun t : Nat => (t : Int))) (kd : x_V Γ nL w g mc ms toR k9 n9 tgt lv st σ md) (kk : ∀ (j t : Nat), tgts[j]? = some t → x_V Γ nL w g mc ms toR k9 n9 t lv st σ (mk j)) : x_V Γ nL w g mc ms toR k9 n9 pc lv (.int z :: st) σ (x_tw z lo hi md mk) := by
  unfold x_tw
  by_cases q : z.toInt < lo ∨ hi < z.toInt
  · rw [if_pos q]
    exact fun P E hx ls H locs h1 h2 h3 => lv_tableOut X.1 X.2.1 hd q ht (kd P E hx ls H locs h1 h2 h3)
  · rw [if_neg q]
    have a1 : ¬ z.toInt < lo := fun h => q (Or.inl h)
    have a2 : ¬ hi < z.toInt := fun h => q (Or.inr h)
    have hj : (z.toInt - lo).toNat < tgts.length := by omega
    have e := congrArg (fun L => L[(z.toInt - lo).toNat]?) ho
    simp only [List.getElem?_map] at e
    rw [List.getElem?_eq_getElem hj] at e
    cases hz : offs.toList[(z.toInt - lo).toNat]? with
    | none => rw [hz] at e; simp at e
    | some off =>
      rw [hz] at e
      simp only [Option.map_some, Option.some.injEq] at e
      exact fun P E hx ls H locs h1 h2 h3 => lv_tableIn X.1 X.2.1 hd a1 a2 (by rw [← Array.getElem?_toList]; exact hz) e (kk _ _ (List.getElem?_eq_getElem hj) P E hx ls H locs h1 h2 h3)
/-! rows for the printer: states are named by what follows -/
theorem x_newOG {ci N index : Nat} {C : String} {T : u_T} {fs : List Value} {k1 : Nat → v_S → x_M ρ} (X : v_C Γ l0 R0 cc nL own ret w g) (hc : w.2.2[ci]? = some (C, T, N)) (hin : ∀ q ∈ u_ws C T N, q ∈ lw_all) (ty0 : Nat → FieldType) (hty : ∀ k, k < N → parseFieldDescriptor (T k).2.2.1 = some (ty0 k)) (hl : Cond.classLink own index C ∈ lw_all) (hi : Cond.instantiable C N ∈ lw_all) (hini : Cond.initialized C ∈ lw_all) (hfs : ∀ j, j < N → defaultValue (ty0 j) = vp_V fs j) (hkR : k9 + 1 ≤ R0.cells ∧ n9 + N ≤ R0.slots) (hd : decode cc pc = .ok (.new index, 3))
    (kk : ∀ q σ', x_V Γ nL w g mc ms toR (k9 + 1) (n9 + N) (pc + 3) lv (.ref q :: st) σ' (k1 q σ')) : x_V Γ nL w g mc ms toR k9 n9 pc lv st σ (x_new σ (.inr (ci, fs)) k1) := x_newO X hc hin ty0 hty hl hi hini hfs hkR hd (fun q _ => kk q _)
theorem x_newQG {C : String} {t nb index : Nat} {n : Int32} {k1 : Nat → v_S → x_M ρ} (X : v_C Γ l0 R0 cc nL own ret w g) (hn : ¬ n < 0) (hN : n.toNatClampNeg = nb) (hl : Cond.classLink own index C ∈ lw_all) (hov : Cond.arrayOver (.object C) ∈ lw_tbl) (ht : ∀ dA, (v_tys dA)[t]? = some (dA t, .object C)) (hb : nb * 4 ≤ 536870912) (hkR : k9 + 1 ≤ R0.cells ∧ n9 + nb ≤ R0.slots) (hd : decode cc pc = .ok (.anewarray index, 3))
    (kk : ∀ q σ', x_V Γ nL w g mc ms toR (k9 + 1) (n9 + nb) (pc + 3) lv (.ref q :: st) σ' (k1 q σ')) : x_V Γ nL w g mc ms toR k9 n9 pc lv (.int n :: st) σ (x_new σ (.inl (t, nb, .inr (.inr (.inr (.inr (fun _ => none)))))) k1) := x_newQ X hn hN hl hov ht hb hkR hd (fun q _ => kk q _)
theorem x_newQA {C : String} {t nb index : Nat} {n : Int32} {k1 : Nat → v_S → x_M ρ} (X : v_C Γ l0 R0 cc nL own ret w g) (hl : Cond.classLink own index C ∈ lw_all) (hov : Cond.arrayOver (.object C) ∈ lw_tbl) (ht : ∀ dA, (v_tys dA)[t]? = some (dA t, .object C)) (hb : nb * 4 ≤ 536870912) (hkR : k9 + 1 ≤ R0.cells ∧ n9 + nb ≤ R0.slots) (hd : decode cc pc = .ok (.anewarray index, 3))
    (kk : ∀ q σ', x_V Γ nL w g mc ms toR (k9 + 1) (n9 + nb) (pc + 3) lv (.ref q :: st) σ' (k1 q σ')) : x_V Γ nL w g mc ms toR k9 n9 pc lv (.int n :: st) σ (if ¬ n < 0 ∧ n.toNatClampNeg ≤ nb then x_new σ (.inl (t, n.toNatClampNeg, .inr (.inr (.inr (.inr (fun _ => none)))))) k1 else x_no) := by
  by_cases h : ¬ n < 0 ∧ n.toNatClampNeg ≤ nb
  · rw [if_pos h]
    exact x_newQ X h.1 rfl hl hov ht (Nat.le_trans (Nat.mul_le_mul_right _ h.2) hb) ⟨hkR.1, Nat.le_trans (Nat.add_le_add_left h.2 _) hkR.2⟩ hd (fun q _ => x_wd (Nat.le_refl _) (Nat.add_le_add_left h.2 _) (kk q _))
  · rw [if_neg h]; exact x_none
/-- throwing an object without number -/
theorem x_athrowC {ci N q : Nat} {C : String} {T : u_T} (X : v_C Γ l0 R0 cc nL own ret w g) (ht : (v_c Γ).exceptionTable.toList = []) (hk : k9 ≤ mc) (hn : n9 ≤ ms) (hc : w.2.2[ci]? = some (C, T, N)) (hd : decode cc pc = .ok (.athrow, 1)) : x_V Γ nL w g mc ms toR k9 n9 pc lv (.ref q :: st) σ (if v_isc σ (some q) ci = true then x_thr C q σ else x_no) := by
  by_cases h : v_isc σ (some q) ci = true
  · rw [if_pos h]
    refine x_athrow X hd (v_rc_d X hc h) (fun H ce h2 hce => ?_) (x_out X (x_nohh ht) hk hn)
    simp only [v_isc] at h
    cases hdf : v_df σ.2.2.2 q with
    | none => rw [hdf] at h; cases h
    | some e =>
      obtain ⟨t, y9⟩ | ⟨c, fs⟩ := e
      · rw [hdf] at h; cases h
      · obtain ⟨q0, hq0⟩ := v_wl_d (w := w) (g := g) hdf
        obtain ⟨r, h1, cell, g1, g2, g3, -⟩ := h2.1 q0 _ hq0
        cases Option.some.inj (g1.symm.trans hce)
        exact g3
  · rw [if_neg h]; exact x_none
/-- a field that holds a numbered cell -/
def v_dE (g : v_G) (σ : v_S) (a ci k n : Nat) : Bool := match v_dv σ a ci k with
  | some (.ref b) => b == v_E g n
  | _ => false
theorem x_dgetE {a ci k N index n : Nat} {C : String} {T : u_T} (X : v_C Γ l0 R0 cc nL own ret w g) (hc : w.2.2[ci]? = some (C, T, N)) (hin : ∀ q ∈ u_ws C T N, q ∈ lw_all) (hk : k < N) (hlink : Cond.fieldLink own index (T k).1 (T k).2.1 (T k).2.2.1 ∈ lw_all) (hd : decode cc pc = .ok (.getfield index, 3))
    (kk : x_V Γ nL w g mc ms toR k9 n9 (pc + 3) lv (.ref (v_E g n) :: st) σ mdl) : x_V Γ nL w g mc ms toR k9 n9 pc lv (.ref a :: st) σ (if v_dE g σ a ci k n = true then mdl else x_no) := by
  by_cases h : v_dE g σ a ci k n = true
  · rw [if_pos h]
    refine x_dget X hc hin hk hlink hd (v := .ref (v_E g n)) ?_ kk
    unfold v_dE at h
    split at h
    · rename_i b hb
      rw [hb, beq_iff_eq.mp h]
    · cases h
  · rw [if_neg h]; exact x_none
theorem x_dgetS {a ci k N index : Nat} {C ref : String} {T : u_T} {k1 : Int32 → x_M ρ} (X : v_C Γ l0 R0 cc nL own ret w g) (hc : w.2.2[ci]? = some (C, T, N)) (hin : ∀ q ∈ u_ws C T N, q ∈ lw_all) (hk : k < N) (hlink : Cond.fieldLink own index ref (T k).2.1 (T k).2.2.1 ∈ lw_all) (hsame : Cond.sameField ref (T k).1 (T k).2.1 (T k).2.2.1 ∈ lw_all) (hd : decode cc pc = .ok (.getfield index, 3))
    (kk : ∀ z : Int32, x_V Γ nL w g mc ms toR k9 n9 (pc + 3) lv (.int z :: st) σ (k1 z)) : x_V Γ nL w g mc ms toR k9 n9 pc lv (.ref a :: st) σ (x_b1 (v_dI σ a ci k) k1) := by
  intro P E hx ls H locs h1 h2 h3
  obtain ⟨z, hz, hx⟩ := hx
  obtain ⟨fs, hdf, hfs⟩ := v_dv_at (v_dI_at hz)
  obtain ⟨q0, hq0⟩ := v_wl_d (w := w) (g := g) hdf
  exact va_get (ref := ref) (v := .int z) X.1 X.2.1 X.2.2.2.2.1 hin X.2.2.2.1 X.2.2.2.2.2.2.2.1 h2.1 q0 (ci := ci) (fs := fs) hq0 hc k hk (X.2.2.2.2.1 _ hlink) (u_same (X.2.2.2.2.1 _ hsame)) hfs hd (kk z P E hx ls H locs h1 h2 h3)
def x_all {α : Type} (k : α → x_M ρ) : x_M ρ := fun P E => ∀ z, k z P E
theorem x_gsta {C n d : String} {index : Nat} {k1 : Option Nat → x_M ρ} (X : v_C Γ l0 R0 cc nL own ret w g) (hl : Cond.laysStatic C n d ∈ lw_tbl) (hini : Cond.initialized C ∈ lw_tbl) (p : List Bool) (hv : v_at (Jvm.Cond.and given_1 narrow_1) p = Cond.isRef (.static C n d)) (hq : Cond.fieldLink own index C n d ∈ lw_all) (hd : decode cc pc = .ok (.getstatic index, 3)) (kk : ∀ z : Option Nat, x_V Γ nL w g mc ms toR k9 n9 (pc + 3) lv (va_rf z :: st) σ (k1 z)) : x_V Γ nL w g mc ms toR k9 n9 pc lv st σ (x_all k1) :=
  x_gstq X hl hini p hv hq hd (fun z P E hx => kk z P E (hx z))
theorem x_rfn {C : String} {e : Option Nat} : narrow (.object C) (va_rf e) = va_rf e := by cases e <;> rfl
theorem x_rff {C : String} {e : Option Nat} : fits (.object C) (va_rf e) = true := by cases e <;> rfl
theorem x_rfna {ty : FieldType} {e : Option Nat} : narrow (.array ty) (va_rf e) = va_rf e := by cases e <;> rfl
theorem x_rffa {ty : FieldType} {e : Option Nat} : fits (.array ty) (va_rf e) = true := by cases e <;> rfl
theorem x_newGI {nb : Nat} {n : Int32} {k1 : Nat → v_S → x_M ρ} (X : v_C Γ l0 R0 cc nL own ret w g) (hn : ¬ n < 0) (hN : n.toNatClampNeg = nb) (harr : Cond.arrayClass .int ∈ lw_all) (hb : Nat.ble nb 1000000 = true) (hkR : k9 + 1 ≤ R0.cells ∧ n9 + nb ≤ R0.slots) (hd : decode cc pc = .ok (.newarray .int, 2))
    (kk : ∀ q σ', x_V Γ nL w g mc ms toR (k9 + 1) (n9 + nb) (pc + 2) lv (.ref q :: st) σ' (k1 q σ')) : x_V Γ nL w g mc ms toR k9 n9 pc lv (.int n :: st) σ (x_new σ (.inl (0, nb, .inl (fun _ => 0))) k1) := x_newLI X hn hN harr hb hkR hd (fun q _ => kk q _)
theorem x_newGB {nb : Nat} {n : Int32} {k1 : Nat → v_S → x_M ρ} (X : v_C Γ l0 R0 cc nL own ret w g) (hn : ¬ n < 0) (hN : n.toNatClampNeg = nb) (harr : Cond.arrayClass .byte ∈ lw_all) (hb : Nat.ble nb 1000000 = true) (hkR : k9 + 1 ≤ R0.cells ∧ n9 + nb ≤ R0.slots) (hd : decode cc pc = .ok (.newarray .byte, 2))
    (kk : ∀ q σ', x_V Γ nL w g mc ms toR (k9 + 1) (n9 + nb) (pc + 2) lv (.ref q :: st) σ' (k1 q σ')) : x_V Γ nL w g mc ms toR k9 n9 pc lv (.int n :: st) σ (x_new σ (.inl (1, nb, .inl (fun _ => 0))) k1) := x_newLB X hn hN harr hb hkR hd (fun q _ => kk q _)
theorem x_newGZ {nb : Nat} {n : Int32} {k1 : Nat → v_S → x_M ρ} (X : v_C Γ l0 R0 cc nL own ret w g) (hn : ¬ n < 0) (hN : n.toNatClampNeg = nb) (harr : Cond.arrayClass .boolean ∈ lw_all) (hb : Nat.ble nb 1000000 = true) (hkR : k9 + 1 ≤ R0.cells ∧ n9 + nb ≤ R0.slots) (hd : decode cc pc = .ok (.newarray .boolean, 2))
    (kk : ∀ q σ', x_V Γ nL w g mc ms toR (k9 + 1) (n9 + nb) (pc + 2) lv (.ref q :: st) σ' (k1 q σ')) : x_V Γ nL w g mc ms toR k9 n9 pc lv (.int n :: st) σ (x_new σ (.inl (2, nb, .inl (fun _ => 0))) k1) := x_newLZ X hn hN harr hb hkR hd (fun q _ => kk q _)
theorem x_newGJ {nb : Nat} {n : Int32} {k1 : Nat → v_S → x_M ρ} (X : v_C Γ l0 R0 cc nL own ret w g) (hn : ¬ n < 0) (hN : n.toNatClampNeg = nb) (harr : Cond.arrayClass .long ∈ lw_all) (hb : Nat.ble nb 1000000 = true) (hkR : k9 + 1 ≤ R0.cells ∧ n9 + nb ≤ R0.slots) (hd : decode cc pc = .ok (.newarray .long, 2))
    (kk : ∀ q σ', x_V Γ nL w g mc ms toR (k9 + 1) (n9 + nb) (pc + 2) lv (.ref q :: st) σ' (k1 q σ')) : x_V Γ nL w g mc ms toR k9 n9 pc lv (.int n :: st) σ (x_new σ (.inl (3, nb, .inr (.inl (fun _ => 0)))) k1) := x_newLJ X hn hN harr hb hkR hd (fun q _ => kk q _)
theorem x_newGS {nb : Nat} {n : Int32} {k1 : Nat → v_S → x_M ρ} (X : v_C Γ l0 R0 cc nL own ret w g) (hn : ¬ n < 0) (hN : n.toNatClampNeg = nb) (harr : Cond.arrayClass .short ∈ lw_all) (hb : Nat.ble nb 1000000 = true) (hkR : k9 + 1 ≤ R0.cells ∧ n9 + nb ≤ R0.slots) (hd : decode cc pc = .ok (.newarray .short, 2))
    (kk : ∀ q σ', x_V Γ nL w g mc ms toR (k9 + 1) (n9 + nb) (pc + 2) lv (.ref q :: st) σ' (k1 q σ')) : x_V Γ nL w g mc ms toR k9 n9 pc lv (.int n :: st) σ (x_new σ (.inl (4, nb, .inl (fun _ => 0))) k1) := x_newLS X hn hN harr hb hkR hd (fun q _ => kk q _)
/-! rows that lists grow by: Math.max, class objects, copies -/
theorem x_mmax {index : Nat} {x1 y1 : Int32} (X : v_C Γ l0 R0 cc nL own ret w g) (q1 : Cond.methodLink own index Lib.Math.max.name ∈ lw_all) (q2 : Cond.static Lib.Math.max.name ∈ lw_all) (q3 : Cond.initialized "java/lang/Math" ∈ lw_all) (q4 : Cond.code Lib.Math.max.name Lib.Math.max.code 2 (some .int) ∈ lw_all) (hR : (Nat.ble 1 R0.frames && Nat.ble ((st.map fun v => v.category).sum + 13) R0.locals) = true) (hkR : k9 ≤ R0.cells ∧ n9 ≤ R0.slots) (hd : decode cc pc = .ok (.invokestatic index, 3))
    (kk : x_V Γ nL w g mc ms toR k9 n9 (pc + 3) lv (.int (if x1 < y1 then y1 else x1) :: st) σ mdl) : x_V Γ nL w g mc ms toR k9 n9 pc lv (.int y1 :: .int x1 :: st) σ mdl := by
  intro P E hx ls H locs h1 h2 h3
  simp only [Bool.and_eq_true, Nat.ble_eq] at hR
  exact va_mmax X.1 X.2.1 (X.2.2.1.trans h1.1.symm) X.2.2.2.1 (X.2.2.2.2.1 _ q1) (X.2.2.2.2.1 _ q2) (X.2.2.2.2.1 _ q3) (X.2.2.2.2.1 _ q4) (by rw [X.2.2.2.2.2.2.2.2.2.2.2]; exact hR.1) (by rw [X.2.2.2.2.2.2.2.2.2.2.2]; exact hR.2) (by rw [X.2.2.2.2.2.2.2.2.2.2.2]; exact hkR.1) (by rw [X.2.2.2.2.2.2.2.2.2.2.2]; exact hkR.2) hd (kk P E hx ls H locs h1 h2 h3)
/-- the class object of Object's arrays -/
noncomputable def v_Mo (g : v_G) : Nat := @dite _ (∃ mi, va_Mi "[Ljava/lang/Object;" mi (v_s0 g)) (Classical.propDecidable _) (fun h => h.choose) (fun _ => 0)
theorem v_Mo_ok {g : v_G} (h : v_Z0 g) (p : List Bool) (hp : v_at (Jvm.Cond.and given_1 narrow_1) p = Cond.isRef (.mirror "[Ljava/lang/Object;")) : va_Mi "[Ljava/lang/Object;" (v_Mo g) (v_s0 g) := by
  have hx := va_Mi.of (h.pr p hp)
  unfold v_Mo
  rw [dif_pos hx]
  exact hx.choose_spec
theorem x_ldcM {index : Nat} (X : v_C Γ l0 R0 cc nL own ret w g) (p : List Bool) (hp : v_at (Jvm.Cond.and given_1 narrow_1) p = Cond.isRef (.mirror "[Ljava/lang/Object;")) (hl : Cond.classLink own index "[Ljava/lang/Object;" ∈ lw_all) (hd : decode cc pc = .ok (.ldc index, 2)) (kk : x_V Γ nL w g mc ms toR k9 n9 (pc + 2) lv (.ref (v_Mo g) :: st) σ mdl) : x_V Γ nL w g mc ms toR k9 n9 pc lv st σ mdl := by
  intro P E hx ls H locs h1 h2 h3
  have Bz := X.2.2.2.2.2.2.2.2.2.1
  exact va_ldcM X.1 X.2.1 X.2.2.2.1 (X.2.2.2.2.1 _ hl) ((v_Mo_ok Bz.2.2.2 p hp).moved Bz.1.alike) hd (kk P E hx ls H locs h1 h2 h3)
def gcN : MethodName := ⟨"java/lang/Object", "getClass", "()Ljava/lang/Class;"⟩
theorem x_getC {index a : Nat} (X : v_C Γ l0 R0 cc nL own ret w g) (p : List Bool) (hp : v_at (Jvm.Cond.and given_1 narrow_1) p = Cond.isRef (.mirror "[Ljava/lang/Object;")) (q1 : Cond.methodLink own index gcN ∈ lw_all) (q2 : Cond.declares gcN ∈ lw_tbl) (q4 : Cond.instanceMethod gcN ∈ lw_all) (q5 : Cond.native gcN ∈ lw_all) (hgood : Cond.selects "[Ljava/lang/Object;" gcN gcN ∈ lw_all) (hR : (Nat.ble 1 R0.frames && Nat.ble ((st.map fun v => v.category).sum + 14) R0.locals) = true) (hd : decode cc pc = .ok (.invokevirtual index, 3))
    (kk : x_V Γ nL w g mc ms toR k9 n9 (pc + 3) lv (.ref (v_Mo g) :: st) σ mdl) : x_V Γ nL w g mc ms toR k9 n9 pc lv (.ref a :: st) σ (x_b2 (v_dq σ a 8) fun _ _ => mdl) := by
  intro P E hx ls H locs h1 h2 h3
  obtain ⟨n, f, hz, hx⟩ := hx
  have hdf := v_dq_at hz
  obtain ⟨q0, hq0⟩ := v_wl_d (w := w) (g := g) hdf
  have Bz := X.2.2.2.2.2.2.2.2.2.1
  simp only [Bool.and_eq_true, Nat.ble_eq] at hR
  have hc : ∃ cell : Cell, H[a]? = some cell ∧ cell.vm.isStatics = false ∧ (v_s Γ).vm.findClass "[Ljava/lang/Object;" = some cell.cls := by
    obtain ⟨-, -, -, -, -, e⟩ := (X.2.2.2.2.2.2.2.1.2 8 (v_dA g 8, .object "java/lang/Object") rfl).2
    exact ⟨_, h2.1 q0 _ hq0, rfl, e⟩
  have hD : va_Dc (v_s Γ) := va_Dc.moved Bz.1.alike (va_Dc.of (Bz.2.2.2.1 _ q2))
  exact va_getC X.1 X.2.1 (X.2.2.1.trans h1.1.symm) X.2.2.2.1 (X.2.2.2.2.1 _ q1) hD.use (X.2.2.2.2.1 _ hgood) (X.2.2.2.2.1 _ q4) (X.2.2.2.2.1 _ q5) ((v_Mo_ok Bz.2.2.2 p hp).moved Bz.1.alike) hc (by rw [X.2.2.2.2.2.2.2.2.2.2.2]; exact hR.1) (by rw [X.2.2.2.2.2.2.2.2.2.2.2]; exact hR.2) hd (kk P E hx ls H locs h1 h2 h3)
theorem x_acmpS {a : Nat} {off : Int} {tgt : Nat} (X : v_C Γ l0 R0 cc nL own ret w g) (hd : decode cc pc = .ok (.if_acmp .ne off, 3)) (ht : (pc : Int) + off = (tgt : Int)) (kk : x_V Γ nL w g mc ms toR k9 n9 (pc + 3) lv st σ mdl) : x_V Γ nL w g mc ms toR k9 n9 pc lv (.ref a :: .ref a :: st) σ mdl :=
  fun P E hx ls H locs h1 h2 h3 => lv_acmp_ne (rx := some a) (ry := some a) X.1 X.2.1 hd ht (fun q => absurd rfl q) (fun _ => kk P E hx ls H locs h1 h2 h3)
def x_as {ρ : Type} (p : Prop) (k : x_M ρ) : x_M ρ := fun P E => p ∧ k P E
/-- all elements from k on are objects of the class c, or null -/
def v_allc (σ : v_S) (f : Nat → Option Nat) (k n c : Nat) : Prop := ∀ i : Nat, i < n → ∀ y : Nat, f (k + i) = some y → v_cc σ y = some c
theorem x_copyQ {index a0 a : Nat} {cs : List Nat} {sp dp n : Int32} {k1 : v_S → x_M ρ} (X : v_C Γ l0 R0 cc nL own ret w g) (q1 : Cond.methodLink own index arraycopyName ∈ lw_all) (q2 : Cond.native arraycopyName ∈ lw_all) (q3 : Cond.static arraycopyName ∈ lw_all) (q4 : Cond.initialized "java/lang/System" ∈ lw_all) (hcs : ∀ c ∈ cs, ∃ r : vw_C, w.2.2[c]? = some r ∧ Cond.castable r.1 "java/lang/Object" ∈ lw_tbl) (hR : (Nat.ble 1 R0.frames && Nat.ble ((st.map fun v => v.category).sum + (nativeFrameWords "java/lang/System" "arraycopy" 5 + 11)) R0.locals) = true) (hd : decode cc pc = .ok (.invokestatic index, 3))
    (kk : ∀ σ', x_V Γ nL w g mc ms toR k9 n9 (pc + 3) lv st σ' (k1 σ')) : x_V Γ nL w g mc ms toR k9 n9 pc lv (.int n :: .int dp :: .ref a :: .int sp :: .ref a0 :: st) σ (x_b2 (v_dq σ a0 8) fun n0 f => x_b2 (v_dq σ a 8) fun n1 h => if v_bad sp dp n n0 n1 = true then x_no else x_as (∃ c ∈ cs, v_allc σ f sp.toNatClampNeg n.toNatClampNeg c) <| x_n (x_st σ a (.inl (8, n1, .inr (.inr (.inr (.inr (va_cpy f h sp.toNatClampNeg dp.toNatClampNeg n.toNatClampNeg))))))) k1) := by
  intro P E hx ls H locs h1 h2 h3
  obtain ⟨n0, f, hz0, hx⟩ := hx
  obtain ⟨n1, h, hz1, hx⟩ := hx
  split at hx
  · cases hx
  rename_i hb
  obtain ⟨b1, b2, b3, b4, b5⟩ := v_bad_not hb
  obtain ⟨⟨c, hc, hall⟩, hx⟩ := hx
  obtain ⟨q0, hq0⟩ := v_wl_d (w := w) (g := g) (v_dq_at hz0)
  obtain ⟨q1', hq1, hs⟩ := x_wl_st (w := w) (g := g) (v_dq_at hz1)
  obtain ⟨r, hr, hcast⟩ := hcs c hc
  simp only [Bool.and_eq_true, Nat.ble_eq] at hR
  have hN := X.2.2.2.2.2.2.2.2.2.1.cast hcast
  refine va_copyq (C := r.1) (E0 := "java/lang/Object") (E1 := "java/lang/Object") X.1 X.2.1 (X.2.2.1.trans h1.1.symm) X.2.2.2.1 (X.2.2.2.2.1 _ q1) (X.2.2.2.2.1 _ q2) (X.2.2.2.2.1 _ q3) (X.2.2.2.2.1 _ q4) X.2.2.2.2.2.2.2.1 h2.1 h2.2 h3 q0 q1' 8 8 hq0 hq1 rfl rfl b1 b2 b3 b4 b5 (fun i hi y hy => ?_) (fun comp c0 e1 e2 => ?_) (by rw [X.2.2.2.2.2.2.2.2.2.2.2]; exact hR.1) (by rw [X.2.2.2.2.2.2.2.2.2.2.2]; exact hR.2) hd (fun H1 locs1 hP hD hS => ?_)
  · obtain ⟨vs, hv⟩ := v_cc_at (hall i hi y hy)
    obtain ⟨qk, hqk⟩ := v_wl_d (w := w) (g := g) hv
    exact va_recv X.2.2.2.2.2.2.2.1 h2.1 hr hqk
  · obtain ⟨c0', t1, f1, f2, f3⟩ := Cond.castable_spec (va_Nw.use (A := v_a Γ) rfl hN)
    cases Option.some.inj (f1.symm.trans e2)
    cases Option.some.inj (f2.symm.trans e1)
    exact f3
  · have e : (v_wl w g σ).set q1' (a, .inl (v_dA g 8, n1, .inr (.inr (.inr (.inr (va_cpy f h sp.toNatClampNeg dp.toNatClampNeg n.toNatClampNeg)))))) = v_wl w g (x_st σ a (.inl (8, n1, .inr (.inr (.inr (.inr (va_cpy f h sp.toNatClampNeg dp.toNatClampNeg n.toNatClampNeg))))))) := hs (.inl (8, n1, .inr (.inr (.inr (.inr (va_cpy f h sp.toNatClampNeg dp.toNatClampNeg n.toNatClampNeg))))))
    rw [e] at hP hD
    exact kk _ P E hx ls H1 locs1 h1 ⟨hP, hD⟩ hS
/-- ints out of a numbered array into one without number, and back -/
theorem x_copyND {index n0 a : Nat} {sp dp n : Int32} {k1 : v_S → x_M ρ} (X : v_C Γ l0 R0 cc nL own ret w g) (q1 : Cond.methodLink own index arraycopyName ∈ lw_all) (q2 : Cond.native arraycopyName ∈ lw_all) (q3 : Cond.static arraycopyName ∈ lw_all) (q4 : Cond.initialized "java/lang/System" ∈ lw_all) (hR : (Nat.ble 1 R0.frames && Nat.ble ((st.map fun v => v.category).sum + (nativeFrameWords "java/lang/System" "arraycopy" 5 + 11)) R0.locals) = true) (hd : decode cc pc = .ok (.invokestatic index, 3))
    (kk : ∀ σ', x_V Γ nL w g mc ms toR k9 n9 (pc + 3) lv st σ' (k1 σ')) : x_V Γ nL w g mc ms toR k9 n9 pc lv (.int n :: .int dp :: .ref a :: .int sp :: .ref (v_E g n0) :: st) σ (x_b1 (v_il w n0) fun l0 => x_b2 (v_da σ a 0) fun l1 h => if v_bad sp dp n l0 l1 = true then x_no else x_n (x_st σ a (.inl (0, l1, .inl (va_cpy (σ.1 n0) h sp.toNatClampNeg dp.toNatClampNeg n.toNatClampNeg)))) k1) := by
  intro P E hx ls H locs h1 h2 h3
  obtain ⟨len0, hz0, hx⟩ := hx
  obtain ⟨l1, h, hz1, hx⟩ := hx
  split at hx
  · cases hx
  rename_i hb
  obtain ⟨b1, b2, b3, b4, b5⟩ := v_bad_not hb
  obtain ⟨hn0, hl0⟩ := v_il_of hz0
  obtain ⟨q1', hq1, hs⟩ := x_wl_st (w := w) (g := g) (v_da_at hz1)
  simp only [Bool.and_eq_true, Nat.ble_eq] at hR
  refine va_copyi X.1 X.2.1 (X.2.2.1.trans h1.1.symm) X.2.2.2.1 (X.2.2.2.2.1 _ q1) (X.2.2.2.2.1 _ q2) (X.2.2.2.2.1 _ q3) (X.2.2.2.2.1 _ q4) X.2.2.2.2.2.2.2.1 h2.1 h2.2 h3 n0 q1' 0 0 ((v_wl_at hn0).trans (by rw [v_cell_a hl0]; rfl)) hq1 (ty := .int) rfl rfl rfl b1 b2 b3 b4 b5 (fun _ _ => rfl) (by rw [X.2.2.2.2.2.2.2.2.2.2.2]; exact hR.1) (by rw [X.2.2.2.2.2.2.2.2.2.2.2]; exact hR.2) hd (fun H1 locs1 hP hD hS => ?_)
  have e : (v_wl w g σ).set q1' (a, .inl (v_dA g 0, l1, .inl (va_cpy (σ.1 n0) h sp.toNatClampNeg dp.toNatClampNeg n.toNatClampNeg))) = v_wl w g (x_st σ a (.inl (0, l1, .inl (va_cpy (σ.1 n0) h sp.toNatClampNeg dp.toNatClampNeg n.toNatClampNeg)))) := hs (.inl (0, l1, .inl (va_cpy (σ.1 n0) h sp.toNatClampNeg dp.toNatClampNeg n.toNatClampNeg)))
  rw [e] at hP hD
  exact kk _ P E hx ls H1 locs1 h1 ⟨hP, hD⟩ hS
theorem x_copyDN {index n1 a : Nat} {sp dp n : Int32} {k1 : v_S → x_M ρ} (X : v_C Γ l0 R0 cc nL own ret w g) (q1 : Cond.methodLink own index arraycopyName ∈ lw_all) (q2 : Cond.native arraycopyName ∈ lw_all) (q3 : Cond.static arraycopyName ∈ lw_all) (q4 : Cond.initialized "java/lang/System" ∈ lw_all) (hR : (Nat.ble 1 R0.frames && Nat.ble ((st.map fun v => v.category).sum + (nativeFrameWords "java/lang/System" "arraycopy" 5 + 11)) R0.locals) = true) (hd : decode cc pc = .ok (.invokestatic index, 3))
    (kk : ∀ σ', x_V Γ nL w g mc ms toR k9 n9 (pc + 3) lv st σ' (k1 σ')) : x_V Γ nL w g mc ms toR k9 n9 pc lv (.int n :: .int dp :: .ref (v_E g n1) :: .int sp :: .ref a :: st) σ (x_b2 (v_da σ a 0) fun l0 h => x_b1 (v_il w n1) fun l1 => if v_bad sp dp n l0 l1 = true then x_no else x_n ((fun a b => if a = n1 then va_cpy h (σ.1 n1) sp.toNatClampNeg dp.toNatClampNeg n.toNatClampNeg b else σ.1 a b, σ.2) : v_S) k1) := by
  intro P E hx ls H locs h1 h2 h3
  obtain ⟨l0, h, hz0, hx⟩ := hx
  obtain ⟨len1, hz1, hx⟩ := hx
  split at hx
  · cases hx
  rename_i hb
  obtain ⟨b1, b2, b3, b4, b5⟩ := v_bad_not hb
  obtain ⟨hn1, hl1⟩ := v_il_of hz1
  obtain ⟨q0, hq0⟩ := v_wl_d (w := w) (g := g) (v_da_at hz0)
  simp only [Bool.and_eq_true, Nat.ble_eq] at hR
  refine va_copyi X.1 X.2.1 (X.2.2.1.trans h1.1.symm) X.2.2.2.1 (X.2.2.2.2.1 _ q1) (X.2.2.2.2.1 _ q2) (X.2.2.2.2.1 _ q3) (X.2.2.2.2.1 _ q4) X.2.2.2.2.2.2.2.1 h2.1 h2.2 h3 q0 n1 0 0 hq0 ((v_wl_at hn1).trans (by rw [v_cell_a hl1]; rfl)) (ty := .int) rfl rfl rfl b1 b2 b3 b4 b5 (fun _ _ => rfl) (by rw [X.2.2.2.2.2.2.2.2.2.2.2]; exact hR.1) (by rw [X.2.2.2.2.2.2.2.2.2.2.2]; exact hR.2) hd (fun H1 locs1 hP hD hS => ?_)
  have e := v_wl_set (g := g) (σ := σ) (σ' := ((fun a b => if a = n1 then va_cpy h (σ.1 n1) sp.toNatClampNeg dp.toNatClampNeg n.toNatClampNeg b else σ.1 a b, σ.2) : v_S)) (e := .inl (v_dA g 0, len1, .inl (va_cpy h (σ.1 n1) sp.toNatClampNeg dp.toNatClampNeg n.toNatClampNeg))) hn1 (by rw [v_cell_a hl1]; exact congrArg (fun q => Sum.inl (v_dA g 0, len1, Sum.inl q)) (funext fun j => by simp)) (fun m hm => v_cell_n (fun k => by simp [hm]) (fun k => rfl) (fun k => rfl)) rfl
  rw [e] at hP hD
  exact kk _ P E hx ls H1 locs1 h1 ⟨hP, hD⟩ hS
end Y
