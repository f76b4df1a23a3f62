/-! THE LAYER x_: walks of methods that make cells or throw. A model is a pair of posts turned backwards: what is returned, what is thrown (class, address, world) -/
abbrev x_E : Type := String × Nat × v_S
abbrev x_M (ρ : Type) : Type := (ρ → Prop) → (x_E → Prop) → Prop
def x_Q {ρ : Type} (w : v_Wd) (g : v_G) (toR : ρ → Option Value × v_S) (P : ρ → Prop) : Array Value → State → Outcome → State → Prop := fun _ st o t => ∃ x, P x ∧ o = .returned (toR x).1 ∧ v_I w g (toR x).2 t.heap ∧ va_F (v_A g) st t
def x_XC (w : v_Wd) (g : v_G) (E : x_E → Prop) : String → Addr → State → State → Prop := fun C q st t => ∃ σ : v_S, E (C, q, σ) ∧ v_I w g σ t.heap ∧ va_F (v_A g) st t
def x_V {ρ : Type} (Γ : v_Ctx) (nL : Nat) (w : v_Wd) (g : v_G) (mc ms : Nat) (toR : ρ → Option Value × v_S) (k9 n9 : Nat) (pc : Nat) (lv : List (Nat × Value)) (st : List Value) (σ : v_S) (mdl : x_M ρ) : Prop :=
  ∀ P E, mdl P E → ∀ (ls : Array Slot) (H : Heap) (locs : List Loc), lv_has ls nL lv → v_I w g σ H → va_S (v_A g) (v_s Γ).heap H locs →
    v_W Γ H locs k9 n9 (vx_MQ (v_b Γ) (x_Q w g toR P) (x_XC w g E) (v_a Γ) (v_s Γ) mc ms (v_A g)) (F0 (v_m Γ) pc ls st)
def x_MC {ρ : Type} (l : Launch) (y : MethodName) (cc : ByteArray) (nL : Nat) (ret : Option FieldType) (rm : Room) (w : v_Wd) (g : v_G) (mc ms : Nat) (as : List Value) (σ : v_S) (toR : ρ → Option Value × v_S) (mdl : x_M ρ) : Prop :=
  ∀ P E, mdl P E → vx_Met l y (ws_ y cc nL ret) rm (va_Pc as (v_P w g σ)) (x_Q w g toR P) (x_XC w g E) mc ms (v_A g)
/-- the same for a method with handlers hh -/
def x_MH {ρ : Type} (l : Launch) (y : MethodName) (cc : ByteArray) (nL : Nat) (ret : Option FieldType) (hh : List (Nat × Nat × Nat × Nat)) (rm : Room) (w : v_Wd) (g : v_G) (mc ms : Nat) (as : List Value) (σ : v_S) (toR : ρ → Option Value × v_S) (mdl : x_M ρ) : Prop :=
  ∀ P E, mdl P E → vx_Met l y (wsW_ y cc nL ret hh) rm (va_Pc as (v_P w g σ)) (x_Q w g toR P) (x_XC w g E) mc ms (v_A g)
def x_no {ρ : Type} : x_M ρ := fun _ _ => False
def x_g {ρ : Type} (i : Int32) (n : Nat) (k : x_M ρ) : x_M ρ := fun P E => vp_in i n ∧ k P E
def x_n {ρ α : Type} (x : α) (k : α → x_M ρ) : x_M ρ := k x
def x_b1 {ρ α : Type} (f : Option α) (k : α → x_M ρ) : x_M ρ := fun P E => ∃ z, f = some z ∧ k z P E
def x_b2 {ρ α β : Type} (f : Option (α × β)) (k : α → β → x_M ρ) : x_M ρ := fun P E => ∃ z y, f = some (z, y) ∧ k z y P E
def x_ret {ρ : Type} (x : ρ) : x_M ρ := fun P _ => P x
def x_call {ρ α : Type} (f : x_M α) (k : α → x_M ρ) : x_M ρ := fun P E => f (fun z => k z P E) E
def x_call2 {ρ α β : Type} (f : x_M (α × β)) (k : α → β → x_M ρ) : x_M ρ := fun P E => f (fun z => k z.1 z.2 P E) E
def x_thr {ρ : Type} (C : String) (q : Nat) (σ : v_S) : x_M ρ := fun _ E => E (C, q, σ)
def x_cell (σ : v_S) (q : Nat) (c : (Nat × vp_A) ⊕ (Nat × List Value)) : v_S := (σ.1, σ.2.1, σ.2.2.1, σ.2.2.2 ++ [(q, c)])
def x_new {ρ : Type} (σ : v_S) (c : (Nat × vp_A) ⊕ (Nat × List Value)) (k : Nat → v_S → x_M ρ) : x_M ρ := fun P E => ∀ q, v_df σ.2.2.2 q = none → k q (x_cell σ q c) P E
theorem x_met {ρ : Type} {l : Launch} {y : MethodName} {cc : ByteArray} {nL : Nat} {ret : Option FieldType} {rm : Room} {w : v_Wd} {g : v_G} {mc ms : Nat} {as : List Value} {σ : v_S} {toR : ρ → Option Value × v_S} {mdl : x_M ρ} (hy : plainName y.cls = true) (hn : (lg_sl as).length ≤ nL)
    (body : ∀ Γ, v_C Γ l rm cc nL y.cls ret w g → (v_c Γ).exceptionTable.toList = [] → (v_me Γ).name = y.name → x_V Γ nL w g mc ms toR 0 0 0 (lv_args 0 as) [] σ mdl) : x_MC l y cc nL ret rm w g mc ms as σ toR mdl := by
  intro P E hx
  refine vx_ofW (cc := cc) (maxL := nL) (ret := ret) hy rfl ?_
  intro p e s m args below meth c s₁ B hml htab hv
  obtain ⟨rfl, hI, hK, hN⟩ := hv
  have hA : ∀ q, s.heap.size ≤ q → v_A g q := fun q h => ⟨Nat.le_trans hN.2.1.1 h, fun z => Nat.not_le.mpr (hN.2.1.2 q z) h⟩
  have hts := atoms_spec (ws := ws_ y cc nL ret) B.pre
  have hts : ∀ q ∈ lw_all, q.before _ s = true := fun q h => hts q (List.mem_cons_of_mem _ h)
  have hown : s.vm.findClass y.cls = some m.cls := findClass_of_methodNamed B.named
  have hl := lv_entry as (n := nL) hn
  rw [lg_entry_eq]
  exact body (p, l, e, (headSpec (ws_ y cc nL ret) rm).room, s, m, as.toArray, below, meth, c) ⟨B.exec, B.bytes, hml, hown, hts, B.returns, B.notSynchronized, hK, hA, hN, rfl, rfl⟩ (List.eq_nil_iff_forall_not_mem.mpr htab) (name_of_methodNamed B.named B.method).1 P E hx _ _ _ hl hI va_S.rf
theorem x_metH {ρ : Type} {l : Launch} {y : MethodName} {cc : ByteArray} {nL : Nat} {ret : Option FieldType} {hh : List (Nat × Nat × Nat × Nat)} {rm : Room} {w : v_Wd} {g : v_G} {mc ms : Nat} {as : List Value} {σ : v_S} {toR : ρ → Option Value × v_S} {mdl : x_M ρ} (hy : plainName y.cls = true) (hn : (lg_sl as).length ≤ nL)
    (body : ∀ Γ, v_C Γ l rm cc nL y.cls ret w g → (v_c Γ).exceptionTable.toList = tableOf hh → (v_me Γ).name = y.name → x_V Γ nL w g mc ms toR 0 0 0 (lv_args 0 as) [] σ mdl) : x_MH l y cc nL ret hh rm w g mc ms as σ toR mdl := by
  intro P E hx
  refine vx_ofWH (cc := cc) (maxL := nL) (ret := ret) (hh := hh) hy rfl ?_
  intro p e s m args below meth c s₁ B hml hv
  obtain ⟨rfl, hI, hK, hN⟩ := hv
  have hA : ∀ q, s.heap.size ≤ q → v_A g q := fun q h => ⟨Nat.le_trans hN.2.1.1 h, fun z => Nat.not_le.mpr (hN.2.1.2 q z) h⟩
  have hts := atoms_spec (ws := wsW_ y cc nL ret hh) B.pre
  have htab := vx_table (x := y) B (hts _ List.mem_cons_self)
  have hts : ∀ q ∈ lw_all, q.before _ s = true := fun q h => hts q (List.mem_cons_of_mem _ h)
  have hown : s.vm.findClass y.cls = some m.cls := findClass_of_methodNamed B.named
  have hl := lv_entry as (n := nL) hn
  rw [lg_entry_eq]
  exact body (p, l, e, (headSpec (wsW_ y cc nL ret hh) rm).room, s, m, as.toArray, below, meth, c) ⟨B.exec, B.bytes, hml, hown, hts, B.returns, B.notSynchronized, hK, hA, hN, rfl, rfl⟩ htab (name_of_methodNamed B.named B.method).1 P E hx _ _ _ hl hI va_S.rf
section X
variable {ρ : Type} {Γ : v_Ctx} {l0 : Launch} {R0 : Room} {cc : ByteArray} {nL : Nat} {own : String} {ret : Option FieldType} {w : v_Wd} {g : v_G} {mc ms k9 n9 : Nat} {toR : ρ → Option Value × v_S} {pc : Nat} {lv lv' : List (Nat × Value)} {st : List Value} {σ : v_S} {mdl : x_M ρ}
theorem x_gk {i : Int32} {k len : Nat} (h : v_ck i k len = true) : x_g (ρ := ρ) i len mdl = mdl := funext fun P => funext fun E => propext ⟨fun h' => h'.2, fun h' => ⟨(v_ck_eq h).2, h'⟩⟩
theorem x_none : x_V Γ nL w g mc ms toR k9 n9 pc lv st σ x_no := fun P E hx => False.elim hx
theorem x_eq {mdl' : x_M ρ} (h : mdl = mdl') (k : x_V Γ nL w g mc ms toR k9 n9 pc lv st σ mdl') : x_V Γ nL w g mc ms toR k9 n9 pc lv st σ mdl := h ▸ k
theorem x_sub (ks : List Nat) (hl : lv_pick lv ks = lv') (k : x_V Γ nL w g mc ms toR k9 n9 pc lv' st σ mdl) : x_V Γ nL w g mc ms toR k9 n9 pc lv st σ mdl :=
  fun P E hx ls H locs h1 h2 h3 => k P E hx ls H locs (lv_sub h1 ks hl) h2 h3
theorem x_nz {c : Prop} {_ : Decidable c} {k : x_M ρ} (h : ¬ c → x_V Γ nL w g mc ms toR k9 n9 pc lv st σ k) : x_V Γ nL w g mc ms toR k9 n9 pc lv st σ (if c then x_no else k) := by
  by_cases q : c
  · rw [if_pos q]; exact x_none
  · rw [if_neg q]; exact h q
theorem x_iload_n {k : Fin 4} {z : Int32} (X : v_C Γ l0 R0 cc nL own ret w g) (hd : decode cc pc = .ok (.iload_n k, 1)) (j : Nat) (hl : lv[j]? = some ((k : Nat), .int z)) (kk : x_V Γ nL w g mc ms toR k9 n9 (pc + 1) lv (.int z :: st) σ mdl) : x_V Γ nL w g mc ms toR k9 n9 pc lv st σ mdl :=
  fun P E hx ls H locs h1 h2 h3 => lv_iload_n X.1 X.2.1 hd rfl (lv_at h1 j hl) (kk P E hx ls H locs h1 h2 h3)
theorem x_iload {i : Nat} {z : Int32} (X : v_C Γ l0 R0 cc nL own ret w g) (hd : decode cc pc = .ok (.iload i, 2)) (j : Nat) (hl : lv[j]? = some (i, .int z)) (kk : x_V Γ nL w g mc ms toR k9 n9 (pc + 2) lv (.int z :: st) σ mdl) : x_V Γ nL w g mc ms toR k9 n9 pc lv st σ mdl :=
  fun P E hx ls H locs h1 h2 h3 => lv_iload X.1 X.2.1 hd (lv_at h1 j hl) (kk P E hx ls H locs h1 h2 h3)
theorem x_lload_n {k : Fin 4} {z : Int64} (X : v_C Γ l0 R0 cc nL own ret w g) (hd : decode cc pc = .ok (.lload_n k, 1)) (j : Nat) (hl : lv[j]? = some ((k : Nat), .long z)) (kk : x_V Γ nL w g mc ms toR k9 n9 (pc + 1) lv (.long z :: st) σ mdl) : x_V Γ nL w g mc ms toR k9 n9 pc lv st σ mdl :=
  fun P E hx ls H locs h1 h2 h3 => lv_lload_n X.1 X.2.1 hd rfl (lv_at h1 j hl) (kk P E hx ls H locs h1 h2 h3)
theorem x_lload {i : Nat} {z : Int64} (X : v_C Γ l0 R0 cc nL own ret w g) (hd : decode cc pc = .ok (.lload i, 2)) (j : Nat) (hl : lv[j]? = some (i, .long z)) (kk : x_V Γ nL w g mc ms toR k9 n9 (pc + 2) lv (.long z :: st) σ mdl) : x_V Γ nL w g mc ms toR k9 n9 pc lv st σ mdl :=
  fun P E hx ls H locs h1 h2 h3 => lv_lload X.1 X.2.1 hd (lv_at h1 j hl) (kk P E hx ls H locs h1 h2 h3)
theorem x_aload_n {k : Fin 4} {z : Nat} (X : v_C Γ l0 R0 cc nL own ret w g) (hd : decode cc pc = .ok (.aload_n k, 1)) (j : Nat) (hl : lv[j]? = some ((k : Nat), .ref z)) (kk : x_V Γ nL w g mc ms toR k9 n9 (pc + 1) lv (.ref z :: st) σ mdl) : x_V Γ nL w g mc ms toR k9 n9 pc lv st σ mdl :=
  fun P E hx ls H locs h1 h2 h3 => lv_aload_n X.1 X.2.1 hd rfl (lv_at h1 j hl) (kk P E hx ls H locs h1 h2 h3)
theorem x_aload {i : Nat} {z : Nat} (X : v_C Γ l0 R0 cc nL own ret w g) (hd : decode cc pc = .ok (.aload i, 2)) (j : Nat) (hl : lv[j]? = some (i, .ref z)) (kk : x_V Γ nL w g mc ms toR k9 n9 (pc + 2) lv (.ref z :: st) σ mdl) : x_V Γ nL w g mc ms toR k9 n9 pc lv st σ mdl :=
  fun P E hx ls H locs h1 h2 h3 => lv_aload X.1 X.2.1 hd (lv_at h1 j hl) (kk P E hx ls H locs h1 h2 h3)
theorem x_istore_n {k : Fin 4} {i : Nat} {z : Int32} (X : v_C Γ l0 R0 cc nL own ret w g) (hd : decode cc pc = .ok (.istore_n k, 1)) (hi : (k : Nat) = i) (hn : i < nL) (hl : (i, Value.int z) :: lv.filter (fun q => !(q.1 == i) && !(q.1 + 1 == i && q.2.category == 2)) = lv') (kk : x_V Γ nL w g mc ms toR k9 n9 (pc + 1) lv' st σ mdl) : x_V Γ nL w g mc ms toR k9 n9 pc lv (.int z :: st) σ mdl :=
  fun P E hx ls H locs h1 h2 h3 => lv_istore_n X.1 X.2.1 hd hi h1 hn hl (fun ls h1 => kk P E hx ls H locs h1 h2 h3)
theorem x_istore_nN {k : Fin 4} {i : Nat} {z : Int32} {k1 : Int32 → x_M ρ} {lvf : Int32 → List (Nat × Value)} (X : v_C Γ l0 R0 cc nL own ret w g) (hd : decode cc pc = .ok (.istore_n k, 1)) (hi : (k : Nat) = i) (hn : i < nL) (hl : ∀ z, (i, Value.int z) :: lv.filter (fun q => !(q.1 == i) && !(q.1 + 1 == i && q.2.category == 2)) = lvf z) (kk : ∀ z, x_V Γ nL w g mc ms toR k9 n9 (pc + 1) (lvf z) st σ (k1 z)) : x_V Γ nL w g mc ms toR k9 n9 pc lv (.int z :: st) σ (x_n z k1) :=
  fun P E hx ls H locs h1 h2 h3 => lv_istore_n X.1 X.2.1 hd hi h1 hn (hl z) (fun ls h1 => kk z P E hx ls H locs h1 h2 h3)
theorem x_istore {i : Nat} {z : Int32} (X : v_C Γ l0 R0 cc nL own ret w g) (hd : decode cc pc = .ok (.istore i, 2)) (hn : i < nL) (hl : (i, Value.int z) :: lv.filter (fun q => !(q.1 == i) && !(q.1 + 1 == i && q.2.category == 2)) = lv') (kk : x_V Γ nL w g mc ms toR k9 n9 (pc + 2) lv' st σ mdl) : x_V Γ nL w g mc ms toR k9 n9 pc lv (.int z :: st) σ mdl :=
  fun P E hx ls H locs h1 h2 h3 => lv_istore X.1 X.2.1 hd h1 hn hl (fun ls h1 => kk P E hx ls H locs h1 h2 h3)
theorem x_istoreN {i : Nat} {z : Int32} {k1 : Int32 → x_M ρ} {lvf : Int32 → List (Nat × Value)} (X : v_C Γ l0 R0 cc nL own ret w g) (hd : decode cc pc = .ok (.istore i, 2)) (hn : i < nL) (hl : ∀ z, (i, Value.int z) :: lv.filter (fun q => !(q.1 == i) && !(q.1 + 1 == i && q.2.category == 2)) = lvf z) (kk : ∀ z, x_V Γ nL w g mc ms toR k9 n9 (pc + 2) (lvf z) st σ (k1 z)) : x_V Γ nL w g mc ms toR k9 n9 pc lv (.int z :: st) σ (x_n z k1) :=
  fun P E hx ls H locs h1 h2 h3 => lv_istore X.1 X.2.1 hd h1 hn (hl z) (fun ls h1 => kk z P E hx ls H locs h1 h2 h3)
theorem x_lstore_n {k : Fin 4} {i : Nat} {z : Int64} (X : v_C Γ l0 R0 cc nL own ret w g) (hd : decode cc pc = .ok (.lstore_n k, 1)) (hi : (k : Nat) = i) (hn : i + 1 < nL) (hl : (i, Value.long z) :: lv.filter (fun q => !(q.1 == i) && (!(q.1 == i + 1) && !(q.1 + 1 == i && q.2.category == 2))) = lv') (kk : x_V Γ nL w g mc ms toR k9 n9 (pc + 1) lv' st σ mdl) : x_V Γ nL w g mc ms toR k9 n9 pc lv (.long z :: st) σ mdl :=
  fun P E hx ls H locs h1 h2 h3 => lv_lstore_n X.1 X.2.1 hd hi h1 hn hl (fun ls h1 => kk P E hx ls H locs h1 h2 h3)
theorem x_lstore_nN {k : Fin 4} {i : Nat} {z : Int64} {k1 : Int64 → x_M ρ} {lvf : Int64 → List (Nat × Value)} (X : v_C Γ l0 R0 cc nL own ret w g) (hd : decode cc pc = .ok (.lstore_n k, 1)) (hi : (k : Nat) = i) (hn : i + 1 < nL) (hl : ∀ z, (i, Value.long z) :: lv.filter (fun q => !(q.1 == i) && (!(q.1 == i + 1) && !(q.1 + 1 == i && q.2.category == 2))) = lvf z) (kk : ∀ z, x_V Γ nL w g mc ms toR k9 n9 (pc + 1) (lvf z) st σ (k1 z)) : x_V Γ nL w g mc ms toR k9 n9 pc lv (.long z :: st) σ (x_n z k1) :=
  fun P E hx ls H locs h1 h2 h3 => lv_lstore_n X.1 X.2.1 hd hi h1 hn (hl z) (fun ls h1 => kk z P E hx ls H locs h1 h2 h3)
theorem x_lstore {i : Nat} {z : Int64} (X : v_C Γ l0 R0 cc nL own ret w g) (hd : decode cc pc = .ok (.lstore i, 2)) (hn : i + 1 < nL) (hl : (i, Value.long z) :: lv.filter (fun q => !(q.1 == i) && (!(q.1 == i + 1) && !(q.1 + 1 == i && q.2.category == 2))) = lv') (kk : x_V Γ nL w g mc ms toR k9 n9 (pc + 2) lv' st σ mdl) : x_V Γ nL w g mc ms toR k9 n9 pc lv (.long z :: st) σ mdl :=
  fun P E hx ls H locs h1 h2 h3 => lv_lstore X.1 X.2.1 hd h1 hn hl (fun ls h1 => kk P E hx ls H locs h1 h2 h3)
theorem x_lstoreN {i : Nat} {z : Int64} {k1 : Int64 → x_M ρ} {lvf : Int64 → List (Nat × Value)} (X : v_C Γ l0 R0 cc nL own ret w g) (hd : decode cc pc = .ok (.lstore i, 2)) (hn : i + 1 < nL) (hl : ∀ z, (i, Value.long z) :: lv.filter (fun q => !(q.1 == i) && (!(q.1 == i + 1) && !(q.1 + 1 == i && q.2.category == 2))) = lvf z) (kk : ∀ z, x_V Γ nL w g mc ms toR k9 n9 (pc + 2) (lvf z) st σ (k1 z)) : x_V Γ nL w g mc ms toR k9 n9 pc lv (.long z :: st) σ (x_n z k1) :=
  fun P E hx ls H locs h1 h2 h3 => lv_lstore X.1 X.2.1 hd h1 hn (hl z) (fun ls h1 => kk z P E hx ls H locs h1 h2 h3)
theorem x_astore_n {k : Fin 4} {i : Nat} {z : Nat} (X : v_C Γ l0 R0 cc nL own ret w g) (hd : decode cc pc = .ok (.astore_n k, 1)) (hi : (k : Nat) = i) (hn : i < nL) (hl : (i, Value.ref z) :: lv.filter (fun q => !(q.1 == i) && !(q.1 + 1 == i && q.2.category == 2)) = lv') (kk : x_V Γ nL w g mc ms toR k9 n9 (pc + 1) lv' st σ mdl) : x_V Γ nL w g mc ms toR k9 n9 pc lv (.ref z :: st) σ mdl :=
  fun P E hx ls H locs h1 h2 h3 => lv_astore_n X.1 X.2.1 hd hi h1 hn hl (fun ls h1 => kk P E hx ls H locs h1 h2 h3)
theorem x_astore_nN {k : Fin 4} {i : Nat} {z : Nat} {k1 : Nat → x_M ρ} {lvf : Nat → List (Nat × Value)} (X : v_C Γ l0 R0 cc nL own ret w g) (hd : decode cc pc = .ok (.astore_n k, 1)) (hi : (k : Nat) = i) (hn : i < nL) (hl : ∀ z, (i, Value.ref z) :: lv.filter (fun q => !(q.1 == i) && !(q.1 + 1 == i && q.2.category == 2)) = lvf z) (kk : ∀ z, x_V Γ nL w g mc ms toR k9 n9 (pc + 1) (lvf z) st σ (k1 z)) : x_V Γ nL w g mc ms toR k9 n9 pc lv (.ref z :: st) σ (x_n z k1) :=
  fun P E hx ls H locs h1 h2 h3 => lv_astore_n X.1 X.2.1 hd hi h1 hn (hl z) (fun ls h1 => kk z P E hx ls H locs h1 h2 h3)
theorem x_astore {i : Nat} {z : Nat} (X : v_C Γ l0 R0 cc nL own ret w g) (hd : decode cc pc = .ok (.astore i, 2)) (hn : i < nL) (hl : (i, Value.ref z) :: lv.filter (fun q => !(q.1 == i) && !(q.1 + 1 == i && q.2.category == 2)) = lv') (kk : x_V Γ nL w g mc ms toR k9 n9 (pc + 2) lv' st σ mdl) : x_V Γ nL w g mc ms toR k9 n9 pc lv (.ref z :: st) σ mdl :=
  fun P E hx ls H locs h1 h2 h3 => lv_astore X.1 X.2.1 hd h1 hn hl (fun ls h1 => kk P E hx ls H locs h1 h2 h3)
theorem x_astoreN {i : Nat} {z : Nat} {k1 : Nat → x_M ρ} {lvf : Nat → List (Nat × Value)} (X : v_C Γ l0 R0 cc nL own ret w g) (hd : decode cc pc = .ok (.astore i, 2)) (hn : i < nL) (hl : ∀ z, (i, Value.ref z) :: lv.filter (fun q => !(q.1 == i) && !(q.1 + 1 == i && q.2.category == 2)) = lvf z) (kk : ∀ z, x_V Γ nL w g mc ms toR k9 n9 (pc + 2) (lvf z) st σ (k1 z)) : x_V Γ nL w g mc ms toR k9 n9 pc lv (.ref z :: st) σ (x_n z k1) :=
  fun P E hx ls H locs h1 h2 h3 => lv_astore X.1 X.2.1 hd h1 hn (hl z) (fun ls h1 => kk z P E hx ls H locs h1 h2 h3)
theorem x_iinc {i k : Nat} {n : Int} {z v : Int32} (X : v_C Γ l0 R0 cc nL own ret w g) (hd : decode cc pc = .ok (.iinc i n, 3)) (hk : lv[k]? = some (i, .int z)) (hv : z + Int32.ofInt n = v) (hn : i < nL) (hl : (i, Value.int v) :: lv.filter (fun q => !(q.1 == i) && !(q.1 + 1 == i && q.2.category == 2)) = lv') (kk : x_V Γ nL w g mc ms toR k9 n9 (pc + 3) lv' st σ mdl) : x_V Γ nL w g mc ms toR k9 n9 pc lv st σ mdl :=
  fun P E hx ls H locs h1 h2 h3 => lv_iinc X.1 X.2.1 hd h1 hk hv hn hl (fun ls h1 => kk P E hx ls H locs h1 h2 h3)
theorem x_iincN {i k : Nat} {n : Int} {z v : Int32} {k1 : Int32 → x_M ρ} {lvf : Int32 → List (Nat × Value)} (X : v_C Γ l0 R0 cc nL own ret w g) (hd : decode cc pc = .ok (.iinc i n, 3)) (hk : lv[k]? = some (i, .int z)) (hv : z + Int32.ofInt n = v) (hn : i < nL) (hl : ∀ v, (i, Value.int v) :: lv.filter (fun q => !(q.1 == i) && !(q.1 + 1 == i && q.2.category == 2)) = lvf v) (kk : ∀ v, x_V Γ nL w g mc ms toR k9 n9 (pc + 3) (lvf v) st σ (k1 v)) : x_V Γ nL w g mc ms toR k9 n9 pc lv st σ (x_n v k1) :=
  fun P E hx ls H locs h1 h2 h3 => lv_iinc X.1 X.2.1 hd h1 hk hv hn (hl v) (fun ls h1 => kk v P E hx ls H locs h1 h2 h3)
theorem x_iconst {n : Int} {v : Int32} (X : v_C Γ l0 R0 cc nL own ret w g) (hd : decode cc pc = .ok (.iconst n, 1)) (hv : Int32.ofInt n = v) (kk : x_V Γ nL w g mc ms toR k9 n9 (pc + 1) lv (.int v :: st) σ mdl) : x_V Γ nL w g mc ms toR k9 n9 pc lv st σ mdl :=
  fun P E hx ls H locs h1 h2 h3 => lv_iconst X.1 X.2.1 hd hv (kk P E hx ls H locs h1 h2 h3)
theorem x_bipush {n : Int} {v : Int32} (X : v_C Γ l0 R0 cc nL own ret w g) (hd : decode cc pc = .ok (.bipush n, 2)) (hv : (Int8.ofInt n).toInt32 = v) (kk : x_V Γ nL w g mc ms toR k9 n9 (pc + 2) lv (.int v :: st) σ mdl) : x_V Γ nL w g mc ms toR k9 n9 pc lv st σ mdl :=
  fun P E hx ls H locs h1 h2 h3 => lv_bipush X.1 X.2.1 hd hv (kk P E hx ls H locs h1 h2 h3)
theorem x_sipush {n : Int} {v : Int32} (X : v_C Γ l0 R0 cc nL own ret w g) (hd : decode cc pc = .ok (.sipush n, 3)) (hv : (Int16.ofInt n).toInt32 = v) (kk : x_V Γ nL w g mc ms toR k9 n9 (pc + 3) lv (.int v :: st) σ mdl) : x_V Γ nL w g mc ms toR k9 n9 pc lv st σ mdl :=
  fun P E hx ls H locs h1 h2 h3 => lv_sipush X.1 X.2.1 hd hv (kk P E hx ls H locs h1 h2 h3)
theorem x_lconst {n : Fin 2} {v : Int64} (X : v_C Γ l0 R0 cc nL own ret w g) (hd : decode cc pc = .ok (.lconst n, 1)) (hv : Int64.ofNat (n : Nat) = v) (kk : x_V Γ nL w g mc ms toR k9 n9 (pc + 1) lv (.long v :: st) σ mdl) : x_V Γ nL w g mc ms toR k9 n9 pc lv st σ mdl :=
  fun P E hx ls H locs h1 h2 h3 => lv_lconst X.1 X.2.1 hd hv (kk P E hx ls H locs h1 h2 h3)
theorem x_ldc {index : Nat} {v : Int32} (X : v_C Γ l0 R0 cc nL own ret w g) (hc : (Jvm.Cond.constant own index v) ∈ lw_all) (hd : decode cc pc = .ok (.ldc index, 2)) (kk : x_V Γ nL w g mc ms toR k9 n9 (pc + 2) lv (.int v :: st) σ mdl) : x_V Γ nL w g mc ms toR k9 n9 pc lv st σ mdl :=
  fun P E hx ls H locs h1 h2 h3 => lv_ldc X.1 X.2.1 X.2.2.2.1 (X.2.2.2.2.1 _ hc) hd (kk P E hx ls H locs h1 h2 h3)
theorem x_ldc2 {index : Nat} {v : Int64} (X : v_C Γ l0 R0 cc nL own ret w g) (hc : (Jvm.Cond.constantLong own index v) ∈ lw_all) (hd : decode cc pc = .ok (.ldc2_w index, 3)) (kk : x_V Γ nL w g mc ms toR k9 n9 (pc + 3) lv (.long v :: st) σ mdl) : x_V Γ nL w g mc ms toR k9 n9 pc lv st σ mdl :=
  fun P E hx ls H locs h1 h2 h3 => lv_ldc2 X.1 X.2.1 X.2.2.2.1 (X.2.2.2.2.1 _ hc) hd (kk P E hx ls H locs h1 h2 h3)
theorem x_iadd {x1 y1 : Int32} (X : v_C Γ l0 R0 cc nL own ret w g) (hd : decode cc pc = .ok (.iadd, 1)) (kk : x_V Γ nL w g mc ms toR k9 n9 (pc + 1) lv (.int (x1 + y1) :: st) σ mdl) : x_V Γ nL w g mc ms toR k9 n9 pc lv (.int y1 :: .int x1 :: st) σ mdl :=
  fun P E hx ls H locs h1 h2 h3 => lv_iadd X.1 X.2.1 hd (kk P E hx ls H locs h1 h2 h3)
theorem x_isub {x1 y1 : Int32} (X : v_C Γ l0 R0 cc nL own ret w g) (hd : decode cc pc = .ok (.isub, 1)) (kk : x_V Γ nL w g mc ms toR k9 n9 (pc + 1) lv (.int (x1 - y1) :: st) σ mdl) : x_V Γ nL w g mc ms toR k9 n9 pc lv (.int y1 :: .int x1 :: st) σ mdl :=
  fun P E hx ls H locs h1 h2 h3 => lv_isub X.1 X.2.1 hd (kk P E hx ls H locs h1 h2 h3)
theorem x_imul {x1 y1 : Int32} (X : v_C Γ l0 R0 cc nL own ret w g) (hd : decode cc pc = .ok (.imul, 1)) (kk : x_V Γ nL w g mc ms toR k9 n9 (pc + 1) lv (.int (x1 * y1) :: st) σ mdl) : x_V Γ nL w g mc ms toR k9 n9 pc lv (.int y1 :: .int x1 :: st) σ mdl :=
  fun P E hx ls H locs h1 h2 h3 => lv_imul X.1 X.2.1 hd (kk P E hx ls H locs h1 h2 h3)
theorem x_iand {x1 y1 : Int32} (X : v_C Γ l0 R0 cc nL own ret w g) (hd : decode cc pc = .ok (.iand, 1)) (kk : x_V Γ nL w g mc ms toR k9 n9 (pc + 1) lv (.int (x1 &&& y1) :: st) σ mdl) : x_V Γ nL w g mc ms toR k9 n9 pc lv (.int y1 :: .int x1 :: st) σ mdl :=
  fun P E hx ls H locs h1 h2 h3 => lv_iand X.1 X.2.1 hd (kk P E hx ls H locs h1 h2 h3)
theorem x_ior {x1 y1 : Int32} (X : v_C Γ l0 R0 cc nL own ret w g) (hd : decode cc pc = .ok (.ior, 1)) (kk : x_V Γ nL w g mc ms toR k9 n9 (pc + 1) lv (.int (x1 ||| y1) :: st) σ mdl) : x_V Γ nL w g mc ms toR k9 n9 pc lv (.int y1 :: .int x1 :: st) σ mdl :=
  fun P E hx ls H locs h1 h2 h3 => lv_ior X.1 X.2.1 hd (kk P E hx ls H locs h1 h2 h3)
theorem x_ixor {x1 y1 : Int32} (X : v_C Γ l0 R0 cc nL own ret w g) (hd : decode cc pc = .ok (.ixor, 1)) (kk : x_V Γ nL w g mc ms toR k9 n9 (pc + 1) lv (.int (x1 ^^^ y1) :: st) σ mdl) : x_V Γ nL w g mc ms toR k9 n9 pc lv (.int y1 :: .int x1 :: st) σ mdl :=
  fun P E hx ls H locs h1 h2 h3 => lv_ixor X.1 X.2.1 hd (kk P E hx ls H locs h1 h2 h3)
theorem x_ishl {x1 y1 : Int32} (X : v_C Γ l0 R0 cc nL own ret w g) (hd : decode cc pc = .ok (.ishl, 1)) (kk : x_V Γ nL w g mc ms toR k9 n9 (pc + 1) lv (.int (x1 <<< (y1 &&& 31)) :: st) σ mdl) : x_V Γ nL w g mc ms toR k9 n9 pc lv (.int y1 :: .int x1 :: st) σ mdl :=
  fun P E hx ls H locs h1 h2 h3 => lv_ishl X.1 X.2.1 hd (kk P E hx ls H locs h1 h2 h3)
theorem x_ishr {x1 y1 : Int32} (X : v_C Γ l0 R0 cc nL own ret w g) (hd : decode cc pc = .ok (.ishr, 1)) (kk : x_V Γ nL w g mc ms toR k9 n9 (pc + 1) lv (.int (x1 >>> (y1 &&& 31)) :: st) σ mdl) : x_V Γ nL w g mc ms toR k9 n9 pc lv (.int y1 :: .int x1 :: st) σ mdl :=
  fun P E hx ls H locs h1 h2 h3 => lv_ishr X.1 X.2.1 hd (kk P E hx ls H locs h1 h2 h3)
theorem x_ladd {x1 y1 : Int64} (X : v_C Γ l0 R0 cc nL own ret w g) (hd : decode cc pc = .ok (.ladd, 1)) (kk : x_V Γ nL w g mc ms toR k9 n9 (pc + 1) lv (.long (x1 + y1) :: st) σ mdl) : x_V Γ nL w g mc ms toR k9 n9 pc lv (.long y1 :: .long x1 :: st) σ mdl :=
  fun P E hx ls H locs h1 h2 h3 => lv_ladd X.1 X.2.1 hd (kk P E hx ls H locs h1 h2 h3)
theorem x_lsub {x1 y1 : Int64} (X : v_C Γ l0 R0 cc nL own ret w g) (hd : decode cc pc = .ok (.lsub, 1)) (kk : x_V Γ nL w g mc ms toR k9 n9 (pc + 1) lv (.long (x1 - y1) :: st) σ mdl) : x_V Γ nL w g mc ms toR k9 n9 pc lv (.long y1 :: .long x1 :: st) σ mdl :=
  fun P E hx ls H locs h1 h2 h3 => lv_lsub X.1 X.2.1 hd (kk P E hx ls H locs h1 h2 h3)
theorem x_lmul {x1 y1 : Int64} (X : v_C Γ l0 R0 cc nL own ret w g) (hd : decode cc pc = .ok (.lmul, 1)) (kk : x_V Γ nL w g mc ms toR k9 n9 (pc + 1) lv (.long (x1 * y1) :: st) σ mdl) : x_V Γ nL w g mc ms toR k9 n9 pc lv (.long y1 :: .long x1 :: st) σ mdl :=
  fun P E hx ls H locs h1 h2 h3 => lv_lmul X.1 X.2.1 hd (kk P E hx ls H locs h1 h2 h3)
theorem x_land {x1 y1 : Int64} (X : v_C Γ l0 R0 cc nL own ret w g) (hd : decode cc pc = .ok (.land, 1)) (kk : x_V Γ nL w g mc ms toR k9 n9 (pc + 1) lv (.long (x1 &&& y1) :: st) σ mdl) : x_V Γ nL w g mc ms toR k9 n9 pc lv (.long y1 :: .long x1 :: st) σ mdl :=
  fun P E hx ls H locs h1 h2 h3 => lv_land X.1 X.2.1 hd (kk P E hx ls H locs h1 h2 h3)
theorem x_lor {x1 y1 : Int64} (X : v_C Γ l0 R0 cc nL own ret w g) (hd : decode cc pc = .ok (.lor, 1)) (kk : x_V Γ nL w g mc ms toR k9 n9 (pc + 1) lv (.long (x1 ||| y1) :: st) σ mdl) : x_V Γ nL w g mc ms toR k9 n9 pc lv (.long y1 :: .long x1 :: st) σ mdl :=
  fun P E hx ls H locs h1 h2 h3 => lv_lor X.1 X.2.1 hd (kk P E hx ls H locs h1 h2 h3)
theorem x_idiv {x1 y1 : Int32} (X : v_C Γ l0 R0 cc nL own ret w g) (hd : decode cc pc = .ok (.idiv, 1)) (kk : x_V Γ nL w g mc ms toR k9 n9 (pc + 1) lv (.int (x1 / y1) :: st) σ mdl) : x_V Γ nL w g mc ms toR k9 n9 pc lv (.int y1 :: .int x1 :: st) σ (if y1 = 0 then x_no else mdl) :=
  x_nz fun hne => fun P E hx ls H locs h1 h2 h3 => lv_idiv X.1 X.2.1 hd hne (kk P E hx ls H locs h1 h2 h3)
theorem x_idivC {x1 y1 : Int32} (X : v_C Γ l0 R0 cc nL own ret w g) (hne : ¬ y1 = 0) (hd : decode cc pc = .ok (.idiv, 1)) (kk : x_V Γ nL w g mc ms toR k9 n9 (pc + 1) lv (.int (x1 / y1) :: st) σ mdl) : x_V Γ nL w g mc ms toR k9 n9 pc lv (.int y1 :: .int x1 :: st) σ mdl :=
  fun P E hx ls H locs h1 h2 h3 => lv_idiv X.1 X.2.1 hd hne (kk P E hx ls H locs h1 h2 h3)
theorem x_irem {x1 y1 : Int32} (X : v_C Γ l0 R0 cc nL own ret w g) (hd : decode cc pc = .ok (.irem, 1)) (kk : x_V Γ nL w g mc ms toR k9 n9 (pc + 1) lv (.int (x1 - x1 / y1 * y1) :: st) σ mdl) : x_V Γ nL w g mc ms toR k9 n9 pc lv (.int y1 :: .int x1 :: st) σ (if y1 = 0 then x_no else mdl) :=
  x_nz fun hne => fun P E hx ls H locs h1 h2 h3 => lv_irem X.1 X.2.1 hd hne (kk P E hx ls H locs h1 h2 h3)
theorem x_iremC {x1 y1 : Int32} (X : v_C Γ l0 R0 cc nL own ret w g) (hne : ¬ y1 = 0) (hd : decode cc pc = .ok (.irem, 1)) (kk : x_V Γ nL w g mc ms toR k9 n9 (pc + 1) lv (.int (x1 - x1 / y1 * y1) :: st) σ mdl) : x_V Γ nL w g mc ms toR k9 n9 pc lv (.int y1 :: .int x1 :: st) σ mdl :=
  fun P E hx ls H locs h1 h2 h3 => lv_irem X.1 X.2.1 hd hne (kk P E hx ls H locs h1 h2 h3)
theorem x_ldiv {x1 y1 : Int64} (X : v_C Γ l0 R0 cc nL own ret w g) (hd : decode cc pc = .ok (.ldiv, 1)) (kk : x_V Γ nL w g mc ms toR k9 n9 (pc + 1) lv (.long (x1 / y1) :: st) σ mdl) : x_V Γ nL w g mc ms toR k9 n9 pc lv (.long y1 :: .long x1 :: st) σ (if y1 = 0 then x_no else mdl) :=
  x_nz fun hne => fun P E hx ls H locs h1 h2 h3 => lv_ldiv X.1 X.2.1 hd hne (kk P E hx ls H locs h1 h2 h3)
theorem x_ldivC {x1 y1 : Int64} (X : v_C Γ l0 R0 cc nL own ret w g) (hne : ¬ y1 = 0) (hd : decode cc pc = .ok (.ldiv, 1)) (kk : x_V Γ nL w g mc ms toR k9 n9 (pc + 1) lv (.long (x1 / y1) :: st) σ mdl) : x_V Γ nL w g mc ms toR k9 n9 pc lv (.long y1 :: .long x1 :: st) σ mdl :=
  fun P E hx ls H locs h1 h2 h3 => lv_ldiv X.1 X.2.1 hd hne (kk P E hx ls H locs h1 h2 h3)
theorem x_lrem {x1 y1 : Int64} (X : v_C Γ l0 R0 cc nL own ret w g) (hd : decode cc pc = .ok (.lrem, 1)) (kk : x_V Γ nL w g mc ms toR k9 n9 (pc + 1) lv (.long (x1 - x1 / y1 * y1) :: st) σ mdl) : x_V Γ nL w g mc ms toR k9 n9 pc lv (.long y1 :: .long x1 :: st) σ (if y1 = 0 then x_no else mdl) :=
  x_nz fun hne => fun P E hx ls H locs h1 h2 h3 => lv_lrem X.1 X.2.1 hd hne (kk P E hx ls H locs h1 h2 h3)
theorem x_lremC {x1 y1 : Int64} (X : v_C Γ l0 R0 cc nL own ret w g) (hne : ¬ y1 = 0) (hd : decode cc pc = .ok (.lrem, 1)) (kk : x_V Γ nL w g mc ms toR k9 n9 (pc + 1) lv (.long (x1 - x1 / y1 * y1) :: st) σ mdl) : x_V Γ nL w g mc ms toR k9 n9 pc lv (.long y1 :: .long x1 :: st) σ mdl :=
  fun P E hx ls H locs h1 h2 h3 => lv_lrem X.1 X.2.1 hd hne (kk P E hx ls H locs h1 h2 h3)
theorem x_ineg {x1 : Int32} (X : v_C Γ l0 R0 cc nL own ret w g) (hd : decode cc pc = .ok (.ineg, 1)) (kk : x_V Γ nL w g mc ms toR k9 n9 (pc + 1) lv (.int (-x1) :: st) σ mdl) : x_V Γ nL w g mc ms toR k9 n9 pc lv (.int x1 :: st) σ mdl :=
  fun P E hx ls H locs h1 h2 h3 => lv_ineg X.1 X.2.1 hd (kk P E hx ls H locs h1 h2 h3)
theorem x_i2l {x1 : Int32} (X : v_C Γ l0 R0 cc nL own ret w g) (hd : decode cc pc = .ok (.i2l, 1)) (kk : x_V Γ nL w g mc ms toR k9 n9 (pc + 1) lv (.long (x1.toInt64) :: st) σ mdl) : x_V Γ nL w g mc ms toR k9 n9 pc lv (.int x1 :: st) σ mdl :=
  fun P E hx ls H locs h1 h2 h3 => lv_i2l X.1 X.2.1 hd rfl (kk P E hx ls H locs h1 h2 h3)
theorem x_l2i {x1 : Int64} (X : v_C Γ l0 R0 cc nL own ret w g) (hd : decode cc pc = .ok (.l2i, 1)) (kk : x_V Γ nL w g mc ms toR k9 n9 (pc + 1) lv (.int (x1.toInt32) :: st) σ mdl) : x_V Γ nL w g mc ms toR k9 n9 pc lv (.long x1 :: st) σ mdl :=
  fun P E hx ls H locs h1 h2 h3 => lv_l2i X.1 X.2.1 hd rfl (kk P E hx ls H locs h1 h2 h3)
theorem x_i2b {x1 : Int32} (X : v_C Γ l0 R0 cc nL own ret w g) (hd : decode cc pc = .ok (.i2b, 1)) (kk : x_V Γ nL w g mc ms toR k9 n9 (pc + 1) lv (.int (x1.toInt8.toInt32) :: st) σ mdl) : x_V Γ nL w g mc ms toR k9 n9 pc lv (.int x1 :: st) σ mdl :=
  fun P E hx ls H locs h1 h2 h3 => lv_i2b X.1 X.2.1 hd rfl (kk P E hx ls H locs h1 h2 h3)
theorem x_i2s {x1 : Int32} (X : v_C Γ l0 R0 cc nL own ret w g) (hd : decode cc pc = .ok (.i2s, 1)) (kk : x_V Γ nL w g mc ms toR k9 n9 (pc + 1) lv (.int (x1.toInt16.toInt32) :: st) σ mdl) : x_V Γ nL w g mc ms toR k9 n9 pc lv (.int x1 :: st) σ mdl :=
  fun P E hx ls H locs h1 h2 h3 => lv_i2s X.1 X.2.1 hd rfl (kk P E hx ls H locs h1 h2 h3)
theorem x_lshl {x1 : Int64} {y1 : Int32} (X : v_C Γ l0 R0 cc nL own ret w g) (hd : decode cc pc = .ok (.lshl, 1)) (kk : x_V Γ nL w g mc ms toR k9 n9 (pc + 1) lv (.long (x1 <<< (y1.toInt64 &&& 63)) :: st) σ mdl) : x_V Γ nL w g mc ms toR k9 n9 pc lv (.int y1 :: .long x1 :: st) σ mdl :=
  fun P E hx ls H locs h1 h2 h3 => lv_lshl X.1 X.2.1 hd rfl (kk P E hx ls H locs h1 h2 h3)
theorem x_lshr {x1 : Int64} {y1 : Int32} (X : v_C Γ l0 R0 cc nL own ret w g) (hd : decode cc pc = .ok (.lshr, 1)) (kk : x_V Γ nL w g mc ms toR k9 n9 (pc + 1) lv (.long (x1 >>> (y1.toInt64 &&& 63)) :: st) σ mdl) : x_V Γ nL w g mc ms toR k9 n9 pc lv (.int y1 :: .long x1 :: st) σ mdl :=
  fun P E hx ls H locs h1 h2 h3 => lv_lshr X.1 X.2.1 hd rfl (kk P E hx ls H locs h1 h2 h3)
theorem x_lcmp {x1 y1 : Int64} (X : v_C Γ l0 R0 cc nL own ret w g) (hd : decode cc pc = .ok (.lcmp, 1)) (kk : x_V Γ nL w g mc ms toR k9 n9 (pc + 1) lv (.int (lg_cmp x1 y1) :: st) σ mdl) : x_V Γ nL w g mc ms toR k9 n9 pc lv (.long y1 :: .long x1 :: st) σ mdl :=
  fun P E hx ls H locs h1 h2 h3 => W.lcmp X.1 X.2.1 hd (kk P E hx ls H locs h1 h2 h3)
theorem x_dup {va : Value} (X : v_C Γ l0 R0 cc nL own ret w g) (hd : decode cc pc = .ok (.dup, 1)) (hva : va.category = 1) (kk : x_V Γ nL w g mc ms toR k9 n9 (pc + 1) lv (va :: va :: st) σ mdl) : x_V Γ nL w g mc ms toR k9 n9 pc lv (va :: st) σ mdl :=
  fun P E hx ls H locs h1 h2 h3 => lv_dup X.1 X.2.1 hd hva (kk P E hx ls H locs h1 h2 h3)
theorem x_pop {va : Value} (X : v_C Γ l0 R0 cc nL own ret w g) (hd : decode cc pc = .ok (.pop, 1)) (hva : va.category = 1) (kk : x_V Γ nL w g mc ms toR k9 n9 (pc + 1) lv st σ mdl) : x_V Γ nL w g mc ms toR k9 n9 pc lv (va :: st) σ mdl :=
  fun P E hx ls H locs h1 h2 h3 => lv_pop X.1 X.2.1 hd hva (kk P E hx ls H locs h1 h2 h3)
theorem x_dup2_11 {va vb : Value} (X : v_C Γ l0 R0 cc nL own ret w g) (hd : decode cc pc = .ok (.dup2, 1)) (hva : va.category = 1) (hvb : vb.category = 1) (kk : x_V Γ nL w g mc ms toR k9 n9 (pc + 1) lv (va :: vb :: va :: vb :: st) σ mdl) : x_V Γ nL w g mc ms toR k9 n9 pc lv (va :: vb :: st) σ mdl :=
  fun P E hx ls H locs h1 h2 h3 => lv_dup2_11 X.1 X.2.1 hd hva hvb (kk P E hx ls H locs h1 h2 h3)
theorem x_dup_x1 {va vb : Value} (X : v_C Γ l0 R0 cc nL own ret w g) (hd : decode cc pc = .ok (.dup_x1, 1)) (hva : va.category = 1) (hvb : vb.category = 1) (kk : x_V Γ nL w g mc ms toR k9 n9 (pc + 1) lv (va :: vb :: va :: st) σ mdl) : x_V Γ nL w g mc ms toR k9 n9 pc lv (va :: vb :: st) σ mdl :=
  fun P E hx ls H locs h1 h2 h3 => lv_dup_x1 X.1 X.2.1 hd hva hvb (kk P E hx ls H locs h1 h2 h3)
theorem x_icmp_eq {x1 y1 : Int32} {off : Int} {tgt : Nat} {mt mf : x_M ρ} (X : v_C Γ l0 R0 cc nL own ret w g) (hd : decode cc pc = .ok (.if_icmp .eq off, 3)) (ht : (pc : Int) + off = (tgt : Int)) (kt : x1 = y1 → x_V Γ nL w g mc ms toR k9 n9 tgt lv st σ mt) (kf : ¬ x1 = y1 → x_V Γ nL w g mc ms toR k9 n9 (pc + 3) lv st σ mf) : x_V Γ nL w g mc ms toR k9 n9 pc lv (.int y1 :: .int x1 :: st) σ (if x1 = y1 then mt else mf) :=
  fun P E hx ls H locs h1 h2 h3 => lv_icmp_eq X.1 X.2.1 hd ht (fun q => kt q P E (by rw [if_pos q] at hx; exact hx) ls H locs h1 h2 h3) (fun q => kf q P E (by rw [if_neg q] at hx; exact hx) ls H locs h1 h2 h3)
theorem x_icmp_eqT {x1 y1 : Int32} {off : Int} {tgt : Nat} (X : v_C Γ l0 R0 cc nL own ret w g) (hd : decode cc pc = .ok (.if_icmp .eq off, 3)) (ht : (pc : Int) + off = (tgt : Int)) (hc : x1 = y1) (kt : x_V Γ nL w g mc ms toR k9 n9 tgt lv st σ mdl) : x_V Γ nL w g mc ms toR k9 n9 pc lv (.int y1 :: .int x1 :: st) σ mdl :=
  fun P E hx ls H locs h1 h2 h3 => lv_icmp_eq X.1 X.2.1 hd ht (fun q => kt P E hx ls H locs h1 h2 h3) (fun q => absurd hc q)
theorem x_icmp_eqF {x1 y1 : Int32} {off : Int} {tgt : Nat} (X : v_C Γ l0 R0 cc nL own ret w g) (hd : decode cc pc = .ok (.if_icmp .eq off, 3)) (ht : (pc : Int) + off = (tgt : Int)) (hc : ¬ x1 = y1) (kf : x_V Γ nL w g mc ms toR k9 n9 (pc + 3) lv st σ mdl) : x_V Γ nL w g mc ms toR k9 n9 pc lv (.int y1 :: .int x1 :: st) σ mdl :=
  fun P E hx ls H locs h1 h2 h3 => lv_icmp_eq X.1 X.2.1 hd ht (fun q => absurd q hc) (fun q => kf P E hx ls H locs h1 h2 h3)
theorem x_if_eq {x1 : Int32} {off : Int} {tgt : Nat} {mt mf : x_M ρ} (X : v_C Γ l0 R0 cc nL own ret w g) (hd : decode cc pc = .ok (.ifCond .eq off, 3)) (ht : (pc : Int) + off = (tgt : Int)) (kt : x1 = 0 → x_V Γ nL w g mc ms toR k9 n9 tgt lv st σ mt) (kf : ¬ x1 = 0 → x_V Γ nL w g mc ms toR k9 n9 (pc + 3) lv st σ mf) : x_V Γ nL w g mc ms toR k9 n9 pc lv (.int x1 :: st) σ (if x1 = 0 then mt else mf) :=
  fun P E hx ls H locs h1 h2 h3 => lv_if_eq X.1 X.2.1 hd ht (fun q => kt q P E (by rw [if_pos q] at hx; exact hx) ls H locs h1 h2 h3) (fun q => kf q P E (by rw [if_neg q] at hx; exact hx) ls H locs h1 h2 h3)
theorem x_if_eqT {x1 : Int32} {off : Int} {tgt : Nat} (X : v_C Γ l0 R0 cc nL own ret w g) (hd : decode cc pc = .ok (.ifCond .eq off, 3)) (ht : (pc : Int) + off = (tgt : Int)) (hc : x1 = 0) (kt : x_V Γ nL w g mc ms toR k9 n9 tgt lv st σ mdl) : x_V Γ nL w g mc ms toR k9 n9 pc lv (.int x1 :: st) σ mdl :=
  fun P E hx ls H locs h1 h2 h3 => lv_if_eq X.1 X.2.1 hd ht (fun q => kt P E hx ls H locs h1 h2 h3) (fun q => absurd hc q)
theorem x_if_eqF {x1 : Int32} {off : Int} {tgt : Nat} (X : v_C Γ l0 R0 cc nL own ret w g) (hd : decode cc pc = .ok (.ifCond .eq off, 3)) (ht : (pc : Int) + off = (tgt : Int)) (hc : ¬ x1 = 0) (kf : x_V Γ nL w g mc ms toR k9 n9 (pc + 3) lv st σ mdl) : x_V Γ nL w g mc ms toR k9 n9 pc lv (.int x1 :: st) σ mdl :=
  fun P E hx ls H locs h1 h2 h3 => lv_if_eq X.1 X.2.1 hd ht (fun q => absurd q hc) (fun q => kf P E hx ls H locs h1 h2 h3)
theorem x_icmp_ne {x1 y1 : Int32} {off : Int} {tgt : Nat} {mt mf : x_M ρ} (X : v_C Γ l0 R0 cc nL own ret w g) (hd : decode cc pc = .ok (.if_icmp .ne off, 3)) (ht : (pc : Int) + off = (tgt : Int)) (kt : ¬ x1 = y1 → x_V Γ nL w g mc ms toR k9 n9 tgt lv st σ mt) (kf : x1 = y1 → x_V Γ nL w g mc ms toR k9 n9 (pc + 3) lv st σ mf) : x_V Γ nL w g mc ms toR k9 n9 pc lv (.int y1 :: .int x1 :: st) σ (if x1 = y1 then mf else mt) :=
  fun P E hx ls H locs h1 h2 h3 => lv_icmp_ne X.1 X.2.1 hd ht (fun q => kt q P E (by rw [if_neg q] at hx; exact hx) ls H locs h1 h2 h3) (fun q => kf q P E (by rw [if_pos q] at hx; exact hx) ls H locs h1 h2 h3)
theorem x_icmp_neT {x1 y1 : Int32} {off : Int} {tgt : Nat} (X : v_C Γ l0 R0 cc nL own ret w g) (hd : decode cc pc = .ok (.if_icmp .ne off, 3)) (ht : (pc : Int) + off = (tgt : Int)) (hc : ¬ x1 = y1) (kt : x_V Γ nL w g mc ms toR k9 n9 tgt lv st σ mdl) : x_V Γ nL w g mc ms toR k9 n9 pc lv (.int y1 :: .int x1 :: st) σ mdl :=
  fun P E hx ls H locs h1 h2 h3 => lv_icmp_ne X.1 X.2.1 hd ht (fun q => kt P E hx ls H locs h1 h2 h3) (fun q => absurd q hc)
theorem x_icmp_neF {x1 y1 : Int32} {off : Int} {tgt : Nat} (X : v_C Γ l0 R0 cc nL own ret w g) (hd : decode cc pc = .ok (.if_icmp .ne off, 3)) (ht : (pc : Int) + off = (tgt : Int)) (hc : x1 = y1) (kf : x_V Γ nL w g mc ms toR k9 n9 (pc + 3) lv st σ mdl) : x_V Γ nL w g mc ms toR k9 n9 pc lv (.int y1 :: .int x1 :: st) σ mdl :=
  fun P E hx ls H locs h1 h2 h3 => lv_icmp_ne X.1 X.2.1 hd ht (fun q => absurd hc q) (fun q => kf P E hx ls H locs h1 h2 h3)
theorem x_if_ne {x1 : Int32} {off : Int} {tgt : Nat} {mt mf : x_M ρ} (X : v_C Γ l0 R0 cc nL own ret w g) (hd : decode cc pc = .ok (.ifCond .ne off, 3)) (ht : (pc : Int) + off = (tgt : Int)) (kt : ¬ x1 = 0 → x_V Γ nL w g mc ms toR k9 n9 tgt lv st σ mt) (kf : x1 = 0 → x_V Γ nL w g mc ms toR k9 n9 (pc + 3) lv st σ mf) : x_V Γ nL w g mc ms toR k9 n9 pc lv (.int x1 :: st) σ (if x1 = 0 then mf else mt) :=
  fun P E hx ls H locs h1 h2 h3 => lv_if_ne X.1 X.2.1 hd ht (fun q => kt q P E (by rw [if_neg q] at hx; exact hx) ls H locs h1 h2 h3) (fun q => kf q P E (by rw [if_pos q] at hx; exact hx) ls H locs h1 h2 h3)
theorem x_if_neT {x1 : Int32} {off : Int} {tgt : Nat} (X : v_C Γ l0 R0 cc nL own ret w g) (hd : decode cc pc = .ok (.ifCond .ne off, 3)) (ht : (pc : Int) + off = (tgt : Int)) (hc : ¬ x1 = 0) (kt : x_V Γ nL w g mc ms toR k9 n9 tgt lv st σ mdl) : x_V Γ nL w g mc ms toR k9 n9 pc lv (.int x1 :: st) σ mdl :=
  fun P E hx ls H locs h1 h2 h3 => lv_if_ne X.1 X.2.1 hd ht (fun q => kt P E hx ls H locs h1 h2 h3) (fun q => absurd q hc)
theorem x_if_neF {x1 : Int32} {off : Int} {tgt : Nat} (X : v_C Γ l0 R0 cc nL own ret w g) (hd : decode cc pc = .ok (.ifCond .ne off, 3)) (ht : (pc : Int) + off = (tgt : Int)) (hc : x1 = 0) (kf : x_V Γ nL w g mc ms toR k9 n9 (pc + 3) lv st σ mdl) : x_V Γ nL w g mc ms toR k9 n9 pc lv (.int x1 :: st) σ mdl :=
  fun P E hx ls H locs h1 h2 h3 => lv_if_ne X.1 X.2.1 hd ht (fun q => absurd hc q) (fun q => kf P E hx ls H locs h1 h2 h3)
theorem x_icmp_lt {x1 y1 : Int32} {off : Int} {tgt : Nat} {mt mf : x_M ρ} (X : v_C Γ l0 R0 cc nL own ret w g) (hd : decode cc pc = .ok (.if_icmp .lt off, 3)) (ht : (pc : Int) + off = (tgt : Int)) (kt : x1 < y1 → x_V Γ nL w g mc ms toR k9 n9 tgt lv st σ mt) (kf : ¬ x1 < y1 → x_V Γ nL w g mc ms toR k9 n9 (pc + 3) lv st σ mf) : x_V Γ nL w g mc ms toR k9 n9 pc lv (.int y1 :: .int x1 :: st) σ (if x1 < y1 then mt else mf) :=
  fun P E hx ls H locs h1 h2 h3 => lv_icmp_lt X.1 X.2.1 hd ht (fun q => kt q P E (by rw [if_pos q] at hx; exact hx) ls H locs h1 h2 h3) (fun q => kf q P E (by rw [if_neg q] at hx; exact hx) ls H locs h1 h2 h3)
theorem x_icmp_ltT {x1 y1 : Int32} {off : Int} {tgt : Nat} (X : v_C Γ l0 R0 cc nL own ret w g) (hd : decode cc pc = .ok (.if_icmp .lt off, 3)) (ht : (pc : Int) + off = (tgt : Int)) (hc : x1 < y1) (kt : x_V Γ nL w g mc ms toR k9 n9 tgt lv st σ mdl) : x_V Γ nL w g mc ms toR k9 n9 pc lv (.int y1 :: .int x1 :: st) σ mdl :=
  fun P E hx ls H locs h1 h2 h3 => lv_icmp_lt X.1 X.2.1 hd ht (fun q => kt P E hx ls H locs h1 h2 h3) (fun q => absurd hc q)
theorem x_icmp_ltF {x1 y1 : Int32} {off : Int} {tgt : Nat} (X : v_C Γ l0 R0 cc nL own ret w g) (hd : decode cc pc = .ok (.if_icmp .lt off, 3)) (ht : (pc : Int) + off = (tgt : Int)) (hc : ¬ x1 < y1) (kf : x_V Γ nL w g mc ms toR k9 n9 (pc + 3) lv st σ mdl) : x_V Γ nL w g mc ms toR k9 n9 pc lv (.int y1 :: .int x1 :: st) σ mdl :=
  fun P E hx ls H locs h1 h2 h3 => lv_icmp_lt X.1 X.2.1 hd ht (fun q => absurd q hc) (fun q => kf P E hx ls H locs h1 h2 h3)
theorem x_if_lt {x1 : Int32} {off : Int} {tgt : Nat} {mt mf : x_M ρ} (X : v_C Γ l0 R0 cc nL own ret w g) (hd : decode cc pc = .ok (.ifCond .lt off, 3)) (ht : (pc : Int) + off = (tgt : Int)) (kt : x1 < 0 → x_V Γ nL w g mc ms toR k9 n9 tgt lv st σ mt) (kf : ¬ x1 < 0 → x_V Γ nL w g mc ms toR k9 n9 (pc + 3) lv st σ mf) : x_V Γ nL w g mc ms toR k9 n9 pc lv (.int x1 :: st) σ (if x1 < 0 then mt else mf) :=
  fun P E hx ls H locs h1 h2 h3 => lv_if_lt X.1 X.2.1 hd ht (fun q => kt q P E (by rw [if_pos q] at hx; exact hx) ls H locs h1 h2 h3) (fun q => kf q P E (by rw [if_neg q] at hx; exact hx) ls H locs h1 h2 h3)
theorem x_if_ltT {x1 : Int32} {off : Int} {tgt : Nat} (X : v_C Γ l0 R0 cc nL own ret w g) (hd : decode cc pc = .ok (.ifCond .lt off, 3)) (ht : (pc : Int) + off = (tgt : Int)) (hc : x1 < 0) (kt : x_V Γ nL w g mc ms toR k9 n9 tgt lv st σ mdl) : x_V Γ nL w g mc ms toR k9 n9 pc lv (.int x1 :: st) σ mdl :=
  fun P E hx ls H locs h1 h2 h3 => lv_if_lt X.1 X.2.1 hd ht (fun q => kt P E hx ls H locs h1 h2 h3) (fun q => absurd hc q)
theorem x_if_ltF {x1 : Int32} {off : Int} {tgt : Nat} (X : v_C Γ l0 R0 cc nL own ret w g) (hd : decode cc pc = .ok (.ifCond .lt off, 3)) (ht : (pc : Int) + off = (tgt : Int)) (hc : ¬ x1 < 0) (kf : x_V Γ nL w g mc ms toR k9 n9 (pc + 3) lv st σ mdl) : x_V Γ nL w g mc ms toR k9 n9 pc lv (.int x1 :: st) σ mdl :=
  fun P E hx ls H locs h1 h2 h3 => lv_if_lt X.1 X.2.1 hd ht (fun q => absurd q hc) (fun q => kf P E hx ls H locs h1 h2 h3)
theorem x_icmp_ge {x1 y1 : Int32} {off : Int} {tgt : Nat} {mt mf : x_M ρ} (X : v_C Γ l0 R0 cc nL own ret w g) (hd : decode cc pc = .ok (.if_icmp .ge off, 3)) (ht : (pc : Int) + off = (tgt : Int)) (kt : y1 ≤ x1 → x_V Γ nL w g mc ms toR k9 n9 tgt lv st σ mt) (kf : ¬ y1 ≤ x1 → x_V Γ nL w g mc ms toR k9 n9 (pc + 3) lv st σ mf) : x_V Γ nL w g mc ms toR k9 n9 pc lv (.int y1 :: .int x1 :: st) σ (if y1 ≤ x1 then mt else mf) :=
  fun P E hx ls H locs h1 h2 h3 => lv_icmp_ge X.1 X.2.1 hd ht (fun q => kt q P E (by rw [if_pos q] at hx; exact hx) ls H locs h1 h2 h3) (fun q => kf q P E (by rw [if_neg q] at hx; exact hx) ls H locs h1 h2 h3)
theorem x_icmp_geT {x1 y1 : Int32} {off : Int} {tgt : Nat} (X : v_C Γ l0 R0 cc nL own ret w g) (hd : decode cc pc = .ok (.if_icmp .ge off, 3)) (ht : (pc : Int) + off = (tgt : Int)) (hc : y1 ≤ x1) (kt : x_V Γ nL w g mc ms toR k9 n9 tgt lv st σ mdl) : x_V Γ nL w g mc ms toR k9 n9 pc lv (.int y1 :: .int x1 :: st) σ mdl :=
  fun P E hx ls H locs h1 h2 h3 => lv_icmp_ge X.1 X.2.1 hd ht (fun q => kt P E hx ls H locs h1 h2 h3) (fun q => absurd hc q)
theorem x_icmp_geF {x1 y1 : Int32} {off : Int} {tgt : Nat} (X : v_C Γ l0 R0 cc nL own ret w g) (hd : decode cc pc = .ok (.if_icmp .ge off, 3)) (ht : (pc : Int) + off = (tgt : Int)) (hc : ¬ y1 ≤ x1) (kf : x_V Γ nL w g mc ms toR k9 n9 (pc + 3) lv st σ mdl) : x_V Γ nL w g mc ms toR k9 n9 pc lv (.int y1 :: .int x1 :: st) σ mdl :=
  fun P E hx ls H locs h1 h2 h3 => lv_icmp_ge X.1 X.2.1 hd ht (fun q => absurd q hc) (fun q => kf P E hx ls H locs h1 h2 h3)
theorem x_if_ge {x1 : Int32} {off : Int} {tgt : Nat} {mt mf : x_M ρ} (X : v_C Γ l0 R0 cc nL own ret w g) (hd : decode cc pc = .ok (.ifCond .ge off, 3)) (ht : (pc : Int) + off = (tgt : Int)) (kt : 0 ≤ x1 → x_V Γ nL w g mc ms toR k9 n9 tgt lv st σ mt) (kf : ¬ 0 ≤ x1 → x_V Γ nL w g mc ms toR k9 n9 (pc + 3) lv st σ mf) : x_V Γ nL w g mc ms toR k9 n9 pc lv (.int x1 :: st) σ (if 0 ≤ x1 then mt else mf) :=
  fun P E hx ls H locs h1 h2 h3 => lv_if_ge X.1 X.2.1 hd ht (fun q => kt q P E (by rw [if_pos q] at hx; exact hx) ls H locs h1 h2 h3) (fun q => kf q P E (by rw [if_neg q] at hx; exact hx) ls H locs h1 h2 h3)
theorem x_if_geT {x1 : Int32} {off : Int} {tgt : Nat} (X : v_C Γ l0 R0 cc nL own ret w g) (hd : decode cc pc = .ok (.ifCond .ge off, 3)) (ht : (pc : Int) + off = (tgt : Int)) (hc : 0 ≤ x1) (kt : x_V Γ nL w g mc ms toR k9 n9 tgt lv st σ mdl) : x_V Γ nL w g mc ms toR k9 n9 pc lv (.int x1 :: st) σ mdl :=
  fun P E hx ls H locs h1 h2 h3 => lv_if_ge X.1 X.2.1 hd ht (fun q => kt P E hx ls H locs h1 h2 h3) (fun q => absurd hc q)
theorem x_if_geF {x1 : Int32} {off : Int} {tgt : Nat} (X : v_C Γ l0 R0 cc nL own ret w g) (hd : decode cc pc = .ok (.ifCond .ge off, 3)) (ht : (pc : Int) + off = (tgt : Int)) (hc : ¬ 0 ≤ x1) (kf : x_V Γ nL w g mc ms toR k9 n9 (pc + 3) lv st σ mdl) : x_V Γ nL w g mc ms toR k9 n9 pc lv (.int x1 :: st) σ mdl :=
  fun P E hx ls H locs h1 h2 h3 => lv_if_ge X.1 X.2.1 hd ht (fun q => absurd q hc) (fun q => kf P E hx ls H locs h1 h2 h3)
theorem x_icmp_gt {x1 y1 : Int32} {off : Int} {tgt : Nat} {mt mf : x_M ρ} (X : v_C Γ l0 R0 cc nL own ret w g) (hd : decode cc pc = .ok (.if_icmp .gt off, 3)) (ht : (pc : Int) + off = (tgt : Int)) (kt : y1 < x1 → x_V Γ nL w g mc ms toR k9 n9 tgt lv st σ mt) (kf : ¬ y1 < x1 → x_V Γ nL w g mc ms toR k9 n9 (pc + 3) lv st σ mf) : x_V Γ nL w g mc ms toR k9 n9 pc lv (.int y1 :: .int x1 :: st) σ (if y1 < x1 then mt else mf) :=
  fun P E hx ls H locs h1 h2 h3 => lv_icmp_gt X.1 X.2.1 hd ht (fun q => kt q P E (by rw [if_pos q] at hx; exact hx) ls H locs h1 h2 h3) (fun q => kf q P E (by rw [if_neg q] at hx; exact hx) ls H locs h1 h2 h3)
theorem x_icmp_gtT {x1 y1 : Int32} {off : Int} {tgt : Nat} (X : v_C Γ l0 R0 cc nL own ret w g) (hd : decode cc pc = .ok (.if_icmp .gt off, 3)) (ht : (pc : Int) + off = (tgt : Int)) (hc : y1 < x1) (kt : x_V Γ nL w g mc ms toR k9 n9 tgt lv st σ mdl) : x_V Γ nL w g mc ms toR k9 n9 pc lv (.int y1 :: .int x1 :: st) σ mdl :=
  fun P E hx ls H locs h1 h2 h3 => lv_icmp_gt X.1 X.2.1 hd ht (fun q => kt P E hx ls H locs h1 h2 h3) (fun q => absurd hc q)
theorem x_icmp_gtF {x1 y1 : Int32} {off : Int} {tgt : Nat} (X : v_C Γ l0 R0 cc nL own ret w g) (hd : decode cc pc = .ok (.if_icmp .gt off, 3)) (ht : (pc : Int) + off = (tgt : Int)) (hc : ¬ y1 < x1) (kf : x_V Γ nL w g mc ms toR k9 n9 (pc + 3) lv st σ mdl) : x_V Γ nL w g mc ms toR k9 n9 pc lv (.int y1 :: .int x1 :: st) σ mdl :=
  fun P E hx ls H locs h1 h2 h3 => lv_icmp_gt X.1 X.2.1 hd ht (fun q => absurd q hc) (fun q => kf P E hx ls H locs h1 h2 h3)
theorem x_if_gt {x1 : Int32} {off : Int} {tgt : Nat} {mt mf : x_M ρ} (X : v_C Γ l0 R0 cc nL own ret w g) (hd : decode cc pc = .ok (.ifCond .gt off, 3)) (ht : (pc : Int) + off = (tgt : Int)) (kt : 0 < x1 → x_V Γ nL w g mc ms toR k9 n9 tgt lv st σ mt) (kf : ¬ 0 < x1 → x_V Γ nL w g mc ms toR k9 n9 (pc + 3) lv st σ mf) : x_V Γ nL w g mc ms toR k9 n9 pc lv (.int x1 :: st) σ (if 0 < x1 then mt else mf) :=
  fun P E hx ls H locs h1 h2 h3 => lv_if_gt X.1 X.2.1 hd ht (fun q => kt q P E (by rw [if_pos q] at hx; exact hx) ls H locs h1 h2 h3) (fun q => kf q P E (by rw [if_neg q] at hx; exact hx) ls H locs h1 h2 h3)
theorem x_if_gtT {x1 : Int32} {off : Int} {tgt : Nat} (X : v_C Γ l0 R0 cc nL own ret w g) (hd : decode cc pc = .ok (.ifCond .gt off, 3)) (ht : (pc : Int) + off = (tgt : Int)) (hc : 0 < x1) (kt : x_V Γ nL w g mc ms toR k9 n9 tgt lv st σ mdl) : x_V Γ nL w g mc ms toR k9 n9 pc lv (.int x1 :: st) σ mdl :=
  fun P E hx ls H locs h1 h2 h3 => lv_if_gt X.1 X.2.1 hd ht (fun q => kt P E hx ls H locs h1 h2 h3) (fun q => absurd hc q)
theorem x_if_gtF {x1 : Int32} {off : Int} {tgt : Nat} (X : v_C Γ l0 R0 cc nL own ret w g) (hd : decode cc pc = .ok (.ifCond .gt off, 3)) (ht : (pc : Int) + off = (tgt : Int)) (hc : ¬ 0 < x1) (kf : x_V Γ nL w g mc ms toR k9 n9 (pc + 3) lv st σ mdl) : x_V Γ nL w g mc ms toR k9 n9 pc lv (.int x1 :: st) σ mdl :=
  fun P E hx ls H locs h1 h2 h3 => lv_if_gt X.1 X.2.1 hd ht (fun q => absurd q hc) (fun q => kf P E hx ls H locs h1 h2 h3)
theorem x_icmp_le {x1 y1 : Int32} {off : Int} {tgt : Nat} {mt mf : x_M ρ} (X : v_C Γ l0 R0 cc nL own ret w g) (hd : decode cc pc = .ok (.if_icmp .le off, 3)) (ht : (pc : Int) + off = (tgt : Int)) (kt : x1 ≤ y1 → x_V Γ nL w g mc ms toR k9 n9 tgt lv st σ mt) (kf : ¬ x1 ≤ y1 → x_V Γ nL w g mc ms toR k9 n9 (pc + 3) lv st σ mf) : x_V Γ nL w g mc ms toR k9 n9 pc lv (.int y1 :: .int x1 :: st) σ (if x1 ≤ y1 then mt else mf) :=
  fun P E hx ls H locs h1 h2 h3 => lv_icmp_le X.1 X.2.1 hd ht (fun q => kt q P E (by rw [if_pos q] at hx; exact hx) ls H locs h1 h2 h3) (fun q => kf q P E (by rw [if_neg q] at hx; exact hx) ls H locs h1 h2 h3)
theorem x_icmp_leT {x1 y1 : Int32} {off : Int} {tgt : Nat} (X : v_C Γ l0 R0 cc nL own ret w g) (hd : decode cc pc = .ok (.if_icmp .le off, 3)) (ht : (pc : Int) + off = (tgt : Int)) (hc : x1 ≤ y1) (kt : x_V Γ nL w g mc ms toR k9 n9 tgt lv st σ mdl) : x_V Γ nL w g mc ms toR k9 n9 pc lv (.int y1 :: .int x1 :: st) σ mdl :=
  fun P E hx ls H locs h1 h2 h3 => lv_icmp_le X.1 X.2.1 hd ht (fun q => kt P E hx ls H locs h1 h2 h3) (fun q => absurd hc q)
theorem x_icmp_leF {x1 y1 : Int32} {off : Int} {tgt : Nat} (X : v_C Γ l0 R0 cc nL own ret w g) (hd : decode cc pc = .ok (.if_icmp .le off, 3)) (ht : (pc : Int) + off = (tgt : Int)) (hc : ¬ x1 ≤ y1) (kf : x_V Γ nL w g mc ms toR k9 n9 (pc + 3) lv st σ mdl) : x_V Γ nL w g mc ms toR k9 n9 pc lv (.int y1 :: .int x1 :: st) σ mdl :=
  fun P E hx ls H locs h1 h2 h3 => lv_icmp_le X.1 X.2.1 hd ht (fun q => absurd q hc) (fun q => kf P E hx ls H locs h1 h2 h3)
theorem x_if_le {x1 : Int32} {off : Int} {tgt : Nat} {mt mf : x_M ρ} (X : v_C Γ l0 R0 cc nL own ret w g) (hd : decode cc pc = .ok (.ifCond .le off, 3)) (ht : (pc : Int) + off = (tgt : Int)) (kt : x1 ≤ 0 → x_V Γ nL w g mc ms toR k9 n9 tgt lv st σ mt) (kf : ¬ x1 ≤ 0 → x_V Γ nL w g mc ms toR k9 n9 (pc + 3) lv st σ mf) : x_V Γ nL w g mc ms toR k9 n9 pc lv (.int x1 :: st) σ (if x1 ≤ 0 then mt else mf) :=
  fun P E hx ls H locs h1 h2 h3 => lv_if_le X.1 X.2.1 hd ht (fun q => kt q P E (by rw [if_pos q] at hx; exact hx) ls H locs h1 h2 h3) (fun q => kf q P E (by rw [if_neg q] at hx; exact hx) ls H locs h1 h2 h3)
theorem x_if_leT {x1 : Int32} {off : Int} {tgt : Nat} (X : v_C Γ l0 R0 cc nL own ret w g) (hd : decode cc pc = .ok (.ifCond .le off, 3)) (ht : (pc : Int) + off = (tgt : Int)) (hc : x1 ≤ 0) (kt : x_V Γ nL w g mc ms toR k9 n9 tgt lv st σ mdl) : x_V Γ nL w g mc ms toR k9 n9 pc lv (.int x1 :: st) σ mdl :=
  fun P E hx ls H locs h1 h2 h3 => lv_if_le X.1 X.2.1 hd ht (fun q => kt P E hx ls H locs h1 h2 h3) (fun q => absurd hc q)
theorem x_if_leF {x1 : Int32} {off : Int} {tgt : Nat} (X : v_C Γ l0 R0 cc nL own ret w g) (hd : decode cc pc = .ok (.ifCond .le off, 3)) (ht : (pc : Int) + off = (tgt : Int)) (hc : ¬ x1 ≤ 0) (kf : x_V Γ nL w g mc ms toR k9 n9 (pc + 3) lv st σ mdl) : x_V Γ nL w g mc ms toR k9 n9 pc lv (.int x1 :: st) σ mdl :=
  fun P E hx ls H locs h1 h2 h3 => lv_if_le X.1 X.2.1 hd ht (fun q => absurd q hc) (fun q => kf P E hx ls H locs h1 h2 h3)
theorem x_goto {off : Int} {tgt : Nat} (X : v_C Γ l0 R0 cc nL own ret w g) (hd : decode cc pc = .ok (.goto off, 3)) (ht : (pc : Int) + off = (tgt : Int)) (kk : x_V Γ nL w g mc ms toR k9 n9 tgt lv st σ mdl) : x_V Γ nL w g mc ms toR k9 n9 pc lv st σ mdl :=
  fun P E hx ls H locs h1 h2 h3 => lv_goto X.1 X.2.1 hd ht (kk P E hx ls H locs h1 h2 h3)
theorem x_iald {n len : Nat} {i : Int32} (X : v_C Γ l0 R0 cc nL own ret w g) (hn : n < w.2.1) (hlay : w.1 n = .inr (0, len, 0)) (hd : decode cc pc = .ok (.iaload, 1)) (kk : x_V Γ nL w g mc ms toR k9 n9 (pc + 1) lv (.int (σ.1 n i.toNatClampNeg) :: st) σ mdl) : x_V Γ nL w g mc ms toR k9 n9 pc lv (.int i :: .ref (v_E g n) :: st) σ (x_g i len mdl) := by
  intro P E hx ls H locs h1 h2 h3
  obtain ⟨hin, hx⟩ := hx
  exact va_iald X.1 X.2.1 X.2.2.2.2.2.2.2.1 h2.1 n 0 ((v_wl_at hn).trans (by rw [v_cell_a hlay]; rfl)) rfl hin hd (kk P E hx ls H locs h1 h2 h3)
theorem x_bald {n len : Nat} {i : Int32} (X : v_C Γ l0 R0 cc nL own ret w g) (hn : n < w.2.1) (hlay : w.1 n = .inr (1, len, 0)) (hd : decode cc pc = .ok (.baload, 1)) (kk : x_V Γ nL w g mc ms toR k9 n9 (pc + 1) lv (.int (σ.1 n i.toNatClampNeg) :: st) σ mdl) : x_V Γ nL w g mc ms toR k9 n9 pc lv (.int i :: .ref (v_E g n) :: st) σ (x_g i len mdl) := by
  intro P E hx ls H locs h1 h2 h3
  obtain ⟨hin, hx⟩ := hx
  exact va_bald X.1 X.2.1 X.2.2.2.2.2.2.2.1 h2.1 n 1 ((v_wl_at hn).trans (by rw [v_cell_a hlay]; rfl)) rfl hin hd (kk P E hx ls H locs h1 h2 h3)
theorem x_zald {n len : Nat} {i : Int32} (X : v_C Γ l0 R0 cc nL own ret w g) (hn : n < w.2.1) (hlay : w.1 n = .inr (2, len, 0)) (hd : decode cc pc = .ok (.baload, 1)) (kk : x_V Γ nL w g mc ms toR k9 n9 (pc + 1) lv (.int (σ.1 n i.toNatClampNeg) :: st) σ mdl) : x_V Γ nL w g mc ms toR k9 n9 pc lv (.int i :: .ref (v_E g n) :: st) σ (x_g i len mdl) := by
  intro P E hx ls H locs h1 h2 h3
  obtain ⟨hin, hx⟩ := hx
  exact va_zald X.1 X.2.1 X.2.2.2.2.2.2.2.1 h2.1 n 2 ((v_wl_at hn).trans (by rw [v_cell_a hlay]; rfl)) rfl hin hd (kk P E hx ls H locs h1 h2 h3)
theorem x_lald {n len : Nat} {i : Int32} (X : v_C Γ l0 R0 cc nL own ret w g) (hn : n < w.2.1) (hlay : w.1 n = .inr (3, len, 1)) (hd : decode cc pc = .ok (.laload, 1)) (kk : x_V Γ nL w g mc ms toR k9 n9 (pc + 1) lv (.long (σ.2.1 n i.toNatClampNeg) :: st) σ mdl) : x_V Γ nL w g mc ms toR k9 n9 pc lv (.int i :: .ref (v_E g n) :: st) σ (x_g i len mdl) := by
  intro P E hx ls H locs h1 h2 h3
  obtain ⟨hin, hx⟩ := hx
  exact va_lald X.1 X.2.1 X.2.2.2.2.2.2.2.1 h2.1 n 3 ((v_wl_at hn).trans (by rw [v_cell_a hlay]; rfl)) rfl hin hd (kk P E hx ls H locs h1 h2 h3)
theorem x_aald {n len t b : Nat} {ty : FieldType} {i : Int32} (X : v_C Γ l0 R0 cc nL own ret w g) (hn : n < w.2.1) (hlay : w.1 n = .inr (t, len, b + 3)) (ht : (v_tys (v_dA g))[t]? = some (v_dA g t, ty)) (hty : ty.isReference = true) (hd : decode cc pc = .ok (.aaload, 1)) (kk : x_V Γ nL w g mc ms toR k9 n9 (pc + 1) lv (.ref (v_E g (b + i.toNatClampNeg)) :: st) σ mdl) : x_V Γ nL w g mc ms toR k9 n9 pc lv (.int i :: .ref (v_E g n) :: st) σ (x_g i len mdl) := by
  intro P E hx ls H locs h1 h2 h3
  obtain ⟨hin, hx⟩ := hx
  have hlt : i.toNatClampNeg < len := Nat.not_le.mp fun q => hin (Or.inr q)
  have hc := h2.1 n _ ((v_wl_at hn).trans (by rw [v_cell_a hlay]))
  exact W.aald (v := .ref (v_E g (b + i.toNatClampNeg))) (ty := ty) X.1 X.2.1 hc ((X.2.2.2.2.2.2.2.1.2 t _ ht).1 len (fun j => va_rf (some (v_E g (b + j))))) hty (fun q => by cases q) (by show ¬ (i < 0 ∨ (arrV _ _ _).slots.size ≤ _); rw [arrV_size]; exact hin) (by show (arrV _ _ _).slots[_]? = _; rw [arrV_read _ _ hlt]; rfl) rfl rfl hd (kk P E hx ls H locs h1 h2 h3)
theorem x_alen {n len t kind : Nat} {ty : FieldType} {v : Int32} (X : v_C Γ l0 R0 cc nL own ret w g) (hn : n < w.2.1) (hlay : w.1 n = .inr (t, len, kind)) (ht : (v_tys (v_dA g))[t]? = some (v_dA g t, ty)) (hv : Int32.ofNat len = v) (hd : decode cc pc = .ok (.arraylength, 1)) (kk : x_V Γ nL w g mc ms toR k9 n9 (pc + 1) lv (.int v :: st) σ mdl) : x_V Γ nL w g mc ms toR k9 n9 pc lv (.ref (v_E g n) :: st) σ mdl := by
  intro P E hx ls H locs h1 h2 h3
  exact va_alen X.1 X.2.1 X.2.2.2.2.2.2.2.1 h2.1 n t ((v_wl_at hn).trans (by rw [v_cell_a hlay])) ht hv hd (kk P E hx ls H locs h1 h2 h3)
theorem x_iast {n len : Nat} {i z : Int32} {k1 : v_S → x_M ρ} (X : v_C Γ l0 R0 cc nL own ret w g) (hn : n < w.2.1) (hlay : w.1 n = .inr (0, len, 0)) (hd : decode cc pc = .ok (.iastore, 1)) (kk : ∀ σ', x_V Γ nL w g mc ms toR k9 n9 (pc + 1) lv st σ' (k1 σ')) : x_V Γ nL w g mc ms toR k9 n9 pc lv (.int z :: .int i :: .ref (v_E g n) :: st) σ (x_g i len (x_n (v_uI σ n i.toNatClampNeg z) k1)) := by
  intro P E hx ls H locs h1 h2 h3
  obtain ⟨hin, hx⟩ := hx
  refine va_iast X.1 X.2.1 X.2.2.2.2.2.2.2.1 h2.1 h2.2 h3 n 0 ((v_wl_at hn).trans (by rw [v_cell_a hlay]; rfl)) rfl hin hd (fun H1 locs1 hP hD hS => ?_)
  have e := v_wl_set (g := g) (σ := σ) (σ' := v_uI σ n i.toNatClampNeg z) (e := .inl (v_dA g 0, len, .inl (upd (σ.1 n) i.toNatClampNeg z))) hn (by rw [v_cell_a hlay]; exact congrArg (fun q => Sum.inl (v_dA g 0, len, Sum.inl q)) (funext fun j => by simp [v_uI, upd])) (fun m hm => v_cell_n (fun k => by simp [v_uI, hm]) (fun k => rfl) (fun k => rfl)) rfl
  rw [e] at hP hD
  exact kk _ P E hx ls H1 locs1 h1 ⟨hP, hD⟩ hS
theorem x_bast {n len : Nat} {i z : Int32} {k1 : v_S → x_M ρ} (X : v_C Γ l0 R0 cc nL own ret w g) (hn : n < w.2.1) (hlay : w.1 n = .inr (1, len, 0)) (hd : decode cc pc = .ok (.bastore, 1)) (kk : ∀ σ', x_V Γ nL w g mc ms toR k9 n9 (pc + 1) lv st σ' (k1 σ')) : x_V Γ nL w g mc ms toR k9 n9 pc lv (.int z :: .int i :: .ref (v_E g n) :: st) σ (x_g i len (x_n (v_uI σ n i.toNatClampNeg (vp_nar .byte z)) k1)) := by
  intro P E hx ls H locs h1 h2 h3
  obtain ⟨hin, hx⟩ := hx
  refine va_bast X.1 X.2.1 X.2.2.2.2.2.2.2.1 h2.1 h2.2 h3 n 1 ((v_wl_at hn).trans (by rw [v_cell_a hlay]; rfl)) rfl hin hd (fun H1 locs1 hP hD hS => ?_)
  have e := v_wl_set (g := g) (σ := σ) (σ' := v_uI σ n i.toNatClampNeg (vp_nar .byte z)) (e := .inl (v_dA g 1, len, .inl (upd (σ.1 n) i.toNatClampNeg (vp_nar .byte z)))) hn (by rw [v_cell_a hlay]; exact congrArg (fun q => Sum.inl (v_dA g 1, len, Sum.inl q)) (funext fun j => by simp [v_uI, upd])) (fun m hm => v_cell_n (fun k => by simp [v_uI, hm]) (fun k => rfl) (fun k => rfl)) rfl
  rw [e] at hP hD
  exact kk _ P E hx ls H1 locs1 h1 ⟨hP, hD⟩ hS
theorem x_zast {n len : Nat} {i z : Int32} {k1 : v_S → x_M ρ} (X : v_C Γ l0 R0 cc nL own ret w g) (hn : n < w.2.1) (hlay : w.1 n = .inr (2, len, 0)) (hd : decode cc pc = .ok (.bastore, 1)) (kk : ∀ σ', x_V Γ nL w g mc ms toR k9 n9 (pc + 1) lv st σ' (k1 σ')) : x_V Γ nL w g mc ms toR k9 n9 pc lv (.int z :: .int i :: .ref (v_E g n) :: st) σ (x_g i len (x_n (v_uI σ n i.toNatClampNeg (vp_nar .boolean z)) k1)) := by
  intro P E hx ls H locs h1 h2 h3
  obtain ⟨hin, hx⟩ := hx
  refine va_zast X.1 X.2.1 X.2.2.2.2.2.2.2.1 h2.1 h2.2 h3 n 2 ((v_wl_at hn).trans (by rw [v_cell_a hlay]; rfl)) rfl hin hd (fun H1 locs1 hP hD hS => ?_)
  have e := v_wl_set (g := g) (σ := σ) (σ' := v_uI σ n i.toNatClampNeg (vp_nar .boolean z)) (e := .inl (v_dA g 2, len, .inl (upd (σ.1 n) i.toNatClampNeg (vp_nar .boolean z)))) hn (by rw [v_cell_a hlay]; exact congrArg (fun q => Sum.inl (v_dA g 2, len, Sum.inl q)) (funext fun j => by simp [v_uI, upd])) (fun m hm => v_cell_n (fun k => by simp [v_uI, hm]) (fun k => rfl) (fun k => rfl)) rfl
  rw [e] at hP hD
  exact kk _ P E hx ls H1 locs1 h1 ⟨hP, hD⟩ hS
theorem x_last {n len : Nat} {i : Int32} {z : Int64} {k1 : v_S → x_M ρ} (X : v_C Γ l0 R0 cc nL own ret w g) (hn : n < w.2.1) (hlay : w.1 n = .inr (3, len, 1)) (hd : decode cc pc = .ok (.lastore, 1)) (kk : ∀ σ', x_V Γ nL w g mc ms toR k9 n9 (pc + 1) lv st σ' (k1 σ')) : x_V Γ nL w g mc ms toR k9 n9 pc lv (.long z :: .int i :: .ref (v_E g n) :: st) σ (x_g i len (x_n (v_uL σ n i.toNatClampNeg z) k1)) := by
  intro P E hx ls H locs h1 h2 h3
  obtain ⟨hin, hx⟩ := hx
  refine va_last X.1 X.2.1 X.2.2.2.2.2.2.2.1 h2.1 h2.2 h3 n 3 ((v_wl_at hn).trans (by rw [v_cell_a hlay]; rfl)) rfl hin hd (fun H1 locs1 hP hD hS => ?_)
  have e := v_wl_set (g := g) (σ := σ) (σ' := v_uL σ n i.toNatClampNeg z) (e := .inl (v_dA g 3, len, .inr (.inl (vp_updL (σ.2.1 n) i.toNatClampNeg z)))) hn (by rw [v_cell_a hlay]; exact congrArg (fun q => Sum.inl (v_dA g 3, len, Sum.inr (Sum.inl q))) (funext fun j => by simp [v_uL, vp_updL])) (fun m hm => v_cell_n (fun k => rfl) (fun k => by simp [v_uL, hm]) (fun k => rfl)) rfl
  rw [e] at hP hD
  exact kk _ P E hx ls H1 locs1 h1 ⟨hP, hD⟩ hS
theorem x_get {n ci k N index : Nat} {ks : List Nat} {C : String} {T : u_T} {kind : Nat} {v : Value} (X : v_C Γ l0 R0 cc nL own ret w g) (hn : n < w.2.1) (hlay : w.1 n = .inl (ci, ks)) (hc : w.2.2[ci]? = some (C, T, N)) (hin : ∀ q ∈ u_ws C T N, q ∈ lw_all) (hk : k < N) (hlink : Cond.fieldLink own index (T k).1 (T k).2.1 (T k).2.2.1 ∈ lw_all) (hkind : ks[k]? = some kind) (hv : v_fld (v_E g) σ n k kind = v) (hd : decode cc pc = .ok (.getfield index, 3))
    (kk : x_V Γ nL w g mc ms toR k9 n9 (pc + 3) lv (v :: st) σ mdl) : x_V Γ nL w g mc ms toR k9 n9 pc lv (.ref (v_E g n) :: st) σ mdl := by
  intro P E hx ls H locs h1 h2 h3
  exact va_get (ref := (T k).1) (v := v) X.1 X.2.1 X.2.2.2.2.1 hin X.2.2.2.1 X.2.2.2.2.2.2.2.1 h2.1 n ((v_wl_at hn).trans (by rw [v_cell_o hlay])) hc k hk (X.2.2.2.2.1 _ hlink) (fun _ h => h) (by rw [v_fs_get, hkind]; simp only [Option.map_some, Nat.zero_add]; rw [hv]) hd (kk P E hx ls H locs h1 h2 h3)
theorem x_getN {n ci k N index : Nat} {ks : List Nat} {C host : String} {T : u_T} {kind : Nat} {v : Value} (X : v_C Γ l0 R0 cc nL own ret w g) (hn : n < w.2.1) (hlay : w.1 n = .inl (ci, ks)) (hc : w.2.2[ci]? = some (C, T, N)) (hin : ∀ q ∈ u_ws C T N, q ∈ lw_all) (hk : k < N) (hlink : Cond.fieldLinkNest own index (T k).1 (T k).2.1 (T k).2.2.1 host ∈ lw_tbl) (hkind : ks[k]? = some kind) (hv : v_fld (v_E g) σ n k kind = v) (hd : decode cc pc = .ok (.getfield index, 3))
    (kk : x_V Γ nL w g mc ms toR k9 n9 (pc + 3) lv (v :: st) σ mdl) : x_V Γ nL w g mc ms toR k9 n9 pc lv (.ref (v_E g n) :: st) σ mdl := by
  intro P E hx ls H locs h1 h2 h3
  exact va_getN (ref := (T k).1) (v := v) X.1 X.2.1 X.2.2.2.2.1 hin X.2.2.2.1 X.2.2.2.2.2.2.2.1 h2.1 n ((v_wl_at hn).trans (by rw [v_cell_o hlay])) hc k hk (va_Nw.use rfl (X.2.2.2.2.2.2.2.2.2.1.nestF hlink)) (fun _ h => h) (by rw [v_fs_get, hkind]; simp only [Option.map_some, Nat.zero_add]; rw [hv]) hd (kk P E hx ls H locs h1 h2 h3)
theorem x_putI {n ci k N index : Nat} {ks : List Nat} {C : String} {T : u_T} {z : Int32} {k1 : v_S → x_M ρ} (X : v_C Γ l0 R0 cc nL own ret w g) (hn : n < w.2.1) (hlay : w.1 n = .inl (ci, ks)) (hc : w.2.2[ci]? = some (C, T, N)) (hin : ∀ q ∈ u_ws C T N, q ∈ lw_all) (ty0 : Nat → FieldType) (hty : ∀ k, k < N → parseFieldDescriptor (T k).2.2.1 = some (ty0 k)) (hnm : ∀ a, a < N → ∀ b, b < N → a ≠ b → (T a).2.1 ≠ (T b).2.1) (hk : k < N) (hlink : Cond.fieldLink own index (T k).1 (T k).2.1 (T k).2.2.1 ∈ lw_all) (hfin : (T k).2.2.2 = false) (hkind : ks[k]? = some 0) (hty1 : ty0 k = .int) (hd : decode cc pc = .ok (.putfield index, 3))
    (kk : ∀ σ', x_V Γ nL w g mc ms toR k9 n9 (pc + 3) lv st σ' (k1 σ')) : x_V Γ nL w g mc ms toR k9 n9 pc lv (.int z :: .ref (v_E g n) :: st) σ (x_n (v_uI σ n k z) k1) := by
  intro P E hx ls H locs h1 h2 h3
  have hlen : k < ks.length := (List.getElem?_eq_some_iff.mp hkind).1
  refine va_put (ref := (T k).1) (v := .int z) (ty := .int) X.1 X.2.1 X.2.2.2.2.1 hin ty0 hty hnm X.2.2.2.1 X.2.2.2.2.2.2.2.1 h2.1 h2.2 h3 n ((v_wl_at hn).trans (by rw [v_cell_o hlay])) hc k hk (X.2.2.2.2.1 _ hlink) (fun _ h => h) hfin (by rw [hty k hk, hty1]) rfl rfl (by rw [v_fs_len]; exact hlen) hd (fun H1 locs1 hP hD hS => ?_)
  have e := v_wl_set (g := g) (σ := σ) (σ' := v_uI σ n k z) (e := .inr (ci, (v_fs (v_E g) σ n 0 ks).set k (.int z))) hn (by rw [v_cell_o hlay]; exact congrArg (fun q => Sum.inr (ci, q)) (v_fs_set ks 0 hlen (fun q hq => by rw [hkind] at hq; cases hq; show Value.int _ = _; simp [v_uI]) (fun j hj => by rw [Nat.zero_add] at hj; simp [v_uI, hj]) (fun j hj => by rw [Nat.zero_add] at hj; simp [v_uI, hj]) (fun j hj => by rw [Nat.zero_add] at hj; simp [v_uI, hj])).symm) (fun m hm => v_cell_n (fun k => by simp [v_uI, hm]) (fun k => by simp [v_uI, hm]) (fun k => by simp [v_uI, hm])) rfl
  rw [e] at hP hD
  exact kk _ P E hx ls H1 locs1 h1 ⟨hP, hD⟩ hS
theorem x_putIN {n ci k N index : Nat} {ks : List Nat} {C host : String} {T : u_T} {z : Int32} {k1 : v_S → x_M ρ} (X : v_C Γ l0 R0 cc nL own ret w g) (hn : n < w.2.1) (hlay : w.1 n = .inl (ci, ks)) (hc : w.2.2[ci]? = some (C, T, N)) (hin : ∀ q ∈ u_ws C T N, q ∈ lw_all) (ty0 : Nat → FieldType) (hty : ∀ k, k < N → parseFieldDescriptor (T k).2.2.1 = some (ty0 k)) (hnm : ∀ a, a < N → ∀ b, b < N → a ≠ b → (T a).2.1 ≠ (T b).2.1) (hk : k < N) (hlink : Cond.fieldLinkNest own index (T k).1 (T k).2.1 (T k).2.2.1 host ∈ lw_tbl) (hfin : (T k).2.2.2 = false) (hkind : ks[k]? = some 0) (hty1 : ty0 k = .int) (hd : decode cc pc = .ok (.putfield index, 3))
    (kk : ∀ σ', x_V Γ nL w g mc ms toR k9 n9 (pc + 3) lv st σ' (k1 σ')) : x_V Γ nL w g mc ms toR k9 n9 pc lv (.int z :: .ref (v_E g n) :: st) σ (x_n (v_uI σ n k z) k1) := by
  intro P E hx ls H locs h1 h2 h3
  have hlen : k < ks.length := (List.getElem?_eq_some_iff.mp hkind).1
  refine va_putN (ref := (T k).1) (v := .int z) (ty := .int) X.1 X.2.1 X.2.2.2.2.1 hin ty0 hty hnm X.2.2.2.1 X.2.2.2.2.2.2.2.1 h2.1 h2.2 h3 n ((v_wl_at hn).trans (by rw [v_cell_o hlay])) hc k hk (va_Nw.use rfl (X.2.2.2.2.2.2.2.2.2.1.nestF hlink)) (fun _ h => h) hfin (by rw [hty k hk, hty1]) rfl rfl (by rw [v_fs_len]; exact hlen) hd (fun H1 locs1 hP hD hS => ?_)
  have e := v_wl_set (g := g) (σ := σ) (σ' := v_uI σ n k z) (e := .inr (ci, (v_fs (v_E g) σ n 0 ks).set k (.int z))) hn (by rw [v_cell_o hlay]; exact congrArg (fun q => Sum.inr (ci, q)) (v_fs_set ks 0 hlen (fun q hq => by rw [hkind] at hq; cases hq; show Value.int _ = _; simp [v_uI]) (fun j hj => by rw [Nat.zero_add] at hj; simp [v_uI, hj]) (fun j hj => by rw [Nat.zero_add] at hj; simp [v_uI, hj]) (fun j hj => by rw [Nat.zero_add] at hj; simp [v_uI, hj])).symm) (fun m hm => v_cell_n (fun k => by simp [v_uI, hm]) (fun k => by simp [v_uI, hm]) (fun k => by simp [v_uI, hm])) rfl
  rw [e] at hP hD
  exact kk _ P E hx ls H1 locs1 h1 ⟨hP, hD⟩ hS
theorem x_putL {n ci k N index : Nat} {ks : List Nat} {C : String} {T : u_T} {z : Int64} {k1 : v_S → x_M ρ} (X : v_C Γ l0 R0 cc nL own ret w g) (hn : n < w.2.1) (hlay : w.1 n = .inl (ci, ks)) (hc : w.2.2[ci]? = some (C, T, N)) (hin : ∀ q ∈ u_ws C T N, q ∈ lw_all) (ty0 : Nat → FieldType) (hty : ∀ k, k < N → parseFieldDescriptor (T k).2.2.1 = some (ty0 k)) (hnm : ∀ a, a < N → ∀ b, b < N → a ≠ b → (T a).2.1 ≠ (T b).2.1) (hk : k < N) (hlink : Cond.fieldLink own index (T k).1 (T k).2.1 (T k).2.2.1 ∈ lw_all) (hfin : (T k).2.2.2 = false) (hkind : ks[k]? = some 1) (hty1 : ty0 k = .long) (hd : decode cc pc = .ok (.putfield index, 3))
    (kk : ∀ σ', x_V Γ nL w g mc ms toR k9 n9 (pc + 3) lv st σ' (k1 σ')) : x_V Γ nL w g mc ms toR k9 n9 pc lv (.long z :: .ref (v_E g n) :: st) σ (x_n (v_uL σ n k z) k1) := by
  intro P E hx ls H locs h1 h2 h3
  have hlen : k < ks.length := (List.getElem?_eq_some_iff.mp hkind).1
  refine va_put (ref := (T k).1) (v := .long z) (ty := .long) X.1 X.2.1 X.2.2.2.2.1 hin ty0 hty hnm X.2.2.2.1 X.2.2.2.2.2.2.2.1 h2.1 h2.2 h3 n ((v_wl_at hn).trans (by rw [v_cell_o hlay])) hc k hk (X.2.2.2.2.1 _ hlink) (fun _ h => h) hfin (by rw [hty k hk, hty1]) rfl rfl (by rw [v_fs_len]; exact hlen) hd (fun H1 locs1 hP hD hS => ?_)
  have e := v_wl_set (g := g) (σ := σ) (σ' := v_uL σ n k z) (e := .inr (ci, (v_fs (v_E g) σ n 0 ks).set k (.long z))) hn (by rw [v_cell_o hlay]; exact congrArg (fun q => Sum.inr (ci, q)) (v_fs_set ks 0 hlen (fun q hq => by rw [hkind] at hq; cases hq; show Value.long _ = _; simp [v_uL]) (fun j hj => by rw [Nat.zero_add] at hj; simp [v_uL, hj]) (fun j hj => by rw [Nat.zero_add] at hj; simp [v_uL, hj]) (fun j hj => by rw [Nat.zero_add] at hj; simp [v_uL, hj])).symm) (fun m hm => v_cell_n (fun k => by simp [v_uL, hm]) (fun k => by simp [v_uL, hm]) (fun k => by simp [v_uL, hm])) rfl
  rw [e] at hP hD
  exact kk _ P E hx ls H1 locs1 h1 ⟨hP, hD⟩ hS
theorem x_putLN {n ci k N index : Nat} {ks : List Nat} {C host : String} {T : u_T} {z : Int64} {k1 : v_S → x_M ρ} (X : v_C Γ l0 R0 cc nL own ret w g) (hn : n < w.2.1) (hlay : w.1 n = .inl (ci, ks)) (hc : w.2.2[ci]? = some (C, T, N)) (hin : ∀ q ∈ u_ws C T N, q ∈ lw_all) (ty0 : Nat → FieldType) (hty : ∀ k, k < N → parseFieldDescriptor (T k).2.2.1 = some (ty0 k)) (hnm : ∀ a, a < N → ∀ b, b < N → a ≠ b → (T a).2.1 ≠ (T b).2.1) (hk : k < N) (hlink : Cond.fieldLinkNest own index (T k).1 (T k).2.1 (T k).2.2.1 host ∈ lw_tbl) (hfin : (T k).2.2.2 = false) (hkind : ks[k]? = some 1) (hty1 : ty0 k = .long) (hd : decode cc pc = .ok (.putfield index, 3))
    (kk : ∀ σ', x_V Γ nL w g mc ms toR k9 n9 (pc + 3) lv st σ' (k1 σ')) : x_V Γ nL w g mc ms toR k9 n9 pc lv (.long z :: .ref (v_E g n) :: st) σ (x_n (v_uL σ n k z) k1) := by
  intro P E hx ls H locs h1 h2 h3
  have hlen : k < ks.length := (List.getElem?_eq_some_iff.mp hkind).1
  refine va_putN (ref := (T k).1) (v := .long z) (ty := .long) X.1 X.2.1 X.2.2.2.2.1 hin ty0 hty hnm X.2.2.2.1 X.2.2.2.2.2.2.2.1 h2.1 h2.2 h3 n ((v_wl_at hn).trans (by rw [v_cell_o hlay])) hc k hk (va_Nw.use rfl (X.2.2.2.2.2.2.2.2.2.1.nestF hlink)) (fun _ h => h) hfin (by rw [hty k hk, hty1]) rfl rfl (by rw [v_fs_len]; exact hlen) hd (fun H1 locs1 hP hD hS => ?_)
  have e := v_wl_set (g := g) (σ := σ) (σ' := v_uL σ n k z) (e := .inr (ci, (v_fs (v_E g) σ n 0 ks).set k (.long z))) hn (by rw [v_cell_o hlay]; exact congrArg (fun q => Sum.inr (ci, q)) (v_fs_set ks 0 hlen (fun q hq => by rw [hkind] at hq; cases hq; show Value.long _ = _; simp [v_uL]) (fun j hj => by rw [Nat.zero_add] at hj; simp [v_uL, hj]) (fun j hj => by rw [Nat.zero_add] at hj; simp [v_uL, hj]) (fun j hj => by rw [Nat.zero_add] at hj; simp [v_uL, hj])).symm) (fun m hm => v_cell_n (fun k => by simp [v_uL, hm]) (fun k => by simp [v_uL, hm]) (fun k => by simp [v_uL, hm])) rfl
  rw [e] at hP hD
  exact kk _ P E hx ls H1 locs1 h1 ⟨hP, hD⟩ hS
theorem x_putR {n ci k N index : Nat} {ks : List Nat} {C : String} {C2 : String} {T : u_T} {z : (Option Nat)} {k1 : v_S → x_M ρ} (X : v_C Γ l0 R0 cc nL own ret w g) (hn : n < w.2.1) (hlay : w.1 n = .inl (ci, ks)) (hc : w.2.2[ci]? = some (C, T, N)) (hin : ∀ q ∈ u_ws C T N, q ∈ lw_all) (ty0 : Nat → FieldType) (hty : ∀ k, k < N → parseFieldDescriptor (T k).2.2.1 = some (ty0 k)) (hnm : ∀ a, a < N → ∀ b, b < N → a ≠ b → (T a).2.1 ≠ (T b).2.1) (hk : k < N) (hlink : Cond.fieldLink own index (T k).1 (T k).2.1 (T k).2.2.1 ∈ lw_all) (hfin : (T k).2.2.2 = false) (hkind : ks[k]? = some 2) (hty1 : ty0 k = (.object C2)) (hd : decode cc pc = .ok (.putfield index, 3))
    (kk : ∀ σ', x_V Γ nL w g mc ms toR k9 n9 (pc + 3) lv st σ' (k1 σ')) : x_V Γ nL w g mc ms toR k9 n9 pc lv ((va_rf z) :: .ref (v_E g n) :: st) σ (x_n (v_uR σ n k z) k1) := by
  intro P E hx ls H locs h1 h2 h3
  have hlen : k < ks.length := (List.getElem?_eq_some_iff.mp hkind).1
  refine va_put (ref := (T k).1) (v := (va_rf z)) (ty := (.object C2)) X.1 X.2.1 X.2.2.2.2.1 hin ty0 hty hnm X.2.2.2.1 X.2.2.2.2.2.2.2.1 h2.1 h2.2 h3 n ((v_wl_at hn).trans (by rw [v_cell_o hlay])) hc k hk (X.2.2.2.2.1 _ hlink) (fun _ h => h) hfin (by rw [hty k hk, hty1]) (by cases z <;> rfl) (by cases z <;> rfl) (by rw [v_fs_len]; exact hlen) hd (fun H1 locs1 hP hD hS => ?_)
  have e := v_wl_set (g := g) (σ := σ) (σ' := v_uR σ n k z) (e := .inr (ci, (v_fs (v_E g) σ n 0 ks).set k ((va_rf z)))) hn (by rw [v_cell_o hlay]; exact congrArg (fun q => Sum.inr (ci, q)) (v_fs_set ks 0 hlen (fun q hq => by rw [hkind] at hq; cases hq; show va_rf _ = _; simp [v_uR]) (fun j hj => by rw [Nat.zero_add] at hj; simp [v_uR, hj]) (fun j hj => by rw [Nat.zero_add] at hj; simp [v_uR, hj]) (fun j hj => by rw [Nat.zero_add] at hj; simp [v_uR, hj])).symm) (fun m hm => v_cell_n (fun k => by simp [v_uR, hm]) (fun k => by simp [v_uR, hm]) (fun k => by simp [v_uR, hm])) rfl
  rw [e] at hP hD
  exact kk _ P E hx ls H1 locs1 h1 ⟨hP, hD⟩ hS
theorem x_putRN {n ci k N index : Nat} {ks : List Nat} {C host : String} {C2 : String} {T : u_T} {z : (Option Nat)} {k1 : v_S → x_M ρ} (X : v_C Γ l0 R0 cc nL own ret w g) (hn : n < w.2.1) (hlay : w.1 n = .inl (ci, ks)) (hc : w.2.2[ci]? = some (C, T, N)) (hin : ∀ q ∈ u_ws C T N, q ∈ lw_all) (ty0 : Nat → FieldType) (hty : ∀ k, k < N → parseFieldDescriptor (T k).2.2.1 = some (ty0 k)) (hnm : ∀ a, a < N → ∀ b, b < N → a ≠ b → (T a).2.1 ≠ (T b).2.1) (hk : k < N) (hlink : Cond.fieldLinkNest own index (T k).1 (T k).2.1 (T k).2.2.1 host ∈ lw_tbl) (hfin : (T k).2.2.2 = false) (hkind : ks[k]? = some 2) (hty1 : ty0 k = (.object C2)) (hd : decode cc pc = .ok (.putfield index, 3))
    (kk : ∀ σ', x_V Γ nL w g mc ms toR k9 n9 (pc + 3) lv st σ' (k1 σ')) : x_V Γ nL w g mc ms toR k9 n9 pc lv ((va_rf z) :: .ref (v_E g n) :: st) σ (x_n (v_uR σ n k z) k1) := by
  intro P E hx ls H locs h1 h2 h3
  have hlen : k < ks.length := (List.getElem?_eq_some_iff.mp hkind).1
  refine va_putN (ref := (T k).1) (v := (va_rf z)) (ty := (.object C2)) X.1 X.2.1 X.2.2.2.2.1 hin ty0 hty hnm X.2.2.2.1 X.2.2.2.2.2.2.2.1 h2.1 h2.2 h3 n ((v_wl_at hn).trans (by rw [v_cell_o hlay])) hc k hk (va_Nw.use rfl (X.2.2.2.2.2.2.2.2.2.1.nestF hlink)) (fun _ h => h) hfin (by rw [hty k hk, hty1]) (by cases z <;> rfl) (by cases z <;> rfl) (by rw [v_fs_len]; exact hlen) hd (fun H1 locs1 hP hD hS => ?_)
  have e := v_wl_set (g := g) (σ := σ) (σ' := v_uR σ n k z) (e := .inr (ci, (v_fs (v_E g) σ n 0 ks).set k ((va_rf z)))) hn (by rw [v_cell_o hlay]; exact congrArg (fun q => Sum.inr (ci, q)) (v_fs_set ks 0 hlen (fun q hq => by rw [hkind] at hq; cases hq; show va_rf _ = _; simp [v_uR]) (fun j hj => by rw [Nat.zero_add] at hj; simp [v_uR, hj]) (fun j hj => by rw [Nat.zero_add] at hj; simp [v_uR, hj]) (fun j hj => by rw [Nat.zero_add] at hj; simp [v_uR, hj])).symm) (fun m hm => v_cell_n (fun k => by simp [v_uR, hm]) (fun k => by simp [v_uR, hm]) (fun k => by simp [v_uR, hm])) rfl
  rw [e] at hP hD
  exact kk _ P E hx ls H1 locs1 h1 ⟨hP, hD⟩ hS
theorem x_lv (h : lv = lv') (k : x_V Γ nL w g mc ms toR k9 n9 pc lv' st σ mdl) : x_V Γ nL w g mc ms toR k9 n9 pc lv st σ mdl := h ▸ k
theorem x_ialdC {n len k : Nat} {i : Int32} (X : v_C Γ l0 R0 cc nL own ret w g) (hn : n < w.2.1) (hlay : w.1 n = .inr (0, len, 0)) (hk : v_ck i k len = true) (hd : decode cc pc = .ok (.iaload, 1)) (kk : x_V Γ nL w g mc ms toR k9 n9 (pc + 1) lv (.int (σ.1 n k) :: st) σ mdl) : x_V Γ nL w g mc ms toR k9 n9 pc lv (.int i :: .ref (v_E g n) :: st) σ mdl :=
  x_eq (x_gk hk).symm (x_iald X hn hlay hd (by rw [(v_ck_eq hk).1]; exact kk))
theorem x_baldC {n len k : Nat} {i : Int32} (X : v_C Γ l0 R0 cc nL own ret w g) (hn : n < w.2.1) (hlay : w.1 n = .inr (1, len, 0)) (hk : v_ck i k len = true) (hd : decode cc pc = .ok (.baload, 1)) (kk : x_V Γ nL w g mc ms toR k9 n9 (pc + 1) lv (.int (σ.1 n k) :: st) σ mdl) : x_V Γ nL w g mc ms toR k9 n9 pc lv (.int i :: .ref (v_E g n) :: st) σ mdl :=
  x_eq (x_gk hk).symm (x_bald X hn hlay hd (by rw [(v_ck_eq hk).1]; exact kk))
theorem x_zaldC {n len k : Nat} {i : Int32} (X : v_C Γ l0 R0 cc nL own ret w g) (hn : n < w.2.1) (hlay : w.1 n = .inr (2, len, 0)) (hk : v_ck i k len = true) (hd : decode cc pc = .ok (.baload, 1)) (kk : x_V Γ nL w g mc ms toR k9 n9 (pc + 1) lv (.int (σ.1 n k) :: st) σ mdl) : x_V Γ nL w g mc ms toR k9 n9 pc lv (.int i :: .ref (v_E g n) :: st) σ mdl :=
  x_eq (x_gk hk).symm (x_zald X hn hlay hd (by rw [(v_ck_eq hk).1]; exact kk))
theorem x_laldC {n len k : Nat} {i : Int32} (X : v_C Γ l0 R0 cc nL own ret w g) (hn : n < w.2.1) (hlay : w.1 n = .inr (3, len, 1)) (hk : v_ck i k len = true) (hd : decode cc pc = .ok (.laload, 1)) (kk : x_V Γ nL w g mc ms toR k9 n9 (pc + 1) lv (.long (σ.2.1 n k) :: st) σ mdl) : x_V Γ nL w g mc ms toR k9 n9 pc lv (.int i :: .ref (v_E g n) :: st) σ mdl :=
  x_eq (x_gk hk).symm (x_lald X hn hlay hd (by rw [(v_ck_eq hk).1]; exact kk))
theorem x_iastC {n len k : Nat} {i : Int32} {z : Int32} {k1 : v_S → x_M ρ} (X : v_C Γ l0 R0 cc nL own ret w g) (hn : n < w.2.1) (hlay : w.1 n = .inr (0, len, 0)) (hk : v_ck i k len = true) (hd : decode cc pc = .ok (.iastore, 1)) (kk : ∀ σ', x_V Γ nL w g mc ms toR k9 n9 (pc + 1) lv st σ' (k1 σ')) : x_V Γ nL w g mc ms toR k9 n9 pc lv (.int z :: .int i :: .ref (v_E g n) :: st) σ (x_n (v_uI σ n k z) k1) :=
  x_eq (by rw [(v_ck_eq hk).1, x_gk hk]) (x_iast X hn hlay hd kk)
theorem x_bastC {n len k : Nat} {i : Int32} {z : Int32} {k1 : v_S → x_M ρ} (X : v_C Γ l0 R0 cc nL own ret w g) (hn : n < w.2.1) (hlay : w.1 n = .inr (1, len, 0)) (hk : v_ck i k len = true) (hd : decode cc pc = .ok (.bastore, 1)) (kk : ∀ σ', x_V Γ nL w g mc ms toR k9 n9 (pc + 1) lv st σ' (k1 σ')) : x_V Γ nL w g mc ms toR k9 n9 pc lv (.int z :: .int i :: .ref (v_E g n) :: st) σ (x_n (v_uI σ n k (vp_nar .byte z)) k1) :=
  x_eq (by rw [(v_ck_eq hk).1, x_gk hk]) (x_bast X hn hlay hd kk)
theorem x_zastC {n len k : Nat} {i : Int32} {z : Int32} {k1 : v_S → x_M ρ} (X : v_C Γ l0 R0 cc nL own ret w g) (hn : n < w.2.1) (hlay : w.1 n = .inr (2, len, 0)) (hk : v_ck i k len = true) (hd : decode cc pc = .ok (.bastore, 1)) (kk : ∀ σ', x_V Γ nL w g mc ms toR k9 n9 (pc + 1) lv st σ' (k1 σ')) : x_V Γ nL w g mc ms toR k9 n9 pc lv (.int z :: .int i :: .ref (v_E g n) :: st) σ (x_n (v_uI σ n k (vp_nar .boolean z)) k1) :=
  x_eq (by rw [(v_ck_eq hk).1, x_gk hk]) (x_zast X hn hlay hd kk)
theorem x_lastC {n len k : Nat} {i : Int32} {z : Int64} {k1 : v_S → x_M ρ} (X : v_C Γ l0 R0 cc nL own ret w g) (hn : n < w.2.1) (hlay : w.1 n = .inr (3, len, 1)) (hk : v_ck i k len = true) (hd : decode cc pc = .ok (.lastore, 1)) (kk : ∀ σ', x_V Γ nL w g mc ms toR k9 n9 (pc + 1) lv st σ' (k1 σ')) : x_V Γ nL w g mc ms toR k9 n9 pc lv (.long z :: .int i :: .ref (v_E g n) :: st) σ (x_n (v_uL σ n k z) k1) :=
  x_eq (by rw [(v_ck_eq hk).1, x_gk hk]) (x_last X hn hlay hd kk)
theorem x_unq (stf : Value → List Value) {e : Option Nat} {k1 : Nat → x_M ρ} (kk : ∀ a, e = some a → x_V Γ nL w g mc ms toR k9 n9 pc lv (stf (.ref a)) σ (k1 a)) : x_V Γ nL w g mc ms toR k9 n9 pc lv (stf (va_rf e)) σ (x_b1 e k1) := by
  cases e with
  | none => exact fun P E ⟨_, h, _⟩ => by cases h
  | some a => exact fun P E ⟨_, h, hx⟩ => by cases h; exact kk a rfl P E hx
theorem x_ifn {off : Int} {tgt : Nat} {e : Option Nat} {mt mf : x_M ρ} (X : v_C Γ l0 R0 cc nL own ret w g) (hd : decode cc pc = .ok (.ifnull off, 3)) (ht : (pc : Int) + off = (tgt : Int)) (kt : e = none → x_V Γ nL w g mc ms toR k9 n9 tgt lv st σ mt) (kf : ¬ e = none → x_V Γ nL w g mc ms toR k9 n9 (pc + 3) lv st σ mf) : x_V Γ nL w g mc ms toR k9 n9 pc lv (va_rf e :: st) σ (if e = none then mt else mf) := by
  cases e with
  | none => exact fun P E hx ls H locs h1 h2 h3 => lv_ifnullN X.1 X.2.1 hd ht (kt rfl P E hx ls H locs h1 h2 h3)
  | some a => exact fun P E hx ls H locs h1 h2 h3 => lv_ifnull X.1 X.2.1 hd (kf (fun h => by cases h) P E hx ls H locs h1 h2 h3)
theorem x_ifnn {off : Int} {tgt : Nat} {e : Option Nat} {mt mf : x_M ρ} (X : v_C Γ l0 R0 cc nL own ret w g) (hd : decode cc pc = .ok (.ifnonnull off, 3)) (ht : (pc : Int) + off = (tgt : Int)) (kt : ¬ e = none → x_V Γ nL w g mc ms toR k9 n9 tgt lv st σ mt) (kf : e = none → x_V Γ nL w g mc ms toR k9 n9 (pc + 3) lv st σ mf) : x_V Γ nL w g mc ms toR k9 n9 pc lv (va_rf e :: st) σ (if e = none then mf else mt) := by
  cases e with
  | none => exact fun P E hx ls H locs h1 h2 h3 => lv_ifnonnullN X.1 X.2.1 hd (kf rfl P E hx ls H locs h1 h2 h3)
  | some a => exact fun P E hx ls H locs h1 h2 h3 => lv_ifnonnull X.1 X.2.1 hd ht (kt (fun h => by cases h) P E hx ls H locs h1 h2 h3)
theorem x_dget {a ci k N index : Nat} {C : String} {T : u_T} {v : Value} (X : v_C Γ l0 R0 cc nL own ret w g) (hc : w.2.2[ci]? = some (C, T, N)) (hin : ∀ q ∈ u_ws C T N, q ∈ lw_all) (hk : k < N) (hlink : Cond.fieldLink own index (T k).1 (T k).2.1 (T k).2.2.1 ∈ lw_all) (hd : decode cc pc = .ok (.getfield index, 3)) (hv : v_dv σ a ci k = some v)
    (kk : x_V Γ nL w g mc ms toR k9 n9 (pc + 3) lv (v :: st) σ mdl) : x_V Γ nL w g mc ms toR k9 n9 pc lv (.ref a :: st) σ mdl := by
  intro P E hx ls H locs h1 h2 h3
  obtain ⟨fs, hdf, hfs⟩ := v_dv_at hv
  obtain ⟨q0, hq0⟩ := v_wl_d (w := w) (g := g) hdf
  exact va_get (ref := (T k).1) (v := v) X.1 X.2.1 X.2.2.2.2.1 hin X.2.2.2.1 X.2.2.2.2.2.2.2.1 h2.1 q0 (ci := ci) (fs := fs) hq0 hc k hk (X.2.2.2.2.1 _ hlink) (fun _ h => h) hfs hd (kk P E hx ls H locs h1 h2 h3)
theorem x_dgetI {a ci k N index : Nat} {C : String} {T : u_T} {k1 : Int32 → x_M ρ} (X : v_C Γ l0 R0 cc nL own ret w g) (hc : w.2.2[ci]? = some (C, T, N)) (hin : ∀ q ∈ u_ws C T N, q ∈ lw_all) (hk : k < N) (hlink : Cond.fieldLink own index (T k).1 (T k).2.1 (T k).2.2.1 ∈ lw_all) (hd : decode cc pc = .ok (.getfield index, 3))
    (kk : ∀ z : Int32, x_V Γ nL w g mc ms toR k9 n9 (pc + 3) lv (.int z :: st) σ (k1 z)) : x_V Γ nL w g mc ms toR k9 n9 pc lv (.ref a :: st) σ (x_b1 (v_dI σ a ci k) k1) := by
  intro P E hx
  obtain ⟨z, hz, hx⟩ := hx
  exact x_dget X hc hin hk hlink hd (v_dI_at hz) (kk z) P E hx
theorem x_dgetR {a ci k N index : Nat} {C : String} {T : u_T} {k1 : Option Nat → x_M ρ} (X : v_C Γ l0 R0 cc nL own ret w g) (hc : w.2.2[ci]? = some (C, T, N)) (hin : ∀ q ∈ u_ws C T N, q ∈ lw_all) (hk : k < N) (hlink : Cond.fieldLink own index (T k).1 (T k).2.1 (T k).2.2.1 ∈ lw_all) (hd : decode cc pc = .ok (.getfield index, 3))
    (kk : ∀ z : Option Nat, x_V Γ nL w g mc ms toR k9 n9 (pc + 3) lv (va_rf z :: st) σ (k1 z)) : x_V Γ nL w g mc ms toR k9 n9 pc lv (.ref a :: st) σ (x_b1 (v_dR σ a ci k) k1) := by
  intro P E hx
  obtain ⟨z, hz, hx⟩ := hx
  exact x_dget X hc hin hk hlink hd (v_dR_at hz) (kk z) P E hx
theorem x_dgetN {a ci k N index : Nat} {C host : String} {T : u_T} {v : Value} (X : v_C Γ l0 R0 cc nL own ret w g) (hc : w.2.2[ci]? = some (C, T, N)) (hin : ∀ q ∈ u_ws C T N, q ∈ lw_all) (hk : k < N) (hlink : Cond.fieldLinkNest own index (T k).1 (T k).2.1 (T k).2.2.1 host ∈ lw_tbl) (hd : decode cc pc = .ok (.getfield index, 3)) (hv : v_dv σ a ci k = some v)
    (kk : x_V Γ nL w g mc ms toR k9 n9 (pc + 3) lv (v :: st) σ mdl) : x_V Γ nL w g mc ms toR k9 n9 pc lv (.ref a :: st) σ mdl := by
  intro P E hx ls H locs h1 h2 h3
  obtain ⟨fs, hdf, hfs⟩ := v_dv_at hv
  obtain ⟨q0, hq0⟩ := v_wl_d (w := w) (g := g) hdf
  exact va_getN (ref := (T k).1) (v := v) X.1 X.2.1 X.2.2.2.2.1 hin X.2.2.2.1 X.2.2.2.2.2.2.2.1 h2.1 q0 (ci := ci) (fs := fs) hq0 hc k hk (va_Nw.use rfl (X.2.2.2.2.2.2.2.2.2.1.nestF hlink)) (fun _ h => h) hfs hd (kk P E hx ls H locs h1 h2 h3)
theorem x_dgetIN {a ci k N index : Nat} {C host : String} {T : u_T} {k1 : Int32 → x_M ρ} (X : v_C Γ l0 R0 cc nL own ret w g) (hc : w.2.2[ci]? = some (C, T, N)) (hin : ∀ q ∈ u_ws C T N, q ∈ lw_all) (hk : k < N) (hlink : Cond.fieldLinkNest own index (T k).1 (T k).2.1 (T k).2.2.1 host ∈ lw_tbl) (hd : decode cc pc = .ok (.getfield index, 3))
    (kk : ∀ z : Int32, x_V Γ nL w g mc ms toR k9 n9 (pc + 3) lv (.int z :: st) σ (k1 z)) : x_V Γ nL w g mc ms toR k9 n9 pc lv (.ref a :: st) σ (x_b1 (v_dI σ a ci k) k1) := by
  intro P E hx
  obtain ⟨z, hz, hx⟩ := hx
  exact x_dgetN X hc hin hk hlink hd (v_dI_at hz) (kk z) P E hx
theorem x_dgetRN {a ci k N index : Nat} {C host : String} {T : u_T} {k1 : Option Nat → x_M ρ} (X : v_C Γ l0 R0 cc nL own ret w g) (hc : w.2.2[ci]? = some (C, T, N)) (hin : ∀ q ∈ u_ws C T N, q ∈ lw_all) (hk : k < N) (hlink : Cond.fieldLinkNest own index (T k).1 (T k).2.1 (T k).2.2.1 host ∈ lw_tbl) (hd : decode cc pc = .ok (.getfield index, 3))
    (kk : ∀ z : Option Nat, x_V Γ nL w g mc ms toR k9 n9 (pc + 3) lv (va_rf z :: st) σ (k1 z)) : x_V Γ nL w g mc ms toR k9 n9 pc lv (.ref a :: st) σ (x_b1 (v_dR σ a ci k) k1) := by
  intro P E hx
  obtain ⟨z, hz, hx⟩ := hx
  exact x_dgetN X hc hin hk hlink hd (v_dR_at hz) (kk z) P E hx
theorem x_unq0 {e : Option Nat} {k1 : Nat → x_M ρ} (kk : ∀ a, e = some a → x_V Γ nL w g mc ms toR k9 n9 pc lv (.ref a :: st) σ (k1 a)) : x_V Γ nL w g mc ms toR k9 n9 pc lv (va_rf e :: st) σ (x_b1 e k1) := x_unq (fun v => v :: st) kk
theorem x_unq1 {x1 : Value} {e : Option Nat} {k1 : Nat → x_M ρ} (kk : ∀ a, e = some a → x_V Γ nL w g mc ms toR k9 n9 pc lv (x1 :: .ref a :: st) σ (k1 a)) : x_V Γ nL w g mc ms toR k9 n9 pc lv (x1 :: va_rf e :: st) σ (x_b1 e k1) := x_unq (fun v => x1 :: v :: st) kk
theorem x_unq2 {x1 x2 : Value} {e : Option Nat} {k1 : Nat → x_M ρ} (kk : ∀ a, e = some a → x_V Γ nL w g mc ms toR k9 n9 pc lv (x1 :: x2 :: .ref a :: st) σ (k1 a)) : x_V Γ nL w g mc ms toR k9 n9 pc lv (x1 :: x2 :: va_rf e :: st) σ (x_b1 e k1) := x_unq (fun v => x1 :: x2 :: v :: st) kk
theorem x_nzT {c : Prop} {_ : Decidable c} {k : x_M ρ} (h : c → x_V Γ nL w g mc ms toR k9 n9 pc lv st σ k) : x_V Γ nL w g mc ms toR k9 n9 pc lv st σ (if c then k else x_no) := by
  by_cases q : c
  · rw [if_pos q]; exact h q
  · rw [if_neg q]; exact x_none
theorem x_aload_nq {k : Fin 4} {e : Option Nat} (X : v_C Γ l0 R0 cc nL own ret w g) (hd : decode cc pc = .ok (.aload_n k, 1)) (j : Nat) (hl : lv[j]? = some ((k : Nat), va_rf e)) (kk : x_V Γ nL w g mc ms toR k9 n9 (pc + 1) lv (va_rf e :: st) σ mdl) : x_V Γ nL w g mc ms toR k9 n9 pc lv st σ mdl := by
  cases e with
  | none => exact fun P E hx ls H locs h1 h2 h3 => lv_aload_nN X.1 X.2.1 hd rfl (lv_at h1 j hl) (kk P E hx ls H locs h1 h2 h3)
  | some a => exact x_aload_n X hd j hl kk
theorem x_aloadq {i : Nat} {e : Option Nat} (X : v_C Γ l0 R0 cc nL own ret w g) (hd : decode cc pc = .ok (.aload i, 2)) (j : Nat) (hl : lv[j]? = some (i, va_rf e)) (kk : x_V Γ nL w g mc ms toR k9 n9 (pc + 2) lv (va_rf e :: st) σ mdl) : x_V Γ nL w g mc ms toR k9 n9 pc lv st σ mdl := by
  cases e with
  | none => exact fun P E hx ls H locs h1 h2 h3 => lv_aloadN X.1 X.2.1 hd (lv_at h1 j hl) (kk P E hx ls H locs h1 h2 h3)
  | some a => exact x_aload X hd j hl kk
theorem x_astore_nq {k : Fin 4} {i : Nat} {e : Option Nat} (X : v_C Γ l0 R0 cc nL own ret w g) (hd : decode cc pc = .ok (.astore_n k, 1)) (hi : (k : Nat) = i) (hn : i < nL) (hl : (i, va_rf e) :: lv.filter (fun q => !(q.1 == i) && !(q.1 + 1 == i && q.2.category == 2)) = lv') (kk : x_V Γ nL w g mc ms toR k9 n9 (pc + 1) lv' st σ mdl) : x_V Γ nL w g mc ms toR k9 n9 pc lv (va_rf e :: st) σ mdl := by
  cases e with
  | none => exact fun P E hx ls H locs h1 h2 h3 => lv_astore_nN X.1 X.2.1 hd hi h1 hn hl (fun ls h1 => kk P E hx ls H locs h1 h2 h3)
  | some a => exact x_astore_n X hd hi hn hl kk
theorem x_astoreq {i : Nat} {e : Option Nat} (X : v_C Γ l0 R0 cc nL own ret w g) (hd : decode cc pc = .ok (.astore i, 2)) (hn : i < nL) (hl : (i, va_rf e) :: lv.filter (fun q => !(q.1 == i) && !(q.1 + 1 == i && q.2.category == 2)) = lv') (kk : x_V Γ nL w g mc ms toR k9 n9 (pc + 2) lv' st σ mdl) : x_V Γ nL w g mc ms toR k9 n9 pc lv (va_rf e :: st) σ mdl := by
  cases e with
  | none => exact fun P E hx ls H locs h1 h2 h3 => lv_astoreN X.1 X.2.1 hd h1 hn hl (fun ls h1 => kk P E hx ls H locs h1 h2 h3)
  | some a => exact x_astore X hd hn hl kk
theorem x_null (X : v_C Γ l0 R0 cc nL own ret w g) (hd : decode cc pc = .ok (.aconst_null, 1)) (kk : x_V Γ nL w g mc ms toR k9 n9 (pc + 1) lv (va_rf none :: st) σ mdl) : x_V Γ nL w g mc ms toR k9 n9 pc lv st σ mdl := fun P E hx ls H locs h1 h2 h3 => lv_null X.1 X.2.1 hd (kk P E hx ls H locs h1 h2 h3)
theorem x_iushr {x1 y1 : Int32} (X : v_C Γ l0 R0 cc nL own ret w g) (hd : decode cc pc = .ok (.iushr, 1)) (kk : x_V Γ nL w g mc ms toR k9 n9 (pc + 1) lv (.int ((x1.toUInt32 >>> (y1.toUInt32 &&& Int32.toUInt32 31)).toInt32) :: st) σ mdl) : x_V Γ nL w g mc ms toR k9 n9 pc lv (.int y1 :: .int x1 :: st) σ mdl := fun P E hx ls H locs h1 h2 h3 => lv_iushr X.1 X.2.1 hd rfl (kk P E hx ls H locs h1 h2 h3)
theorem x_ldcw {index : Nat} {v : Int32} (X : v_C Γ l0 R0 cc nL own ret w g) (hc : (Jvm.Cond.constant own index v) ∈ lw_all) (hd : decode cc pc = .ok (.ldc_w index, 3)) (kk : x_V Γ nL w g mc ms toR k9 n9 (pc + 3) lv (.int v :: st) σ mdl) : x_V Γ nL w g mc ms toR k9 n9 pc lv st σ mdl := fun P E hx ls H locs h1 h2 h3 => lv_ldcw X.1 X.2.1 X.2.2.2.1 (X.2.2.2.2.1 _ hc) hd (kk P E hx ls H locs h1 h2 h3)
theorem x_insta {e : Option Nat} {t index : Nat} {C : String} {k1 : Int32 → x_M ρ} (X : v_C Γ l0 R0 cc nL own ret w g) (ht : t ∈ [0, 1, 3, 4]) (hC : v_anm t = C) (hlink : Cond.classLink own index C ∈ lw_all) (hd : decode cc pc = .ok (.instanceof index, 3)) (kk : ∀ z : Int32, x_V Γ nL w g mc ms toR k9 n9 (pc + 3) lv (.int z :: st) σ (k1 z)) : x_V Γ nL w g mc ms toR k9 n9 pc lv (va_rf e :: st) σ (x_b1 (v_inst σ e t) k1) := by
  subst hC
  intro P E hx ls H locs h1 h2 h3
  obtain ⟨z, hz, hx⟩ := hx
  have k9 := kk z P E hx ls H locs h1 h2 h3
  cases e with
  | none =>
    simp only [v_inst, v_dt] at hz
    cases hz
    exact lv_instN X.1 X.2.1 hd k9
  | some a =>
    unfold v_inst at hz
    split at hz
    · rename_i q
      simp only [v_dt] at q
      split at q <;> cases q
    · rename_i t' q
      obtain ⟨y, hdf⟩ := v_dt_at q
      obtain ⟨q0, hq0⟩ := v_wl_d (w := w) (g := g) hdf
      have hc := h2.1 q0 _ hq0
      have hcell : H[a]? = some (vp_cell (v_dA g t') y) := hc
      split at hz
      · rename_i e1
        subst e1
        cases hz
        exact va_instE X.1 X.2.1 X.2.2.2.1 (X.2.2.2.2.1 _ hlink) ⟨_, hcell, v_acell.1, by rw [v_acell.2]; exact v_tyn X.2.2.2.2.2.2.2.1 ht⟩ hd k9
      · rename_i e1
        split at hz
        · rename_i e2
          cases hz
          exact va_instNo X.1 X.2.1 X.2.2.2.1 (X.2.2.2.2.1 _ hlink) (v_nc X.2.2.2.2.2.2.2.2.2.1 e2.1 e2.2 e1) ⟨_, hcell, v_acell.1, by rw [v_acell.2]; exact v_tyn X.2.2.2.2.2.2.2.1 e2.1⟩ hd k9
        · cases hz
    · cases hz
theorem x_casta {e : Option Nat} {t index : Nat} {C : String} (X : v_C Γ l0 R0 cc nL own ret w g) (ht : t ∈ [0, 1, 3, 4]) (hC : v_anm t = C) (hlink : Cond.classLink own index C ∈ lw_all) (hd : decode cc pc = .ok (.checkcast index, 3)) (kk : x_V Γ nL w g mc ms toR k9 n9 (pc + 3) lv (va_rf e :: st) σ mdl) : x_V Γ nL w g mc ms toR k9 n9 pc lv (va_rf e :: st) σ (if v_isa σ e t = true then mdl else x_no) := by
  subst hC
  refine x_nzT fun hq => ?_
  intro P E hx ls H locs h1 h2 h3
  have k9 := kk P E hx ls H locs h1 h2 h3
  cases e with
  | none => exact lv_castN X.1 X.2.1 hd k9
  | some a =>
    unfold v_isa at hq
    split at hq
    · rename_i q
      simp only [v_dt] at q
      split at q <;> cases q
    · rename_i t' q
      obtain ⟨y, hdf⟩ := v_dt_at q
      obtain ⟨q0, hq0⟩ := v_wl_d (w := w) (g := g) hdf
      have e1 : t' = t := by simpa using hq
      subst e1
      exact va_castA X.1 X.2.1 X.2.2.2.1 (X.2.2.2.2.1 _ hlink) h2.1 q0 hq0 (v_tyn X.2.2.2.2.2.2.2.1 ht) hd k9
    · cases hq
theorem x_dalen {a : Nat} {k1 : Int32 → x_M ρ} (X : v_C Γ l0 R0 cc nL own ret w g) (hd : decode cc pc = .ok (.arraylength, 1)) (kk : ∀ z : Int32, x_V Γ nL w g mc ms toR k9 n9 (pc + 1) lv (.int z :: st) σ (k1 z)) : x_V Γ nL w g mc ms toR k9 n9 pc lv (.ref a :: st) σ (x_b1 (v_dlen σ a) k1) := by
  intro P E hx ls H locs h1 h2 h3
  obtain ⟨z, hz, hx⟩ := hx
  unfold v_dlen at hz
  split at hz
  · rename_i t y hdf
    split at hz
    · rename_i ht
      cases hz
      obtain ⟨q0, hq0⟩ := v_wl_d (w := w) (g := g) hdf
      have k9 := kk _ P E hx ls H locs h1 h2 h3
      simp only [List.mem_cons, List.not_mem_nil, or_false] at ht
      rcases ht with rfl | rfl | rfl | rfl
      · exact va_alen X.1 X.2.1 X.2.2.2.2.2.2.2.1 h2.1 q0 0 hq0 (ty := .int) rfl rfl hd k9
      · exact va_alen X.1 X.2.1 X.2.2.2.2.2.2.2.1 h2.1 q0 1 hq0 (ty := .byte) rfl rfl hd k9
      · exact va_alen X.1 X.2.1 X.2.2.2.2.2.2.2.1 h2.1 q0 3 hq0 (ty := .long) rfl rfl hd k9
      · exact va_alen X.1 X.2.1 X.2.2.2.2.2.2.2.1 h2.1 q0 4 hq0 (ty := .short) rfl rfl hd k9
    · cases hz
  · cases hz
theorem x_dlald {a : Nat} {i : Int32} {k1 : Nat → (Nat → Int64) → x_M ρ} (X : v_C Γ l0 R0 cc nL own ret w g) (hd : decode cc pc = .ok (.laload, 1)) (kk : ∀ n f, x_V Γ nL w g mc ms toR k9 n9 (pc + 1) lv (.long (f i.toNatClampNeg) :: st) σ (k1 n f)) : x_V Γ nL w g mc ms toR k9 n9 pc lv (.int i :: .ref a :: st) σ (x_b2 (v_dl σ a 3) fun n f => x_g i n (k1 n f)) := by
  intro P E hx ls H locs h1 h2 h3
  obtain ⟨n, f, hz, hx⟩ := hx
  obtain ⟨hin, hx⟩ := hx
  obtain ⟨q0, hq0⟩ := v_wl_d (w := w) (g := g) (v_dl_at hz)
  exact va_lald X.1 X.2.1 X.2.2.2.2.2.2.2.1 h2.1 q0 3 hq0 rfl hin hd (kk n f P E hx ls H locs h1 h2 h3)
theorem x_dbald {a : Nat} {i : Int32} {k1 : Nat → (Nat → Int32) → x_M ρ} (X : v_C Γ l0 R0 cc nL own ret w g) (hd : decode cc pc = .ok (.baload, 1)) (kk : ∀ n f, x_V Γ nL w g mc ms toR k9 n9 (pc + 1) lv (.int (f i.toNatClampNeg) :: st) σ (k1 n f)) : x_V Γ nL w g mc ms toR k9 n9 pc lv (.int i :: .ref a :: st) σ (x_b2 (v_da σ a 1) fun n f => x_g i n (k1 n f)) := by
  intro P E hx ls H locs h1 h2 h3
  obtain ⟨n, f, hz, hx⟩ := hx
  obtain ⟨hin, hx⟩ := hx
  obtain ⟨q0, hq0⟩ := v_wl_d (w := w) (g := g) (v_da_at hz)
  exact va_bald X.1 X.2.1 X.2.2.2.2.2.2.2.1 h2.1 q0 1 hq0 rfl hin hd (kk n f P E hx ls H locs h1 h2 h3)
theorem x_dsald {a : Nat} {i : Int32} {k1 : Nat → (Nat → Int32) → x_M ρ} (X : v_C Γ l0 R0 cc nL own ret w g) (hd : decode cc pc = .ok (.saload, 1)) (kk : ∀ n f, x_V Γ nL w g mc ms toR k9 n9 (pc + 1) lv (.int (f i.toNatClampNeg) :: st) σ (k1 n f)) : x_V Γ nL w g mc ms toR k9 n9 pc lv (.int i :: .ref a :: st) σ (x_b2 (v_da σ a 4) fun n f => x_g i n (k1 n f)) := by
  intro P E hx ls H locs h1 h2 h3
  obtain ⟨n, f, hz, hx⟩ := hx
  obtain ⟨hin, hx⟩ := hx
  obtain ⟨q0, hq0⟩ := v_wl_d (w := w) (g := g) (v_da_at hz)
  exact va_sald X.1 X.2.1 X.2.2.2.2.2.2.2.1 h2.1 q0 4 hq0 rfl hin hd (kk n f P E hx ls H locs h1 h2 h3)
theorem x_i2c {x1 : Int32} (X : v_C Γ l0 R0 cc nL own ret w g) (hd : decode cc pc = .ok (.i2c, 1)) (kk : x_V Γ nL w g mc ms toR k9 n9 (pc + 1) lv (.int ((x1.toUInt32 % 65536).toInt32) :: st) σ mdl) : x_V Γ nL w g mc ms toR k9 n9 pc lv (.int x1 :: st) σ mdl := fun P E hx ls H locs h1 h2 h3 => lv_i2c X.1 X.2.1 hd rfl (kk P E hx ls H locs h1 h2 h3)
theorem x_diald {a : Nat} {i : Int32} {k1 : Nat → (Nat → Int32) → x_M ρ} (X : v_C Γ l0 R0 cc nL own ret w g) (hd : decode cc pc = .ok (.iaload, 1)) (kk : ∀ n f, x_V Γ nL w g mc ms toR k9 n9 (pc + 1) lv (.int (f i.toNatClampNeg) :: st) σ (k1 n f)) : x_V Γ nL w g mc ms toR k9 n9 pc lv (.int i :: .ref a :: st) σ (x_b2 (v_da σ a 0) fun n f => x_g i n (k1 n f)) := by
  intro P E hx ls H locs h1 h2 h3
  obtain ⟨n, f, hz, hx⟩ := hx
  obtain ⟨hin, hx⟩ := hx
  obtain ⟨q0, hq0⟩ := v_wl_d (w := w) (g := g) (v_da_at hz)
  exact va_iald X.1 X.2.1 X.2.2.2.2.2.2.2.1 h2.1 q0 0 hq0 rfl hin hd (kk n f P E hx ls H locs h1 h2 h3)
theorem x_dqald {a : Nat} {i : Int32} {k1 : Nat → (Nat → Option Nat) → x_M ρ} (X : v_C Γ l0 R0 cc nL own ret w g) (hd : decode cc pc = .ok (.aaload, 1)) (kk : ∀ n f, x_V Γ nL w g mc ms toR k9 n9 (pc + 1) lv (va_rf (f i.toNatClampNeg) :: st) σ (k1 n f)) : x_V Γ nL w g mc ms toR k9 n9 pc lv (.int i :: .ref a :: st) σ (x_b2 (v_dq σ a 8) fun n f => x_g i n (k1 n f)) := by
  intro P E hx ls H locs h1 h2 h3
  obtain ⟨n, f, hz, hx⟩ := hx
  obtain ⟨hin, hx⟩ := hx
  obtain ⟨q0, hq0⟩ := v_wl_d (w := w) (g := g) (v_dq_at hz)
  exact va_aldq (C := "java/lang/Object") X.1 X.2.1 X.2.2.2.2.2.2.2.1 h2.1 q0 8 hq0 rfl hin hd (kk n f P E hx ls H locs h1 h2 h3)
theorem x_aaldq {n len t : Nat} {C : String} {i : Int32} (X : v_C Γ l0 R0 cc nL own ret w g) (hn : n < w.2.1) (hlay : w.1 n = .inr (t, len, 2)) (ht : (v_tys (v_dA g))[t]? = some (v_dA g t, .object C)) (hd : decode cc pc = .ok (.aaload, 1)) (kk : x_V Γ nL w g mc ms toR k9 n9 (pc + 1) lv (va_rf (σ.2.2.1 n i.toNatClampNeg) :: st) σ mdl) : x_V Γ nL w g mc ms toR k9 n9 pc lv (.int i :: .ref (v_E g n) :: st) σ (x_g i len mdl) := by
  intro P E hx ls H locs h1 h2 h3
  obtain ⟨hin, hx⟩ := hx
  exact va_aldq X.1 X.2.1 X.2.2.2.2.2.2.2.1 h2.1 n t ((v_wl_at hn).trans (by rw [v_cell_a hlay]; rfl)) ht hin hd (kk P E hx ls H locs h1 h2 h3)
theorem x_castq {e : Option Nat} {ci index N : Nat} {C : String} {T : u_T} (X : v_C Γ l0 R0 cc nL own ret w g) (hc : w.2.2[ci]? = some (C, T, N)) (hlink : Cond.classLink own index C ∈ lw_all) (hd : decode cc pc = .ok (.checkcast index, 3)) (kk : x_V Γ nL w g mc ms toR k9 n9 (pc + 3) lv (va_rf e :: st) σ mdl) : x_V Γ nL w g mc ms toR k9 n9 pc lv (va_rf e :: st) σ (if v_isc σ e ci = true then mdl else x_no) := by
  by_cases q : v_isc σ e ci = true
  · rw [if_pos q]
    cases e with
    | none => exact fun P E hx ls H locs h1 h2 h3 => lv_castN X.1 X.2.1 hd (kk P E hx ls H locs h1 h2 h3)
    | some a =>
      intro P E hx ls H locs h1 h2 h3
      simp only [v_isc] at q
      cases hdf : v_df σ.2.2.2 a with
      | none => rw [hdf] at q; cases q
      | some ce =>
        obtain ⟨t, y⟩ | ⟨c, fs⟩ := ce
        · rw [hdf] at q; cases q
        · rw [hdf] at q
          have hcc : c = ci := by simpa using q
          subst hcc
          obtain ⟨q0, hq0⟩ := v_wl_d (w := w) (g := g) hdf
          exact va_castE (nm := C) X.1 X.2.1 X.2.2.2.1 (X.2.2.2.2.1 _ hlink) (va_recv X.2.2.2.2.2.2.2.1 h2.1 hc hq0) hd (kk P E hx ls H locs h1 h2 h3)
  · rw [if_neg q]
    exact x_none
theorem x_ialdS {n : Nat} {i : Int32} {k1 : Nat → x_M ρ} (X : v_C Γ l0 R0 cc nL own ret w g) (hd : decode cc pc = .ok (.iaload, 1)) (kk : ∀ len, x_V Γ nL w g mc ms toR k9 n9 (pc + 1) lv (.int (σ.1 n i.toNatClampNeg) :: st) σ (k1 len)) : x_V Γ nL w g mc ms toR k9 n9 pc lv (.int i :: .ref (v_E g n) :: st) σ (x_b1 (v_il w n) fun len => x_g i len (k1 len)) := by
  intro P E hx
  obtain ⟨len, hz, hx⟩ := hx
  obtain ⟨hn, hl⟩ := v_il_of hz
  exact x_iald X hn hl hd (kk len) P E hx
theorem x_iastS {n : Nat} {i z : Int32} {k1 : Nat → v_S → x_M ρ} (X : v_C Γ l0 R0 cc nL own ret w g) (hd : decode cc pc = .ok (.iastore, 1)) (kk : ∀ len σ', x_V Γ nL w g mc ms toR k9 n9 (pc + 1) lv st σ' (k1 len σ')) : x_V Γ nL w g mc ms toR k9 n9 pc lv (.int z :: .int i :: .ref (v_E g n) :: st) σ (x_b1 (v_il w n) fun len => x_g i len (x_n (v_uI σ n i.toNatClampNeg z) (k1 len))) := by
  intro P E hx
  obtain ⟨len, hz, hx⟩ := hx
  obtain ⟨hn, hl⟩ := v_il_of hz
  exact x_iast X hn hl hd (kk len) P E hx
theorem x_alenS {n : Nat} {k1 : Int32 → x_M ρ} (X : v_C Γ l0 R0 cc nL own ret w g) (hd : decode cc pc = .ok (.arraylength, 1)) (kk : ∀ z : Int32, x_V Γ nL w g mc ms toR k9 n9 (pc + 1) lv (.int z :: st) σ (k1 z)) : x_V Γ nL w g mc ms toR k9 n9 pc lv (.ref (v_E g n) :: st) σ (x_b1 ((v_il w n).map Int32.ofNat) k1) := by
  intro P E hx
  obtain ⟨z, hz, hx⟩ := hx
  cases hq : v_il w n with
  | none => rw [hq] at hz; cases hz
  | some len =>
    rw [hq] at hz
    obtain ⟨hn, hl⟩ := v_il_of hq
    exact x_alen X hn hl (t := 0) (ty := .int) rfl (by injection hz) hd (kk z) P E hx
theorem x_copyS {index n0 n1 : Nat} {sp dp n : Int32} {k1 : v_S → x_M ρ} (X : v_C Γ l0 R0 cc nL own ret w g) (q1 : Cond.methodLink own index arraycopyName ∈ lw_all) (q2 : Cond.native arraycopyName ∈ lw_all) (q3 : Cond.static arraycopyName ∈ lw_all) (q4 : Cond.initialized "java/lang/System" ∈ lw_all) (hR : (Nat.ble 1 R0.frames && Nat.ble ((st.map fun v => v.category).sum + (nativeFrameWords "java/lang/System" "arraycopy" 5 + 11)) R0.locals) = true) (hd : decode cc pc = .ok (.invokestatic index, 3))
    (kk : ∀ σ', x_V Γ nL w g mc ms toR k9 n9 (pc + 3) lv st σ' (k1 σ')) : x_V Γ nL w g mc ms toR k9 n9 pc lv (.int n :: .int dp :: .ref (v_E g n1) :: .int sp :: .ref (v_E g n0) :: st) σ (x_b1 (v_il w n0) fun l0 => x_b1 (v_il w n1) fun l1 => if v_bad sp dp n l0 l1 = true then x_no else x_n (v_cpS σ n0 n1 sp.toNatClampNeg dp.toNatClampNeg n.toNatClampNeg) k1) := by
  intro P E hx ls H locs h1 h2 h3
  obtain ⟨len0, hz0, hx⟩ := hx
  obtain ⟨len1, hz1, hx⟩ := hx
  split at hx
  · cases hx
  rename_i hb
  obtain ⟨b1, b2, b3, b4, b5⟩ := v_bad_not hb
  obtain ⟨hn0, hl0⟩ := v_il_of hz0
  obtain ⟨hn1, hl1⟩ := v_il_of hz1
  simp only [Bool.and_eq_true, Nat.ble_eq] at hR
  refine va_copyi X.1 X.2.1 (X.2.2.1.trans h1.1.symm) X.2.2.2.1 (X.2.2.2.2.1 _ q1) (X.2.2.2.2.1 _ q2) (X.2.2.2.2.1 _ q3) (X.2.2.2.2.1 _ q4) X.2.2.2.2.2.2.2.1 h2.1 h2.2 h3 n0 n1 0 0 ((v_wl_at hn0).trans (by rw [v_cell_a hl0]; rfl)) ((v_wl_at hn1).trans (by rw [v_cell_a hl1]; rfl)) (ty := .int) rfl rfl rfl b1 b2 b3 b4 b5 (fun _ _ => rfl) (by rw [X.2.2.2.2.2.2.2.2.2.2.2]; exact hR.1) (by rw [X.2.2.2.2.2.2.2.2.2.2.2]; exact hR.2) hd (fun H1 locs1 hP hD hS => ?_)
  have e := v_wl_set (g := g) (σ := σ) (σ' := v_cpS σ n0 n1 sp.toNatClampNeg dp.toNatClampNeg n.toNatClampNeg) (e := .inl (v_dA g 0, len1, .inl (va_cpy (σ.1 n0) (σ.1 n1) sp.toNatClampNeg dp.toNatClampNeg n.toNatClampNeg))) hn1 (by rw [v_cell_a hl1]; exact congrArg (fun q => Sum.inl (v_dA g 0, len1, Sum.inl q)) (funext fun j => by simp [v_cpS])) (fun m hm => v_cell_n (fun k => by simp [v_cpS, hm]) (fun k => rfl) (fun k => rfl)) rfl
  rw [e] at hP hD
  exact kk _ P E hx ls H1 locs1 h1 ⟨hP, hD⟩ hS
theorem x_ldcS {index i : Nat} {tx : String} (X : v_C Γ l0 R0 cc nL own ret w g) (hi : i < 48) (ho : (v_so i).1 = own ∧ (v_so i).2.1 = index) (hq : Cond.stringRef own index tx ∈ lw_tbl) (hd : decode cc pc = .ok (.ldc index, 2)) (kk : x_V Γ nL w g mc ms toR k9 n9 (pc + 2) lv (.ref (v_K g i) :: st) σ mdl) : x_V Γ nL w g mc ms toR k9 n9 pc lv st σ mdl := by
  intro P E hx ls H locs h1 h2 h3
  have Bz := X.2.2.2.2.2.2.2.2.2.1
  have e := (v_sf0 Bz.2.2.2 hi).1
  unfold v_stm at e
  rw [ho.1, ho.2] at e
  have hR : vk_R own index tx (v_K g i) (v_s Γ) := (vk_R.of (Bz.2.2.2.1 _ hq) e).warm Bz.1
  exact va_ldcS X.1 X.2.1 X.2.2.2.1 hR hd (kk P E hx ls H locs h1 h2 h3)
theorem x_kval {index i : Nat} (X : v_C Γ l0 R0 cc nL own ret w g) (hi : i < 48) (hq : Cond.fieldLink own index "java/lang/String" "value" "[B" ∈ lw_all) (hd : decode cc pc = .ok (.getfield index, 3)) (kk : x_V Γ nL w g mc ms toR k9 n9 (pc + 3) lv (.ref (v_KV g i) :: st) σ mdl) : x_V Γ nL w g mc ms toR k9 n9 pc lv (.ref (v_K g i) :: st) σ mdl := fun P E hx ls H locs h1 h2 h3 =>
  vk_getf X.1 X.2.1 (v_sf X.2.2.2.2.2.2.2.2.2.1 hi).2.2.1 h3 X.2.2.2.1 (X.2.2.2.2.1 _ hq) (fun _ h => h) hd (kk P E hx ls H locs h1 h2 h3)
theorem x_kcod {index i : Nat} (X : v_C Γ l0 R0 cc nL own ret w g) (hi : i < 48) (hq : Cond.fieldLink own index "java/lang/String" "coder" "B" ∈ lw_all) (hd : decode cc pc = .ok (.getfield index, 3)) (kk : x_V Γ nL w g mc ms toR k9 n9 (pc + 3) lv (.int 0 :: st) σ mdl) : x_V Γ nL w g mc ms toR k9 n9 pc lv (.ref (v_K g i) :: st) σ mdl := fun P E hx ls H locs h1 h2 h3 =>
  vk_getf X.1 X.2.1 (v_sf X.2.2.2.2.2.2.2.2.2.1 hi).2.1 h3 X.2.2.2.1 (X.2.2.2.2.1 _ hq) (fun _ h => h) hd (kk P E hx ls H locs h1 h2 h3)
theorem x_klen {i : Nat} (X : v_C Γ l0 R0 cc nL own ret w g) (hi : i < 48) (hd : decode cc pc = .ok (.arraylength, 1)) (kk : x_V Γ nL w g mc ms toR k9 n9 (pc + 1) lv (.int (Int32.ofNat (v_sl i)) :: st) σ mdl) : x_V Γ nL w g mc ms toR k9 n9 pc lv (.ref (v_KV g i) :: st) σ mdl := by
  intro P E hx ls H locs h1 h2 h3
  obtain ⟨cell, hc, hof, hkn, -, hsz, -⟩ := (v_sf X.2.2.2.2.2.2.2.2.2.1 hi).2.2.2.kept h3.2.1
  exact W.alen X.1 X.2.1 hc hof hsz rfl rfl hd (kk P E hx ls H locs h1 h2 h3)
theorem x_kald {i : Nat} {j : Int32} (X : v_C Γ l0 R0 cc nL own ret w g) (hi : i < 48) (hd : decode cc pc = .ok (.baload, 1)) (kk : x_V Γ nL w g mc ms toR k9 n9 (pc + 1) lv (.int (v_sb i j.toNatClampNeg) :: st) σ mdl) : x_V Γ nL w g mc ms toR k9 n9 pc lv (.int j :: .ref (v_KV g i) :: st) σ (x_g j (v_sl i) mdl) := by
  intro P E hx ls H locs h1 h2 h3
  obtain ⟨hin, hx⟩ := hx
  obtain ⟨cell, hc, hof, hkn, hge, -, hel, -⟩ := (v_sf X.2.2.2.2.2.2.2.2.2.1 hi).2.2.2.kept h3.2.1
  have hlt : j.toNatClampNeg < v_sl i := Nat.not_le.mp fun q => hin (Or.inr q)
  exact W.bald X.1 X.2.1 hc hof hkn (fun q => by rcases q with q | q; exact hin (Or.inl q); omega) (hel _ hlt) rfl rfl hd (kk P E hx ls H locs h1 h2 h3)
theorem x_gsti {C n d : String} {index : Nat} {z : Int32} (X : v_C Γ l0 R0 cc nL own ret w g) (hl : Cond.laysStatic C n d ∈ lw_tbl) (hini : Cond.initialized C ∈ lw_tbl) (p : List Bool) (hv : v_at (Jvm.Cond.and given_1 narrow_1) p = Cond.eq (.static C n d) (.int z)) (hq : Cond.fieldLink own index C n d ∈ lw_all) (hd : decode cc pc = .ok (.getstatic index, 3)) (kk : x_V Γ nL w g mc ms toR k9 n9 (pc + 3) lv (.int z :: st) σ mdl) : x_V Γ nL w g mc ms toR k9 n9 pc lv st σ mdl := by
  intro P E hx ls H locs h1 h2 h3
  have Bz := X.2.2.2.2.2.2.2.2.2.1
  have hA : ∀ a : Nat, a < (v_s0 g).heap.size → ¬ v_A g a := fun a ha z => Nat.not_le.mpr ha z.1
  have hZ : va_Z C n d (.int z) (v_A g) (v_s0 g) (v_s0 g).heap := va_Zof (Bz.2.2.2.1 _ hl) (Bz.2.2.2.1 _ hini) (va_eqt (Bz.2.2.2.pr p hv)) hA
  have hk : ∀ a : Nat, a < (v_s0 g).heap.size → ¬ v_A g a → (v_s Γ).heap[a]? = (v_s0 g).heap[a]? := fun a ha _ => Bz.2.2.1 a ha
  exact va_gets X.1 X.2.1 ((hZ.moved Bz.1.alike).kept hk) h3 X.2.2.2.1 (X.2.2.2.2.1 _ hq) (fun _ h => h) hd (kk P E hx ls H locs h1 h2 h3)
theorem x_gstq {C n d : String} {index : Nat} (X : v_C Γ l0 R0 cc nL own ret w g) (hl : Cond.laysStatic C n d ∈ lw_tbl) (hini : Cond.initialized C ∈ lw_tbl) (p : List Bool) (hv : v_at (Jvm.Cond.and given_1 narrow_1) p = Cond.isRef (.static C n d)) (hq : Cond.fieldLink own index C n d ∈ lw_all) (hd : decode cc pc = .ok (.getstatic index, 3)) (kk : ∀ z : Option Nat, x_V Γ nL w g mc ms toR k9 n9 (pc + 3) lv (va_rf z :: st) σ mdl) : x_V Γ nL w g mc ms toR k9 n9 pc lv st σ mdl := by
  intro P E hx ls H locs h1 h2 h3
  have Bz := X.2.2.2.2.2.2.2.2.2.1
  have hA : ∀ a : Nat, a < (v_s0 g).heap.size → ¬ v_A g a := fun a ha z => Nat.not_le.mpr ha z.1
  have hZ : va_Zq C n d (v_A g) (v_s0 g) (v_s0 g).heap := va_Zqof (Bz.2.2.2.1 _ hl) (Bz.2.2.2.1 _ hini) (Bz.2.2.2.pr p hv) hA
  have hk : ∀ a : Nat, a < (v_s0 g).heap.size → ¬ v_A g a → (v_s Γ).heap[a]? = (v_s0 g).heap[a]? := fun a ha _ => Bz.2.2.1 a ha
  rcases (hZ.moved Bz.1.alike).kept hk with h | ⟨t, h⟩
  · exact va_gets X.1 X.2.1 h h3 X.2.2.2.1 (X.2.2.2.2.1 _ hq) (fun _ h => h) hd (kk none P E hx ls H locs h1 h2 h3)
  · exact va_gets X.1 X.2.1 h h3 X.2.2.2.1 (X.2.2.2.2.1 _ hq) (fun _ h => h) hd (kk (some t) P E hx ls H locs h1 h2 h3)
end X
