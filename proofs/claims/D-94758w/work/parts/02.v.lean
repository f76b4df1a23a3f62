/-! THE LAYER v_: a walk's judgement over a world with a fixed layout (numbered cells, their numbers held by functions) and a pure model 'mdl' of what is still to be done. A row an instruction: v_.. -/
/-- ints, longs, references of the numbered cells; other cells -/
abbrev v_DL : Type := List (Nat × ((Nat × vp_A) ⊕ (Nat × List Value)))
abbrev v_S : Type := (Nat → Nat → Int32) × (Nat → Nat → Int64) × (Nat → Nat → Option Nat) × v_DL
/-- a numbered cell: an object (class, kinds of its fields) or an array (class, length, kind); kinds: 0 int, 1 long, 2 reference, 3+j the cell j -/
abbrev v_Lay : Type := Nat → (Nat × List Nat) ⊕ (Nat × Nat × Nat)
abbrev v_Wd : Type := v_Lay × Nat × List vw_C
/-- array classes, cells' addresses, classes, the law's start and its script -/
abbrev v_G : Type := (Nat → ClassId) × (Nat → Nat) × va_G × State × Nat × (Nat → Prop)
abbrev v_Ctx : Type := Program × Launch × Env × Room × State × MethodId × Array Value × List Frame × Method × Code
abbrev v_p (Γ : v_Ctx) : Program := Γ.1
abbrev v_l (Γ : v_Ctx) : Launch := Γ.2.1
abbrev v_e (Γ : v_Ctx) : Env := Γ.2.2.1
abbrev v_R (Γ : v_Ctx) : Room := Γ.2.2.2.1
abbrev v_s (Γ : v_Ctx) : State := Γ.2.2.2.2.1
abbrev v_m (Γ : v_Ctx) : MethodId := Γ.2.2.2.2.2.1
abbrev v_a (Γ : v_Ctx) : Array Value := Γ.2.2.2.2.2.2.1
abbrev v_b (Γ : v_Ctx) : List Frame := Γ.2.2.2.2.2.2.2.1
abbrev v_me (Γ : v_Ctx) : Method := Γ.2.2.2.2.2.2.2.2.1
abbrev v_c (Γ : v_Ctx) : Code := Γ.2.2.2.2.2.2.2.2.2
abbrev v_dA (g : v_G) : Nat → ClassId := g.1
abbrev v_E (g : v_G) : Nat → Nat := g.2.1
abbrev v_D (g : v_G) : va_G := g.2.2.1
abbrev v_s0 (g : v_G) : State := g.2.2.2.1
abbrev v_b0 (g : v_G) : Nat := g.2.2.2.2.1
abbrev v_O (g : v_G) : Nat → Prop := g.2.2.2.2.2
abbrev v_A (g : v_G) : Nat → Prop := fun q => (v_s0 g).heap.size ≤ q ∧ ¬ v_O g q
def v_tys (dA : Nat → ClassId) : List (ClassId × FieldType) := [(dA 0, .int), (dA 1, .byte), (dA 2, .boolean), (dA 3, .long), (dA 4, .short), (dA 5, .array .int), (dA 6, .object "FloodLent$Slot"), (dA 7, .object "FloodLent$Image"), (dA 8, .object "java/lang/Object")]
def v_fld (E : Nat → Nat) (σ : v_S) (n k kind : Nat) : Value := match kind with
  | 0 => .int (σ.1 n k)
  | 1 => .long (σ.2.1 n k)
  | 2 => va_rf (σ.2.2.1 n k)
  | j + 3 => .ref (E j)
def v_arr (E : Nat → Nat) (σ : v_S) (n kind : Nat) : (Nat → Int32) ⊕ (Nat → Int64) ⊕ (Nat → UInt32) ⊕ (Nat → UInt64) ⊕ (Nat → Option Nat) := match kind with
  | 0 => .inl (σ.1 n)
  | 1 => .inr (.inl (σ.2.1 n))
  | 2 => .inr (.inr (.inr (.inr (σ.2.2.1 n))))
  | b + 3 => .inr (.inr (.inr (.inr (fun i => some (E (b + i))))))
def v_fs (E : Nat → Nat) (σ : v_S) (n : Nat) : Nat → List Nat → List Value
  | _, [] => []
  | k, z :: zs => v_fld E σ n k z :: v_fs E σ n (k + 1) zs
theorem v_fs_get (E : Nat → Nat) (σ : v_S) (n : Nat) : ∀ (ks : List Nat) (a k : Nat), (v_fs E σ n a ks)[k]? = (ks[k]?).map (v_fld E σ n (a + k))
  | [], a, k => by simp [v_fs]
  | z :: zs, a, 0 => by simp [v_fs]
  | z :: zs, a, k + 1 => by
    show (v_fs E σ n (a + 1) zs)[k]? = _
    rw [v_fs_get E σ n zs (a + 1) k]
    show _ = (zs[k]?).map _
    rw [show a + 1 + k = a + (k + 1) by omega]
theorem v_fs_len (E : Nat → Nat) (σ : v_S) (n : Nat) : ∀ (ks : List Nat) (a : Nat), (v_fs E σ n a ks).length = ks.length
  | [], a => rfl
  | z :: zs, a => by show (v_fs E σ n (a + 1) zs).length + 1 = zs.length + 1; rw [v_fs_len E σ n zs (a + 1)]
def v_cell (lay : v_Lay) (g : v_G) (σ : v_S) (n : Nat) : va_E := match lay n with
  | .inl (ci, ks) => .inr (ci, v_fs (v_E g) σ n 0 ks)
  | .inr (t, len, kind) => .inl (v_dA g t, len, v_arr (v_E g) σ n kind)
theorem v_cell_o {lay : v_Lay} {g : v_G} {σ : v_S} {n ci : Nat} {ks : List Nat} (h : lay n = .inl (ci, ks)) : v_cell lay g σ n = .inr (ci, v_fs (v_E g) σ n 0 ks) := by
  unfold v_cell; rw [h]
theorem v_cell_a {lay : v_Lay} {g : v_G} {σ : v_S} {n t len kind : Nat} (h : lay n = .inr (t, len, kind)) : v_cell lay g σ n = .inl (v_dA g t, len, v_arr (v_E g) σ n kind) := by
  unfold v_cell; rw [h]
def v_dm (g : v_G) (q : Nat × ((Nat × vp_A) ⊕ (Nat × List Value))) : Nat × va_E := (q.1, match q.2 with
  | .inl (t, x) => .inl (v_dA g t, x)
  | .inr o => .inr o)
def v_wl (w : v_Wd) (g : v_G) (σ : v_S) : va_W := (List.range w.2.1).map (fun n => (v_E g n, v_cell w.1 g σ n)) ++ σ.2.2.2.map (v_dm g)
theorem v_wl_at {w : v_Wd} {g : v_G} {σ : v_S} {n : Nat} (h : n < w.2.1) : (v_wl w g σ)[n]? = some (v_E g n, v_cell w.1 g σ n) := by
  unfold v_wl
  rw [List.getElem?_append_left (by simp [h])]
  simp [h]
theorem v_wl_set {w : v_Wd} {g : v_G} {σ σ' : v_S} {n : Nat} {e : va_E} (h : n < w.2.1) (he : v_cell w.1 g σ' n = e) (ho : ∀ m, m ≠ n → v_cell w.1 g σ' m = v_cell w.1 g σ m) (hd : σ'.2.2.2 = σ.2.2.2) : (v_wl w g σ).set n (v_E g n, e) = v_wl w g σ' := by
  unfold v_wl
  rw [List.set_append_left _ _ (by simp [h]), hd]
  congr 1
  apply List.ext_getElem?
  intro i
  rw [List.getElem?_set]
  by_cases hi : n = i
  · subst hi
    simp [h, he]
  · rw [if_neg hi]
    by_cases hl : i < w.2.1
    · simp [hl, ho i (Ne.symm hi)]
    · simp [hl]
/-- the world holds -/
def v_I (w : v_Wd) (g : v_G) (σ : v_S) (H : Heap) : Prop := va_P (v_D g) w.2.2 (v_wl w g σ) H ∧ va_D (v_A g) (v_wl w g σ)
/-- what was known at the law's start, and still binds: the tables' words, the Statement's premises, the cells of that time -/
def v_Z0 (g : v_G) : Prop := (∀ w ∈ lw_tbl, w.before #[Value.ref (v_b0 g)] (v_s0 g) = true) ∧ (Jvm.Cond.and given_1 narrow_1).before #[Value.ref (v_b0 g)] (v_s0 g) = true ∧ modulesRight_1 (v_s0 g) = true
def v_B (g : v_G) (U : State) (H : Heap) : Prop := (v_s0 g).WarmedH U.vm ∧ ((v_s0 g).heap.size ≤ H.size ∧ ∀ q, v_O g q → q < H.size) ∧ (∀ q : Nat, q < (v_s0 g).heap.size → H[q]? = (v_s0 g).heap[q]?) ∧ v_Z0 g
theorem v_B.on {g : v_G} {s U : State} (h : v_B g s s.heap) (hW : s.WarmedH U.vm) (h1 : s.heap.size ≤ U.heap.size) (h2 : ∀ q : Nat, q < s.heap.size → ¬ v_A g q → U.heap[q]? = s.heap[q]?) : v_B g U U.heap :=
  ⟨State.WarmedH.trans h.1 hW, ⟨Nat.le_trans h.2.1.1 h1, fun q hq => Nat.lt_of_lt_of_le (h.2.1.2 q hq) h1⟩, fun q hq => (h2 q (Nat.lt_of_lt_of_le hq h.2.1.1) (fun z => Nat.not_le.mpr hq z.1)).trans (h.2.2.1 q hq), h.2.2.2⟩
theorem v_B.nestF {g : v_G} {s : State} {H : Heap} (h : v_B g s H) {a : String} {i : Nat} {b n d z : String} (hw : Cond.fieldLinkNest a i b n d z ∈ lw_tbl) : va_Nw (.fieldLinkNest a i b n d z) s := (va_Nw.of rfl (h.2.2.2.1 _ hw)).warmF h.1
theorem v_B.nestM {g : v_G} {s : State} {H : Heap} (h : v_B g s H) {a : String} {i : Nat} {x : MethodName} {z : String} (hw : Cond.methodLinkNest a i x z ∈ lw_tbl) : va_Nw (.methodLinkNest a i x z) s := (va_Nw.of rfl (h.2.2.2.1 _ hw)).warmM h.1
theorem v_B.cast {g : v_G} {s : State} {H : Heap} (h : v_B g s H) {C T : String} (hw : Cond.castable C T ∈ lw_tbl) : va_Nw (.castable C T) s := (va_Nw.of rfl (h.2.2.2.1 _ hw)).warmC h.1
/-- a contract's start and end -/
def v_P (w : v_Wd) (g : v_G) (σ : v_S) (U : State) : Prop := v_I w g σ U.heap ∧ va_K (v_D g) w.2.2 (v_tys (v_dA g)) U ∧ v_B g U U.heap
def v_Q (w : v_Wd) (g : v_G) (x : Option Value × v_S) : Array Value → State → Outcome → State → Prop := fun _ st o t => o = .returned x.1 ∧ v_I w g x.2 t.heap ∧ va_F (v_A g) st t
theorem v_P.blind {w : v_Wd} {g : v_G} {σ : v_S} {as : List Value} : FrameBlind (va_Pc as (v_P w g σ)) := fun a U fr mk h =>
  ⟨h.1, h.2.1, va_K.moved (u := U) (U := U.calling fr mk a) (Vm.Alike.refl U.vm) h.2.2.1, h.2.2.2⟩
/-- what is known all through a method's walk -/
def v_C (Γ : v_Ctx) (l0 : Launch) (R0 : Room) (cc : ByteArray) (nL : Nat) (own : String) (ret : Option FieldType) (w : v_Wd) (g : v_G) : Prop :=
  (v_p Γ).tables.exec = Jvm.exec ∧ (v_c Γ).code = cc ∧ (v_c Γ).maxLocals = nL ∧ (v_s Γ).vm.findClass own = some (v_m Γ).cls ∧ (∀ q ∈ lw_all, q.before (v_a Γ) (v_s Γ) = true) ∧ (v_me Γ).sig.returnType = ret ∧ (v_me Γ).locks = false ∧ va_K (v_D g) w.2.2 (v_tys (v_dA g)) (v_s Γ) ∧ (∀ q, (v_s Γ).heap.size ≤ q → v_A g q) ∧ v_B g (v_s Γ) (v_s Γ).heap ∧ v_l Γ = l0 ∧ v_R Γ = R0
abbrev v_W (Γ : v_Ctx) (H : Heap) (locs : List Loc) (k n : Nat) (Q : State → Prop) (f : JFrame) : Prop := W (v_p Γ) (v_l Γ) (v_e Γ) (v_R Γ) (v_s Γ) (v_m Γ) (v_a Γ) (v_b Γ) (v_me Γ) (v_c Γ) H locs k n Q f
/-- from here on (pc, locals, stack, world σ), if the model answers x, the machine comes to the method's end with it -/
def v_V {ρ : Type} (Γ : v_Ctx) (nL : Nat) (w : v_Wd) (g : v_G) (toR : ρ → Option Value × v_S) (pc : Nat) (lv : List (Nat × Value)) (st : List Value) (σ : v_S) (mdl : Option ρ) : Prop :=
  ∀ x, mdl = some x → ∀ (ls : Array Slot) (H : Heap) (locs : List Loc), lv_has ls nL lv → v_I w g σ H → va_S (v_A g) (v_s Γ).heap H locs →
    v_W Γ H locs 0 0 (MQ (v_b Γ) (v_Q w g (toR x)) (v_a Γ) (v_s Γ) 0 0 (v_A g)) (F0 (v_m Γ) pc ls st)
/-- a contract: if the model answers, so does the method -/
def v_M {ρ : Type} (l : Launch) (y : MethodName) (cc : ByteArray) (nL : Nat) (ret : Option FieldType) (rm : Room) (w : v_Wd) (g : v_G) (as : List Value) (σ : v_S) (toR : ρ → Option Value × v_S) (mdl : Option ρ) : Prop :=
  ∀ x, mdl = some x → Met l y (ws_ y cc nL ret) rm (va_Pc as (v_P w g σ)) (v_Q w g (toR x)) 0 0 (v_A g)
theorem v_met {ρ : Type} {l : Launch} {y : MethodName} {cc : ByteArray} {nL : Nat} {ret : Option FieldType} {rm : Room} {w : v_Wd} {g : v_G} {as : List Value} {σ : v_S} {toR : ρ → Option Value × v_S} {mdl : Option ρ} (hy : plainName y.cls = true) (hn : (lg_sl as).length ≤ nL)
    (body : ∀ Γ, v_C Γ l rm cc nL y.cls ret w g → v_V Γ nL w g toR 0 (lv_args 0 as) [] σ mdl) : v_M l y cc nL ret rm w g as σ toR mdl := by
  intro x hx
  refine Met.ofW (cc := cc) (maxL := nL) (ret := ret) hy rfl ?_
  intro p e s m args below meth c s₁ B hml hv
  obtain ⟨rfl, hI, hK, hN⟩ := hv
  have hA : ∀ q, s.heap.size ≤ q → v_A g q := fun q h => ⟨Nat.le_trans hN.2.1.1 h, fun z => Nat.not_le.mpr (hN.2.1.2 q z) h⟩
  have hts := atoms_spec (ws := ws_ y cc nL ret) B.pre
  have hts : ∀ q ∈ lw_all, q.before _ s = true := fun q h => hts q (List.mem_cons_of_mem _ h)
  have hown : s.vm.findClass y.cls = some m.cls := findClass_of_methodNamed B.named
  have hl := lv_entry as (n := nL) hn
  rw [lg_entry_eq]
  exact body (p, l, e, (headSpec (ws_ y cc nL ret) rm).room, s, m, as.toArray, below, meth, c) ⟨B.exec, B.bytes, hml, hown, hts, B.returns, B.notSynchronized, hK, hA, hN, rfl, rfl⟩ x hx _ _ _ hl hI va_S.rf
section V
variable {ρ : Type} {Γ : v_Ctx} {l0 : Launch} {R0 : Room} {cc : ByteArray} {nL : Nat} {own : String} {ret : Option FieldType} {w : v_Wd} {g : v_G} {toR : ρ → Option Value × v_S} {pc : Nat} {lv lv' : List (Nat × Value)} {st : List Value} {σ : v_S} {mdl : Option ρ}
theorem v_none : v_V Γ nL w g toR pc lv st σ none := fun x hx => by cases hx
/-- the model has a name for this place -/
theorem v_eq {mdl' : Option ρ} (h : mdl = mdl') (k : v_V Γ nL w g toR pc lv st σ mdl') : v_V Γ nL w g toR pc lv st σ mdl := h ▸ k
theorem v_sub (ks : List Nat) (hl : lv_pick lv ks = lv') (k : v_V Γ nL w g toR pc lv' st σ mdl) : v_V Γ nL w g toR pc lv st σ mdl :=
  fun x hx ls H locs h1 h2 h3 => k x hx ls H locs (lv_sub h1 ks hl) h2 h3
/-- guards and names of a model -/
def v_g (i : Int32) (n : Nat) (k : Option ρ) : Option ρ := if i < 0 ∨ n ≤ i.toNatClampNeg then none else k
theorem v_g_in {i : Int32} {n : Nat} {k : Option ρ} (h : vp_in i n) : v_g i n k = k := if_neg h
theorem v_g_of {i : Int32} {n : Nat} {k : Option ρ} {x : ρ} (h : v_g i n k = some x) : vp_in i n ∧ k = some x := by
  unfold v_g at h
  split at h
  · cases h
  · rename_i q
    exact ⟨q, h⟩
def v_n {α : Type} (x : α) (k : α → Option ρ) : Option ρ := k x
def v_b1 {α : Type} (f : Option α) (k : α → Option ρ) : Option ρ := f.bind k
def v_b2 {α β : Type} (f : Option (α × β)) (k : α → β → Option ρ) : Option ρ := f.bind fun q => k q.1 q.2
/-- names: a value that is long to write -/
theorem v_nm {α : Type} {x : α} {k : α → Option ρ} {lvf : α → List (Nat × Value)} {stf : α → List Value} (h : ∀ z, v_V Γ nL w g toR pc (lvf z) (stf z) σ (k z)) : v_V Γ nL w g toR pc (lvf x) (stf x) σ (v_n x k) := h x
theorem v_nz {c : Prop} {_ : Decidable c} {k : Option ρ} (h : ¬ c → v_V Γ nL w g toR pc lv st σ k) : v_V Γ nL w g toR pc lv st σ (if c then none else k) := by
  by_cases q : c
  · rw [if_pos q]; exact v_none
  · rw [if_neg q]; exact h q

theorem v_iload_n {k : Fin 4} {z : Int32} (X : v_C Γ l0 R0 cc nL own ret w g) (hd : decode cc pc = .ok (.iload_n k, 1)) (j : Nat) (hl : lv[j]? = some ((k : Nat), .int z)) (kk : v_V Γ nL w g toR (pc + 1) lv (.int z :: st) σ mdl) : v_V Γ nL w g toR pc lv st σ mdl :=
  fun x hx ls H locs h1 h2 h3 => lv_iload_n X.1 X.2.1 hd rfl (lv_at h1 j hl) (kk x hx ls H locs h1 h2 h3)
theorem v_iload {i : Nat} {z : Int32} (X : v_C Γ l0 R0 cc nL own ret w g) (hd : decode cc pc = .ok (.iload i, 2)) (j : Nat) (hl : lv[j]? = some (i, .int z)) (kk : v_V Γ nL w g toR (pc + 2) lv (.int z :: st) σ mdl) : v_V Γ nL w g toR pc lv st σ mdl :=
  fun x hx ls H locs h1 h2 h3 => lv_iload X.1 X.2.1 hd (lv_at h1 j hl) (kk x hx ls H locs h1 h2 h3)
theorem v_lload_n {k : Fin 4} {z : Int64} (X : v_C Γ l0 R0 cc nL own ret w g) (hd : decode cc pc = .ok (.lload_n k, 1)) (j : Nat) (hl : lv[j]? = some ((k : Nat), .long z)) (kk : v_V Γ nL w g toR (pc + 1) lv (.long z :: st) σ mdl) : v_V Γ nL w g toR pc lv st σ mdl :=
  fun x hx ls H locs h1 h2 h3 => lv_lload_n X.1 X.2.1 hd rfl (lv_at h1 j hl) (kk x hx ls H locs h1 h2 h3)
theorem v_lload {i : Nat} {z : Int64} (X : v_C Γ l0 R0 cc nL own ret w g) (hd : decode cc pc = .ok (.lload i, 2)) (j : Nat) (hl : lv[j]? = some (i, .long z)) (kk : v_V Γ nL w g toR (pc + 2) lv (.long z :: st) σ mdl) : v_V Γ nL w g toR pc lv st σ mdl :=
  fun x hx ls H locs h1 h2 h3 => lv_lload X.1 X.2.1 hd (lv_at h1 j hl) (kk x hx ls H locs h1 h2 h3)
theorem v_aload_n {k : Fin 4} {z : Nat} (X : v_C Γ l0 R0 cc nL own ret w g) (hd : decode cc pc = .ok (.aload_n k, 1)) (j : Nat) (hl : lv[j]? = some ((k : Nat), .ref z)) (kk : v_V Γ nL w g toR (pc + 1) lv (.ref z :: st) σ mdl) : v_V Γ nL w g toR pc lv st σ mdl :=
  fun x hx ls H locs h1 h2 h3 => lv_aload_n X.1 X.2.1 hd rfl (lv_at h1 j hl) (kk x hx ls H locs h1 h2 h3)
theorem v_aload {i : Nat} {z : Nat} (X : v_C Γ l0 R0 cc nL own ret w g) (hd : decode cc pc = .ok (.aload i, 2)) (j : Nat) (hl : lv[j]? = some (i, .ref z)) (kk : v_V Γ nL w g toR (pc + 2) lv (.ref z :: st) σ mdl) : v_V Γ nL w g toR pc lv st σ mdl :=
  fun x hx ls H locs h1 h2 h3 => lv_aload X.1 X.2.1 hd (lv_at h1 j hl) (kk x hx ls H locs h1 h2 h3)
theorem v_istore_n {k : Fin 4} {i : Nat} {z : Int32} (X : v_C Γ l0 R0 cc nL own ret w g) (hd : decode cc pc = .ok (.istore_n k, 1)) (hi : (k : Nat) = i) (hn : i < nL) (hl : (i, Value.int z) :: lv.filter (fun q => !(q.1 == i) && !(q.1 + 1 == i && q.2.category == 2)) = lv') (kk : v_V Γ nL w g toR (pc + 1) lv' st σ mdl) : v_V Γ nL w g toR pc lv (.int z :: st) σ mdl :=
  fun x hx ls H locs h1 h2 h3 => lv_istore_n X.1 X.2.1 hd hi h1 hn hl (fun ls h1 => kk x hx ls H locs h1 h2 h3)
theorem v_istore_nN {k : Fin 4} {i : Nat} {z : Int32} {k1 : Int32 → Option ρ} {lvf : Int32 → List (Nat × Value)} (X : v_C Γ l0 R0 cc nL own ret w g) (hd : decode cc pc = .ok (.istore_n k, 1)) (hi : (k : Nat) = i) (hn : i < nL) (hl : ∀ z, (i, Value.int z) :: lv.filter (fun q => !(q.1 == i) && !(q.1 + 1 == i && q.2.category == 2)) = lvf z) (kk : ∀ z, v_V Γ nL w g toR (pc + 1) (lvf z) st σ (k1 z)) : v_V Γ nL w g toR pc lv (.int z :: st) σ (v_n z k1) :=
  fun x hx ls H locs h1 h2 h3 => lv_istore_n X.1 X.2.1 hd hi h1 hn (hl z) (fun ls h1 => kk z x hx ls H locs h1 h2 h3)
theorem v_istore {i : Nat} {z : Int32} (X : v_C Γ l0 R0 cc nL own ret w g) (hd : decode cc pc = .ok (.istore i, 2)) (hn : i < nL) (hl : (i, Value.int z) :: lv.filter (fun q => !(q.1 == i) && !(q.1 + 1 == i && q.2.category == 2)) = lv') (kk : v_V Γ nL w g toR (pc + 2) lv' st σ mdl) : v_V Γ nL w g toR pc lv (.int z :: st) σ mdl :=
  fun x hx ls H locs h1 h2 h3 => lv_istore X.1 X.2.1 hd h1 hn hl (fun ls h1 => kk x hx ls H locs h1 h2 h3)
theorem v_istoreN {i : Nat} {z : Int32} {k1 : Int32 → Option ρ} {lvf : Int32 → List (Nat × Value)} (X : v_C Γ l0 R0 cc nL own ret w g) (hd : decode cc pc = .ok (.istore i, 2)) (hn : i < nL) (hl : ∀ z, (i, Value.int z) :: lv.filter (fun q => !(q.1 == i) && !(q.1 + 1 == i && q.2.category == 2)) = lvf z) (kk : ∀ z, v_V Γ nL w g toR (pc + 2) (lvf z) st σ (k1 z)) : v_V Γ nL w g toR pc lv (.int z :: st) σ (v_n z k1) :=
  fun x hx ls H locs h1 h2 h3 => lv_istore X.1 X.2.1 hd h1 hn (hl z) (fun ls h1 => kk z x hx ls H locs h1 h2 h3)
theorem v_lstore_n {k : Fin 4} {i : Nat} {z : Int64} (X : v_C Γ l0 R0 cc nL own ret w g) (hd : decode cc pc = .ok (.lstore_n k, 1)) (hi : (k : Nat) = i) (hn : i + 1 < nL) (hl : (i, Value.long z) :: lv.filter (fun q => !(q.1 == i) && (!(q.1 == i + 1) && !(q.1 + 1 == i && q.2.category == 2))) = lv') (kk : v_V Γ nL w g toR (pc + 1) lv' st σ mdl) : v_V Γ nL w g toR pc lv (.long z :: st) σ mdl :=
  fun x hx ls H locs h1 h2 h3 => lv_lstore_n X.1 X.2.1 hd hi h1 hn hl (fun ls h1 => kk x hx ls H locs h1 h2 h3)
theorem v_lstore_nN {k : Fin 4} {i : Nat} {z : Int64} {k1 : Int64 → Option ρ} {lvf : Int64 → List (Nat × Value)} (X : v_C Γ l0 R0 cc nL own ret w g) (hd : decode cc pc = .ok (.lstore_n k, 1)) (hi : (k : Nat) = i) (hn : i + 1 < nL) (hl : ∀ z, (i, Value.long z) :: lv.filter (fun q => !(q.1 == i) && (!(q.1 == i + 1) && !(q.1 + 1 == i && q.2.category == 2))) = lvf z) (kk : ∀ z, v_V Γ nL w g toR (pc + 1) (lvf z) st σ (k1 z)) : v_V Γ nL w g toR pc lv (.long z :: st) σ (v_n z k1) :=
  fun x hx ls H locs h1 h2 h3 => lv_lstore_n X.1 X.2.1 hd hi h1 hn (hl z) (fun ls h1 => kk z x hx ls H locs h1 h2 h3)
theorem v_lstore {i : Nat} {z : Int64} (X : v_C Γ l0 R0 cc nL own ret w g) (hd : decode cc pc = .ok (.lstore i, 2)) (hn : i + 1 < nL) (hl : (i, Value.long z) :: lv.filter (fun q => !(q.1 == i) && (!(q.1 == i + 1) && !(q.1 + 1 == i && q.2.category == 2))) = lv') (kk : v_V Γ nL w g toR (pc + 2) lv' st σ mdl) : v_V Γ nL w g toR pc lv (.long z :: st) σ mdl :=
  fun x hx ls H locs h1 h2 h3 => lv_lstore X.1 X.2.1 hd h1 hn hl (fun ls h1 => kk x hx ls H locs h1 h2 h3)
theorem v_lstoreN {i : Nat} {z : Int64} {k1 : Int64 → Option ρ} {lvf : Int64 → List (Nat × Value)} (X : v_C Γ l0 R0 cc nL own ret w g) (hd : decode cc pc = .ok (.lstore i, 2)) (hn : i + 1 < nL) (hl : ∀ z, (i, Value.long z) :: lv.filter (fun q => !(q.1 == i) && (!(q.1 == i + 1) && !(q.1 + 1 == i && q.2.category == 2))) = lvf z) (kk : ∀ z, v_V Γ nL w g toR (pc + 2) (lvf z) st σ (k1 z)) : v_V Γ nL w g toR pc lv (.long z :: st) σ (v_n z k1) :=
  fun x hx ls H locs h1 h2 h3 => lv_lstore X.1 X.2.1 hd h1 hn (hl z) (fun ls h1 => kk z x hx ls H locs h1 h2 h3)
theorem v_astore_n {k : Fin 4} {i : Nat} {z : Nat} (X : v_C Γ l0 R0 cc nL own ret w g) (hd : decode cc pc = .ok (.astore_n k, 1)) (hi : (k : Nat) = i) (hn : i < nL) (hl : (i, Value.ref z) :: lv.filter (fun q => !(q.1 == i) && !(q.1 + 1 == i && q.2.category == 2)) = lv') (kk : v_V Γ nL w g toR (pc + 1) lv' st σ mdl) : v_V Γ nL w g toR pc lv (.ref z :: st) σ mdl :=
  fun x hx ls H locs h1 h2 h3 => lv_astore_n X.1 X.2.1 hd hi h1 hn hl (fun ls h1 => kk x hx ls H locs h1 h2 h3)
theorem v_astore_nN {k : Fin 4} {i : Nat} {z : Nat} {k1 : Nat → Option ρ} {lvf : Nat → List (Nat × Value)} (X : v_C Γ l0 R0 cc nL own ret w g) (hd : decode cc pc = .ok (.astore_n k, 1)) (hi : (k : Nat) = i) (hn : i < nL) (hl : ∀ z, (i, Value.ref z) :: lv.filter (fun q => !(q.1 == i) && !(q.1 + 1 == i && q.2.category == 2)) = lvf z) (kk : ∀ z, v_V Γ nL w g toR (pc + 1) (lvf z) st σ (k1 z)) : v_V Γ nL w g toR pc lv (.ref z :: st) σ (v_n z k1) :=
  fun x hx ls H locs h1 h2 h3 => lv_astore_n X.1 X.2.1 hd hi h1 hn (hl z) (fun ls h1 => kk z x hx ls H locs h1 h2 h3)
theorem v_astore {i : Nat} {z : Nat} (X : v_C Γ l0 R0 cc nL own ret w g) (hd : decode cc pc = .ok (.astore i, 2)) (hn : i < nL) (hl : (i, Value.ref z) :: lv.filter (fun q => !(q.1 == i) && !(q.1 + 1 == i && q.2.category == 2)) = lv') (kk : v_V Γ nL w g toR (pc + 2) lv' st σ mdl) : v_V Γ nL w g toR pc lv (.ref z :: st) σ mdl :=
  fun x hx ls H locs h1 h2 h3 => lv_astore X.1 X.2.1 hd h1 hn hl (fun ls h1 => kk x hx ls H locs h1 h2 h3)
theorem v_astoreN {i : Nat} {z : Nat} {k1 : Nat → Option ρ} {lvf : Nat → List (Nat × Value)} (X : v_C Γ l0 R0 cc nL own ret w g) (hd : decode cc pc = .ok (.astore i, 2)) (hn : i < nL) (hl : ∀ z, (i, Value.ref z) :: lv.filter (fun q => !(q.1 == i) && !(q.1 + 1 == i && q.2.category == 2)) = lvf z) (kk : ∀ z, v_V Γ nL w g toR (pc + 2) (lvf z) st σ (k1 z)) : v_V Γ nL w g toR pc lv (.ref z :: st) σ (v_n z k1) :=
  fun x hx ls H locs h1 h2 h3 => lv_astore X.1 X.2.1 hd h1 hn (hl z) (fun ls h1 => kk z x hx ls H locs h1 h2 h3)
theorem v_iinc {i k : Nat} {n : Int} {z v : Int32} (X : v_C Γ l0 R0 cc nL own ret w g) (hd : decode cc pc = .ok (.iinc i n, 3)) (hk : lv[k]? = some (i, .int z)) (hv : z + Int32.ofInt n = v) (hn : i < nL) (hl : (i, Value.int v) :: lv.filter (fun q => !(q.1 == i) && !(q.1 + 1 == i && q.2.category == 2)) = lv') (kk : v_V Γ nL w g toR (pc + 3) lv' st σ mdl) : v_V Γ nL w g toR pc lv st σ mdl :=
  fun x hx ls H locs h1 h2 h3 => lv_iinc X.1 X.2.1 hd h1 hk hv hn hl (fun ls h1 => kk x hx ls H locs h1 h2 h3)
theorem v_iincN {i k : Nat} {n : Int} {z v : Int32} {k1 : Int32 → Option ρ} {lvf : Int32 → List (Nat × Value)} (X : v_C Γ l0 R0 cc nL own ret w g) (hd : decode cc pc = .ok (.iinc i n, 3)) (hk : lv[k]? = some (i, .int z)) (hv : z + Int32.ofInt n = v) (hn : i < nL) (hl : ∀ v, (i, Value.int v) :: lv.filter (fun q => !(q.1 == i) && !(q.1 + 1 == i && q.2.category == 2)) = lvf v) (kk : ∀ v, v_V Γ nL w g toR (pc + 3) (lvf v) st σ (k1 v)) : v_V Γ nL w g toR pc lv st σ (v_n v k1) :=
  fun x hx ls H locs h1 h2 h3 => lv_iinc X.1 X.2.1 hd h1 hk hv hn (hl v) (fun ls h1 => kk v x hx ls H locs h1 h2 h3)
theorem v_iconst {n : Int} {v : Int32} (X : v_C Γ l0 R0 cc nL own ret w g) (hd : decode cc pc = .ok (.iconst n, 1)) (hv : Int32.ofInt n = v) (kk : v_V Γ nL w g toR (pc + 1) lv (.int v :: st) σ mdl) : v_V Γ nL w g toR pc lv st σ mdl :=
  fun x hx ls H locs h1 h2 h3 => lv_iconst X.1 X.2.1 hd hv (kk x hx ls H locs h1 h2 h3)
theorem v_bipush {n : Int} {v : Int32} (X : v_C Γ l0 R0 cc nL own ret w g) (hd : decode cc pc = .ok (.bipush n, 2)) (hv : (Int8.ofInt n).toInt32 = v) (kk : v_V Γ nL w g toR (pc + 2) lv (.int v :: st) σ mdl) : v_V Γ nL w g toR pc lv st σ mdl :=
  fun x hx ls H locs h1 h2 h3 => lv_bipush X.1 X.2.1 hd hv (kk x hx ls H locs h1 h2 h3)
theorem v_sipush {n : Int} {v : Int32} (X : v_C Γ l0 R0 cc nL own ret w g) (hd : decode cc pc = .ok (.sipush n, 3)) (hv : (Int16.ofInt n).toInt32 = v) (kk : v_V Γ nL w g toR (pc + 3) lv (.int v :: st) σ mdl) : v_V Γ nL w g toR pc lv st σ mdl :=
  fun x hx ls H locs h1 h2 h3 => lv_sipush X.1 X.2.1 hd hv (kk x hx ls H locs h1 h2 h3)
theorem v_lconst {n : Fin 2} {v : Int64} (X : v_C Γ l0 R0 cc nL own ret w g) (hd : decode cc pc = .ok (.lconst n, 1)) (hv : Int64.ofNat (n : Nat) = v) (kk : v_V Γ nL w g toR (pc + 1) lv (.long v :: st) σ mdl) : v_V Γ nL w g toR pc lv st σ mdl :=
  fun x hx ls H locs h1 h2 h3 => lv_lconst X.1 X.2.1 hd hv (kk x hx ls H locs h1 h2 h3)
theorem v_ldc {index : Nat} {v : Int32} (X : v_C Γ l0 R0 cc nL own ret w g) (hc : (Jvm.Cond.constant own index v) ∈ lw_all) (hd : decode cc pc = .ok (.ldc index, 2)) (kk : v_V Γ nL w g toR (pc + 2) lv (.int v :: st) σ mdl) : v_V Γ nL w g toR pc lv st σ mdl :=
  fun x hx ls H locs h1 h2 h3 => lv_ldc X.1 X.2.1 X.2.2.2.1 (X.2.2.2.2.1 _ hc) hd (kk x hx ls H locs h1 h2 h3)
theorem v_ldc2 {index : Nat} {v : Int64} (X : v_C Γ l0 R0 cc nL own ret w g) (hc : (Jvm.Cond.constantLong own index v) ∈ lw_all) (hd : decode cc pc = .ok (.ldc2_w index, 3)) (kk : v_V Γ nL w g toR (pc + 3) lv (.long v :: st) σ mdl) : v_V Γ nL w g toR pc lv st σ mdl :=
  fun x hx ls H locs h1 h2 h3 => lv_ldc2 X.1 X.2.1 X.2.2.2.1 (X.2.2.2.2.1 _ hc) hd (kk x hx ls H locs h1 h2 h3)
theorem v_iadd {x1 y1 : Int32} (X : v_C Γ l0 R0 cc nL own ret w g) (hd : decode cc pc = .ok (.iadd, 1)) (kk : v_V Γ nL w g toR (pc + 1) lv (.int (x1 + y1) :: st) σ mdl) : v_V Γ nL w g toR pc lv (.int y1 :: .int x1 :: st) σ mdl :=
  fun x hx ls H locs h1 h2 h3 => lv_iadd X.1 X.2.1 hd (kk x hx ls H locs h1 h2 h3)
theorem v_isub {x1 y1 : Int32} (X : v_C Γ l0 R0 cc nL own ret w g) (hd : decode cc pc = .ok (.isub, 1)) (kk : v_V Γ nL w g toR (pc + 1) lv (.int (x1 - y1) :: st) σ mdl) : v_V Γ nL w g toR pc lv (.int y1 :: .int x1 :: st) σ mdl :=
  fun x hx ls H locs h1 h2 h3 => lv_isub X.1 X.2.1 hd (kk x hx ls H locs h1 h2 h3)
theorem v_imul {x1 y1 : Int32} (X : v_C Γ l0 R0 cc nL own ret w g) (hd : decode cc pc = .ok (.imul, 1)) (kk : v_V Γ nL w g toR (pc + 1) lv (.int (x1 * y1) :: st) σ mdl) : v_V Γ nL w g toR pc lv (.int y1 :: .int x1 :: st) σ mdl :=
  fun x hx ls H locs h1 h2 h3 => lv_imul X.1 X.2.1 hd (kk x hx ls H locs h1 h2 h3)
theorem v_iand {x1 y1 : Int32} (X : v_C Γ l0 R0 cc nL own ret w g) (hd : decode cc pc = .ok (.iand, 1)) (kk : v_V Γ nL w g toR (pc + 1) lv (.int (x1 &&& y1) :: st) σ mdl) : v_V Γ nL w g toR pc lv (.int y1 :: .int x1 :: st) σ mdl :=
  fun x hx ls H locs h1 h2 h3 => lv_iand X.1 X.2.1 hd (kk x hx ls H locs h1 h2 h3)
theorem v_ior {x1 y1 : Int32} (X : v_C Γ l0 R0 cc nL own ret w g) (hd : decode cc pc = .ok (.ior, 1)) (kk : v_V Γ nL w g toR (pc + 1) lv (.int (x1 ||| y1) :: st) σ mdl) : v_V Γ nL w g toR pc lv (.int y1 :: .int x1 :: st) σ mdl :=
  fun x hx ls H locs h1 h2 h3 => lv_ior X.1 X.2.1 hd (kk x hx ls H locs h1 h2 h3)
theorem v_ixor {x1 y1 : Int32} (X : v_C Γ l0 R0 cc nL own ret w g) (hd : decode cc pc = .ok (.ixor, 1)) (kk : v_V Γ nL w g toR (pc + 1) lv (.int (x1 ^^^ y1) :: st) σ mdl) : v_V Γ nL w g toR pc lv (.int y1 :: .int x1 :: st) σ mdl :=
  fun x hx ls H locs h1 h2 h3 => lv_ixor X.1 X.2.1 hd (kk x hx ls H locs h1 h2 h3)
theorem v_ishl {x1 y1 : Int32} (X : v_C Γ l0 R0 cc nL own ret w g) (hd : decode cc pc = .ok (.ishl, 1)) (kk : v_V Γ nL w g toR (pc + 1) lv (.int (x1 <<< (y1 &&& 31)) :: st) σ mdl) : v_V Γ nL w g toR pc lv (.int y1 :: .int x1 :: st) σ mdl :=
  fun x hx ls H locs h1 h2 h3 => lv_ishl X.1 X.2.1 hd (kk x hx ls H locs h1 h2 h3)
theorem v_ishr {x1 y1 : Int32} (X : v_C Γ l0 R0 cc nL own ret w g) (hd : decode cc pc = .ok (.ishr, 1)) (kk : v_V Γ nL w g toR (pc + 1) lv (.int (x1 >>> (y1 &&& 31)) :: st) σ mdl) : v_V Γ nL w g toR pc lv (.int y1 :: .int x1 :: st) σ mdl :=
  fun x hx ls H locs h1 h2 h3 => lv_ishr X.1 X.2.1 hd (kk x hx ls H locs h1 h2 h3)
theorem v_ladd {x1 y1 : Int64} (X : v_C Γ l0 R0 cc nL own ret w g) (hd : decode cc pc = .ok (.ladd, 1)) (kk : v_V Γ nL w g toR (pc + 1) lv (.long (x1 + y1) :: st) σ mdl) : v_V Γ nL w g toR pc lv (.long y1 :: .long x1 :: st) σ mdl :=
  fun x hx ls H locs h1 h2 h3 => lv_ladd X.1 X.2.1 hd (kk x hx ls H locs h1 h2 h3)
theorem v_lsub {x1 y1 : Int64} (X : v_C Γ l0 R0 cc nL own ret w g) (hd : decode cc pc = .ok (.lsub, 1)) (kk : v_V Γ nL w g toR (pc + 1) lv (.long (x1 - y1) :: st) σ mdl) : v_V Γ nL w g toR pc lv (.long y1 :: .long x1 :: st) σ mdl :=
  fun x hx ls H locs h1 h2 h3 => lv_lsub X.1 X.2.1 hd (kk x hx ls H locs h1 h2 h3)
theorem v_lmul {x1 y1 : Int64} (X : v_C Γ l0 R0 cc nL own ret w g) (hd : decode cc pc = .ok (.lmul, 1)) (kk : v_V Γ nL w g toR (pc + 1) lv (.long (x1 * y1) :: st) σ mdl) : v_V Γ nL w g toR pc lv (.long y1 :: .long x1 :: st) σ mdl :=
  fun x hx ls H locs h1 h2 h3 => lv_lmul X.1 X.2.1 hd (kk x hx ls H locs h1 h2 h3)
theorem v_land {x1 y1 : Int64} (X : v_C Γ l0 R0 cc nL own ret w g) (hd : decode cc pc = .ok (.land, 1)) (kk : v_V Γ nL w g toR (pc + 1) lv (.long (x1 &&& y1) :: st) σ mdl) : v_V Γ nL w g toR pc lv (.long y1 :: .long x1 :: st) σ mdl :=
  fun x hx ls H locs h1 h2 h3 => lv_land X.1 X.2.1 hd (kk x hx ls H locs h1 h2 h3)
theorem v_lor {x1 y1 : Int64} (X : v_C Γ l0 R0 cc nL own ret w g) (hd : decode cc pc = .ok (.lor, 1)) (kk : v_V Γ nL w g toR (pc + 1) lv (.long (x1 ||| y1) :: st) σ mdl) : v_V Γ nL w g toR pc lv (.long y1 :: .long x1 :: st) σ mdl :=
  fun x hx ls H locs h1 h2 h3 => lv_lor X.1 X.2.1 hd (kk x hx ls H locs h1 h2 h3)
theorem v_idiv {x1 y1 : Int32} (X : v_C Γ l0 R0 cc nL own ret w g) (hd : decode cc pc = .ok (.idiv, 1)) (kk : v_V Γ nL w g toR (pc + 1) lv (.int (x1 / y1) :: st) σ mdl) : v_V Γ nL w g toR pc lv (.int y1 :: .int x1 :: st) σ (if y1 = 0 then none else mdl) :=
  v_nz fun hne => fun x hx ls H locs h1 h2 h3 => lv_idiv X.1 X.2.1 hd hne (kk x hx ls H locs h1 h2 h3)
theorem v_idivC {x1 y1 : Int32} (X : v_C Γ l0 R0 cc nL own ret w g) (hne : ¬ y1 = 0) (hd : decode cc pc = .ok (.idiv, 1)) (kk : v_V Γ nL w g toR (pc + 1) lv (.int (x1 / y1) :: st) σ mdl) : v_V Γ nL w g toR pc lv (.int y1 :: .int x1 :: st) σ mdl :=
  fun x hx ls H locs h1 h2 h3 => lv_idiv X.1 X.2.1 hd hne (kk x hx ls H locs h1 h2 h3)
theorem v_irem {x1 y1 : Int32} (X : v_C Γ l0 R0 cc nL own ret w g) (hd : decode cc pc = .ok (.irem, 1)) (kk : v_V Γ nL w g toR (pc + 1) lv (.int (x1 - x1 / y1 * y1) :: st) σ mdl) : v_V Γ nL w g toR pc lv (.int y1 :: .int x1 :: st) σ (if y1 = 0 then none else mdl) :=
  v_nz fun hne => fun x hx ls H locs h1 h2 h3 => lv_irem X.1 X.2.1 hd hne (kk x hx ls H locs h1 h2 h3)
theorem v_iremC {x1 y1 : Int32} (X : v_C Γ l0 R0 cc nL own ret w g) (hne : ¬ y1 = 0) (hd : decode cc pc = .ok (.irem, 1)) (kk : v_V Γ nL w g toR (pc + 1) lv (.int (x1 - x1 / y1 * y1) :: st) σ mdl) : v_V Γ nL w g toR pc lv (.int y1 :: .int x1 :: st) σ mdl :=
  fun x hx ls H locs h1 h2 h3 => lv_irem X.1 X.2.1 hd hne (kk x hx ls H locs h1 h2 h3)
theorem v_ldiv {x1 y1 : Int64} (X : v_C Γ l0 R0 cc nL own ret w g) (hd : decode cc pc = .ok (.ldiv, 1)) (kk : v_V Γ nL w g toR (pc + 1) lv (.long (x1 / y1) :: st) σ mdl) : v_V Γ nL w g toR pc lv (.long y1 :: .long x1 :: st) σ (if y1 = 0 then none else mdl) :=
  v_nz fun hne => fun x hx ls H locs h1 h2 h3 => lv_ldiv X.1 X.2.1 hd hne (kk x hx ls H locs h1 h2 h3)
theorem v_ldivC {x1 y1 : Int64} (X : v_C Γ l0 R0 cc nL own ret w g) (hne : ¬ y1 = 0) (hd : decode cc pc = .ok (.ldiv, 1)) (kk : v_V Γ nL w g toR (pc + 1) lv (.long (x1 / y1) :: st) σ mdl) : v_V Γ nL w g toR pc lv (.long y1 :: .long x1 :: st) σ mdl :=
  fun x hx ls H locs h1 h2 h3 => lv_ldiv X.1 X.2.1 hd hne (kk x hx ls H locs h1 h2 h3)
theorem v_lrem {x1 y1 : Int64} (X : v_C Γ l0 R0 cc nL own ret w g) (hd : decode cc pc = .ok (.lrem, 1)) (kk : v_V Γ nL w g toR (pc + 1) lv (.long (x1 - x1 / y1 * y1) :: st) σ mdl) : v_V Γ nL w g toR pc lv (.long y1 :: .long x1 :: st) σ (if y1 = 0 then none else mdl) :=
  v_nz fun hne => fun x hx ls H locs h1 h2 h3 => lv_lrem X.1 X.2.1 hd hne (kk x hx ls H locs h1 h2 h3)
theorem v_lremC {x1 y1 : Int64} (X : v_C Γ l0 R0 cc nL own ret w g) (hne : ¬ y1 = 0) (hd : decode cc pc = .ok (.lrem, 1)) (kk : v_V Γ nL w g toR (pc + 1) lv (.long (x1 - x1 / y1 * y1) :: st) σ mdl) : v_V Γ nL w g toR pc lv (.long y1 :: .long x1 :: st) σ mdl :=
  fun x hx ls H locs h1 h2 h3 => lv_lrem X.1 X.2.1 hd hne (kk x hx ls H locs h1 h2 h3)
theorem v_ineg {x1 : Int32} (X : v_C Γ l0 R0 cc nL own ret w g) (hd : decode cc pc = .ok (.ineg, 1)) (kk : v_V Γ nL w g toR (pc + 1) lv (.int (-x1) :: st) σ mdl) : v_V Γ nL w g toR pc lv (.int x1 :: st) σ mdl :=
  fun x hx ls H locs h1 h2 h3 => lv_ineg X.1 X.2.1 hd (kk x hx ls H locs h1 h2 h3)
theorem v_i2l {x1 : Int32} (X : v_C Γ l0 R0 cc nL own ret w g) (hd : decode cc pc = .ok (.i2l, 1)) (kk : v_V Γ nL w g toR (pc + 1) lv (.long (x1.toInt64) :: st) σ mdl) : v_V Γ nL w g toR pc lv (.int x1 :: st) σ mdl :=
  fun x hx ls H locs h1 h2 h3 => lv_i2l X.1 X.2.1 hd rfl (kk x hx ls H locs h1 h2 h3)
theorem v_l2i {x1 : Int64} (X : v_C Γ l0 R0 cc nL own ret w g) (hd : decode cc pc = .ok (.l2i, 1)) (kk : v_V Γ nL w g toR (pc + 1) lv (.int (x1.toInt32) :: st) σ mdl) : v_V Γ nL w g toR pc lv (.long x1 :: st) σ mdl :=
  fun x hx ls H locs h1 h2 h3 => lv_l2i X.1 X.2.1 hd rfl (kk x hx ls H locs h1 h2 h3)
theorem v_i2b {x1 : Int32} (X : v_C Γ l0 R0 cc nL own ret w g) (hd : decode cc pc = .ok (.i2b, 1)) (kk : v_V Γ nL w g toR (pc + 1) lv (.int (x1.toInt8.toInt32) :: st) σ mdl) : v_V Γ nL w g toR pc lv (.int x1 :: st) σ mdl :=
  fun x hx ls H locs h1 h2 h3 => lv_i2b X.1 X.2.1 hd rfl (kk x hx ls H locs h1 h2 h3)
theorem v_i2s {x1 : Int32} (X : v_C Γ l0 R0 cc nL own ret w g) (hd : decode cc pc = .ok (.i2s, 1)) (kk : v_V Γ nL w g toR (pc + 1) lv (.int (x1.toInt16.toInt32) :: st) σ mdl) : v_V Γ nL w g toR pc lv (.int x1 :: st) σ mdl :=
  fun x hx ls H locs h1 h2 h3 => lv_i2s X.1 X.2.1 hd rfl (kk x hx ls H locs h1 h2 h3)
theorem v_lshl {x1 : Int64} {y1 : Int32} (X : v_C Γ l0 R0 cc nL own ret w g) (hd : decode cc pc = .ok (.lshl, 1)) (kk : v_V Γ nL w g toR (pc + 1) lv (.long (x1 <<< (y1.toInt64 &&& 63)) :: st) σ mdl) : v_V Γ nL w g toR pc lv (.int y1 :: .long x1 :: st) σ mdl :=
  fun x hx ls H locs h1 h2 h3 => lv_lshl X.1 X.2.1 hd rfl (kk x hx ls H locs h1 h2 h3)
theorem v_lshr {x1 : Int64} {y1 : Int32} (X : v_C Γ l0 R0 cc nL own ret w g) (hd : decode cc pc = .ok (.lshr, 1)) (kk : v_V Γ nL w g toR (pc + 1) lv (.long (x1 >>> (y1.toInt64 &&& 63)) :: st) σ mdl) : v_V Γ nL w g toR pc lv (.int y1 :: .long x1 :: st) σ mdl :=
  fun x hx ls H locs h1 h2 h3 => lv_lshr X.1 X.2.1 hd rfl (kk x hx ls H locs h1 h2 h3)
theorem v_lcmp {x1 y1 : Int64} (X : v_C Γ l0 R0 cc nL own ret w g) (hd : decode cc pc = .ok (.lcmp, 1)) (kk : v_V Γ nL w g toR (pc + 1) lv (.int (lg_cmp x1 y1) :: st) σ mdl) : v_V Γ nL w g toR pc lv (.long y1 :: .long x1 :: st) σ mdl :=
  fun x hx ls H locs h1 h2 h3 => W.lcmp X.1 X.2.1 hd (kk x hx ls H locs h1 h2 h3)
theorem v_dup {va : Value} (X : v_C Γ l0 R0 cc nL own ret w g) (hd : decode cc pc = .ok (.dup, 1)) (hva : va.category = 1) (kk : v_V Γ nL w g toR (pc + 1) lv (va :: va :: st) σ mdl) : v_V Γ nL w g toR pc lv (va :: st) σ mdl :=
  fun x hx ls H locs h1 h2 h3 => lv_dup X.1 X.2.1 hd hva (kk x hx ls H locs h1 h2 h3)
theorem v_pop {va : Value} (X : v_C Γ l0 R0 cc nL own ret w g) (hd : decode cc pc = .ok (.pop, 1)) (hva : va.category = 1) (kk : v_V Γ nL w g toR (pc + 1) lv st σ mdl) : v_V Γ nL w g toR pc lv (va :: st) σ mdl :=
  fun x hx ls H locs h1 h2 h3 => lv_pop X.1 X.2.1 hd hva (kk x hx ls H locs h1 h2 h3)
theorem v_dup2_11 {va vb : Value} (X : v_C Γ l0 R0 cc nL own ret w g) (hd : decode cc pc = .ok (.dup2, 1)) (hva : va.category = 1) (hvb : vb.category = 1) (kk : v_V Γ nL w g toR (pc + 1) lv (va :: vb :: va :: vb :: st) σ mdl) : v_V Γ nL w g toR pc lv (va :: vb :: st) σ mdl :=
  fun x hx ls H locs h1 h2 h3 => lv_dup2_11 X.1 X.2.1 hd hva hvb (kk x hx ls H locs h1 h2 h3)
theorem v_dup_x1 {va vb : Value} (X : v_C Γ l0 R0 cc nL own ret w g) (hd : decode cc pc = .ok (.dup_x1, 1)) (hva : va.category = 1) (hvb : vb.category = 1) (kk : v_V Γ nL w g toR (pc + 1) lv (va :: vb :: va :: st) σ mdl) : v_V Γ nL w g toR pc lv (va :: vb :: st) σ mdl :=
  fun x hx ls H locs h1 h2 h3 => lv_dup_x1 X.1 X.2.1 hd hva hvb (kk x hx ls H locs h1 h2 h3)
theorem v_icmp_eq {x1 y1 : Int32} {off : Int} {tgt : Nat} {mt mf : Option ρ} (X : v_C Γ l0 R0 cc nL own ret w g) (hd : decode cc pc = .ok (.if_icmp .eq off, 3)) (ht : (pc : Int) + off = (tgt : Int)) (kt : x1 = y1 → v_V Γ nL w g toR tgt lv st σ mt) (kf : ¬ x1 = y1 → v_V Γ nL w g toR (pc + 3) lv st σ mf) : v_V Γ nL w g toR pc lv (.int y1 :: .int x1 :: st) σ (if x1 = y1 then mt else mf) :=
  fun x hx ls H locs h1 h2 h3 => lv_icmp_eq X.1 X.2.1 hd ht (fun q => kt q x (by rw [← hx, if_pos q]) ls H locs h1 h2 h3) (fun q => kf q x (by rw [← hx, if_neg q]) ls H locs h1 h2 h3)
theorem v_icmp_eqT {x1 y1 : Int32} {off : Int} {tgt : Nat} (X : v_C Γ l0 R0 cc nL own ret w g) (hd : decode cc pc = .ok (.if_icmp .eq off, 3)) (ht : (pc : Int) + off = (tgt : Int)) (hc : x1 = y1) (kt : v_V Γ nL w g toR tgt lv st σ mdl) : v_V Γ nL w g toR pc lv (.int y1 :: .int x1 :: st) σ mdl :=
  fun x hx ls H locs h1 h2 h3 => lv_icmp_eq X.1 X.2.1 hd ht (fun q => kt x hx ls H locs h1 h2 h3) (fun q => absurd hc q)
theorem v_icmp_eqF {x1 y1 : Int32} {off : Int} {tgt : Nat} (X : v_C Γ l0 R0 cc nL own ret w g) (hd : decode cc pc = .ok (.if_icmp .eq off, 3)) (ht : (pc : Int) + off = (tgt : Int)) (hc : ¬ x1 = y1) (kf : v_V Γ nL w g toR (pc + 3) lv st σ mdl) : v_V Γ nL w g toR pc lv (.int y1 :: .int x1 :: st) σ mdl :=
  fun x hx ls H locs h1 h2 h3 => lv_icmp_eq X.1 X.2.1 hd ht (fun q => absurd q hc) (fun q => kf x hx ls H locs h1 h2 h3)
theorem v_if_eq {x1 : Int32} {off : Int} {tgt : Nat} {mt mf : Option ρ} (X : v_C Γ l0 R0 cc nL own ret w g) (hd : decode cc pc = .ok (.ifCond .eq off, 3)) (ht : (pc : Int) + off = (tgt : Int)) (kt : x1 = 0 → v_V Γ nL w g toR tgt lv st σ mt) (kf : ¬ x1 = 0 → v_V Γ nL w g toR (pc + 3) lv st σ mf) : v_V Γ nL w g toR pc lv (.int x1 :: st) σ (if x1 = 0 then mt else mf) :=
  fun x hx ls H locs h1 h2 h3 => lv_if_eq X.1 X.2.1 hd ht (fun q => kt q x (by rw [← hx, if_pos q]) ls H locs h1 h2 h3) (fun q => kf q x (by rw [← hx, if_neg q]) ls H locs h1 h2 h3)
theorem v_if_eqT {x1 : Int32} {off : Int} {tgt : Nat} (X : v_C Γ l0 R0 cc nL own ret w g) (hd : decode cc pc = .ok (.ifCond .eq off, 3)) (ht : (pc : Int) + off = (tgt : Int)) (hc : x1 = 0) (kt : v_V Γ nL w g toR tgt lv st σ mdl) : v_V Γ nL w g toR pc lv (.int x1 :: st) σ mdl :=
  fun x hx ls H locs h1 h2 h3 => lv_if_eq X.1 X.2.1 hd ht (fun q => kt x hx ls H locs h1 h2 h3) (fun q => absurd hc q)
theorem v_if_eqF {x1 : Int32} {off : Int} {tgt : Nat} (X : v_C Γ l0 R0 cc nL own ret w g) (hd : decode cc pc = .ok (.ifCond .eq off, 3)) (ht : (pc : Int) + off = (tgt : Int)) (hc : ¬ x1 = 0) (kf : v_V Γ nL w g toR (pc + 3) lv st σ mdl) : v_V Γ nL w g toR pc lv (.int x1 :: st) σ mdl :=
  fun x hx ls H locs h1 h2 h3 => lv_if_eq X.1 X.2.1 hd ht (fun q => absurd q hc) (fun q => kf x hx ls H locs h1 h2 h3)
theorem v_icmp_ne {x1 y1 : Int32} {off : Int} {tgt : Nat} {mt mf : Option ρ} (X : v_C Γ l0 R0 cc nL own ret w g) (hd : decode cc pc = .ok (.if_icmp .ne off, 3)) (ht : (pc : Int) + off = (tgt : Int)) (kt : ¬ x1 = y1 → v_V Γ nL w g toR tgt lv st σ mt) (kf : x1 = y1 → v_V Γ nL w g toR (pc + 3) lv st σ mf) : v_V Γ nL w g toR pc lv (.int y1 :: .int x1 :: st) σ (if x1 = y1 then mf else mt) :=
  fun x hx ls H locs h1 h2 h3 => lv_icmp_ne X.1 X.2.1 hd ht (fun q => kt q x (by rw [← hx, if_neg q]) ls H locs h1 h2 h3) (fun q => kf q x (by rw [← hx, if_pos q]) ls H locs h1 h2 h3)
theorem v_icmp_neT {x1 y1 : Int32} {off : Int} {tgt : Nat} (X : v_C Γ l0 R0 cc nL own ret w g) (hd : decode cc pc = .ok (.if_icmp .ne off, 3)) (ht : (pc : Int) + off = (tgt : Int)) (hc : ¬ x1 = y1) (kt : v_V Γ nL w g toR tgt lv st σ mdl) : v_V Γ nL w g toR pc lv (.int y1 :: .int x1 :: st) σ mdl :=
  fun x hx ls H locs h1 h2 h3 => lv_icmp_ne X.1 X.2.1 hd ht (fun q => kt x hx ls H locs h1 h2 h3) (fun q => absurd q hc)
theorem v_icmp_neF {x1 y1 : Int32} {off : Int} {tgt : Nat} (X : v_C Γ l0 R0 cc nL own ret w g) (hd : decode cc pc = .ok (.if_icmp .ne off, 3)) (ht : (pc : Int) + off = (tgt : Int)) (hc : x1 = y1) (kf : v_V Γ nL w g toR (pc + 3) lv st σ mdl) : v_V Γ nL w g toR pc lv (.int y1 :: .int x1 :: st) σ mdl :=
  fun x hx ls H locs h1 h2 h3 => lv_icmp_ne X.1 X.2.1 hd ht (fun q => absurd hc q) (fun q => kf x hx ls H locs h1 h2 h3)
theorem v_if_ne {x1 : Int32} {off : Int} {tgt : Nat} {mt mf : Option ρ} (X : v_C Γ l0 R0 cc nL own ret w g) (hd : decode cc pc = .ok (.ifCond .ne off, 3)) (ht : (pc : Int) + off = (tgt : Int)) (kt : ¬ x1 = 0 → v_V Γ nL w g toR tgt lv st σ mt) (kf : x1 = 0 → v_V Γ nL w g toR (pc + 3) lv st σ mf) : v_V Γ nL w g toR pc lv (.int x1 :: st) σ (if x1 = 0 then mf else mt) :=
  fun x hx ls H locs h1 h2 h3 => lv_if_ne X.1 X.2.1 hd ht (fun q => kt q x (by rw [← hx, if_neg q]) ls H locs h1 h2 h3) (fun q => kf q x (by rw [← hx, if_pos q]) ls H locs h1 h2 h3)
theorem v_if_neT {x1 : Int32} {off : Int} {tgt : Nat} (X : v_C Γ l0 R0 cc nL own ret w g) (hd : decode cc pc = .ok (.ifCond .ne off, 3)) (ht : (pc : Int) + off = (tgt : Int)) (hc : ¬ x1 = 0) (kt : v_V Γ nL w g toR tgt lv st σ mdl) : v_V Γ nL w g toR pc lv (.int x1 :: st) σ mdl :=
  fun x hx ls H locs h1 h2 h3 => lv_if_ne X.1 X.2.1 hd ht (fun q => kt x hx ls H locs h1 h2 h3) (fun q => absurd q hc)
theorem v_if_neF {x1 : Int32} {off : Int} {tgt : Nat} (X : v_C Γ l0 R0 cc nL own ret w g) (hd : decode cc pc = .ok (.ifCond .ne off, 3)) (ht : (pc : Int) + off = (tgt : Int)) (hc : x1 = 0) (kf : v_V Γ nL w g toR (pc + 3) lv st σ mdl) : v_V Γ nL w g toR pc lv (.int x1 :: st) σ mdl :=
  fun x hx ls H locs h1 h2 h3 => lv_if_ne X.1 X.2.1 hd ht (fun q => absurd hc q) (fun q => kf x hx ls H locs h1 h2 h3)
theorem v_icmp_lt {x1 y1 : Int32} {off : Int} {tgt : Nat} {mt mf : Option ρ} (X : v_C Γ l0 R0 cc nL own ret w g) (hd : decode cc pc = .ok (.if_icmp .lt off, 3)) (ht : (pc : Int) + off = (tgt : Int)) (kt : x1 < y1 → v_V Γ nL w g toR tgt lv st σ mt) (kf : ¬ x1 < y1 → v_V Γ nL w g toR (pc + 3) lv st σ mf) : v_V Γ nL w g toR pc lv (.int y1 :: .int x1 :: st) σ (if x1 < y1 then mt else mf) :=
  fun x hx ls H locs h1 h2 h3 => lv_icmp_lt X.1 X.2.1 hd ht (fun q => kt q x (by rw [← hx, if_pos q]) ls H locs h1 h2 h3) (fun q => kf q x (by rw [← hx, if_neg q]) ls H locs h1 h2 h3)
theorem v_icmp_ltT {x1 y1 : Int32} {off : Int} {tgt : Nat} (X : v_C Γ l0 R0 cc nL own ret w g) (hd : decode cc pc = .ok (.if_icmp .lt off, 3)) (ht : (pc : Int) + off = (tgt : Int)) (hc : x1 < y1) (kt : v_V Γ nL w g toR tgt lv st σ mdl) : v_V Γ nL w g toR pc lv (.int y1 :: .int x1 :: st) σ mdl :=
  fun x hx ls H locs h1 h2 h3 => lv_icmp_lt X.1 X.2.1 hd ht (fun q => kt x hx ls H locs h1 h2 h3) (fun q => absurd hc q)
theorem v_icmp_ltF {x1 y1 : Int32} {off : Int} {tgt : Nat} (X : v_C Γ l0 R0 cc nL own ret w g) (hd : decode cc pc = .ok (.if_icmp .lt off, 3)) (ht : (pc : Int) + off = (tgt : Int)) (hc : ¬ x1 < y1) (kf : v_V Γ nL w g toR (pc + 3) lv st σ mdl) : v_V Γ nL w g toR pc lv (.int y1 :: .int x1 :: st) σ mdl :=
  fun x hx ls H locs h1 h2 h3 => lv_icmp_lt X.1 X.2.1 hd ht (fun q => absurd q hc) (fun q => kf x hx ls H locs h1 h2 h3)
theorem v_if_lt {x1 : Int32} {off : Int} {tgt : Nat} {mt mf : Option ρ} (X : v_C Γ l0 R0 cc nL own ret w g) (hd : decode cc pc = .ok (.ifCond .lt off, 3)) (ht : (pc : Int) + off = (tgt : Int)) (kt : x1 < 0 → v_V Γ nL w g toR tgt lv st σ mt) (kf : ¬ x1 < 0 → v_V Γ nL w g toR (pc + 3) lv st σ mf) : v_V Γ nL w g toR pc lv (.int x1 :: st) σ (if x1 < 0 then mt else mf) :=
  fun x hx ls H locs h1 h2 h3 => lv_if_lt X.1 X.2.1 hd ht (fun q => kt q x (by rw [← hx, if_pos q]) ls H locs h1 h2 h3) (fun q => kf q x (by rw [← hx, if_neg q]) ls H locs h1 h2 h3)
theorem v_if_ltT {x1 : Int32} {off : Int} {tgt : Nat} (X : v_C Γ l0 R0 cc nL own ret w g) (hd : decode cc pc = .ok (.ifCond .lt off, 3)) (ht : (pc : Int) + off = (tgt : Int)) (hc : x1 < 0) (kt : v_V Γ nL w g toR tgt lv st σ mdl) : v_V Γ nL w g toR pc lv (.int x1 :: st) σ mdl :=
  fun x hx ls H locs h1 h2 h3 => lv_if_lt X.1 X.2.1 hd ht (fun q => kt x hx ls H locs h1 h2 h3) (fun q => absurd hc q)
theorem v_if_ltF {x1 : Int32} {off : Int} {tgt : Nat} (X : v_C Γ l0 R0 cc nL own ret w g) (hd : decode cc pc = .ok (.ifCond .lt off, 3)) (ht : (pc : Int) + off = (tgt : Int)) (hc : ¬ x1 < 0) (kf : v_V Γ nL w g toR (pc + 3) lv st σ mdl) : v_V Γ nL w g toR pc lv (.int x1 :: st) σ mdl :=
  fun x hx ls H locs h1 h2 h3 => lv_if_lt X.1 X.2.1 hd ht (fun q => absurd q hc) (fun q => kf x hx ls H locs h1 h2 h3)
theorem v_icmp_ge {x1 y1 : Int32} {off : Int} {tgt : Nat} {mt mf : Option ρ} (X : v_C Γ l0 R0 cc nL own ret w g) (hd : decode cc pc = .ok (.if_icmp .ge off, 3)) (ht : (pc : Int) + off = (tgt : Int)) (kt : y1 ≤ x1 → v_V Γ nL w g toR tgt lv st σ mt) (kf : ¬ y1 ≤ x1 → v_V Γ nL w g toR (pc + 3) lv st σ mf) : v_V Γ nL w g toR pc lv (.int y1 :: .int x1 :: st) σ (if y1 ≤ x1 then mt else mf) :=
  fun x hx ls H locs h1 h2 h3 => lv_icmp_ge X.1 X.2.1 hd ht (fun q => kt q x (by rw [← hx, if_pos q]) ls H locs h1 h2 h3) (fun q => kf q x (by rw [← hx, if_neg q]) ls H locs h1 h2 h3)
theorem v_icmp_geT {x1 y1 : Int32} {off : Int} {tgt : Nat} (X : v_C Γ l0 R0 cc nL own ret w g) (hd : decode cc pc = .ok (.if_icmp .ge off, 3)) (ht : (pc : Int) + off = (tgt : Int)) (hc : y1 ≤ x1) (kt : v_V Γ nL w g toR tgt lv st σ mdl) : v_V Γ nL w g toR pc lv (.int y1 :: .int x1 :: st) σ mdl :=
  fun x hx ls H locs h1 h2 h3 => lv_icmp_ge X.1 X.2.1 hd ht (fun q => kt x hx ls H locs h1 h2 h3) (fun q => absurd hc q)
theorem v_icmp_geF {x1 y1 : Int32} {off : Int} {tgt : Nat} (X : v_C Γ l0 R0 cc nL own ret w g) (hd : decode cc pc = .ok (.if_icmp .ge off, 3)) (ht : (pc : Int) + off = (tgt : Int)) (hc : ¬ y1 ≤ x1) (kf : v_V Γ nL w g toR (pc + 3) lv st σ mdl) : v_V Γ nL w g toR pc lv (.int y1 :: .int x1 :: st) σ mdl :=
  fun x hx ls H locs h1 h2 h3 => lv_icmp_ge X.1 X.2.1 hd ht (fun q => absurd q hc) (fun q => kf x hx ls H locs h1 h2 h3)
theorem v_if_ge {x1 : Int32} {off : Int} {tgt : Nat} {mt mf : Option ρ} (X : v_C Γ l0 R0 cc nL own ret w g) (hd : decode cc pc = .ok (.ifCond .ge off, 3)) (ht : (pc : Int) + off = (tgt : Int)) (kt : 0 ≤ x1 → v_V Γ nL w g toR tgt lv st σ mt) (kf : ¬ 0 ≤ x1 → v_V Γ nL w g toR (pc + 3) lv st σ mf) : v_V Γ nL w g toR pc lv (.int x1 :: st) σ (if 0 ≤ x1 then mt else mf) :=
  fun x hx ls H locs h1 h2 h3 => lv_if_ge X.1 X.2.1 hd ht (fun q => kt q x (by rw [← hx, if_pos q]) ls H locs h1 h2 h3) (fun q => kf q x (by rw [← hx, if_neg q]) ls H locs h1 h2 h3)
theorem v_if_geT {x1 : Int32} {off : Int} {tgt : Nat} (X : v_C Γ l0 R0 cc nL own ret w g) (hd : decode cc pc = .ok (.ifCond .ge off, 3)) (ht : (pc : Int) + off = (tgt : Int)) (hc : 0 ≤ x1) (kt : v_V Γ nL w g toR tgt lv st σ mdl) : v_V Γ nL w g toR pc lv (.int x1 :: st) σ mdl :=
  fun x hx ls H locs h1 h2 h3 => lv_if_ge X.1 X.2.1 hd ht (fun q => kt x hx ls H locs h1 h2 h3) (fun q => absurd hc q)
theorem v_if_geF {x1 : Int32} {off : Int} {tgt : Nat} (X : v_C Γ l0 R0 cc nL own ret w g) (hd : decode cc pc = .ok (.ifCond .ge off, 3)) (ht : (pc : Int) + off = (tgt : Int)) (hc : ¬ 0 ≤ x1) (kf : v_V Γ nL w g toR (pc + 3) lv st σ mdl) : v_V Γ nL w g toR pc lv (.int x1 :: st) σ mdl :=
  fun x hx ls H locs h1 h2 h3 => lv_if_ge X.1 X.2.1 hd ht (fun q => absurd q hc) (fun q => kf x hx ls H locs h1 h2 h3)
theorem v_icmp_gt {x1 y1 : Int32} {off : Int} {tgt : Nat} {mt mf : Option ρ} (X : v_C Γ l0 R0 cc nL own ret w g) (hd : decode cc pc = .ok (.if_icmp .gt off, 3)) (ht : (pc : Int) + off = (tgt : Int)) (kt : y1 < x1 → v_V Γ nL w g toR tgt lv st σ mt) (kf : ¬ y1 < x1 → v_V Γ nL w g toR (pc + 3) lv st σ mf) : v_V Γ nL w g toR pc lv (.int y1 :: .int x1 :: st) σ (if y1 < x1 then mt else mf) :=
  fun x hx ls H locs h1 h2 h3 => lv_icmp_gt X.1 X.2.1 hd ht (fun q => kt q x (by rw [← hx, if_pos q]) ls H locs h1 h2 h3) (fun q => kf q x (by rw [← hx, if_neg q]) ls H locs h1 h2 h3)
theorem v_icmp_gtT {x1 y1 : Int32} {off : Int} {tgt : Nat} (X : v_C Γ l0 R0 cc nL own ret w g) (hd : decode cc pc = .ok (.if_icmp .gt off, 3)) (ht : (pc : Int) + off = (tgt : Int)) (hc : y1 < x1) (kt : v_V Γ nL w g toR tgt lv st σ mdl) : v_V Γ nL w g toR pc lv (.int y1 :: .int x1 :: st) σ mdl :=
  fun x hx ls H locs h1 h2 h3 => lv_icmp_gt X.1 X.2.1 hd ht (fun q => kt x hx ls H locs h1 h2 h3) (fun q => absurd hc q)
theorem v_icmp_gtF {x1 y1 : Int32} {off : Int} {tgt : Nat} (X : v_C Γ l0 R0 cc nL own ret w g) (hd : decode cc pc = .ok (.if_icmp .gt off, 3)) (ht : (pc : Int) + off = (tgt : Int)) (hc : ¬ y1 < x1) (kf : v_V Γ nL w g toR (pc + 3) lv st σ mdl) : v_V Γ nL w g toR pc lv (.int y1 :: .int x1 :: st) σ mdl :=
  fun x hx ls H locs h1 h2 h3 => lv_icmp_gt X.1 X.2.1 hd ht (fun q => absurd q hc) (fun q => kf x hx ls H locs h1 h2 h3)
theorem v_if_gt {x1 : Int32} {off : Int} {tgt : Nat} {mt mf : Option ρ} (X : v_C Γ l0 R0 cc nL own ret w g) (hd : decode cc pc = .ok (.ifCond .gt off, 3)) (ht : (pc : Int) + off = (tgt : Int)) (kt : 0 < x1 → v_V Γ nL w g toR tgt lv st σ mt) (kf : ¬ 0 < x1 → v_V Γ nL w g toR (pc + 3) lv st σ mf) : v_V Γ nL w g toR pc lv (.int x1 :: st) σ (if 0 < x1 then mt else mf) :=
  fun x hx ls H locs h1 h2 h3 => lv_if_gt X.1 X.2.1 hd ht (fun q => kt q x (by rw [← hx, if_pos q]) ls H locs h1 h2 h3) (fun q => kf q x (by rw [← hx, if_neg q]) ls H locs h1 h2 h3)
theorem v_if_gtT {x1 : Int32} {off : Int} {tgt : Nat} (X : v_C Γ l0 R0 cc nL own ret w g) (hd : decode cc pc = .ok (.ifCond .gt off, 3)) (ht : (pc : Int) + off = (tgt : Int)) (hc : 0 < x1) (kt : v_V Γ nL w g toR tgt lv st σ mdl) : v_V Γ nL w g toR pc lv (.int x1 :: st) σ mdl :=
  fun x hx ls H locs h1 h2 h3 => lv_if_gt X.1 X.2.1 hd ht (fun q => kt x hx ls H locs h1 h2 h3) (fun q => absurd hc q)
theorem v_if_gtF {x1 : Int32} {off : Int} {tgt : Nat} (X : v_C Γ l0 R0 cc nL own ret w g) (hd : decode cc pc = .ok (.ifCond .gt off, 3)) (ht : (pc : Int) + off = (tgt : Int)) (hc : ¬ 0 < x1) (kf : v_V Γ nL w g toR (pc + 3) lv st σ mdl) : v_V Γ nL w g toR pc lv (.int x1 :: st) σ mdl :=
  fun x hx ls H locs h1 h2 h3 => lv_if_gt X.1 X.2.1 hd ht (fun q => absurd q hc) (fun q => kf x hx ls H locs h1 h2 h3)
theorem v_icmp_le {x1 y1 : Int32} {off : Int} {tgt : Nat} {mt mf : Option ρ} (X : v_C Γ l0 R0 cc nL own ret w g) (hd : decode cc pc = .ok (.if_icmp .le off, 3)) (ht : (pc : Int) + off = (tgt : Int)) (kt : x1 ≤ y1 → v_V Γ nL w g toR tgt lv st σ mt) (kf : ¬ x1 ≤ y1 → v_V Γ nL w g toR (pc + 3) lv st σ mf) : v_V Γ nL w g toR pc lv (.int y1 :: .int x1 :: st) σ (if x1 ≤ y1 then mt else mf) :=
  fun x hx ls H locs h1 h2 h3 => lv_icmp_le X.1 X.2.1 hd ht (fun q => kt q x (by rw [← hx, if_pos q]) ls H locs h1 h2 h3) (fun q => kf q x (by rw [← hx, if_neg q]) ls H locs h1 h2 h3)
theorem v_icmp_leT {x1 y1 : Int32} {off : Int} {tgt : Nat} (X : v_C Γ l0 R0 cc nL own ret w g) (hd : decode cc pc = .ok (.if_icmp .le off, 3)) (ht : (pc : Int) + off = (tgt : Int)) (hc : x1 ≤ y1) (kt : v_V Γ nL w g toR tgt lv st σ mdl) : v_V Γ nL w g toR pc lv (.int y1 :: .int x1 :: st) σ mdl :=
  fun x hx ls H locs h1 h2 h3 => lv_icmp_le X.1 X.2.1 hd ht (fun q => kt x hx ls H locs h1 h2 h3) (fun q => absurd hc q)
theorem v_icmp_leF {x1 y1 : Int32} {off : Int} {tgt : Nat} (X : v_C Γ l0 R0 cc nL own ret w g) (hd : decode cc pc = .ok (.if_icmp .le off, 3)) (ht : (pc : Int) + off = (tgt : Int)) (hc : ¬ x1 ≤ y1) (kf : v_V Γ nL w g toR (pc + 3) lv st σ mdl) : v_V Γ nL w g toR pc lv (.int y1 :: .int x1 :: st) σ mdl :=
  fun x hx ls H locs h1 h2 h3 => lv_icmp_le X.1 X.2.1 hd ht (fun q => absurd q hc) (fun q => kf x hx ls H locs h1 h2 h3)
theorem v_if_le {x1 : Int32} {off : Int} {tgt : Nat} {mt mf : Option ρ} (X : v_C Γ l0 R0 cc nL own ret w g) (hd : decode cc pc = .ok (.ifCond .le off, 3)) (ht : (pc : Int) + off = (tgt : Int)) (kt : x1 ≤ 0 → v_V Γ nL w g toR tgt lv st σ mt) (kf : ¬ x1 ≤ 0 → v_V Γ nL w g toR (pc + 3) lv st σ mf) : v_V Γ nL w g toR pc lv (.int x1 :: st) σ (if x1 ≤ 0 then mt else mf) :=
  fun x hx ls H locs h1 h2 h3 => lv_if_le X.1 X.2.1 hd ht (fun q => kt q x (by rw [← hx, if_pos q]) ls H locs h1 h2 h3) (fun q => kf q x (by rw [← hx, if_neg q]) ls H locs h1 h2 h3)
theorem v_if_leT {x1 : Int32} {off : Int} {tgt : Nat} (X : v_C Γ l0 R0 cc nL own ret w g) (hd : decode cc pc = .ok (.ifCond .le off, 3)) (ht : (pc : Int) + off = (tgt : Int)) (hc : x1 ≤ 0) (kt : v_V Γ nL w g toR tgt lv st σ mdl) : v_V Γ nL w g toR pc lv (.int x1 :: st) σ mdl :=
  fun x hx ls H locs h1 h2 h3 => lv_if_le X.1 X.2.1 hd ht (fun q => kt x hx ls H locs h1 h2 h3) (fun q => absurd hc q)
theorem v_if_leF {x1 : Int32} {off : Int} {tgt : Nat} (X : v_C Γ l0 R0 cc nL own ret w g) (hd : decode cc pc = .ok (.ifCond .le off, 3)) (ht : (pc : Int) + off = (tgt : Int)) (hc : ¬ x1 ≤ 0) (kf : v_V Γ nL w g toR (pc + 3) lv st σ mdl) : v_V Γ nL w g toR pc lv (.int x1 :: st) σ mdl :=
  fun x hx ls H locs h1 h2 h3 => lv_if_le X.1 X.2.1 hd ht (fun q => absurd q hc) (fun q => kf x hx ls H locs h1 h2 h3)
theorem v_goto {off : Int} {tgt : Nat} (X : v_C Γ l0 R0 cc nL own ret w g) (hd : decode cc pc = .ok (.goto off, 3)) (ht : (pc : Int) + off = (tgt : Int)) (kk : v_V Γ nL w g toR tgt lv st σ mdl) : v_V Γ nL w g toR pc lv st σ mdl :=
  fun x hx ls H locs h1 h2 h3 => lv_goto X.1 X.2.1 hd ht (kk x hx ls H locs h1 h2 h3)
theorem v_iret {z : Int32} {y : ρ} (X : v_C Γ l0 R0 cc nL own (some .int) w g) (hd : decode cc pc = .ok (.ireturn, 1)) (hy : toR y = (some (.int z), σ)) : v_V Γ nL w g toR pc lv [.int z] σ (some y) := by
  intro x hx ls H locs h1 h2 h3
  cases hx
  rw [hy]
  exact W.iret X.1 X.2.1 X.2.2.2.2.2.1 (fun t ht hW => ⟨rfl, by rw [ht]; exact h2, h3.F ht⟩) h3.2.2 hd X.2.2.2.2.2.2.1
theorem v_zret {z : Int32} {y : ρ} (X : v_C Γ l0 R0 cc nL own (some .boolean) w g) (hd : decode cc pc = .ok (.ireturn, 1)) (hn : narrow .boolean (.int z) = .int z) (hy : toR y = (some (.int z), σ)) : v_V Γ nL w g toR pc lv [.int z] σ (some y) := by
  intro x hx ls H locs h1 h2 h3
  cases hx
  rw [hy]
  exact W.zret X.1 X.2.1 X.2.2.2.2.2.1 hn (fun t ht hW => ⟨rfl, by rw [ht]; exact h2, h3.F ht⟩) h3.2.2 hd X.2.2.2.2.2.2.1
theorem v_zretG {z : Int32} {y : ρ} (X : v_C Γ l0 R0 cc nL own (some .boolean) w g) (hd : decode cc pc = .ok (.ireturn, 1)) (hy : toR y = (some (.int z), σ)) : v_V Γ nL w g toR pc lv [.int z] σ (if z = 0 ∨ z = 1 then some y else none) := by
  by_cases q : z = 0 ∨ z = 1
  · rw [if_pos q]
    refine v_zret X hd ?_ hy
    rcases q with rfl | rfl <;> rfl
  · rw [if_neg q]
    exact v_none
theorem v_lret {z : Int64} {y : ρ} (X : v_C Γ l0 R0 cc nL own (some .long) w g) (hd : decode cc pc = .ok (.lreturn, 1)) (hy : toR y = (some (.long z), σ)) : v_V Γ nL w g toR pc lv [.long z] σ (some y) := by
  intro x hx ls H locs h1 h2 h3
  cases hx
  rw [hy]
  exact W.lret X.1 X.2.1 X.2.2.2.2.2.1 (fun t ht hW => ⟨rfl, by rw [ht]; exact h2, h3.F ht⟩) h3.2.2 hd X.2.2.2.2.2.2.1
theorem v_vret {y : ρ} (X : v_C Γ l0 R0 cc nL own none w g) (hd : decode cc pc = .ok (.return_, 1)) (hy : toR y = (none, σ)) : v_V Γ nL w g toR pc lv [] σ (some y) := by
  intro x hx ls H locs h1 h2 h3
  cases hx
  rw [hy]
  exact W.vret X.1 X.2.1 X.2.2.2.2.2.1 (fun t ht hW => ⟨rfl, by rw [ht]; exact h2, h3.F ht⟩) h3.2.2 hd X.2.2.2.2.2.2.1
theorem v_aret {C : String} {z : Nat} {y : ρ} (X : v_C Γ l0 R0 cc nL own (some (.object C)) w g) (hd : decode cc pc = .ok (.areturn, 1)) (hy : toR y = (some (.ref z), σ)) : v_V Γ nL w g toR pc lv [.ref z] σ (some y) := by
  intro x hx ls H locs h1 h2 h3
  cases hx
  rw [hy]
  exact W.aret X.1 X.2.1 X.2.2.2.2.2.1 (Or.inl ⟨C, rfl⟩) (Or.inr ⟨z, rfl⟩) (fun t ht hW => ⟨rfl, by rw [ht]; exact h2, h3.F ht⟩) h3.2.2 hd X.2.2.2.2.2.2.1
/-! cells -/
/-- an int array -/
theorem v_iald {n len : Nat} {i : Int32} (X : v_C Γ l0 R0 cc nL own ret w g) (hn : n < w.2.1) (hlay : w.1 n = .inr (0, len, 0)) (hd : decode cc pc = .ok (.iaload, 1)) (kk : v_V Γ nL w g toR (pc + 1) lv (.int (σ.1 n i.toNatClampNeg) :: st) σ mdl) : v_V Γ nL w g toR pc lv (.int i :: .ref (v_E g n) :: st) σ (v_g i len mdl) := by
  intro x hx ls H locs h1 h2 h3
  obtain ⟨hin, hx⟩ := v_g_of hx
  exact va_iald X.1 X.2.1 X.2.2.2.2.2.2.2.1 h2.1 n 0 ((v_wl_at hn).trans (by rw [v_cell_a hlay]; rfl)) rfl hin hd (kk x hx ls H locs h1 h2 h3)
theorem v_bald {n len : Nat} {i : Int32} (X : v_C Γ l0 R0 cc nL own ret w g) (hn : n < w.2.1) (hlay : w.1 n = .inr (1, len, 0)) (hd : decode cc pc = .ok (.baload, 1)) (kk : v_V Γ nL w g toR (pc + 1) lv (.int (σ.1 n i.toNatClampNeg) :: st) σ mdl) : v_V Γ nL w g toR pc lv (.int i :: .ref (v_E g n) :: st) σ (v_g i len mdl) := by
  intro x hx ls H locs h1 h2 h3
  obtain ⟨hin, hx⟩ := v_g_of hx
  exact va_bald X.1 X.2.1 X.2.2.2.2.2.2.2.1 h2.1 n 1 ((v_wl_at hn).trans (by rw [v_cell_a hlay]; rfl)) rfl hin hd (kk x hx ls H locs h1 h2 h3)
theorem v_zald {n len : Nat} {i : Int32} (X : v_C Γ l0 R0 cc nL own ret w g) (hn : n < w.2.1) (hlay : w.1 n = .inr (2, len, 0)) (hd : decode cc pc = .ok (.baload, 1)) (kk : v_V Γ nL w g toR (pc + 1) lv (.int (σ.1 n i.toNatClampNeg) :: st) σ mdl) : v_V Γ nL w g toR pc lv (.int i :: .ref (v_E g n) :: st) σ (v_g i len mdl) := by
  intro x hx ls H locs h1 h2 h3
  obtain ⟨hin, hx⟩ := v_g_of hx
  exact va_zald X.1 X.2.1 X.2.2.2.2.2.2.2.1 h2.1 n 2 ((v_wl_at hn).trans (by rw [v_cell_a hlay]; rfl)) rfl hin hd (kk x hx ls H locs h1 h2 h3)
theorem v_lald {n len : Nat} {i : Int32} (X : v_C Γ l0 R0 cc nL own ret w g) (hn : n < w.2.1) (hlay : w.1 n = .inr (3, len, 1)) (hd : decode cc pc = .ok (.laload, 1)) (kk : v_V Γ nL w g toR (pc + 1) lv (.long (σ.2.1 n i.toNatClampNeg) :: st) σ mdl) : v_V Γ nL w g toR pc lv (.int i :: .ref (v_E g n) :: st) σ (v_g i len mdl) := by
  intro x hx ls H locs h1 h2 h3
  obtain ⟨hin, hx⟩ := v_g_of hx
  exact va_lald X.1 X.2.1 X.2.2.2.2.2.2.2.1 h2.1 n 3 ((v_wl_at hn).trans (by rw [v_cell_a hlay]; rfl)) rfl hin hd (kk x hx ls H locs h1 h2 h3)
/-- an array of arrays, or of objects, that are numbered cells -/
theorem v_aald {n len t b : Nat} {ty : FieldType} {i : Int32} (X : v_C Γ l0 R0 cc nL own ret w g) (hn : n < w.2.1) (hlay : w.1 n = .inr (t, len, b + 3)) (ht : (v_tys (v_dA g))[t]? = some (v_dA g t, ty)) (hty : ty.isReference = true) (hd : decode cc pc = .ok (.aaload, 1)) (kk : v_V Γ nL w g toR (pc + 1) lv (.ref (v_E g (b + i.toNatClampNeg)) :: st) σ mdl) : v_V Γ nL w g toR pc lv (.int i :: .ref (v_E g n) :: st) σ (v_g i len mdl) := by
  intro x hx ls H locs h1 h2 h3
  obtain ⟨hin, hx⟩ := v_g_of hx
  have hlt : i.toNatClampNeg < len := Nat.not_le.mp fun q => hin (Or.inr q)
  have hc := h2.1 n _ ((v_wl_at hn).trans (by rw [v_cell_a hlay]))
  exact W.aald (v := .ref (v_E g (b + i.toNatClampNeg))) (ty := ty) X.1 X.2.1 hc ((X.2.2.2.2.2.2.2.1.2 t _ ht).1 len (fun j => va_rf (some (v_E g (b + j))))) hty (fun q => by cases q) (by show ¬ (i < 0 ∨ (arrV _ _ _).slots.size ≤ _); rw [arrV_size]; exact hin) (by show (arrV _ _ _).slots[_]? = _; rw [arrV_read _ _ hlt]; rfl) rfl rfl hd (kk x hx ls H locs h1 h2 h3)
theorem v_alen {n len t kind : Nat} {ty : FieldType} {v : Int32} (X : v_C Γ l0 R0 cc nL own ret w g) (hn : n < w.2.1) (hlay : w.1 n = .inr (t, len, kind)) (ht : (v_tys (v_dA g))[t]? = some (v_dA g t, ty)) (hv : Int32.ofNat len = v) (hd : decode cc pc = .ok (.arraylength, 1)) (kk : v_V Γ nL w g toR (pc + 1) lv (.int v :: st) σ mdl) : v_V Γ nL w g toR pc lv (.ref (v_E g n) :: st) σ mdl := by
  intro x hx ls H locs h1 h2 h3
  exact va_alen X.1 X.2.1 X.2.2.2.2.2.2.2.1 h2.1 n t ((v_wl_at hn).trans (by rw [v_cell_a hlay])) ht hv hd (kk x hx ls H locs h1 h2 h3)
/-- changes of a state -/
def v_uI (σ : v_S) (n k : Nat) (z : Int32) : v_S := (fun a b => if a = n ∧ b = k then z else σ.1 a b, σ.2)
def v_uL (σ : v_S) (n k : Nat) (z : Int64) : v_S := (σ.1, fun a b => if a = n ∧ b = k then z else σ.2.1 a b, σ.2.2)
def v_uR (σ : v_S) (n k : Nat) (z : Option Nat) : v_S := (σ.1, σ.2.1, fun a b => if a = n ∧ b = k then z else σ.2.2.1 a b, σ.2.2.2)
theorem v_fld_o {E : Nat → Nat} {σ σ' : v_S} {n k kind : Nat} (h1 : σ'.1 n k = σ.1 n k) (h2 : σ'.2.1 n k = σ.2.1 n k) (h3 : σ'.2.2.1 n k = σ.2.2.1 n k) : v_fld E σ' n k kind = v_fld E σ n k kind := by
  match kind with
  | 0 => show Value.int _ = Value.int _; rw [h1]
  | 1 => show Value.long _ = Value.long _; rw [h2]
  | 2 => show va_rf _ = va_rf _; rw [h3]
  | j + 3 => rfl
theorem v_fs_o {E : Nat → Nat} {σ σ' : v_S} {n : Nat} : ∀ (ks : List Nat) (a : Nat), (∀ k, σ'.1 n k = σ.1 n k) → (∀ k, σ'.2.1 n k = σ.2.1 n k) → (∀ k, σ'.2.2.1 n k = σ.2.2.1 n k) → v_fs E σ' n a ks = v_fs E σ n a ks
  | [], a, _, _, _ => rfl
  | z :: zs, a, h1, h2, h3 => by
    show v_fld E σ' n a z :: v_fs E σ' n (a + 1) zs = v_fld E σ n a z :: v_fs E σ n (a + 1) zs
    rw [v_fld_o (h1 a) (h2 a) (h3 a), v_fs_o zs (a + 1) h1 h2 h3]
theorem v_cell_n {lay : v_Lay} {σ σ' : v_S} {n : Nat} (h1 : ∀ k, σ'.1 n k = σ.1 n k) (h2 : ∀ k, σ'.2.1 n k = σ.2.1 n k) (h3 : ∀ k, σ'.2.2.1 n k = σ.2.2.1 n k) : v_cell lay g σ' n = v_cell lay g σ n := by
  cases hl : lay n with
  | inl q =>
    obtain ⟨ci, ks⟩ := q
    rw [v_cell_o hl, v_cell_o hl, v_fs_o ks 0 h1 h2 h3]
  | inr q =>
    obtain ⟨t, len, kind⟩ := q
    rw [v_cell_a hl, v_cell_a hl]
    match kind with
    | 0 => show Sum.inl (_, _, Sum.inl (σ'.1 n)) = _; rw [show σ'.1 n = σ.1 n from funext h1]; rfl
    | 1 => show Sum.inl (_, _, Sum.inr (Sum.inl (σ'.2.1 n))) = _; rw [show σ'.2.1 n = σ.2.1 n from funext h2]; rfl
    | 2 => show Sum.inl (_, _, Sum.inr (Sum.inr (Sum.inr (Sum.inr (σ'.2.2.1 n))))) = _; rw [show σ'.2.2.1 n = σ.2.2.1 n from funext h3]; rfl
    | b + 3 => rfl
theorem v_fs_set {E : Nat → Nat} {σ σ' : v_S} {n k : Nat} {v : Value} : ∀ (ks : List Nat) (a : Nat), k < ks.length → (∀ kind, ks[k]? = some kind → v_fld E σ' n (a + k) kind = v) → (∀ j, j ≠ a + k → σ'.1 n j = σ.1 n j) → (∀ j, j ≠ a + k → σ'.2.1 n j = σ.2.1 n j) → (∀ j, j ≠ a + k → σ'.2.2.1 n j = σ.2.2.1 n j) → (v_fs E σ n a ks).set k v = v_fs E σ' n a ks := by
  intro ks a hk hv h1 h2 h3
  apply List.ext_getElem?
  intro i
  rw [List.getElem?_set, v_fs_len]
  by_cases hi : k = i
  · subst hi
    rw [if_pos rfl, if_pos hk, v_fs_get, List.getElem?_eq_getElem hk]
    simp only [Option.map_some]
    rw [hv _ (List.getElem?_eq_getElem hk)]
  · rw [if_neg hi, v_fs_get, v_fs_get]
    cases hz : ks[i]? with
    | none => rfl
    | some z =>
      simp only [Option.map_some]
      rw [v_fld_o (h1 (a + i) (by omega)) (h2 (a + i) (by omega)) (h3 (a + i) (by omega))]

theorem v_iast {n len : Nat} {i z : Int32} {k1 : v_S → Option ρ} (X : v_C Γ l0 R0 cc nL own ret w g) (hn : n < w.2.1) (hlay : w.1 n = .inr (0, len, 0)) (hd : decode cc pc = .ok (.iastore, 1)) (kk : ∀ σ', v_V Γ nL w g toR (pc + 1) lv st σ' (k1 σ')) : v_V Γ nL w g toR pc lv (.int z :: .int i :: .ref (v_E g n) :: st) σ (v_g i len (v_n (v_uI σ n i.toNatClampNeg z) k1)) := by
  intro x hx ls H locs h1 h2 h3
  obtain ⟨hin, hx⟩ := v_g_of hx
  refine va_iast X.1 X.2.1 X.2.2.2.2.2.2.2.1 h2.1 h2.2 h3 n 0 ((v_wl_at hn).trans (by rw [v_cell_a hlay]; rfl)) rfl hin hd (fun H1 locs1 hP hD hS => ?_)
  have e := v_wl_set (g := g) (σ := σ) (σ' := v_uI σ n i.toNatClampNeg z) (e := .inl (v_dA g 0, len, .inl (upd (σ.1 n) i.toNatClampNeg z))) hn (by rw [v_cell_a hlay]; exact congrArg (fun q => Sum.inl (v_dA g 0, len, Sum.inl q)) (funext fun j => by simp [v_uI, upd])) (fun m hm => v_cell_n (fun k => by simp [v_uI, hm]) (fun k => rfl) (fun k => rfl)) rfl
  rw [e] at hP hD
  exact kk _ x hx ls H1 locs1 h1 ⟨hP, hD⟩ hS
theorem v_bast {n len : Nat} {i z : Int32} {k1 : v_S → Option ρ} (X : v_C Γ l0 R0 cc nL own ret w g) (hn : n < w.2.1) (hlay : w.1 n = .inr (1, len, 0)) (hd : decode cc pc = .ok (.bastore, 1)) (kk : ∀ σ', v_V Γ nL w g toR (pc + 1) lv st σ' (k1 σ')) : v_V Γ nL w g toR pc lv (.int z :: .int i :: .ref (v_E g n) :: st) σ (v_g i len (v_n (v_uI σ n i.toNatClampNeg (vp_nar .byte z)) k1)) := by
  intro x hx ls H locs h1 h2 h3
  obtain ⟨hin, hx⟩ := v_g_of hx
  refine va_bast X.1 X.2.1 X.2.2.2.2.2.2.2.1 h2.1 h2.2 h3 n 1 ((v_wl_at hn).trans (by rw [v_cell_a hlay]; rfl)) rfl hin hd (fun H1 locs1 hP hD hS => ?_)
  have e := v_wl_set (g := g) (σ := σ) (σ' := v_uI σ n i.toNatClampNeg (vp_nar .byte z)) (e := .inl (v_dA g 1, len, .inl (upd (σ.1 n) i.toNatClampNeg (vp_nar .byte z)))) hn (by rw [v_cell_a hlay]; exact congrArg (fun q => Sum.inl (v_dA g 1, len, Sum.inl q)) (funext fun j => by simp [v_uI, upd])) (fun m hm => v_cell_n (fun k => by simp [v_uI, hm]) (fun k => rfl) (fun k => rfl)) rfl
  rw [e] at hP hD
  exact kk _ x hx ls H1 locs1 h1 ⟨hP, hD⟩ hS
theorem v_zast {n len : Nat} {i z : Int32} {k1 : v_S → Option ρ} (X : v_C Γ l0 R0 cc nL own ret w g) (hn : n < w.2.1) (hlay : w.1 n = .inr (2, len, 0)) (hd : decode cc pc = .ok (.bastore, 1)) (kk : ∀ σ', v_V Γ nL w g toR (pc + 1) lv st σ' (k1 σ')) : v_V Γ nL w g toR pc lv (.int z :: .int i :: .ref (v_E g n) :: st) σ (v_g i len (v_n (v_uI σ n i.toNatClampNeg (vp_nar .boolean z)) k1)) := by
  intro x hx ls H locs h1 h2 h3
  obtain ⟨hin, hx⟩ := v_g_of hx
  refine va_zast X.1 X.2.1 X.2.2.2.2.2.2.2.1 h2.1 h2.2 h3 n 2 ((v_wl_at hn).trans (by rw [v_cell_a hlay]; rfl)) rfl hin hd (fun H1 locs1 hP hD hS => ?_)
  have e := v_wl_set (g := g) (σ := σ) (σ' := v_uI σ n i.toNatClampNeg (vp_nar .boolean z)) (e := .inl (v_dA g 2, len, .inl (upd (σ.1 n) i.toNatClampNeg (vp_nar .boolean z)))) hn (by rw [v_cell_a hlay]; exact congrArg (fun q => Sum.inl (v_dA g 2, len, Sum.inl q)) (funext fun j => by simp [v_uI, upd])) (fun m hm => v_cell_n (fun k => by simp [v_uI, hm]) (fun k => rfl) (fun k => rfl)) rfl
  rw [e] at hP hD
  exact kk _ x hx ls H1 locs1 h1 ⟨hP, hD⟩ hS
theorem v_last {n len : Nat} {i : Int32} {z : Int64} {k1 : v_S → Option ρ} (X : v_C Γ l0 R0 cc nL own ret w g) (hn : n < w.2.1) (hlay : w.1 n = .inr (3, len, 1)) (hd : decode cc pc = .ok (.lastore, 1)) (kk : ∀ σ', v_V Γ nL w g toR (pc + 1) lv st σ' (k1 σ')) : v_V Γ nL w g toR pc lv (.long z :: .int i :: .ref (v_E g n) :: st) σ (v_g i len (v_n (v_uL σ n i.toNatClampNeg z) k1)) := by
  intro x hx ls H locs h1 h2 h3
  obtain ⟨hin, hx⟩ := v_g_of hx
  refine va_last X.1 X.2.1 X.2.2.2.2.2.2.2.1 h2.1 h2.2 h3 n 3 ((v_wl_at hn).trans (by rw [v_cell_a hlay]; rfl)) rfl hin hd (fun H1 locs1 hP hD hS => ?_)
  have e := v_wl_set (g := g) (σ := σ) (σ' := v_uL σ n i.toNatClampNeg z) (e := .inl (v_dA g 3, len, .inr (.inl (vp_updL (σ.2.1 n) i.toNatClampNeg z)))) hn (by rw [v_cell_a hlay]; exact congrArg (fun q => Sum.inl (v_dA g 3, len, Sum.inr (Sum.inl q))) (funext fun j => by simp [v_uL, vp_updL])) (fun m hm => v_cell_n (fun k => rfl) (fun k => by simp [v_uL, hm]) (fun k => rfl)) rfl
  rw [e] at hP hD
  exact kk _ x hx ls H1 locs1 h1 ⟨hP, hD⟩ hS
/-- fields: kind 'kind', value v -/
theorem v_get {n ci k N index : Nat} {ks : List Nat} {C : String} {T : u_T} {kind : Nat} {v : Value} (X : v_C Γ l0 R0 cc nL own ret w g) (hn : n < w.2.1) (hlay : w.1 n = .inl (ci, ks)) (hc : w.2.2[ci]? = some (C, T, N)) (hin : ∀ q ∈ u_ws C T N, q ∈ lw_all) (hk : k < N) (hlink : Cond.fieldLink own index (T k).1 (T k).2.1 (T k).2.2.1 ∈ lw_all) (hkind : ks[k]? = some kind) (hv : v_fld (v_E g) σ n k kind = v) (hd : decode cc pc = .ok (.getfield index, 3))
    (kk : v_V Γ nL w g toR (pc + 3) lv (v :: st) σ mdl) : v_V Γ nL w g toR pc lv (.ref (v_E g n) :: st) σ mdl := by
  intro x hx ls H locs h1 h2 h3
  exact va_get (ref := (T k).1) (v := v) X.1 X.2.1 X.2.2.2.2.1 hin X.2.2.2.1 X.2.2.2.2.2.2.2.1 h2.1 n ((v_wl_at hn).trans (by rw [v_cell_o hlay])) hc k hk (X.2.2.2.2.1 _ hlink) (fun _ h => h) (by rw [v_fs_get, hkind]; simp only [Option.map_some, Nat.zero_add]; rw [hv]) hd (kk x hx ls H locs h1 h2 h3)
theorem v_getN {n ci k N index : Nat} {ks : List Nat} {C host : String} {T : u_T} {kind : Nat} {v : Value} (X : v_C Γ l0 R0 cc nL own ret w g) (hn : n < w.2.1) (hlay : w.1 n = .inl (ci, ks)) (hc : w.2.2[ci]? = some (C, T, N)) (hin : ∀ q ∈ u_ws C T N, q ∈ lw_all) (hk : k < N) (hlink : Cond.fieldLinkNest own index (T k).1 (T k).2.1 (T k).2.2.1 host ∈ lw_tbl) (hkind : ks[k]? = some kind) (hv : v_fld (v_E g) σ n k kind = v) (hd : decode cc pc = .ok (.getfield index, 3))
    (kk : v_V Γ nL w g toR (pc + 3) lv (v :: st) σ mdl) : v_V Γ nL w g toR pc lv (.ref (v_E g n) :: st) σ mdl := by
  intro x hx ls H locs h1 h2 h3
  exact va_getN (ref := (T k).1) (v := v) X.1 X.2.1 X.2.2.2.2.1 hin X.2.2.2.1 X.2.2.2.2.2.2.2.1 h2.1 n ((v_wl_at hn).trans (by rw [v_cell_o hlay])) hc k hk (va_Nw.use rfl (X.2.2.2.2.2.2.2.2.2.1.nestF hlink)) (fun _ h => h) (by rw [v_fs_get, hkind]; simp only [Option.map_some, Nat.zero_add]; rw [hv]) hd (kk x hx ls H locs h1 h2 h3)

theorem v_putI {n ci k N index : Nat} {ks : List Nat} {C : String} {T : u_T} {z : Int32} {k1 : v_S → Option ρ} (X : v_C Γ l0 R0 cc nL own ret w g) (hn : n < w.2.1) (hlay : w.1 n = .inl (ci, ks)) (hc : w.2.2[ci]? = some (C, T, N)) (hin : ∀ q ∈ u_ws C T N, q ∈ lw_all) (ty0 : Nat → FieldType) (hty : ∀ k, k < N → parseFieldDescriptor (T k).2.2.1 = some (ty0 k)) (hnm : ∀ a, a < N → ∀ b, b < N → a ≠ b → (T a).2.1 ≠ (T b).2.1) (hk : k < N) (hlink : Cond.fieldLink own index (T k).1 (T k).2.1 (T k).2.2.1 ∈ lw_all) (hfin : (T k).2.2.2 = false) (hkind : ks[k]? = some 0) (hty1 : ty0 k = .int) (hd : decode cc pc = .ok (.putfield index, 3))
    (kk : ∀ σ', v_V Γ nL w g toR (pc + 3) lv st σ' (k1 σ')) : v_V Γ nL w g toR pc lv (.int z :: .ref (v_E g n) :: st) σ (v_n (v_uI σ n k z) k1) := by
  intro x hx ls H locs h1 h2 h3
  have hlen : k < ks.length := (List.getElem?_eq_some_iff.mp hkind).1
  refine va_put (ref := (T k).1) (v := .int z) (ty := .int) X.1 X.2.1 X.2.2.2.2.1 hin ty0 hty hnm X.2.2.2.1 X.2.2.2.2.2.2.2.1 h2.1 h2.2 h3 n ((v_wl_at hn).trans (by rw [v_cell_o hlay])) hc k hk (X.2.2.2.2.1 _ hlink) (fun _ h => h) hfin (by rw [hty k hk, hty1]) rfl rfl (by rw [v_fs_len]; exact hlen) hd (fun H1 locs1 hP hD hS => ?_)
  have e := v_wl_set (g := g) (σ := σ) (σ' := v_uI σ n k z) (e := .inr (ci, (v_fs (v_E g) σ n 0 ks).set k (.int z))) hn (by rw [v_cell_o hlay]; exact congrArg (fun q => Sum.inr (ci, q)) (v_fs_set ks 0 hlen (fun q hq => by rw [hkind] at hq; cases hq; show Value.int _ = _; simp [v_uI]) (fun j hj => by rw [Nat.zero_add] at hj; simp [v_uI, hj]) (fun j hj => by rw [Nat.zero_add] at hj; simp [v_uI, hj]) (fun j hj => by rw [Nat.zero_add] at hj; simp [v_uI, hj])).symm) (fun m hm => v_cell_n (fun k => by simp [v_uI, hm]) (fun k => by simp [v_uI, hm]) (fun k => by simp [v_uI, hm])) rfl
  rw [e] at hP hD
  exact kk _ x hx ls H1 locs1 h1 ⟨hP, hD⟩ hS
theorem v_putIN {n ci k N index : Nat} {ks : List Nat} {C host : String} {T : u_T} {z : Int32} {k1 : v_S → Option ρ} (X : v_C Γ l0 R0 cc nL own ret w g) (hn : n < w.2.1) (hlay : w.1 n = .inl (ci, ks)) (hc : w.2.2[ci]? = some (C, T, N)) (hin : ∀ q ∈ u_ws C T N, q ∈ lw_all) (ty0 : Nat → FieldType) (hty : ∀ k, k < N → parseFieldDescriptor (T k).2.2.1 = some (ty0 k)) (hnm : ∀ a, a < N → ∀ b, b < N → a ≠ b → (T a).2.1 ≠ (T b).2.1) (hk : k < N) (hlink : Cond.fieldLinkNest own index (T k).1 (T k).2.1 (T k).2.2.1 host ∈ lw_tbl) (hfin : (T k).2.2.2 = false) (hkind : ks[k]? = some 0) (hty1 : ty0 k = .int) (hd : decode cc pc = .ok (.putfield index, 3))
    (kk : ∀ σ', v_V Γ nL w g toR (pc + 3) lv st σ' (k1 σ')) : v_V Γ nL w g toR pc lv (.int z :: .ref (v_E g n) :: st) σ (v_n (v_uI σ n k z) k1) := by
  intro x hx ls H locs h1 h2 h3
  have hlen : k < ks.length := (List.getElem?_eq_some_iff.mp hkind).1
  refine va_putN (ref := (T k).1) (v := .int z) (ty := .int) X.1 X.2.1 X.2.2.2.2.1 hin ty0 hty hnm X.2.2.2.1 X.2.2.2.2.2.2.2.1 h2.1 h2.2 h3 n ((v_wl_at hn).trans (by rw [v_cell_o hlay])) hc k hk (va_Nw.use rfl (X.2.2.2.2.2.2.2.2.2.1.nestF hlink)) (fun _ h => h) hfin (by rw [hty k hk, hty1]) rfl rfl (by rw [v_fs_len]; exact hlen) hd (fun H1 locs1 hP hD hS => ?_)
  have e := v_wl_set (g := g) (σ := σ) (σ' := v_uI σ n k z) (e := .inr (ci, (v_fs (v_E g) σ n 0 ks).set k (.int z))) hn (by rw [v_cell_o hlay]; exact congrArg (fun q => Sum.inr (ci, q)) (v_fs_set ks 0 hlen (fun q hq => by rw [hkind] at hq; cases hq; show Value.int _ = _; simp [v_uI]) (fun j hj => by rw [Nat.zero_add] at hj; simp [v_uI, hj]) (fun j hj => by rw [Nat.zero_add] at hj; simp [v_uI, hj]) (fun j hj => by rw [Nat.zero_add] at hj; simp [v_uI, hj])).symm) (fun m hm => v_cell_n (fun k => by simp [v_uI, hm]) (fun k => by simp [v_uI, hm]) (fun k => by simp [v_uI, hm])) rfl
  rw [e] at hP hD
  exact kk _ x hx ls H1 locs1 h1 ⟨hP, hD⟩ hS
theorem v_putL {n ci k N index : Nat} {ks : List Nat} {C : String} {T : u_T} {z : Int64} {k1 : v_S → Option ρ} (X : v_C Γ l0 R0 cc nL own ret w g) (hn : n < w.2.1) (hlay : w.1 n = .inl (ci, ks)) (hc : w.2.2[ci]? = some (C, T, N)) (hin : ∀ q ∈ u_ws C T N, q ∈ lw_all) (ty0 : Nat → FieldType) (hty : ∀ k, k < N → parseFieldDescriptor (T k).2.2.1 = some (ty0 k)) (hnm : ∀ a, a < N → ∀ b, b < N → a ≠ b → (T a).2.1 ≠ (T b).2.1) (hk : k < N) (hlink : Cond.fieldLink own index (T k).1 (T k).2.1 (T k).2.2.1 ∈ lw_all) (hfin : (T k).2.2.2 = false) (hkind : ks[k]? = some 1) (hty1 : ty0 k = .long) (hd : decode cc pc = .ok (.putfield index, 3))
    (kk : ∀ σ', v_V Γ nL w g toR (pc + 3) lv st σ' (k1 σ')) : v_V Γ nL w g toR pc lv (.long z :: .ref (v_E g n) :: st) σ (v_n (v_uL σ n k z) k1) := by
  intro x hx ls H locs h1 h2 h3
  have hlen : k < ks.length := (List.getElem?_eq_some_iff.mp hkind).1
  refine va_put (ref := (T k).1) (v := .long z) (ty := .long) X.1 X.2.1 X.2.2.2.2.1 hin ty0 hty hnm X.2.2.2.1 X.2.2.2.2.2.2.2.1 h2.1 h2.2 h3 n ((v_wl_at hn).trans (by rw [v_cell_o hlay])) hc k hk (X.2.2.2.2.1 _ hlink) (fun _ h => h) hfin (by rw [hty k hk, hty1]) rfl rfl (by rw [v_fs_len]; exact hlen) hd (fun H1 locs1 hP hD hS => ?_)
  have e := v_wl_set (g := g) (σ := σ) (σ' := v_uL σ n k z) (e := .inr (ci, (v_fs (v_E g) σ n 0 ks).set k (.long z))) hn (by rw [v_cell_o hlay]; exact congrArg (fun q => Sum.inr (ci, q)) (v_fs_set ks 0 hlen (fun q hq => by rw [hkind] at hq; cases hq; show Value.long _ = _; simp [v_uL]) (fun j hj => by rw [Nat.zero_add] at hj; simp [v_uL, hj]) (fun j hj => by rw [Nat.zero_add] at hj; simp [v_uL, hj]) (fun j hj => by rw [Nat.zero_add] at hj; simp [v_uL, hj])).symm) (fun m hm => v_cell_n (fun k => by simp [v_uL, hm]) (fun k => by simp [v_uL, hm]) (fun k => by simp [v_uL, hm])) rfl
  rw [e] at hP hD
  exact kk _ x hx ls H1 locs1 h1 ⟨hP, hD⟩ hS
theorem v_putLN {n ci k N index : Nat} {ks : List Nat} {C host : String} {T : u_T} {z : Int64} {k1 : v_S → Option ρ} (X : v_C Γ l0 R0 cc nL own ret w g) (hn : n < w.2.1) (hlay : w.1 n = .inl (ci, ks)) (hc : w.2.2[ci]? = some (C, T, N)) (hin : ∀ q ∈ u_ws C T N, q ∈ lw_all) (ty0 : Nat → FieldType) (hty : ∀ k, k < N → parseFieldDescriptor (T k).2.2.1 = some (ty0 k)) (hnm : ∀ a, a < N → ∀ b, b < N → a ≠ b → (T a).2.1 ≠ (T b).2.1) (hk : k < N) (hlink : Cond.fieldLinkNest own index (T k).1 (T k).2.1 (T k).2.2.1 host ∈ lw_tbl) (hfin : (T k).2.2.2 = false) (hkind : ks[k]? = some 1) (hty1 : ty0 k = .long) (hd : decode cc pc = .ok (.putfield index, 3))
    (kk : ∀ σ', v_V Γ nL w g toR (pc + 3) lv st σ' (k1 σ')) : v_V Γ nL w g toR pc lv (.long z :: .ref (v_E g n) :: st) σ (v_n (v_uL σ n k z) k1) := by
  intro x hx ls H locs h1 h2 h3
  have hlen : k < ks.length := (List.getElem?_eq_some_iff.mp hkind).1
  refine va_putN (ref := (T k).1) (v := .long z) (ty := .long) X.1 X.2.1 X.2.2.2.2.1 hin ty0 hty hnm X.2.2.2.1 X.2.2.2.2.2.2.2.1 h2.1 h2.2 h3 n ((v_wl_at hn).trans (by rw [v_cell_o hlay])) hc k hk (va_Nw.use rfl (X.2.2.2.2.2.2.2.2.2.1.nestF hlink)) (fun _ h => h) hfin (by rw [hty k hk, hty1]) rfl rfl (by rw [v_fs_len]; exact hlen) hd (fun H1 locs1 hP hD hS => ?_)
  have e := v_wl_set (g := g) (σ := σ) (σ' := v_uL σ n k z) (e := .inr (ci, (v_fs (v_E g) σ n 0 ks).set k (.long z))) hn (by rw [v_cell_o hlay]; exact congrArg (fun q => Sum.inr (ci, q)) (v_fs_set ks 0 hlen (fun q hq => by rw [hkind] at hq; cases hq; show Value.long _ = _; simp [v_uL]) (fun j hj => by rw [Nat.zero_add] at hj; simp [v_uL, hj]) (fun j hj => by rw [Nat.zero_add] at hj; simp [v_uL, hj]) (fun j hj => by rw [Nat.zero_add] at hj; simp [v_uL, hj])).symm) (fun m hm => v_cell_n (fun k => by simp [v_uL, hm]) (fun k => by simp [v_uL, hm]) (fun k => by simp [v_uL, hm])) rfl
  rw [e] at hP hD
  exact kk _ x hx ls H1 locs1 h1 ⟨hP, hD⟩ hS
theorem v_putR {n ci k N index : Nat} {ks : List Nat} {C : String} {C2 : String} {T : u_T} {z : (Option Nat)} {k1 : v_S → Option ρ} (X : v_C Γ l0 R0 cc nL own ret w g) (hn : n < w.2.1) (hlay : w.1 n = .inl (ci, ks)) (hc : w.2.2[ci]? = some (C, T, N)) (hin : ∀ q ∈ u_ws C T N, q ∈ lw_all) (ty0 : Nat → FieldType) (hty : ∀ k, k < N → parseFieldDescriptor (T k).2.2.1 = some (ty0 k)) (hnm : ∀ a, a < N → ∀ b, b < N → a ≠ b → (T a).2.1 ≠ (T b).2.1) (hk : k < N) (hlink : Cond.fieldLink own index (T k).1 (T k).2.1 (T k).2.2.1 ∈ lw_all) (hfin : (T k).2.2.2 = false) (hkind : ks[k]? = some 2) (hty1 : ty0 k = (.object C2)) (hd : decode cc pc = .ok (.putfield index, 3))
    (kk : ∀ σ', v_V Γ nL w g toR (pc + 3) lv st σ' (k1 σ')) : v_V Γ nL w g toR pc lv ((va_rf z) :: .ref (v_E g n) :: st) σ (v_n (v_uR σ n k z) k1) := by
  intro x hx ls H locs h1 h2 h3
  have hlen : k < ks.length := (List.getElem?_eq_some_iff.mp hkind).1
  refine va_put (ref := (T k).1) (v := (va_rf z)) (ty := (.object C2)) X.1 X.2.1 X.2.2.2.2.1 hin ty0 hty hnm X.2.2.2.1 X.2.2.2.2.2.2.2.1 h2.1 h2.2 h3 n ((v_wl_at hn).trans (by rw [v_cell_o hlay])) hc k hk (X.2.2.2.2.1 _ hlink) (fun _ h => h) hfin (by rw [hty k hk, hty1]) (by cases z <;> rfl) (by cases z <;> rfl) (by rw [v_fs_len]; exact hlen) hd (fun H1 locs1 hP hD hS => ?_)
  have e := v_wl_set (g := g) (σ := σ) (σ' := v_uR σ n k z) (e := .inr (ci, (v_fs (v_E g) σ n 0 ks).set k ((va_rf z)))) hn (by rw [v_cell_o hlay]; exact congrArg (fun q => Sum.inr (ci, q)) (v_fs_set ks 0 hlen (fun q hq => by rw [hkind] at hq; cases hq; show va_rf _ = _; simp [v_uR]) (fun j hj => by rw [Nat.zero_add] at hj; simp [v_uR, hj]) (fun j hj => by rw [Nat.zero_add] at hj; simp [v_uR, hj]) (fun j hj => by rw [Nat.zero_add] at hj; simp [v_uR, hj])).symm) (fun m hm => v_cell_n (fun k => by simp [v_uR, hm]) (fun k => by simp [v_uR, hm]) (fun k => by simp [v_uR, hm])) rfl
  rw [e] at hP hD
  exact kk _ x hx ls H1 locs1 h1 ⟨hP, hD⟩ hS
theorem v_putRN {n ci k N index : Nat} {ks : List Nat} {C host : String} {C2 : String} {T : u_T} {z : (Option Nat)} {k1 : v_S → Option ρ} (X : v_C Γ l0 R0 cc nL own ret w g) (hn : n < w.2.1) (hlay : w.1 n = .inl (ci, ks)) (hc : w.2.2[ci]? = some (C, T, N)) (hin : ∀ q ∈ u_ws C T N, q ∈ lw_all) (ty0 : Nat → FieldType) (hty : ∀ k, k < N → parseFieldDescriptor (T k).2.2.1 = some (ty0 k)) (hnm : ∀ a, a < N → ∀ b, b < N → a ≠ b → (T a).2.1 ≠ (T b).2.1) (hk : k < N) (hlink : Cond.fieldLinkNest own index (T k).1 (T k).2.1 (T k).2.2.1 host ∈ lw_tbl) (hfin : (T k).2.2.2 = false) (hkind : ks[k]? = some 2) (hty1 : ty0 k = (.object C2)) (hd : decode cc pc = .ok (.putfield index, 3))
    (kk : ∀ σ', v_V Γ nL w g toR (pc + 3) lv st σ' (k1 σ')) : v_V Γ nL w g toR pc lv ((va_rf z) :: .ref (v_E g n) :: st) σ (v_n (v_uR σ n k z) k1) := by
  intro x hx ls H locs h1 h2 h3
  have hlen : k < ks.length := (List.getElem?_eq_some_iff.mp hkind).1
  refine va_putN (ref := (T k).1) (v := (va_rf z)) (ty := (.object C2)) X.1 X.2.1 X.2.2.2.2.1 hin ty0 hty hnm X.2.2.2.1 X.2.2.2.2.2.2.2.1 h2.1 h2.2 h3 n ((v_wl_at hn).trans (by rw [v_cell_o hlay])) hc k hk (va_Nw.use rfl (X.2.2.2.2.2.2.2.2.2.1.nestF hlink)) (fun _ h => h) hfin (by rw [hty k hk, hty1]) (by cases z <;> rfl) (by cases z <;> rfl) (by rw [v_fs_len]; exact hlen) hd (fun H1 locs1 hP hD hS => ?_)
  have e := v_wl_set (g := g) (σ := σ) (σ' := v_uR σ n k z) (e := .inr (ci, (v_fs (v_E g) σ n 0 ks).set k ((va_rf z)))) hn (by rw [v_cell_o hlay]; exact congrArg (fun q => Sum.inr (ci, q)) (v_fs_set ks 0 hlen (fun q hq => by rw [hkind] at hq; cases hq; show va_rf _ = _; simp [v_uR]) (fun j hj => by rw [Nat.zero_add] at hj; simp [v_uR, hj]) (fun j hj => by rw [Nat.zero_add] at hj; simp [v_uR, hj]) (fun j hj => by rw [Nat.zero_add] at hj; simp [v_uR, hj])).symm) (fun m hm => v_cell_n (fun k => by simp [v_uR, hm]) (fun k => by simp [v_uR, hm]) (fun k => by simp [v_uR, hm])) rfl
  rw [e] at hP hD
  exact kk _ x hx ls H1 locs1 h1 ⟨hP, hD⟩ hS
/-! calls: the callee's model f; behind the call its answer v and its world -/
theorem v_join {α : Type} {f : Option α} {k : α → Option ρ} {y : ρ} (h : v_b1 f k = some y) : ∃ z, f = some z ∧ k z = some y := by
  unfold v_b1 at h
  cases f with
  | none => cases h
  | some z => exact ⟨z, rfl, h⟩
theorem v_run {α : Type} {y : MethodName} {bytes : ByteArray} {maxL : Nat} {ret' : Option FieldType} {rm : Room} {as : List Value} {σ' : v_S} {toR' : α → Option Value × v_S} {f : Option α} {ls : Array Slot} {H : Heap} {locs : List Loc} {rest : List Value} {Q : State → Prop} {z : α} {free : Addr → Prop} {st0 : List Value} (hfr : free = v_A g)
    (h3 : va_S (v_A g) (v_s Γ).heap H locs) (run : va_Run (v_p Γ) (v_l Γ) (v_e Γ) (v_R Γ) (v_s Γ) (v_m Γ) (v_a Γ) (v_b Γ) (v_me Γ) (v_c Γ) H locs 0 0 0 0 (F0 (v_m Γ) pc ls st0) rest (v_Q w g (toR' z) as.toArray) free)
    (kk : ∀ (H1 : Heap) (locs1 : List Loc), v_I w g (toR' z).2 H1 → va_S (v_A g) (v_s Γ).heap H1 locs1 → v_W Γ H1 locs1 0 0 Q (F0 (v_m Γ) (pc + 3) ls ((toR' z).1.toList ++ rest))) : v_W Γ H locs 0 0 Q (F0 (v_m Γ) pc ls st0) := by
  subst hfr
  intro T hT Y
  obtain ⟨v, st₀, t, T', L, e0, Y', hL, e1, e2, ⟨hv, hI, hz, hk⟩, st1⟩ := run T hT Y
  have hv : v = (toR' z).1 := by injection hv
  subst hv
  rw [e0] at hz hk
  obtain ⟨t2, a1, b1⟩ := kk T'.heap (locs ++ L) (by rw [e1]; exact hI) ⟨Nat.le_trans h3.1 (by rw [e1]; exact hz), fun q g1 g2 => by rw [e1, hk q (Nat.lt_of_lt_of_le g1 h3.1) g2]; exact h3.2.1 q g1 g2, fun q hq => by
      rcases List.mem_append.mp hq with h | h
      · exact h3.2.2 q h
      · exact hL q h⟩ T' rfl Y'
  exact ⟨t2, st1 t2 a1, b1⟩
theorem v_pre (X : v_C Γ l0 R0 cc nL own ret w g) {H : Heap} {locs : List Loc} (h2 : v_I w g σ H) (h3 : va_S (v_A g) (v_s Γ).heap H locs) (U : State) (hU : U.heap = H) (hW : (v_s Γ).WarmedH U.vm) : v_P w g σ U :=
  ⟨by rw [hU]; exact h2, va_K.moved hW.alike X.2.2.2.2.2.2.2.1, X.2.2.2.2.2.2.2.2.2.1.on hW (by rw [hU]; exact h3.1) (fun q h4 h5 => by rw [hU]; exact h3.2.1 q h4 h5)⟩
theorem v_recv (X : v_C Γ l0 R0 cc nL own ret w g) {H : Heap} {n ci : Nat} {ks : List Nat} {q : vw_C} (hn : n < w.2.1) (hlay : w.1 n = .inl (ci, ks)) (hc : w.2.2[ci]? = some q) (h2 : v_I w g σ H) : ∃ cell : Cell, H[v_E g n]? = some cell ∧ cell.vm.isStatics = false ∧ (v_s Γ).vm.findClass q.1 = some cell.cls :=
  va_recv X.2.2.2.2.2.2.2.1 h2.1 hc ((v_wl_at hn).trans (by rw [v_cell_o hlay]))

/-- a virtual call: object n of class C (number ci) -/
theorem v_callV {α : Type} {y : MethodName} {bytes : ByteArray} {maxL index : Nat} {ret' : Option FieldType} {rm : Room} {n ci N np : Nat} {ks : List Nat} {T : u_T} {As rest st0 : List Value} {toR' : α → Option Value × v_S} {f : Option α} {k : α → Option ρ} (X : v_C Γ l0 R0 cc nL own ret w g)
    (hM : v_M l0 y bytes maxL ret' rm w g (.ref (v_E g n) :: As) σ toR' f) (hn : n < w.2.1) (hlay : w.1 n = .inl (ci, ks)) (hc : w.2.2[ci]? = some (y.cls, T, N)) (q1 : Cond.methodLink own index y ∈ lw_all) (q2 : Cond.instanceMethod y ∈ lw_all) (q3 : Cond.selects y.cls y y ∈ lw_all) (q4 : Cond.initialized y.cls ∈ lw_all) (q5 : Cond.code y bytes maxL ret' ∈ lw_all)
    (hnp : As.length = np) (hdd : y.cls = y.cls ∧ y.cls ≠ "java/lang/invoke/MethodHandle" ∧ y.cls ≠ "java/lang/invoke/VarHandle" ∧ (parseMethodDescriptor y.desc).map (fun d => d.parameters.length) = some np) (hrm : (rm.cells == 0 && (rm.slots == 0 && (Nat.ble (rm.frames + 1) R0.frames && Nat.ble (8 + (maxL + 11) + rm.locals) R0.locals))) = true) (hst : st0 = As.reverse ++ .ref (v_E g n) :: rest) (hroom : (rest.map fun v => v.category).sum ≤ 8) (hd : decode cc pc = .ok (.invokevirtual index, 3))
    (kk : ∀ z, f = some z → v_V Γ nL w g toR (pc + 3) lv ((toR' z).1.toList ++ rest) (toR' z).2 (k z)) : v_V Γ nL w g toR pc lv st0 σ (v_b1 f k) := by
  intro x hx ls H locs h1 h2 h3
  obtain ⟨z, hz, hx⟩ := v_join hx
  simp only [Bool.and_eq_true, beq_iff_eq, Nat.ble_eq] at hrm
  obtain ⟨r1, r2, r3, r4⟩ := hrm
  have cw : CallW (v_R Γ) (v_s Γ) (v_a Γ) own y.cls index y bytes maxL ret' (ws_ y bytes maxL ret') rm 0 0 np := cwV np X.2.2.2.2.1 (lw_V q1 q2 q3 q4 q5) rfl r1 r2 hdd ⟨by rw [X.2.2.2.2.2.2.2.2.2.2.2]; exact r3, by rw [X.2.2.2.2.2.2.2.2.2.2.2]; exact r4⟩
  have hM' := hM z hz
  rw [← X.2.2.2.2.2.2.2.2.2.2.1] at hM'
  have run := va_runV (p := v_p Γ) (e := v_e Γ) (below := v_b Γ) (meth := v_me Γ) (m := v_m Γ) (c := v_c Γ) (g := F0 (v_m Γ) pc ls st0) (rest := rest) (As := As) (locs := locs) (cells := 0) (slots := 0) ⟨X.1, X.2.1, X.2.2.1, X.2.2.2.1, X.2.2.2.2.1⟩ hM' cw ⟨v_P.blind, v_recv X hn hlay hc h2, fun U hU hW => ⟨rfl, v_pre X h2 h3 U hU hW⟩⟩ rfl hnp h1.1 hst (lv_room hroom) hd ⟨Nat.zero_le _, Nat.zero_le _⟩
  exact v_run (as := .ref (v_E g n) :: As) (rm := rm) (ret' := ret') (bytes := bytes) (maxL := maxL) (y := y) (σ' := σ) (f := f) rfl h3 run fun H1 locs1 hI hS => kk z hz x hx ls H1 locs1 h1 hI hS
/-- a static call -/
theorem v_callS {α : Type} {y : MethodName} {bytes : ByteArray} {maxL index : Nat} {ret' : Option FieldType} {rm : Room} {np : Nat} {As rest st0 : List Value} {toR' : α → Option Value × v_S} {f : Option α} {k : α → Option ρ} (X : v_C Γ l0 R0 cc nL own ret w g)
    (hM : v_M l0 y bytes maxL ret' rm w g As σ toR' f) (q1 : Cond.methodLink own index y ∈ lw_all) (q2 : Cond.static y ∈ lw_all) (q3 : Cond.initialized y.cls ∈ lw_all) (q5 : Cond.code y bytes maxL ret' ∈ lw_all)
    (hnp : As.length = np) (hdd : y.cls ≠ "java/lang/invoke/MethodHandle" ∧ y.cls ≠ "java/lang/invoke/VarHandle" ∧ (parseMethodDescriptor y.desc).map (fun d => d.parameters.length) = some np) (hrm : (rm.cells == 0 && (rm.slots == 0 && (Nat.ble (rm.frames + 1) R0.frames && Nat.ble (8 + (maxL + 11) + rm.locals) R0.locals))) = true) (hst : st0 = As.reverse ++ rest) (hroom : (rest.map fun v => v.category).sum ≤ 8) (hd : decode cc pc = .ok (.invokestatic index, 3))
    (kk : ∀ z, f = some z → v_V Γ nL w g toR (pc + 3) lv ((toR' z).1.toList ++ rest) (toR' z).2 (k z)) : v_V Γ nL w g toR pc lv st0 σ (v_b1 f k) := by
  intro x hx ls H locs h1 h2 h3
  obtain ⟨z, hz, hx⟩ := v_join hx
  simp only [Bool.and_eq_true, beq_iff_eq, Nat.ble_eq] at hrm
  obtain ⟨r1, r2, r3, r4⟩ := hrm
  have cw := va_cwS (R := v_R Γ) (s := v_s Γ) (args := v_a Γ) (own := own) (index := index) (rm := rm) np X.2.2.2.2.1 (lw_S q1 q2 q3 q5) rfl r1 r2 hdd ⟨by rw [X.2.2.2.2.2.2.2.2.2.2.2]; exact r3, by rw [X.2.2.2.2.2.2.2.2.2.2.2]; exact r4⟩
  have hM' := hM z hz
  rw [← X.2.2.2.2.2.2.2.2.2.2.1] at hM'
  have run := va_runS (p := v_p Γ) (e := v_e Γ) (below := v_b Γ) (meth := v_me Γ) (m := v_m Γ) (c := v_c Γ) (g := F0 (v_m Γ) pc ls st0) (rest := rest) (As := As) (locs := locs) (cells := 0) (slots := 0) ⟨X.1, X.2.1, X.2.2.1, X.2.2.2.1, X.2.2.2.2.1⟩ hM' cw ⟨v_P.blind, fun U hU hW => ⟨rfl, v_pre X h2 h3 U hU hW⟩⟩ rfl hnp h1.1 hst (lv_room hroom) hd ⟨Nat.zero_le _, Nat.zero_le _⟩
  exact v_run (as := As) (rm := rm) (ret' := ret') (bytes := bytes) (maxL := maxL) (y := y) (σ' := σ) (f := f) rfl h3 run fun H1 locs1 hI hS => kk z hz x hx ls H1 locs1 h1 hI hS
/-- Math.min -/
theorem v_mmin {index : Nat} {x1 y1 : Int32} (X : v_C Γ l0 R0 cc nL own ret w g) (q1 : Cond.methodLink own index Lib.Math.min.name ∈ lw_all) (q2 : Cond.static Lib.Math.min.name ∈ lw_all) (q3 : Cond.initialized "java/lang/Math" ∈ lw_all) (q4 : Cond.code Lib.Math.min.name Lib.Math.min.code 2 (some .int) ∈ lw_all) (hR : (Nat.ble 1 R0.frames && Nat.ble ((st.map fun v => v.category).sum + 13) R0.locals) = true) (hd : decode cc pc = .ok (.invokestatic index, 3))
    (kk : v_V Γ nL w g toR (pc + 3) lv (.int (if y1 < x1 then y1 else x1) :: st) σ mdl) : v_V Γ nL w g toR pc lv (.int y1 :: .int x1 :: st) σ mdl := by
  intro x hx ls H locs h1 h2 h3
  simp only [Bool.and_eq_true, Nat.ble_eq] at hR
  exact va_mmin X.1 X.2.1 (X.2.2.1.trans h1.1.symm) X.2.2.2.1 (X.2.2.2.2.1 _ q1) (X.2.2.2.2.1 _ q2) (X.2.2.2.2.1 _ q3) (X.2.2.2.2.1 _ q4) (by rw [X.2.2.2.2.2.2.2.2.2.2.2]; exact hR.1) (by rw [X.2.2.2.2.2.2.2.2.2.2.2]; exact hR.2) (Nat.zero_le _) (Nat.zero_le _) hd (kk x hx ls H locs h1 h2 h3)
/-- Math.abs of a long -/
theorem v_mabsL {index : Nat} {x1 : Int64} (X : v_C Γ l0 R0 cc nL own ret w g) (q1 : Cond.methodLink own index Lib.MathLoose.abs_long.x ∈ lw_all) (q2 : Cond.static Lib.MathLoose.abs_long.x ∈ lw_all) (q3 : Cond.initialized "java/lang/Math" ∈ lw_all) (q4 : Cond.code Lib.MathLoose.abs_long.x Lib.MathLoose.abs_long.code 2 (some .long) ∈ lw_all) (hR : (Nat.ble 1 R0.frames && Nat.ble ((st.map fun v => v.category).sum + 13) R0.locals) = true) (hd : decode cc pc = .ok (.invokestatic index, 3))
    (kk : v_V Γ nL w g toR (pc + 3) lv (.long (if 0 < x1 then x1 else -x1) :: st) σ mdl) : v_V Γ nL w g toR pc lv (.long x1 :: st) σ mdl := by
  intro x hx ls H locs h1 h2 h3
  simp only [Bool.and_eq_true, Nat.ble_eq] at hR
  exact va_mabs_long X.1 X.2.1 (X.2.2.1.trans h1.1.symm) X.2.2.2.1 (X.2.2.2.2.1 _ q1) (X.2.2.2.2.1 _ q2) (X.2.2.2.2.1 _ q3) (X.2.2.2.2.1 _ q4) (by rw [X.2.2.2.2.2.2.2.2.2.2.2]; exact hR.1) (by rw [X.2.2.2.2.2.2.2.2.2.2.2]; exact hR.2) (Nat.zero_le _) (Nat.zero_le _) hd (kk x hx ls H locs h1 h2 h3)

/-! loops of models -/
/-- B: one turn, given what the next turns do -/
def v_loop {α : Type} (B : (α → Option ρ) → α → Option ρ) : Nat → α → Option ρ
  | 0, _ => none
  | n + 1, a => B (v_loop B n) a
theorem v_loop_run {α : Type} {B : (α → Option ρ) → α → Option ρ} (f : Nat → α) (N : Nat) {r : Option ρ} (hs : ∀ i, i < N → ∀ rec, B rec (f i) = rec (f (i + 1))) (he : ∀ rec, B rec (f N) = r) {n : Nat} (hn : N < n) : v_loop B n (f 0) = r := by
  have key : ∀ d i n, i + d = N → d < n → v_loop B n (f i) = r := by
    intro d
    induction d with
    | zero =>
      intro i n h1 h2
      obtain ⟨n, rfl⟩ : ∃ k, n = k + 1 := ⟨n - 1, by omega⟩
      have : i = N := by omega
      subst this
      exact he _
    | succ d ih =>
      intro i n h1 h2
      obtain ⟨n, rfl⟩ : ∃ k, n = k + 1 := ⟨n - 1, by omega⟩
      show B (v_loop B n) (f i) = r
      rw [hs i (by omega)]
      exact ih (i + 1) n (by omega) (by omega)
  exact key N 0 n (by omega) hn
end V
section V2
variable {ρ : Type} {Γ : v_Ctx} {l0 : Launch} {R0 : Room} {cc : ByteArray} {nL : Nat} {own : String} {ret : Option FieldType} {w : v_Wd} {g : v_G} {toR : ρ → Option Value × v_S} {pc : Nat} {lv lv' : List (Nat × Value)} {st : List Value} {σ : v_S} {mdl : Option ρ}
theorem v_lv (h : lv = lv') (k : v_V Γ nL w g toR pc lv' st σ mdl) : v_V Γ nL w g toR pc lv st σ mdl := h ▸ k
/-- what is known of a callee, once: through an object; static -/
def v_yV (y : MethodName) (bytes : ByteArray) (maxL : Nat) (ret' : Option FieldType) (np : Nat) : Prop := Cond.instanceMethod y ∈ lw_all ∧ Cond.selects y.cls y y ∈ lw_all ∧ Cond.initialized y.cls ∈ lw_all ∧ Cond.code y bytes maxL ret' ∈ lw_all ∧ (y.cls ≠ "java/lang/invoke/MethodHandle" ∧ y.cls ≠ "java/lang/invoke/VarHandle" ∧ (parseMethodDescriptor y.desc).map (fun d => d.parameters.length) = some np)
def v_yS (y : MethodName) (bytes : ByteArray) (maxL : Nat) (ret' : Option FieldType) (np : Nat) : Prop := Cond.static y ∈ lw_all ∧ Cond.initialized y.cls ∈ lw_all ∧ Cond.code y bytes maxL ret' ∈ lw_all ∧ (y.cls ≠ "java/lang/invoke/MethodHandle" ∧ y.cls ≠ "java/lang/invoke/VarHandle" ∧ (parseMethodDescriptor y.desc).map (fun d => d.parameters.length) = some np)
/-- what is known of a receiver: the numbered cell n is an object of that class -/
def v_ob (w : v_Wd) (n : Nat) (C : String) : Prop := n < w.2.1 ∧ ∃ (ci N : Nat) (ks : List Nat) (T : u_T), w.1 n = .inl (ci, ks) ∧ w.2.2[ci]? = some (C, T, N)
def v_rm (rm R0 : Room) (maxL : Nat) : Bool := rm.cells == 0 && (rm.slots == 0 && (Nat.ble (rm.frames + 1) R0.frames && Nat.ble (8 + (maxL + 11) + rm.locals) R0.locals))
theorem v_cVi {y : MethodName} {bytes : ByteArray} {maxL index : Nat} {ret' : Option FieldType} {rm : Room} {n np : Nat} {As rest st0 : List Value} {f : Option (Int32)} {k : Int32 → Option ρ} (X : v_C Γ l0 R0 cc nL own ret w g) (hM : v_M l0 y bytes maxL ret' rm w g (.ref (v_E g n) :: As) σ (fun z => (some (.int z), σ)) f) (ho : v_ob w n y.cls) (q1 : Cond.methodLink own index y ∈ lw_all) (hy : v_yV y bytes maxL ret' np) (hnp : As.length = np) (hrm : v_rm rm R0 maxL = true) (hst : st0 = As.reverse ++ .ref (v_E g n) :: rest) (hroom : Nat.ble ((rest.map fun v => v.category).sum) 8 = true) (hd : decode cc pc = .ok (.invokevirtual index, 3))
    (kk : ∀ z : Int32, f = some z → v_V Γ nL w g toR (pc + 3) lv (.int z :: rest) σ (k z)) : v_V Γ nL w g toR pc lv st0 σ (v_b1 f k) := by
  obtain ⟨hn, ci, N, ks, T, hlay, hc⟩ := ho
  obtain ⟨a1, a2, a3, a4, a5⟩ := hy
  exact v_callV (k := k) X hM hn hlay hc q1 a1 a2 a3 a4 hnp ⟨rfl, a5⟩ hrm hst (Nat.le_of_ble_eq_true hroom) hd (fun z hz => kk z hz)
theorem v_cSi {y : MethodName} {bytes : ByteArray} {maxL index : Nat} {ret' : Option FieldType} {rm : Room} {np : Nat} {As rest st0 : List Value} {f : Option (Int32)} {k : Int32 → Option ρ} (X : v_C Γ l0 R0 cc nL own ret w g) (hM : v_M l0 y bytes maxL ret' rm w g As σ (fun z => (some (.int z), σ)) f) (q1 : Cond.methodLink own index y ∈ lw_all) (hy : v_yS y bytes maxL ret' np) (hnp : As.length = np) (hrm : v_rm rm R0 maxL = true) (hst : st0 = As.reverse ++ rest) (hroom : Nat.ble ((rest.map fun v => v.category).sum) 8 = true) (hd : decode cc pc = .ok (.invokestatic index, 3))
    (kk : ∀ z : Int32, f = some z → v_V Γ nL w g toR (pc + 3) lv (.int z :: rest) σ (k z)) : v_V Γ nL w g toR pc lv st0 σ (v_b1 f k) := by
  obtain ⟨a2, a3, a4, a5⟩ := hy
  exact v_callS (k := k) X hM q1 a2 a3 a4 hnp a5 hrm hst (Nat.le_of_ble_eq_true hroom) hd (fun z hz => kk z hz)
theorem v_cVl {y : MethodName} {bytes : ByteArray} {maxL index : Nat} {ret' : Option FieldType} {rm : Room} {n np : Nat} {As rest st0 : List Value} {f : Option (Int64)} {k : Int64 → Option ρ} (X : v_C Γ l0 R0 cc nL own ret w g) (hM : v_M l0 y bytes maxL ret' rm w g (.ref (v_E g n) :: As) σ (fun z => (some (.long z), σ)) f) (ho : v_ob w n y.cls) (q1 : Cond.methodLink own index y ∈ lw_all) (hy : v_yV y bytes maxL ret' np) (hnp : As.length = np) (hrm : v_rm rm R0 maxL = true) (hst : st0 = As.reverse ++ .ref (v_E g n) :: rest) (hroom : Nat.ble ((rest.map fun v => v.category).sum) 8 = true) (hd : decode cc pc = .ok (.invokevirtual index, 3))
    (kk : ∀ z : Int64, f = some z → v_V Γ nL w g toR (pc + 3) lv (.long z :: rest) σ (k z)) : v_V Γ nL w g toR pc lv st0 σ (v_b1 f k) := by
  obtain ⟨hn, ci, N, ks, T, hlay, hc⟩ := ho
  obtain ⟨a1, a2, a3, a4, a5⟩ := hy
  exact v_callV (k := k) X hM hn hlay hc q1 a1 a2 a3 a4 hnp ⟨rfl, a5⟩ hrm hst (Nat.le_of_ble_eq_true hroom) hd (fun z hz => kk z hz)
theorem v_cSl {y : MethodName} {bytes : ByteArray} {maxL index : Nat} {ret' : Option FieldType} {rm : Room} {np : Nat} {As rest st0 : List Value} {f : Option (Int64)} {k : Int64 → Option ρ} (X : v_C Γ l0 R0 cc nL own ret w g) (hM : v_M l0 y bytes maxL ret' rm w g As σ (fun z => (some (.long z), σ)) f) (q1 : Cond.methodLink own index y ∈ lw_all) (hy : v_yS y bytes maxL ret' np) (hnp : As.length = np) (hrm : v_rm rm R0 maxL = true) (hst : st0 = As.reverse ++ rest) (hroom : Nat.ble ((rest.map fun v => v.category).sum) 8 = true) (hd : decode cc pc = .ok (.invokestatic index, 3))
    (kk : ∀ z : Int64, f = some z → v_V Γ nL w g toR (pc + 3) lv (.long z :: rest) σ (k z)) : v_V Γ nL w g toR pc lv st0 σ (v_b1 f k) := by
  obtain ⟨a2, a3, a4, a5⟩ := hy
  exact v_callS (k := k) X hM q1 a2 a3 a4 hnp a5 hrm hst (Nat.le_of_ble_eq_true hroom) hd (fun z hz => kk z hz)
theorem v_cVu {y : MethodName} {bytes : ByteArray} {maxL index : Nat} {ret' : Option FieldType} {rm : Room} {n np : Nat} {As rest st0 : List Value} {f : Option (Unit)} {k : Unit → Option ρ} (X : v_C Γ l0 R0 cc nL own ret w g) (hM : v_M l0 y bytes maxL ret' rm w g (.ref (v_E g n) :: As) σ (fun _ => ((none : Option Value), σ)) f) (ho : v_ob w n y.cls) (q1 : Cond.methodLink own index y ∈ lw_all) (hy : v_yV y bytes maxL ret' np) (hnp : As.length = np) (hrm : v_rm rm R0 maxL = true) (hst : st0 = As.reverse ++ .ref (v_E g n) :: rest) (hroom : Nat.ble ((rest.map fun v => v.category).sum) 8 = true) (hd : decode cc pc = .ok (.invokevirtual index, 3))
    (kk : ∀ z : Unit, f = some z → v_V Γ nL w g toR (pc + 3) lv (rest) σ (k z)) : v_V Γ nL w g toR pc lv st0 σ (v_b1 f k) := by
  obtain ⟨hn, ci, N, ks, T, hlay, hc⟩ := ho
  obtain ⟨a1, a2, a3, a4, a5⟩ := hy
  exact v_callV (k := k) X hM hn hlay hc q1 a1 a2 a3 a4 hnp ⟨rfl, a5⟩ hrm hst (Nat.le_of_ble_eq_true hroom) hd (fun z hz => kk z hz)
theorem v_cSu {y : MethodName} {bytes : ByteArray} {maxL index : Nat} {ret' : Option FieldType} {rm : Room} {np : Nat} {As rest st0 : List Value} {f : Option (Unit)} {k : Unit → Option ρ} (X : v_C Γ l0 R0 cc nL own ret w g) (hM : v_M l0 y bytes maxL ret' rm w g As σ (fun _ => ((none : Option Value), σ)) f) (q1 : Cond.methodLink own index y ∈ lw_all) (hy : v_yS y bytes maxL ret' np) (hnp : As.length = np) (hrm : v_rm rm R0 maxL = true) (hst : st0 = As.reverse ++ rest) (hroom : Nat.ble ((rest.map fun v => v.category).sum) 8 = true) (hd : decode cc pc = .ok (.invokestatic index, 3))
    (kk : ∀ z : Unit, f = some z → v_V Γ nL w g toR (pc + 3) lv (rest) σ (k z)) : v_V Γ nL w g toR pc lv st0 σ (v_b1 f k) := by
  obtain ⟨a2, a3, a4, a5⟩ := hy
  exact v_callS (k := k) X hM q1 a2 a3 a4 hnp a5 hrm hst (Nat.le_of_ble_eq_true hroom) hd (fun z hz => kk z hz)
theorem v_cVs {y : MethodName} {bytes : ByteArray} {maxL index : Nat} {ret' : Option FieldType} {rm : Room} {n np : Nat} {As rest st0 : List Value} {f : Option (v_S)} {k : v_S → Option ρ} (X : v_C Γ l0 R0 cc nL own ret w g) (hM : v_M l0 y bytes maxL ret' rm w g (.ref (v_E g n) :: As) σ (fun z => ((none : Option Value), z)) f) (ho : v_ob w n y.cls) (q1 : Cond.methodLink own index y ∈ lw_all) (hy : v_yV y bytes maxL ret' np) (hnp : As.length = np) (hrm : v_rm rm R0 maxL = true) (hst : st0 = As.reverse ++ .ref (v_E g n) :: rest) (hroom : Nat.ble ((rest.map fun v => v.category).sum) 8 = true) (hd : decode cc pc = .ok (.invokevirtual index, 3))
    (kk : ∀ z : v_S, f = some z → v_V Γ nL w g toR (pc + 3) lv (rest) z (k z)) : v_V Γ nL w g toR pc lv st0 σ (v_b1 f k) := by
  obtain ⟨hn, ci, N, ks, T, hlay, hc⟩ := ho
  obtain ⟨a1, a2, a3, a4, a5⟩ := hy
  exact v_callV (k := k) X hM hn hlay hc q1 a1 a2 a3 a4 hnp ⟨rfl, a5⟩ hrm hst (Nat.le_of_ble_eq_true hroom) hd (fun z hz => kk z hz)
theorem v_cSs {y : MethodName} {bytes : ByteArray} {maxL index : Nat} {ret' : Option FieldType} {rm : Room} {np : Nat} {As rest st0 : List Value} {f : Option (v_S)} {k : v_S → Option ρ} (X : v_C Γ l0 R0 cc nL own ret w g) (hM : v_M l0 y bytes maxL ret' rm w g As σ (fun z => ((none : Option Value), z)) f) (q1 : Cond.methodLink own index y ∈ lw_all) (hy : v_yS y bytes maxL ret' np) (hnp : As.length = np) (hrm : v_rm rm R0 maxL = true) (hst : st0 = As.reverse ++ rest) (hroom : Nat.ble ((rest.map fun v => v.category).sum) 8 = true) (hd : decode cc pc = .ok (.invokestatic index, 3))
    (kk : ∀ z : v_S, f = some z → v_V Γ nL w g toR (pc + 3) lv (rest) z (k z)) : v_V Γ nL w g toR pc lv st0 σ (v_b1 f k) := by
  obtain ⟨a2, a3, a4, a5⟩ := hy
  exact v_callS (k := k) X hM q1 a2 a3 a4 hnp a5 hrm hst (Nat.le_of_ble_eq_true hroom) hd (fun z hz => kk z hz)
theorem v_cVis {y : MethodName} {bytes : ByteArray} {maxL index : Nat} {ret' : Option FieldType} {rm : Room} {n np : Nat} {As rest st0 : List Value} {f : Option (Int32 × v_S)} {k : Int32 → v_S → Option ρ} (X : v_C Γ l0 R0 cc nL own ret w g) (hM : v_M l0 y bytes maxL ret' rm w g (.ref (v_E g n) :: As) σ (fun z => (some (.int z.1), z.2)) f) (ho : v_ob w n y.cls) (q1 : Cond.methodLink own index y ∈ lw_all) (hy : v_yV y bytes maxL ret' np) (hnp : As.length = np) (hrm : v_rm rm R0 maxL = true) (hst : st0 = As.reverse ++ .ref (v_E g n) :: rest) (hroom : Nat.ble ((rest.map fun v => v.category).sum) 8 = true) (hd : decode cc pc = .ok (.invokevirtual index, 3))
    (kk : ∀ (z : Int32) (z2 : v_S), f = some (z, z2) → v_V Γ nL w g toR (pc + 3) lv (.int z :: rest) z2 (k z z2)) : v_V Γ nL w g toR pc lv st0 σ (v_b2 f k) := by
  obtain ⟨hn, ci, N, ks, T, hlay, hc⟩ := ho
  obtain ⟨a1, a2, a3, a4, a5⟩ := hy
  exact v_callV (k := fun q => k q.1 q.2) X hM hn hlay hc q1 a1 a2 a3 a4 hnp ⟨rfl, a5⟩ hrm hst (Nat.le_of_ble_eq_true hroom) hd (fun z hz => kk z.1 z.2 hz)
theorem v_cSis {y : MethodName} {bytes : ByteArray} {maxL index : Nat} {ret' : Option FieldType} {rm : Room} {np : Nat} {As rest st0 : List Value} {f : Option (Int32 × v_S)} {k : Int32 → v_S → Option ρ} (X : v_C Γ l0 R0 cc nL own ret w g) (hM : v_M l0 y bytes maxL ret' rm w g As σ (fun z => (some (.int z.1), z.2)) f) (q1 : Cond.methodLink own index y ∈ lw_all) (hy : v_yS y bytes maxL ret' np) (hnp : As.length = np) (hrm : v_rm rm R0 maxL = true) (hst : st0 = As.reverse ++ rest) (hroom : Nat.ble ((rest.map fun v => v.category).sum) 8 = true) (hd : decode cc pc = .ok (.invokestatic index, 3))
    (kk : ∀ (z : Int32) (z2 : v_S), f = some (z, z2) → v_V Γ nL w g toR (pc + 3) lv (.int z :: rest) z2 (k z z2)) : v_V Γ nL w g toR pc lv st0 σ (v_b2 f k) := by
  obtain ⟨a2, a3, a4, a5⟩ := hy
  exact v_callS (k := fun q => k q.1 q.2) X hM q1 a2 a3 a4 hnp a5 hrm hst (Nat.le_of_ble_eq_true hroom) hd (fun z hz => kk z.1 z.2 hz)
theorem v_cVls {y : MethodName} {bytes : ByteArray} {maxL index : Nat} {ret' : Option FieldType} {rm : Room} {n np : Nat} {As rest st0 : List Value} {f : Option (Int64 × v_S)} {k : Int64 → v_S → Option ρ} (X : v_C Γ l0 R0 cc nL own ret w g) (hM : v_M l0 y bytes maxL ret' rm w g (.ref (v_E g n) :: As) σ (fun z => (some (.long z.1), z.2)) f) (ho : v_ob w n y.cls) (q1 : Cond.methodLink own index y ∈ lw_all) (hy : v_yV y bytes maxL ret' np) (hnp : As.length = np) (hrm : v_rm rm R0 maxL = true) (hst : st0 = As.reverse ++ .ref (v_E g n) :: rest) (hroom : Nat.ble ((rest.map fun v => v.category).sum) 8 = true) (hd : decode cc pc = .ok (.invokevirtual index, 3))
    (kk : ∀ (z : Int64) (z2 : v_S), f = some (z, z2) → v_V Γ nL w g toR (pc + 3) lv (.long z :: rest) z2 (k z z2)) : v_V Γ nL w g toR pc lv st0 σ (v_b2 f k) := by
  obtain ⟨hn, ci, N, ks, T, hlay, hc⟩ := ho
  obtain ⟨a1, a2, a3, a4, a5⟩ := hy
  exact v_callV (k := fun q => k q.1 q.2) X hM hn hlay hc q1 a1 a2 a3 a4 hnp ⟨rfl, a5⟩ hrm hst (Nat.le_of_ble_eq_true hroom) hd (fun z hz => kk z.1 z.2 hz)
theorem v_cSls {y : MethodName} {bytes : ByteArray} {maxL index : Nat} {ret' : Option FieldType} {rm : Room} {np : Nat} {As rest st0 : List Value} {f : Option (Int64 × v_S)} {k : Int64 → v_S → Option ρ} (X : v_C Γ l0 R0 cc nL own ret w g) (hM : v_M l0 y bytes maxL ret' rm w g As σ (fun z => (some (.long z.1), z.2)) f) (q1 : Cond.methodLink own index y ∈ lw_all) (hy : v_yS y bytes maxL ret' np) (hnp : As.length = np) (hrm : v_rm rm R0 maxL = true) (hst : st0 = As.reverse ++ rest) (hroom : Nat.ble ((rest.map fun v => v.category).sum) 8 = true) (hd : decode cc pc = .ok (.invokestatic index, 3))
    (kk : ∀ (z : Int64) (z2 : v_S), f = some (z, z2) → v_V Γ nL w g toR (pc + 3) lv (.long z :: rest) z2 (k z z2)) : v_V Γ nL w g toR pc lv st0 σ (v_b2 f k) := by
  obtain ⟨a2, a3, a4, a5⟩ := hy
  exact v_callS (k := fun q => k q.1 q.2) X hM q1 a2 a3 a4 hnp a5 hrm hst (Nat.le_of_ble_eq_true hroom) hd (fun z hz => kk z.1 z.2 hz)
/-- an index that is written, and in range -/
def v_ck (i : Int32) (k len : Nat) : Bool := i.toNatClampNeg == k && (Nat.blt k len && !(decide (i < 0)))
theorem v_ck_eq {i : Int32} {k len : Nat} (h : v_ck i k len = true) : i.toNatClampNeg = k ∧ vp_in i len := by
  simp only [v_ck, Bool.and_eq_true, beq_iff_eq, Nat.blt_eq, Bool.not_eq_true', decide_eq_false_iff_not] at h
  obtain ⟨h1, h2, h3⟩ := h
  exact ⟨h1, fun q => by rcases q with q | q; exact h3 q; omega⟩
theorem v_gk {i : Int32} {k len : Nat} (h : v_ck i k len = true) : v_g (ρ := ρ) i len mdl = mdl := v_g_in (v_ck_eq h).2
theorem v_ialdC {n len k : Nat} {i : Int32} (X : v_C Γ l0 R0 cc nL own ret w g) (hn : n < w.2.1) (hlay : w.1 n = .inr (0, len, 0)) (hk : v_ck i k len = true) (hd : decode cc pc = .ok (.iaload, 1)) (kk : v_V Γ nL w g toR (pc + 1) lv (.int (σ.1 n k) :: st) σ mdl) : v_V Γ nL w g toR pc lv (.int i :: .ref (v_E g n) :: st) σ mdl :=
  v_eq (v_gk hk).symm (v_iald X hn hlay hd (by rw [(v_ck_eq hk).1]; exact kk))
theorem v_baldC {n len k : Nat} {i : Int32} (X : v_C Γ l0 R0 cc nL own ret w g) (hn : n < w.2.1) (hlay : w.1 n = .inr (1, len, 0)) (hk : v_ck i k len = true) (hd : decode cc pc = .ok (.baload, 1)) (kk : v_V Γ nL w g toR (pc + 1) lv (.int (σ.1 n k) :: st) σ mdl) : v_V Γ nL w g toR pc lv (.int i :: .ref (v_E g n) :: st) σ mdl :=
  v_eq (v_gk hk).symm (v_bald X hn hlay hd (by rw [(v_ck_eq hk).1]; exact kk))
theorem v_zaldC {n len k : Nat} {i : Int32} (X : v_C Γ l0 R0 cc nL own ret w g) (hn : n < w.2.1) (hlay : w.1 n = .inr (2, len, 0)) (hk : v_ck i k len = true) (hd : decode cc pc = .ok (.baload, 1)) (kk : v_V Γ nL w g toR (pc + 1) lv (.int (σ.1 n k) :: st) σ mdl) : v_V Γ nL w g toR pc lv (.int i :: .ref (v_E g n) :: st) σ mdl :=
  v_eq (v_gk hk).symm (v_zald X hn hlay hd (by rw [(v_ck_eq hk).1]; exact kk))
theorem v_laldC {n len k : Nat} {i : Int32} (X : v_C Γ l0 R0 cc nL own ret w g) (hn : n < w.2.1) (hlay : w.1 n = .inr (3, len, 1)) (hk : v_ck i k len = true) (hd : decode cc pc = .ok (.laload, 1)) (kk : v_V Γ nL w g toR (pc + 1) lv (.long (σ.2.1 n k) :: st) σ mdl) : v_V Γ nL w g toR pc lv (.int i :: .ref (v_E g n) :: st) σ mdl :=
  v_eq (v_gk hk).symm (v_lald X hn hlay hd (by rw [(v_ck_eq hk).1]; exact kk))
theorem v_iastC {n len k : Nat} {i : Int32} {z : Int32} {k1 : v_S → Option ρ} (X : v_C Γ l0 R0 cc nL own ret w g) (hn : n < w.2.1) (hlay : w.1 n = .inr (0, len, 0)) (hk : v_ck i k len = true) (hd : decode cc pc = .ok (.iastore, 1)) (kk : ∀ σ', v_V Γ nL w g toR (pc + 1) lv st σ' (k1 σ')) : v_V Γ nL w g toR pc lv (.int z :: .int i :: .ref (v_E g n) :: st) σ (v_n (v_uI σ n k z) k1) :=
  v_eq (by rw [(v_ck_eq hk).1, v_gk hk]) (v_iast X hn hlay hd kk)
theorem v_bastC {n len k : Nat} {i : Int32} {z : Int32} {k1 : v_S → Option ρ} (X : v_C Γ l0 R0 cc nL own ret w g) (hn : n < w.2.1) (hlay : w.1 n = .inr (1, len, 0)) (hk : v_ck i k len = true) (hd : decode cc pc = .ok (.bastore, 1)) (kk : ∀ σ', v_V Γ nL w g toR (pc + 1) lv st σ' (k1 σ')) : v_V Γ nL w g toR pc lv (.int z :: .int i :: .ref (v_E g n) :: st) σ (v_n (v_uI σ n k (vp_nar .byte z)) k1) :=
  v_eq (by rw [(v_ck_eq hk).1, v_gk hk]) (v_bast X hn hlay hd kk)
theorem v_zastC {n len k : Nat} {i : Int32} {z : Int32} {k1 : v_S → Option ρ} (X : v_C Γ l0 R0 cc nL own ret w g) (hn : n < w.2.1) (hlay : w.1 n = .inr (2, len, 0)) (hk : v_ck i k len = true) (hd : decode cc pc = .ok (.bastore, 1)) (kk : ∀ σ', v_V Γ nL w g toR (pc + 1) lv st σ' (k1 σ')) : v_V Γ nL w g toR pc lv (.int z :: .int i :: .ref (v_E g n) :: st) σ (v_n (v_uI σ n k (vp_nar .boolean z)) k1) :=
  v_eq (by rw [(v_ck_eq hk).1, v_gk hk]) (v_zast X hn hlay hd kk)
theorem v_lastC {n len k : Nat} {i : Int32} {z : Int64} {k1 : v_S → Option ρ} (X : v_C Γ l0 R0 cc nL own ret w g) (hn : n < w.2.1) (hlay : w.1 n = .inr (3, len, 1)) (hk : v_ck i k len = true) (hd : decode cc pc = .ok (.lastore, 1)) (kk : ∀ σ', v_V Γ nL w g toR (pc + 1) lv st σ' (k1 σ')) : v_V Γ nL w g toR pc lv (.long z :: .int i :: .ref (v_E g n) :: st) σ (v_n (v_uL σ n k z) k1) :=
  v_eq (by rw [(v_ck_eq hk).1, v_gk hk]) (v_last X hn hlay hd kk)
/-- a tableswitch: out of its range md, at place j of it mk j -/
def v_tw (z : Int32) (lo hi : Int) (md : Option ρ) (mk : Nat → Option ρ) : Option ρ := if z.toInt < lo ∨ hi < z.toInt then md else mk (z.toInt - lo).toNat
theorem v_tsw {dflt lo hi : Int} {offs : Array Int} {len tgt : Nat} {z : Int32} {md : Option ρ} {mk : Nat → Option ρ} (tgts : List Nat) (X : v_C Γ l0 R0 cc nL own ret w g) (hd : decode cc pc = .ok (.tableswitch dflt lo hi offs, len)) (ht : (pc : Int) + dflt = (tgt : Int)) (hlen : hi - lo + 1 = tgts.length) (ho : offs.toList.map (fun o => (pc : Int) + o) = tgts.map (fun t : Nat => (t : Int))) (kd : v_V Γ nL w g toR tgt lv st σ md) (kk : ∀ (j t : Nat), tgts[j]? = some t → v_V Γ nL w g toR t lv st σ (mk j)) : v_V Γ nL w g toR pc lv (.int z :: st) σ (v_tw z lo hi md mk) := by
  unfold v_tw
  by_cases q : z.toInt < lo ∨ hi < z.toInt
  · rw [if_pos q]
    exact fun x hx ls H locs h1 h2 h3 => lv_tableOut X.1 X.2.1 hd q ht (kd x hx ls H locs h1 h2 h3)
  · rw [if_neg q]
    have a1 : ¬ z.toInt < lo := fun h => q (Or.inl h)
    have a2 : ¬ hi < z.toInt := fun h => q (Or.inr h)
    have hj : (z.toInt - lo).toNat < tgts.length := by omega
    have e := congrArg (fun L => L[(z.toInt - lo).toNat]?) ho
    simp only [List.getElem?_map] at e
    rw [List.getElem?_eq_getElem hj] at e
    cases hz : offs.toList[(z.toInt - lo).toNat]? with
    | none => rw [hz] at e; simp at e
    | some off =>
      rw [hz] at e
      simp only [Option.map_some, Option.some.injEq] at e
      exact fun x hx ls H locs h1 h2 h3 => lv_tableIn X.1 X.2.1 hd a1 a2 (by rw [← Array.getElem?_toList]; exact hz) e (kk _ _ (List.getElem?_eq_getElem hj) x hx ls H locs h1 h2 h3)
end V2
