/-- a premise of the law's start, by its way through the Statement's tree of them (false: left) -/
def v_at : Cond → List Bool → Cond
  | c, [] => c
  | .and a b, d :: ds => v_at (match d with | true => b | false => a) ds
  | c, _ :: _ => c
theorem v_at_b {args : Array Value} {s : State} : ∀ (p : List Bool) (T : Cond), T.before args s = true → (v_at T p).before args s = true
  | [], T, h => by cases T <;> exact h
  | d :: ds, T, h => by
    cases T with
    | and a b =>
      rw [Cond.before_and, Bool.and_eq_true] at h
      cases d with
      | true => exact v_at_b ds b h.2
      | false => exact v_at_b ds a h.1
    | _ => exact h
theorem v_Z0.pr {g : v_G} (h : v_Z0 g) (p : List Bool) {q : Cond} (e : v_at (Jvm.Cond.and given_1 narrow_1) p = q) : q.before #[Value.ref (v_b0 g)] (v_s0 g) = true := by
  rw [← e]
  exact v_at_b p _ h.2.1
/-! THE LAYER v_, second part: cells that have no number (found by their address), calls of every kind, arrays whose number is a variable -/
def v_df : v_DL → Nat → Option ((Nat × vp_A) ⊕ (Nat × List Value))
  | [], _ => none
  | q :: r, a => if q.1 = a then some q.2 else v_df r a
theorem v_df_at : ∀ {dl : v_DL} {a : Nat} {e : (Nat × vp_A) ⊕ (Nat × List Value)}, v_df dl a = some e → ∃ k : Nat, dl[k]? = some (a, e)
  | [], a, e, h => by cases h
  | q :: r, a, e, h => by
    unfold v_df at h
    split at h
    · rename_i hq
      cases h
      exact ⟨0, by rw [← hq]; rfl⟩
    · obtain ⟨k, hk⟩ := v_df_at h
      exact ⟨k + 1, hk⟩
theorem v_wl_dl (w : v_Wd) (g : v_G) (σ : v_S) (k : Nat) : (v_wl w g σ)[w.2.1 + k]? = (σ.2.2.2[k]?).map (v_dm g) := by
  unfold v_wl
  rw [List.getElem?_append_right (by simp)]
  simp
theorem v_wl_d {w : v_Wd} {g : v_G} {σ : v_S} {a : Nat} {e : (Nat × vp_A) ⊕ (Nat × List Value)} (h : v_df σ.2.2.2 a = some e) : ∃ k : Nat, (v_wl w g σ)[k]? = some (v_dm g (a, e)) := by
  obtain ⟨k, hk⟩ := v_df_at h
  exact ⟨w.2.1 + k, by rw [v_wl_dl, hk]; rfl⟩
def v_dv (σ : v_S) (a ci k : Nat) : Option Value := match v_df σ.2.2.2 a with
  | some (.inr (c, fs)) => if c = ci then fs[k]? else none
  | _ => none
def v_dI (σ : v_S) (a ci k : Nat) : Option Int32 := match v_dv σ a ci k with
  | some (.int z) => some z
  | _ => none
def v_dR (σ : v_S) (a ci k : Nat) : Option (Option Nat) := match v_dv σ a ci k with
  | some (.ref b) => some (some b)
  | some .null => some none
  | _ => none
theorem v_dv_at {σ : v_S} {a ci k : Nat} {v : Value} (h : v_dv σ a ci k = some v) : ∃ fs, v_df σ.2.2.2 a = some (.inr (ci, fs)) ∧ fs[k]? = some v := by
  unfold v_dv at h
  split at h
  · rename_i c fs hd
    split at h
    · rename_i hc
      subst hc
      exact ⟨fs, hd, h⟩
    · cases h
  · cases h
theorem v_dI_at {σ : v_S} {a ci k : Nat} {z : Int32} (h : v_dI σ a ci k = some z) : v_dv σ a ci k = some (.int z) := by
  unfold v_dI at h
  split at h
  · rename_i q hq; cases h; exact hq
  · cases h
theorem v_dR_at {σ : v_S} {a ci k : Nat} {z : Option Nat} (h : v_dR σ a ci k = some z) : v_dv σ a ci k = some (va_rf z) := by
  unfold v_dR at h
  split at h
  · rename_i q hq; cases h; exact hq
  · rename_i hq; cases h; exact hq
  · cases h
/-- an unnumbered array: of type t, ints (bytes, ..) or references -/
def v_da (σ : v_S) (a t : Nat) : Option (Nat × (Nat → Int32)) := match v_df σ.2.2.2 a with
  | some (.inl (t', n, .inl f)) => if t' = t then some (n, f) else none
  | _ => none
def v_dq (σ : v_S) (a t : Nat) : Option (Nat × (Nat → Option Nat)) := match v_df σ.2.2.2 a with
  | some (.inl (t', n, .inr (.inr (.inr (.inr f))))) => if t' = t then some (n, f) else none
  | _ => none
theorem v_da_at {σ : v_S} {a t n : Nat} {f : Nat → Int32} (h : v_da σ a t = some (n, f)) : v_df σ.2.2.2 a = some (.inl (t, n, .inl f)) := by
  unfold v_da at h
  split at h
  · rename_i t' n' f' hd
    split at h
    · rename_i ht
      subst ht
      cases h
      exact hd
    · cases h
  · cases h
theorem v_dq_at {σ : v_S} {a t n : Nat} {f : Nat → Option Nat} (h : v_dq σ a t = some (n, f)) : v_df σ.2.2.2 a = some (.inl (t, n, .inr (.inr (.inr (.inr f))))) := by
  unfold v_dq at h
  split at h
  · rename_i t' n' f' hd
    split at h
    · rename_i ht
      subst ht
      cases h
      exact hd
    · cases h
  · cases h
/-- a reference is null, or a cell of that class -/
def v_isc (σ : v_S) (e : Option Nat) (ci : Nat) : Bool := match e with
  | none => true
  | some a => match v_df σ.2.2.2 a with
    | some (.inr (c, _)) => c == ci
    | _ => false
/-- the length of a numbered int array -/
def v_il (w : v_Wd) (n : Nat) : Option Nat := if n < w.2.1 then (match w.1 n with
  | .inr (0, len, 0) => some len
  | _ => none) else none
theorem v_il_of {w : v_Wd} {n len : Nat} (h : v_il w n = some len) : n < w.2.1 ∧ w.1 n = .inr (0, len, 0) := by
  unfold v_il at h
  split at h
  · rename_i hn
    split at h
    · rename_i hl
      cases h
      exact ⟨hn, hl⟩
    · cases h
  · cases h
/-- ints copied from a numbered array to another -/
def v_cpS (σ : v_S) (n0 n1 sp dp n : Nat) : v_S := (fun a b => if a = n1 then va_cpy (σ.1 n0) (σ.1 n1) sp dp n b else σ.1 a b, σ.2)
def v_bad (sp dp n : Int32) (l0 l1 : Nat) : Bool := decide (sp < 0) || (decide (dp < 0) || (decide (n < 0) || (Nat.blt l0 (sp.toNatClampNeg + n.toNatClampNeg) || Nat.blt l1 (dp.toNatClampNeg + n.toNatClampNeg))))
theorem v_bad_not {sp dp n : Int32} {l0 l1 : Nat} (h : ¬ v_bad sp dp n l0 l1 = true) : ¬ sp < 0 ∧ ¬ dp < 0 ∧ ¬ n < 0 ∧ sp.toNatClampNeg + n.toNatClampNeg ≤ l0 ∧ dp.toNatClampNeg + n.toNatClampNeg ≤ l1 := by
  simp only [v_bad, Bool.or_eq_true, decide_eq_true_eq, Nat.blt_eq, not_or] at h
  obtain ⟨h1, h2, h3, h4, h5⟩ := h
  exact ⟨h1, h2, h3, by omega, by omega⟩
/-- a receiver at the address b: an object of class C -/
def v_rc (Γ : v_Ctx) (w : v_Wd) (g : v_G) (σ : v_S) (b : Nat) (C : String) : Prop := ∀ (H : Heap) (locs : List Loc), v_I w g σ H → va_S (v_A g) (v_s Γ).heap H locs → ∃ cell : Cell, H[b]? = some cell ∧ cell.vm.isStatics = false ∧ (v_s Γ).vm.findClass C = some cell.cls
section VD
variable {ρ : Type} {Γ : v_Ctx} {l0 : Launch} {R0 : Room} {cc : ByteArray} {nL : Nat} {own : String} {ret : Option FieldType} {w : v_Wd} {g : v_G} {toR : ρ → Option Value × v_S} {pc : Nat} {lv lv' : List (Nat × Value)} {st : List Value} {σ : v_S} {mdl : Option ρ}
theorem v_rm_up {rm : Room} {f lo maxL k : Nat} (d : Nat) (h : v_rm rm { frames := f, cells := 0, slots := 0, locals := lo } maxL = true) : v_rm rm { frames := f + d, cells := 0, slots := 0, locals := lo + d * k } maxL = true := by
  simp only [v_rm, Bool.and_eq_true, beq_iff_eq, Nat.ble_eq] at h ⊢
  obtain ⟨h1, h2, h3, h4⟩ := h
  exact ⟨h1, h2, by omega, Nat.le_trans h4 (Nat.le_add_right _ _)⟩
theorem v_rm_self {f lo maxL k : Nat} (d : Nat) (h : Nat.ble (19 + maxL) k = true) : v_rm { frames := f + d, cells := 0, slots := 0, locals := lo + d * k } { frames := f + (d + 1), cells := 0, slots := 0, locals := lo + (d + 1) * k } maxL = true := by
  simp only [v_rm, Bool.and_eq_true, beq_iff_eq, Nat.ble_eq] at h ⊢
  refine ⟨trivial, trivial, by omega, ?_⟩
  rw [Nat.succ_mul]
  omega
theorem v_hR_up {f lo k n m : Nat} (d : Nat) (h : (Nat.ble n f && Nat.ble m lo) = true) : (Nat.ble n (f + d) && Nat.ble m (lo + d * k)) = true := by
  simp only [Bool.and_eq_true, Nat.ble_eq] at h ⊢
  exact ⟨by omega, Nat.le_trans h.2 (Nat.le_add_right _ _)⟩
theorem v_unq (stf : Value → List Value) {e : Option Nat} {k1 : Nat → Option ρ} (kk : ∀ a, e = some a → v_V Γ nL w g toR pc lv (stf (.ref a)) σ (k1 a)) : v_V Γ nL w g toR pc lv (stf (va_rf e)) σ (v_b1 e k1) := by
  cases e with
  | none => exact fun x hx => by cases hx
  | some a => exact kk a rfl
theorem v_ifn {off : Int} {tgt : Nat} {e : Option Nat} {mt mf : Option ρ} (X : v_C Γ l0 R0 cc nL own ret w g) (hd : decode cc pc = .ok (.ifnull off, 3)) (ht : (pc : Int) + off = (tgt : Int)) (kt : e = none → v_V Γ nL w g toR tgt lv st σ mt) (kf : ¬ e = none → v_V Γ nL w g toR (pc + 3) lv st σ mf) : v_V Γ nL w g toR pc lv (va_rf e :: st) σ (if e = none then mt else mf) := by
  cases e with
  | none => exact fun x hx ls H locs h1 h2 h3 => lv_ifnullN X.1 X.2.1 hd ht (kt rfl x hx ls H locs h1 h2 h3)
  | some a => exact fun x hx ls H locs h1 h2 h3 => lv_ifnull X.1 X.2.1 hd (kf (fun h => by cases h) x hx ls H locs h1 h2 h3)
theorem v_ifnn {off : Int} {tgt : Nat} {e : Option Nat} {mt mf : Option ρ} (X : v_C Γ l0 R0 cc nL own ret w g) (hd : decode cc pc = .ok (.ifnonnull off, 3)) (ht : (pc : Int) + off = (tgt : Int)) (kt : ¬ e = none → v_V Γ nL w g toR tgt lv st σ mt) (kf : e = none → v_V Γ nL w g toR (pc + 3) lv st σ mf) : v_V Γ nL w g toR pc lv (va_rf e :: st) σ (if e = none then mf else mt) := by
  cases e with
  | none => exact fun x hx ls H locs h1 h2 h3 => lv_ifnonnullN X.1 X.2.1 hd (kf rfl x hx ls H locs h1 h2 h3)
  | some a => exact fun x hx ls H locs h1 h2 h3 => lv_ifnonnull X.1 X.2.1 hd ht (kt (fun h => by cases h) x hx ls H locs h1 h2 h3)
theorem v_dget {a ci k N index : Nat} {C : String} {T : u_T} {v : Value} (X : v_C Γ l0 R0 cc nL own ret w g) (hc : w.2.2[ci]? = some (C, T, N)) (hin : ∀ q ∈ u_ws C T N, q ∈ lw_all) (hk : k < N) (hlink : Cond.fieldLink own index (T k).1 (T k).2.1 (T k).2.2.1 ∈ lw_all) (hd : decode cc pc = .ok (.getfield index, 3)) (hv : v_dv σ a ci k = some v)
    (kk : v_V Γ nL w g toR (pc + 3) lv (v :: st) σ mdl) : v_V Γ nL w g toR pc lv (.ref a :: st) σ mdl := by
  intro x hx ls H locs h1 h2 h3
  obtain ⟨fs, hdf, hfs⟩ := v_dv_at hv
  obtain ⟨q0, hq0⟩ := v_wl_d (w := w) (g := g) hdf
  exact va_get (ref := (T k).1) (v := v) X.1 X.2.1 X.2.2.2.2.1 hin X.2.2.2.1 X.2.2.2.2.2.2.2.1 h2.1 q0 (ci := ci) (fs := fs) hq0 hc k hk (X.2.2.2.2.1 _ hlink) (fun _ h => h) hfs hd (kk x hx ls H locs h1 h2 h3)
theorem v_dgetI {a ci k N index : Nat} {C : String} {T : u_T} {k1 : Int32 → Option ρ} (X : v_C Γ l0 R0 cc nL own ret w g) (hc : w.2.2[ci]? = some (C, T, N)) (hin : ∀ q ∈ u_ws C T N, q ∈ lw_all) (hk : k < N) (hlink : Cond.fieldLink own index (T k).1 (T k).2.1 (T k).2.2.1 ∈ lw_all) (hd : decode cc pc = .ok (.getfield index, 3))
    (kk : ∀ z : Int32, v_V Γ nL w g toR (pc + 3) lv (.int z :: st) σ (k1 z)) : v_V Γ nL w g toR pc lv (.ref a :: st) σ (v_b1 (v_dI σ a ci k) k1) := by
  intro x hx
  obtain ⟨z, hz, hx⟩ := v_join hx
  exact v_dget X hc hin hk hlink hd (v_dI_at hz) (kk z) x hx
theorem v_dgetR {a ci k N index : Nat} {C : String} {T : u_T} {k1 : Option Nat → Option ρ} (X : v_C Γ l0 R0 cc nL own ret w g) (hc : w.2.2[ci]? = some (C, T, N)) (hin : ∀ q ∈ u_ws C T N, q ∈ lw_all) (hk : k < N) (hlink : Cond.fieldLink own index (T k).1 (T k).2.1 (T k).2.2.1 ∈ lw_all) (hd : decode cc pc = .ok (.getfield index, 3))
    (kk : ∀ z : Option Nat, v_V Γ nL w g toR (pc + 3) lv (va_rf z :: st) σ (k1 z)) : v_V Γ nL w g toR pc lv (.ref a :: st) σ (v_b1 (v_dR σ a ci k) k1) := by
  intro x hx
  obtain ⟨z, hz, hx⟩ := v_join hx
  exact v_dget X hc hin hk hlink hd (v_dR_at hz) (kk z) x hx
theorem v_dgetN {a ci k N index : Nat} {C host : String} {T : u_T} {v : Value} (X : v_C Γ l0 R0 cc nL own ret w g) (hc : w.2.2[ci]? = some (C, T, N)) (hin : ∀ q ∈ u_ws C T N, q ∈ lw_all) (hk : k < N) (hlink : Cond.fieldLinkNest own index (T k).1 (T k).2.1 (T k).2.2.1 host ∈ lw_tbl) (hd : decode cc pc = .ok (.getfield index, 3)) (hv : v_dv σ a ci k = some v)
    (kk : v_V Γ nL w g toR (pc + 3) lv (v :: st) σ mdl) : v_V Γ nL w g toR pc lv (.ref a :: st) σ mdl := by
  intro x hx ls H locs h1 h2 h3
  obtain ⟨fs, hdf, hfs⟩ := v_dv_at hv
  obtain ⟨q0, hq0⟩ := v_wl_d (w := w) (g := g) hdf
  exact va_getN (ref := (T k).1) (v := v) X.1 X.2.1 X.2.2.2.2.1 hin X.2.2.2.1 X.2.2.2.2.2.2.2.1 h2.1 q0 (ci := ci) (fs := fs) hq0 hc k hk (va_Nw.use rfl (X.2.2.2.2.2.2.2.2.2.1.nestF hlink)) (fun _ h => h) hfs hd (kk x hx ls H locs h1 h2 h3)
theorem v_dgetIN {a ci k N index : Nat} {C host : String} {T : u_T} {k1 : Int32 → Option ρ} (X : v_C Γ l0 R0 cc nL own ret w g) (hc : w.2.2[ci]? = some (C, T, N)) (hin : ∀ q ∈ u_ws C T N, q ∈ lw_all) (hk : k < N) (hlink : Cond.fieldLinkNest own index (T k).1 (T k).2.1 (T k).2.2.1 host ∈ lw_tbl) (hd : decode cc pc = .ok (.getfield index, 3))
    (kk : ∀ z : Int32, v_V Γ nL w g toR (pc + 3) lv (.int z :: st) σ (k1 z)) : v_V Γ nL w g toR pc lv (.ref a :: st) σ (v_b1 (v_dI σ a ci k) k1) := by
  intro x hx
  obtain ⟨z, hz, hx⟩ := v_join hx
  exact v_dgetN X hc hin hk hlink hd (v_dI_at hz) (kk z) x hx
theorem v_dgetRN {a ci k N index : Nat} {C host : String} {T : u_T} {k1 : Option Nat → Option ρ} (X : v_C Γ l0 R0 cc nL own ret w g) (hc : w.2.2[ci]? = some (C, T, N)) (hin : ∀ q ∈ u_ws C T N, q ∈ lw_all) (hk : k < N) (hlink : Cond.fieldLinkNest own index (T k).1 (T k).2.1 (T k).2.2.1 host ∈ lw_tbl) (hd : decode cc pc = .ok (.getfield index, 3))
    (kk : ∀ z : Option Nat, v_V Γ nL w g toR (pc + 3) lv (va_rf z :: st) σ (k1 z)) : v_V Γ nL w g toR pc lv (.ref a :: st) σ (v_b1 (v_dR σ a ci k) k1) := by
  intro x hx
  obtain ⟨z, hz, hx⟩ := v_join hx
  exact v_dgetN X hc hin hk hlink hd (v_dR_at hz) (kk z) x hx
theorem v_unq0 {e : Option Nat} {k1 : Nat → Option ρ} (kk : ∀ a, e = some a → v_V Γ nL w g toR pc lv (.ref a :: st) σ (k1 a)) : v_V Γ nL w g toR pc lv (va_rf e :: st) σ (v_b1 e k1) := v_unq (fun v => v :: st) kk
theorem v_unq1 {x1 : Value} {e : Option Nat} {k1 : Nat → Option ρ} (kk : ∀ a, e = some a → v_V Γ nL w g toR pc lv (x1 :: .ref a :: st) σ (k1 a)) : v_V Γ nL w g toR pc lv (x1 :: va_rf e :: st) σ (v_b1 e k1) := v_unq (fun v => x1 :: v :: st) kk
theorem v_unq2 {x1 x2 : Value} {e : Option Nat} {k1 : Nat → Option ρ} (kk : ∀ a, e = some a → v_V Γ nL w g toR pc lv (x1 :: x2 :: .ref a :: st) σ (k1 a)) : v_V Γ nL w g toR pc lv (x1 :: x2 :: va_rf e :: st) σ (v_b1 e k1) := v_unq (fun v => x1 :: x2 :: v :: st) kk
theorem v_rfc (e : Option Nat) : (va_rf e).category = 1 := by cases e <;> rfl
theorem v_nzT {c : Prop} {_ : Decidable c} {k : Option ρ} (h : c → v_V Γ nL w g toR pc lv st σ k) : v_V Γ nL w g toR pc lv st σ (if c then k else none) := by
  by_cases q : c
  · rw [if_pos q]; exact h q
  · rw [if_neg q]; exact v_none
theorem v_rc_d {b ci N : Nat} {C : String} {T : u_T} (X : v_C Γ l0 R0 cc nL own ret w g) (hc : w.2.2[ci]? = some (C, T, N)) (h : v_isc σ (some b) ci = true) : v_rc Γ w g σ b C := by
  simp only [v_isc] at h
  cases hdf : v_df σ.2.2.2 b with
  | none => rw [hdf] at h; cases h
  | some ce =>
    obtain ⟨t, y9⟩ | ⟨c, fs⟩ := ce
    · rw [hdf] at h; cases h
    · rw [hdf] at h
      have hcc : c = ci := by simpa using h
      subst hcc
      obtain ⟨q0, hq0⟩ := v_wl_d (w := w) (g := g) hdf
      exact fun H locs h2 h3 => va_recv X.2.2.2.2.2.2.2.1 h2.1 hc hq0
/-- the cell n is an object of the class ci with such fields -/
def v_ok (w : v_Wd) (n ci : Nat) (ks : List Nat) : Bool := decide (n < w.2.1) && decide (w.1 n = .inl (ci, ks))
theorem v_ok_n {n ci : Nat} {ks : List Nat} (h : v_ok w n ci ks = true) : n < w.2.1 := by
  simp only [v_ok, Bool.and_eq_true, decide_eq_true_eq] at h
  exact h.1
theorem v_ok_l {n ci : Nat} {ks : List Nat} (h : v_ok w n ci ks = true) : w.1 n = .inl (ci, ks) := by
  simp only [v_ok, Bool.and_eq_true, decide_eq_true_eq] at h
  exact h.2
theorem v_ok_o {n ci N : Nat} {ks : List Nat} {C : String} {T : u_T} (hc : w.2.2[ci]? = some (C, T, N)) (h : v_ok w n ci ks = true) : v_ob w n C := ⟨v_ok_n h, ci, N, ks, T, v_ok_l h, hc⟩
theorem v_aload_nq {k : Fin 4} {e : Option Nat} (X : v_C Γ l0 R0 cc nL own ret w g) (hd : decode cc pc = .ok (.aload_n k, 1)) (j : Nat) (hl : lv[j]? = some ((k : Nat), va_rf e)) (kk : v_V Γ nL w g toR (pc + 1) lv (va_rf e :: st) σ mdl) : v_V Γ nL w g toR pc lv st σ mdl := by
  cases e with
  | none => exact fun x hx ls H locs h1 h2 h3 => lv_aload_nN X.1 X.2.1 hd rfl (lv_at h1 j hl) (kk x hx ls H locs h1 h2 h3)
  | some a => exact v_aload_n X hd j hl kk
theorem v_aloadq {i : Nat} {e : Option Nat} (X : v_C Γ l0 R0 cc nL own ret w g) (hd : decode cc pc = .ok (.aload i, 2)) (j : Nat) (hl : lv[j]? = some (i, va_rf e)) (kk : v_V Γ nL w g toR (pc + 2) lv (va_rf e :: st) σ mdl) : v_V Γ nL w g toR pc lv st σ mdl := by
  cases e with
  | none => exact fun x hx ls H locs h1 h2 h3 => lv_aloadN X.1 X.2.1 hd (lv_at h1 j hl) (kk x hx ls H locs h1 h2 h3)
  | some a => exact v_aload X hd j hl kk
theorem v_astore_nq {k : Fin 4} {i : Nat} {e : Option Nat} (X : v_C Γ l0 R0 cc nL own ret w g) (hd : decode cc pc = .ok (.astore_n k, 1)) (hi : (k : Nat) = i) (hn : i < nL) (hl : (i, va_rf e) :: lv.filter (fun q => !(q.1 == i) && !(q.1 + 1 == i && q.2.category == 2)) = lv') (kk : v_V Γ nL w g toR (pc + 1) lv' st σ mdl) : v_V Γ nL w g toR pc lv (va_rf e :: st) σ mdl := by
  cases e with
  | none => exact fun x hx ls H locs h1 h2 h3 => lv_astore_nN X.1 X.2.1 hd hi h1 hn hl (fun ls h1 => kk x hx ls H locs h1 h2 h3)
  | some a => exact v_astore_n X hd hi hn hl kk
theorem v_astoreq {i : Nat} {e : Option Nat} (X : v_C Γ l0 R0 cc nL own ret w g) (hd : decode cc pc = .ok (.astore i, 2)) (hn : i < nL) (hl : (i, va_rf e) :: lv.filter (fun q => !(q.1 == i) && !(q.1 + 1 == i && q.2.category == 2)) = lv') (kk : v_V Γ nL w g toR (pc + 2) lv' st σ mdl) : v_V Γ nL w g toR pc lv (va_rf e :: st) σ mdl := by
  cases e with
  | none => exact fun x hx ls H locs h1 h2 h3 => lv_astoreN X.1 X.2.1 hd h1 hn hl (fun ls h1 => kk x hx ls H locs h1 h2 h3)
  | some a => exact v_astore X hd hn hl kk
theorem v_null (X : v_C Γ l0 R0 cc nL own ret w g) (hd : decode cc pc = .ok (.aconst_null, 1)) (kk : v_V Γ nL w g toR (pc + 1) lv (va_rf none :: st) σ mdl) : v_V Γ nL w g toR pc lv st σ mdl := fun x hx ls H locs h1 h2 h3 => lv_null X.1 X.2.1 hd (kk x hx ls H locs h1 h2 h3)
theorem v_iushr {x1 y1 : Int32} (X : v_C Γ l0 R0 cc nL own ret w g) (hd : decode cc pc = .ok (.iushr, 1)) (kk : v_V Γ nL w g toR (pc + 1) lv (.int ((x1.toUInt32 >>> (y1.toUInt32 &&& Int32.toUInt32 31)).toInt32) :: st) σ mdl) : v_V Γ nL w g toR pc lv (.int y1 :: .int x1 :: st) σ mdl := fun x hx ls H locs h1 h2 h3 => lv_iushr X.1 X.2.1 hd rfl (kk x hx ls H locs h1 h2 h3)
theorem v_ldcw {index : Nat} {v : Int32} (X : v_C Γ l0 R0 cc nL own ret w g) (hc : (Jvm.Cond.constant own index v) ∈ lw_all) (hd : decode cc pc = .ok (.ldc_w index, 3)) (kk : v_V Γ nL w g toR (pc + 3) lv (.int v :: st) σ mdl) : v_V Γ nL w g toR pc lv st σ mdl := fun x hx ls H locs h1 h2 h3 => lv_ldcw X.1 X.2.1 X.2.2.2.1 (X.2.2.2.2.1 _ hc) hd (kk x hx ls H locs h1 h2 h3)
/-! unnumbered arrays of numbers: what they are (types 0 int, 1 byte, 3 long, 4 short) -/
def v_dt (σ : v_S) (e : Option Nat) : Option (Option Nat) := match e with
  | none => some none
  | some a => match v_df σ.2.2.2 a with
    | some (.inl (t, _)) => some (some t)
    | _ => none
def v_inst (σ : v_S) (e : Option Nat) (t : Nat) : Option Int32 := match v_dt σ e with
  | some none => some 0
  | some (some t') => if t' = t then some 1 else if t' ∈ [0, 1, 3, 4] ∧ t ∈ [0, 1, 3, 4] then some 0 else none
  | none => none
def v_isa (σ : v_S) (e : Option Nat) (t : Nat) : Bool := match v_dt σ e with
  | some none => true
  | some (some t') => t' == t
  | none => false
def v_anm (t : Nat) : String := match t with
  | 0 => "[I"
  | 1 => "[B"
  | 3 => "[J"
  | _ => "[S"
def v_ncp (a b : Nat) : List Bool := match a, b with
  | 0, 1 => [true, false, false, true, true, true, true, false, true, true, true]
  | 0, 3 => [true, false, true, false, true, true, false, false, true, true, false]
  | 0, 4 => [true, false, true, false, false, false, true, true, true, false]
  | 1, 0 => [true, false, true, false, false, true, true, true, true, true, true]
  | 1, 3 => [true, false, true, false, true, true, false, false, false, true, true]
  | 1, 4 => [true, false, true, false, false, false, true, true, false, true, true]
  | 3, 0 => [true, false, true, false, true, false, false, false, false, true, false]
  | 3, 1 => [true, false, false, true, true, true, true, true, false, false]
  | 3, 4 => [true, false, true, false, false, false, true, true, true, true, false]
  | 4, 0 => [true, false, true, false, true, false, false, false, false, false]
  | 4, 1 => [true, false, false, true, true, true, true, false, true, true, false]
  | 4, 3 => [true, false, true, false, true, true, false, false, true, false]
  | _, _ => []
theorem v_nc {g : v_G} {s : State} {H : Heap} (h : v_B g s H) {t t' : Nat} (h1 : t' ∈ [0, 1, 3, 4]) (h2 : t ∈ [0, 1, 3, 4]) (h3 : ¬ t' = t) : va_Nc (v_anm t') (v_anm t) s := by
  have k : ∀ a ∈ [0, 1, 3, 4], ∀ b ∈ [0, 1, 3, 4], a ≠ b → v_at (Jvm.Cond.and given_1 narrow_1) (v_ncp a b) = Cond.not (.castable (v_anm a) (v_anm b)) := by decide +kernel
  exact (va_Nc.of (h.2.2.2.pr _ (k t' h1 t h2 h3))).moved h.1.alike
theorem v_dt_at {σ : v_S} {a : Nat} {t : Nat} (h : v_dt σ (some a) = some (some t)) : ∃ x, v_df σ.2.2.2 a = some (.inl (t, x)) := by
  simp only [v_dt] at h
  split at h
  · rename_i t' x hd
    cases h
    exact ⟨x, hd⟩
  · cases h
theorem v_acell {cA : ClassId} {x : vp_A} : (vp_cell cA x).vm.isStatics = false ∧ (vp_cell cA x).cls = cA := by
  obtain ⟨n, f | f | f | f | f⟩ := x <;> exact ⟨rfl, rfl⟩
theorem v_tyn {s : State} {g : v_G} {cl : List vw_C} (hK : va_K (v_D g) cl (v_tys (v_dA g)) s) {t : Nat} (h : t ∈ [0, 1, 3, 4]) : s.vm.findClass (v_anm t) = some (v_dA g t) := by
  simp only [List.mem_cons, List.not_mem_nil, or_false] at h
  rcases h with rfl | rfl | rfl | rfl
  · exact (hK.2 0 (v_dA g 0, .int) rfl).2
  · exact (hK.2 1 (v_dA g 1, .byte) rfl).2
  · exact (hK.2 3 (v_dA g 3, .long) rfl).2
  · exact (hK.2 4 (v_dA g 4, .short) rfl).2
theorem v_insta {e : Option Nat} {t index : Nat} {C : String} {k1 : Int32 → Option ρ} (X : v_C Γ l0 R0 cc nL own ret w g) (ht : t ∈ [0, 1, 3, 4]) (hC : v_anm t = C) (hlink : Cond.classLink own index C ∈ lw_all) (hd : decode cc pc = .ok (.instanceof index, 3)) (kk : ∀ z : Int32, v_V Γ nL w g toR (pc + 3) lv (.int z :: st) σ (k1 z)) : v_V Γ nL w g toR pc lv (va_rf e :: st) σ (v_b1 (v_inst σ e t) k1) := by
  subst hC
  intro x hx ls H locs h1 h2 h3
  obtain ⟨z, hz, hx⟩ := v_join hx
  have k9 := kk z x hx ls H locs h1 h2 h3
  cases e with
  | none =>
    simp only [v_inst, v_dt] at hz
    cases hz
    exact lv_instN X.1 X.2.1 hd k9
  | some a =>
    unfold v_inst at hz
    split at hz
    · rename_i q
      simp only [v_dt] at q
      split at q <;> cases q
    · rename_i t' q
      obtain ⟨y, hdf⟩ := v_dt_at q
      obtain ⟨q0, hq0⟩ := v_wl_d (w := w) (g := g) hdf
      have hc := h2.1 q0 _ hq0
      have hcell : H[a]? = some (vp_cell (v_dA g t') y) := hc
      split at hz
      · rename_i e1
        subst e1
        cases hz
        exact va_instE X.1 X.2.1 X.2.2.2.1 (X.2.2.2.2.1 _ hlink) ⟨_, hcell, v_acell.1, by rw [v_acell.2]; exact v_tyn X.2.2.2.2.2.2.2.1 ht⟩ hd k9
      · rename_i e1
        split at hz
        · rename_i e2
          cases hz
          exact va_instNo X.1 X.2.1 X.2.2.2.1 (X.2.2.2.2.1 _ hlink) (v_nc X.2.2.2.2.2.2.2.2.2.1 e2.1 e2.2 e1) ⟨_, hcell, v_acell.1, by rw [v_acell.2]; exact v_tyn X.2.2.2.2.2.2.2.1 e2.1⟩ hd k9
        · cases hz
    · cases hz
theorem v_casta {e : Option Nat} {t index : Nat} {C : String} (X : v_C Γ l0 R0 cc nL own ret w g) (ht : t ∈ [0, 1, 3, 4]) (hC : v_anm t = C) (hlink : Cond.classLink own index C ∈ lw_all) (hd : decode cc pc = .ok (.checkcast index, 3)) (kk : v_V Γ nL w g toR (pc + 3) lv (va_rf e :: st) σ mdl) : v_V Γ nL w g toR pc lv (va_rf e :: st) σ (if v_isa σ e t = true then mdl else none) := by
  subst hC
  refine v_nzT fun hq => ?_
  intro x hx ls H locs h1 h2 h3
  have k9 := kk x hx ls H locs h1 h2 h3
  cases e with
  | none => exact lv_castN X.1 X.2.1 hd k9
  | some a =>
    unfold v_isa at hq
    split at hq
    · rename_i q
      simp only [v_dt] at q
      split at q <;> cases q
    · rename_i t' q
      obtain ⟨y, hdf⟩ := v_dt_at q
      obtain ⟨q0, hq0⟩ := v_wl_d (w := w) (g := g) hdf
      have e1 : t' = t := by simpa using hq
      subst e1
      exact va_castA X.1 X.2.1 X.2.2.2.1 (X.2.2.2.2.1 _ hlink) h2.1 q0 hq0 (v_tyn X.2.2.2.2.2.2.2.1 ht) hd k9
    · cases hq
def v_dlen (σ : v_S) (a : Nat) : Option Int32 := match v_df σ.2.2.2 a with
  | some (.inl (t, x)) => if t ∈ [0, 1, 3, 4] then some (Int32.ofNat x.1) else none
  | _ => none
theorem v_dalen {a : Nat} {k1 : Int32 → Option ρ} (X : v_C Γ l0 R0 cc nL own ret w g) (hd : decode cc pc = .ok (.arraylength, 1)) (kk : ∀ z : Int32, v_V Γ nL w g toR (pc + 1) lv (.int z :: st) σ (k1 z)) : v_V Γ nL w g toR pc lv (.ref a :: st) σ (v_b1 (v_dlen σ a) k1) := by
  intro x hx ls H locs h1 h2 h3
  obtain ⟨z, hz, hx⟩ := v_join hx
  unfold v_dlen at hz
  split at hz
  · rename_i t y hdf
    split at hz
    · rename_i ht
      cases hz
      obtain ⟨q0, hq0⟩ := v_wl_d (w := w) (g := g) hdf
      have k9 := kk _ x hx ls H locs h1 h2 h3
      simp only [List.mem_cons, List.not_mem_nil, or_false] at ht
      rcases ht with rfl | rfl | rfl | rfl
      · exact va_alen X.1 X.2.1 X.2.2.2.2.2.2.2.1 h2.1 q0 0 hq0 (ty := .int) rfl rfl hd k9
      · exact va_alen X.1 X.2.1 X.2.2.2.2.2.2.2.1 h2.1 q0 1 hq0 (ty := .byte) rfl rfl hd k9
      · exact va_alen X.1 X.2.1 X.2.2.2.2.2.2.2.1 h2.1 q0 3 hq0 (ty := .long) rfl rfl hd k9
      · exact va_alen X.1 X.2.1 X.2.2.2.2.2.2.2.1 h2.1 q0 4 hq0 (ty := .short) rfl rfl hd k9
    · cases hz
  · cases hz
def v_dl (σ : v_S) (a t : Nat) : Option (Nat × (Nat → Int64)) := match v_df σ.2.2.2 a with
  | some (.inl (t', n, .inr (.inl f))) => if t' = t then some (n, f) else none
  | _ => none
theorem v_dl_at {σ : v_S} {a t n : Nat} {f : Nat → Int64} (h : v_dl σ a t = some (n, f)) : v_df σ.2.2.2 a = some (.inl (t, n, .inr (.inl f))) := by
  unfold v_dl at h
  split at h
  · rename_i t' n' f' hd
    split at h
    · rename_i ht
      subst ht
      cases h
      exact hd
    · cases h
  · cases h
theorem v_dlald {a : Nat} {i : Int32} {k1 : Nat → (Nat → Int64) → Option ρ} (X : v_C Γ l0 R0 cc nL own ret w g) (hd : decode cc pc = .ok (.laload, 1)) (kk : ∀ n f, v_V Γ nL w g toR (pc + 1) lv (.long (f i.toNatClampNeg) :: st) σ (k1 n f)) : v_V Γ nL w g toR pc lv (.int i :: .ref a :: st) σ (v_b2 (v_dl σ a 3) fun n f => v_g i n (k1 n f)) := by
  intro x hx ls H locs h1 h2 h3
  obtain ⟨⟨n, f⟩, hz, hx⟩ := v_join (f := v_dl σ a 3) (k := fun q => v_g i q.1 (k1 q.1 q.2)) hx
  obtain ⟨hin, hx⟩ := v_g_of hx
  obtain ⟨q0, hq0⟩ := v_wl_d (w := w) (g := g) (v_dl_at hz)
  exact va_lald X.1 X.2.1 X.2.2.2.2.2.2.2.1 h2.1 q0 3 hq0 rfl hin hd (kk n f x hx ls H locs h1 h2 h3)
theorem v_dbald {a : Nat} {i : Int32} {k1 : Nat → (Nat → Int32) → Option ρ} (X : v_C Γ l0 R0 cc nL own ret w g) (hd : decode cc pc = .ok (.baload, 1)) (kk : ∀ n f, v_V Γ nL w g toR (pc + 1) lv (.int (f i.toNatClampNeg) :: st) σ (k1 n f)) : v_V Γ nL w g toR pc lv (.int i :: .ref a :: st) σ (v_b2 (v_da σ a 1) fun n f => v_g i n (k1 n f)) := by
  intro x hx ls H locs h1 h2 h3
  obtain ⟨⟨n, f⟩, hz, hx⟩ := v_join (f := v_da σ a 1) (k := fun q => v_g i q.1 (k1 q.1 q.2)) hx
  obtain ⟨hin, hx⟩ := v_g_of hx
  obtain ⟨q0, hq0⟩ := v_wl_d (w := w) (g := g) (v_da_at hz)
  exact va_bald X.1 X.2.1 X.2.2.2.2.2.2.2.1 h2.1 q0 1 hq0 rfl hin hd (kk n f x hx ls H locs h1 h2 h3)
theorem v_dsald {a : Nat} {i : Int32} {k1 : Nat → (Nat → Int32) → Option ρ} (X : v_C Γ l0 R0 cc nL own ret w g) (hd : decode cc pc = .ok (.saload, 1)) (kk : ∀ n f, v_V Γ nL w g toR (pc + 1) lv (.int (f i.toNatClampNeg) :: st) σ (k1 n f)) : v_V Γ nL w g toR pc lv (.int i :: .ref a :: st) σ (v_b2 (v_da σ a 4) fun n f => v_g i n (k1 n f)) := by
  intro x hx ls H locs h1 h2 h3
  obtain ⟨⟨n, f⟩, hz, hx⟩ := v_join (f := v_da σ a 4) (k := fun q => v_g i q.1 (k1 q.1 q.2)) hx
  obtain ⟨hin, hx⟩ := v_g_of hx
  obtain ⟨q0, hq0⟩ := v_wl_d (w := w) (g := g) (v_da_at hz)
  exact va_sald X.1 X.2.1 X.2.2.2.2.2.2.2.1 h2.1 q0 4 hq0 rfl hin hd (kk n f x hx ls H locs h1 h2 h3)
theorem v_i2c {x1 : Int32} (X : v_C Γ l0 R0 cc nL own ret w g) (hd : decode cc pc = .ok (.i2c, 1)) (kk : v_V Γ nL w g toR (pc + 1) lv (.int ((x1.toUInt32 % 65536).toInt32) :: st) σ mdl) : v_V Γ nL w g toR pc lv (.int x1 :: st) σ mdl := fun x hx ls H locs h1 h2 h3 => lv_i2c X.1 X.2.1 hd rfl (kk x hx ls H locs h1 h2 h3)
theorem v_bret {z : Int32} {y : ρ} (X : v_C Γ l0 R0 cc nL own (some .byte) w g) (hd : decode cc pc = .ok (.ireturn, 1)) (hy : toR y = (some (.int z), σ)) : v_V Γ nL w g toR pc lv [.int z] σ (if z.toInt8.toInt32 = z then some y else none) := by
  refine v_nzT fun q => ?_
  intro x hx ls H locs h1 h2 h3
  cases hx
  rw [hy]
  refine W.zret X.1 X.2.1 X.2.2.2.2.2.1 ?_ (fun t ht hW => ⟨rfl, by rw [ht]; exact h2, h3.F ht⟩) h3.2.2 hd X.2.2.2.2.2.2.1
  show Value.int (z.toInt8.toInt32) = _
  rw [q]
theorem v_cret {z : Int32} {y : ρ} (X : v_C Γ l0 R0 cc nL own (some .char) w g) (hd : decode cc pc = .ok (.ireturn, 1)) (hy : toR y = (some (.int z), σ)) : v_V Γ nL w g toR pc lv [.int z] σ (if (z.toUInt32 % 65536).toInt32 = z then some y else none) := by
  refine v_nzT fun q => ?_
  intro x hx ls H locs h1 h2 h3
  cases hx
  rw [hy]
  refine W.zret X.1 X.2.1 X.2.2.2.2.2.1 ?_ (fun t ht hW => ⟨rfl, by rw [ht]; exact h2, h3.F ht⟩) h3.2.2 hd X.2.2.2.2.2.2.1
  show Value.int ((z.toUInt32 % 65536).toInt32) = _
  rw [q]
theorem v_diald {a : Nat} {i : Int32} {k1 : Nat → (Nat → Int32) → Option ρ} (X : v_C Γ l0 R0 cc nL own ret w g) (hd : decode cc pc = .ok (.iaload, 1)) (kk : ∀ n f, v_V Γ nL w g toR (pc + 1) lv (.int (f i.toNatClampNeg) :: st) σ (k1 n f)) : v_V Γ nL w g toR pc lv (.int i :: .ref a :: st) σ (v_b2 (v_da σ a 0) fun n f => v_g i n (k1 n f)) := by
  intro x hx ls H locs h1 h2 h3
  obtain ⟨⟨n, f⟩, hz, hx⟩ := v_join (f := v_da σ a 0) (k := fun q => v_g i q.1 (k1 q.1 q.2)) hx
  obtain ⟨hin, hx⟩ := v_g_of hx
  obtain ⟨q0, hq0⟩ := v_wl_d (w := w) (g := g) (v_da_at hz)
  exact va_iald X.1 X.2.1 X.2.2.2.2.2.2.2.1 h2.1 q0 0 hq0 rfl hin hd (kk n f x hx ls H locs h1 h2 h3)
theorem v_dqald {a : Nat} {i : Int32} {k1 : Nat → (Nat → Option Nat) → Option ρ} (X : v_C Γ l0 R0 cc nL own ret w g) (hd : decode cc pc = .ok (.aaload, 1)) (kk : ∀ n f, v_V Γ nL w g toR (pc + 1) lv (va_rf (f i.toNatClampNeg) :: st) σ (k1 n f)) : v_V Γ nL w g toR pc lv (.int i :: .ref a :: st) σ (v_b2 (v_dq σ a 8) fun n f => v_g i n (k1 n f)) := by
  intro x hx ls H locs h1 h2 h3
  obtain ⟨⟨n, f⟩, hz, hx⟩ := v_join (f := v_dq σ a 8) (k := fun q => v_g i q.1 (k1 q.1 q.2)) hx
  obtain ⟨hin, hx⟩ := v_g_of hx
  obtain ⟨q0, hq0⟩ := v_wl_d (w := w) (g := g) (v_dq_at hz)
  exact va_aldq (C := "java/lang/Object") X.1 X.2.1 X.2.2.2.2.2.2.2.1 h2.1 q0 8 hq0 rfl hin hd (kk n f x hx ls H locs h1 h2 h3)
/-- a numbered array of references that change -/
theorem v_aaldq {n len t : Nat} {C : String} {i : Int32} (X : v_C Γ l0 R0 cc nL own ret w g) (hn : n < w.2.1) (hlay : w.1 n = .inr (t, len, 2)) (ht : (v_tys (v_dA g))[t]? = some (v_dA g t, .object C)) (hd : decode cc pc = .ok (.aaload, 1)) (kk : v_V Γ nL w g toR (pc + 1) lv (va_rf (σ.2.2.1 n i.toNatClampNeg) :: st) σ mdl) : v_V Γ nL w g toR pc lv (.int i :: .ref (v_E g n) :: st) σ (v_g i len mdl) := by
  intro x hx ls H locs h1 h2 h3
  obtain ⟨hin, hx⟩ := v_g_of hx
  exact va_aldq X.1 X.2.1 X.2.2.2.2.2.2.2.1 h2.1 n t ((v_wl_at hn).trans (by rw [v_cell_a hlay]; rfl)) ht hin hd (kk x hx ls H locs h1 h2 h3)
theorem v_castq {e : Option Nat} {ci index N : Nat} {C : String} {T : u_T} (X : v_C Γ l0 R0 cc nL own ret w g) (hc : w.2.2[ci]? = some (C, T, N)) (hlink : Cond.classLink own index C ∈ lw_all) (hd : decode cc pc = .ok (.checkcast index, 3)) (kk : v_V Γ nL w g toR (pc + 3) lv (va_rf e :: st) σ mdl) : v_V Γ nL w g toR pc lv (va_rf e :: st) σ (if v_isc σ e ci = true then mdl else none) := by
  by_cases q : v_isc σ e ci = true
  · rw [if_pos q]
    cases e with
    | none => exact fun x hx ls H locs h1 h2 h3 => lv_castN X.1 X.2.1 hd (kk x hx ls H locs h1 h2 h3)
    | some a =>
      intro x hx ls H locs h1 h2 h3
      simp only [v_isc] at q
      cases hdf : v_df σ.2.2.2 a with
      | none => rw [hdf] at q; cases q
      | some ce =>
        obtain ⟨t, y⟩ | ⟨c, fs⟩ := ce
        · rw [hdf] at q; cases q
        · rw [hdf] at q
          have hcc : c = ci := by simpa using q
          subst hcc
          obtain ⟨q0, hq0⟩ := v_wl_d (w := w) (g := g) hdf
          exact va_castE (nm := C) X.1 X.2.1 X.2.2.2.1 (X.2.2.2.2.1 _ hlink) (va_recv X.2.2.2.2.2.2.2.1 h2.1 hc hq0) hd (kk x hx ls H locs h1 h2 h3)
  · rw [if_neg q]
    exact v_none
/-! numbered int arrays whose number is a variable -/
theorem v_ialdS {n : Nat} {i : Int32} {k1 : Nat → Option ρ} (X : v_C Γ l0 R0 cc nL own ret w g) (hd : decode cc pc = .ok (.iaload, 1)) (kk : ∀ len, v_V Γ nL w g toR (pc + 1) lv (.int (σ.1 n i.toNatClampNeg) :: st) σ (k1 len)) : v_V Γ nL w g toR pc lv (.int i :: .ref (v_E g n) :: st) σ (v_b1 (v_il w n) fun len => v_g i len (k1 len)) := by
  intro x hx
  obtain ⟨len, hz, hx⟩ := v_join hx
  obtain ⟨hn, hl⟩ := v_il_of hz
  exact v_iald X hn hl hd (kk len) x hx
theorem v_iastS {n : Nat} {i z : Int32} {k1 : Nat → v_S → Option ρ} (X : v_C Γ l0 R0 cc nL own ret w g) (hd : decode cc pc = .ok (.iastore, 1)) (kk : ∀ len σ', v_V Γ nL w g toR (pc + 1) lv st σ' (k1 len σ')) : v_V Γ nL w g toR pc lv (.int z :: .int i :: .ref (v_E g n) :: st) σ (v_b1 (v_il w n) fun len => v_g i len (v_n (v_uI σ n i.toNatClampNeg z) (k1 len))) := by
  intro x hx
  obtain ⟨len, hz, hx⟩ := v_join hx
  obtain ⟨hn, hl⟩ := v_il_of hz
  exact v_iast X hn hl hd (kk len) x hx
theorem v_alenS {n : Nat} {k1 : Int32 → Option ρ} (X : v_C Γ l0 R0 cc nL own ret w g) (hd : decode cc pc = .ok (.arraylength, 1)) (kk : ∀ z : Int32, v_V Γ nL w g toR (pc + 1) lv (.int z :: st) σ (k1 z)) : v_V Γ nL w g toR pc lv (.ref (v_E g n) :: st) σ (v_b1 ((v_il w n).map Int32.ofNat) k1) := by
  intro x hx
  obtain ⟨z, hz, hx⟩ := v_join hx
  cases hq : v_il w n with
  | none => rw [hq] at hz; cases hz
  | some len =>
    rw [hq] at hz
    obtain ⟨hn, hl⟩ := v_il_of hq
    exact v_alen X hn hl (t := 0) (ty := .int) rfl (by injection hz) hd (kk z) x hx
/-- System.arraycopy, int arrays with numbers -/
theorem v_copyS {index n0 n1 : Nat} {sp dp n : Int32} {k1 : v_S → Option ρ} (X : v_C Γ l0 R0 cc nL own ret w g) (q1 : Cond.methodLink own index arraycopyName ∈ lw_all) (q2 : Cond.native arraycopyName ∈ lw_all) (q3 : Cond.static arraycopyName ∈ lw_all) (q4 : Cond.initialized "java/lang/System" ∈ lw_all) (hR : (Nat.ble 1 R0.frames && Nat.ble ((st.map fun v => v.category).sum + (nativeFrameWords "java/lang/System" "arraycopy" 5 + 11)) R0.locals) = true) (hd : decode cc pc = .ok (.invokestatic index, 3))
    (kk : ∀ σ', v_V Γ nL w g toR (pc + 3) lv st σ' (k1 σ')) : v_V Γ nL w g toR pc lv (.int n :: .int dp :: .ref (v_E g n1) :: .int sp :: .ref (v_E g n0) :: st) σ (v_b1 (v_il w n0) fun l0 => v_b1 (v_il w n1) fun l1 => if v_bad sp dp n l0 l1 = true then none else v_n (v_cpS σ n0 n1 sp.toNatClampNeg dp.toNatClampNeg n.toNatClampNeg) k1) := by
  intro x hx ls H locs h1 h2 h3
  obtain ⟨len0, hz0, hx⟩ := v_join hx
  obtain ⟨len1, hz1, hx⟩ := v_join hx
  split at hx
  · cases hx
  rename_i hb
  obtain ⟨b1, b2, b3, b4, b5⟩ := v_bad_not hb
  obtain ⟨hn0, hl0⟩ := v_il_of hz0
  obtain ⟨hn1, hl1⟩ := v_il_of hz1
  simp only [Bool.and_eq_true, Nat.ble_eq] at hR
  refine va_copyi X.1 X.2.1 (X.2.2.1.trans h1.1.symm) X.2.2.2.1 (X.2.2.2.2.1 _ q1) (X.2.2.2.2.1 _ q2) (X.2.2.2.2.1 _ q3) (X.2.2.2.2.1 _ q4) X.2.2.2.2.2.2.2.1 h2.1 h2.2 h3 n0 n1 0 0 ((v_wl_at hn0).trans (by rw [v_cell_a hl0]; rfl)) ((v_wl_at hn1).trans (by rw [v_cell_a hl1]; rfl)) (ty := .int) rfl rfl rfl b1 b2 b3 b4 b5 (fun _ _ => rfl) (by rw [X.2.2.2.2.2.2.2.2.2.2.2]; exact hR.1) (by rw [X.2.2.2.2.2.2.2.2.2.2.2]; exact hR.2) hd (fun H1 locs1 hP hD hS => ?_)
  have e := v_wl_set (g := g) (σ := σ) (σ' := v_cpS σ n0 n1 sp.toNatClampNeg dp.toNatClampNeg n.toNatClampNeg) (e := .inl (v_dA g 0, len1, .inl (va_cpy (σ.1 n0) (σ.1 n1) sp.toNatClampNeg dp.toNatClampNeg n.toNatClampNeg))) hn1 (by rw [v_cell_a hl1]; exact congrArg (fun q => Sum.inl (v_dA g 0, len1, Sum.inl q)) (funext fun j => by simp [v_cpS])) (fun m hm => v_cell_n (fun k => by simp [v_cpS, hm]) (fun k => rfl) (fun k => rfl)) rfl
  rw [e] at hP hD
  exact kk _ x hx ls H1 locs1 h1 ⟨hP, hD⟩ hS
/-! returns of references -/
theorem v_aretq {C : String} {z : Option Nat} {y : ρ} (X : v_C Γ l0 R0 cc nL own (some (.object C)) w g) (hd : decode cc pc = .ok (.areturn, 1)) (hy : toR y = (some (va_rf z), σ)) : v_V Γ nL w g toR pc lv [va_rf z] σ (some y) := by
  intro x hx ls H locs h1 h2 h3
  cases hx
  rw [hy]
  exact W.aret X.1 X.2.1 X.2.2.2.2.2.1 (Or.inl ⟨C, rfl⟩) (by cases z with | none => exact Or.inl rfl | some a => exact Or.inr ⟨a, rfl⟩) (fun t ht hW => ⟨rfl, by rw [ht]; exact h2, h3.F ht⟩) h3.2.2 hd X.2.2.2.2.2.2.1
/-! calls -/
def v_yN (y : MethodName) (bytes : ByteArray) (maxL : Nat) (ret' : Option FieldType) (np : Nat) : Prop := v_yV y bytes maxL ret' np
theorem v_run5 {α : Type} {as : List Value} {toR' : α → Option Value × v_S} {ls : Array Slot} {H : Heap} {locs : List Loc} {rest : List Value} {Q : State → Prop} {z : α} {free : Addr → Prop} {st0 : List Value} (hfr : free = v_A g)
    (h3 : va_S (v_A g) (v_s Γ).heap H locs) (run : va_Run5 (v_p Γ) (v_l Γ) (v_e Γ) (v_R Γ) (v_s Γ) (v_m Γ) (v_a Γ) (v_b Γ) (v_me Γ) (v_c Γ) H locs 0 0 0 0 (F0 (v_m Γ) pc ls st0) rest (v_Q w g (toR' z) as.toArray) free)
    (kk : ∀ (H1 : Heap) (locs1 : List Loc), v_I w g (toR' z).2 H1 → va_S (v_A g) (v_s Γ).heap H1 locs1 → v_W Γ H1 locs1 0 0 Q (F0 (v_m Γ) (pc + 5) ls ((toR' z).1.toList ++ rest))) : v_W Γ H locs 0 0 Q (F0 (v_m Γ) pc ls st0) := by
  subst hfr
  intro T hT Y
  obtain ⟨v, st₀, t, T', L, e0, Y', hL, e1, e2, ⟨hv, hI, hz, hk⟩, st1⟩ := run T hT Y
  have hv : v = (toR' z).1 := by injection hv
  subst hv
  rw [e0] at hz hk
  obtain ⟨t2, a1, b1⟩ := kk T'.heap (locs ++ L) (by rw [e1]; exact hI) ⟨Nat.le_trans h3.1 (by rw [e1]; exact hz), fun q g1 g2 => by rw [e1, hk q (Nat.lt_of_lt_of_le g1 h3.1) g2]; exact h3.2.1 q g1 g2, fun q hq => by
      rcases List.mem_append.mp hq with h | h
      · exact h3.2.2 q h
      · exact hL q h⟩ T' rfl Y'
  exact ⟨t2, st1 t2 a1, b1⟩
theorem v_rc_n {n : Nat} {C : String} (X : v_C Γ l0 R0 cc nL own ret w g) (h : v_ob w n C) : v_rc Γ w g σ (v_E g n) C := by
  obtain ⟨hn, ci, N, ks, T, hlay, hc⟩ := h
  exact fun H locs h2 h3 => v_recv X hn hlay hc h2
/-- how a call is made: 0 virtual, 1 to a nest mate's private method; through an interface -/
theorem v_callG {α : Type} {y : MethodName} {bytes : ByteArray} {maxL index : Nat} {ret' : Option FieldType} {rm : Room} {b np : Nat} {As rest st0 : List Value} {toR' : α → Option Value × v_S} {f : Option α} {k : α → Option ρ} (X : v_C Γ l0 R0 cc nL own ret w g)
    (hM : v_M l0 y bytes maxL ret' rm w g (.ref b :: As) σ toR' f) (ho : v_rc Γ w g σ b y.cls) (hq : Cond.methodLink own index y ∈ lw_all ∨ ∃ host, Cond.methodLinkNest own index y host ∈ lw_tbl) (hy : v_yV y bytes maxL ret' np)
    (hnp : As.length = np) (hrm : v_rm rm R0 maxL = true) (hst : st0 = As.reverse ++ .ref b :: rest) (hroom : Nat.ble ((rest.map fun v => v.category).sum) 8 = true) (hd : decode cc pc = .ok (.invokevirtual index, 3))
    (kk : ∀ z, f = some z → v_V Γ nL w g toR (pc + 3) lv ((toR' z).1.toList ++ rest) (toR' z).2 (k z)) : v_V Γ nL w g toR pc lv st0 σ (v_b1 f k) := by
  intro x hx ls H locs h1 h2 h3
  obtain ⟨z, hz, hx⟩ := v_join hx
  obtain ⟨a1, a2, a3, a4, a5⟩ := hy
  simp only [v_rm, Bool.and_eq_true, beq_iff_eq, Nat.ble_eq] at hrm
  obtain ⟨r1, r2, r3, r4⟩ := hrm
  have hM' := hM z hz
  rw [← X.2.2.2.2.2.2.2.2.2.2.1] at hM'
  have run : va_Run (v_p Γ) (v_l Γ) (v_e Γ) (v_R Γ) (v_s Γ) (v_m Γ) (v_a Γ) (v_b Γ) (v_me Γ) (v_c Γ) H locs 0 0 0 0 (F0 (v_m Γ) pc ls st0) rest (v_Q w g (toR' z) (Value.ref b :: As).toArray) (v_A g) := by
    rcases hq with q1 | ⟨host, q1⟩
    · have cw : CallW (v_R Γ) (v_s Γ) (v_a Γ) own y.cls index y bytes maxL ret' (ws_ y bytes maxL ret') rm 0 0 np := cwV np X.2.2.2.2.1 (lw_V q1 a1 a2 a3 a4) rfl r1 r2 ⟨rfl, a5⟩ ⟨by rw [X.2.2.2.2.2.2.2.2.2.2.2]; exact r3, by rw [X.2.2.2.2.2.2.2.2.2.2.2]; exact r4⟩
      exact va_runV (p := v_p Γ) (e := v_e Γ) (below := v_b Γ) (meth := v_me Γ) (m := v_m Γ) (c := v_c Γ) (g := F0 (v_m Γ) pc ls st0) (rest := rest) (As := As) (locs := locs) (cells := 0) (slots := 0) ⟨X.1, X.2.1, X.2.2.1, X.2.2.2.1, X.2.2.2.2.1⟩ hM' cw ⟨v_P.blind, ho H locs h2 h3, fun U hU hW => ⟨rfl, v_pre X h2 h3 U hU hW⟩⟩ rfl hnp h1.1 hst (lv_room (Nat.le_of_ble_eq_true hroom)) hd ⟨Nat.zero_le _, Nat.zero_le _⟩
    · have cw := va_cnB (R := v_R Γ) (s := v_s Γ) (args := v_a Γ) (own := own) (index := index) (rm := rm) (host := host) np X.2.2.2.2.1 (lw_meth a4) rfl r1 r2 (X.2.2.2.2.2.2.2.2.2.1.nestM q1) (X.2.2.2.2.1 _ a3) a5 ⟨by rw [X.2.2.2.2.2.2.2.2.2.2.2]; exact r3, by rw [X.2.2.2.2.2.2.2.2.2.2.2]; exact r4⟩
      exact va_runVN (p := v_p Γ) (e := v_e Γ) (below := v_b Γ) (meth := v_me Γ) (m := v_m Γ) (c := v_c Γ) (g := F0 (v_m Γ) pc ls st0) (rest := rest) (As := As) (locs := locs) (cells := 0) (slots := 0) (C := y.cls) ⟨X.1, X.2.1, X.2.2.1, X.2.2.2.1, X.2.2.2.2.1⟩ hM' ⟨cw, X.2.2.2.2.1 _ a1, X.2.2.2.2.1 _ a2⟩ ⟨v_P.blind, ho H locs h2 h3, fun U hU hW => ⟨rfl, v_pre X h2 h3 U hU hW⟩⟩ rfl hnp h1.1 hst (lv_room (Nat.le_of_ble_eq_true hroom)) hd ⟨Nat.zero_le _, Nat.zero_le _⟩
  exact v_run (as := .ref b :: As) (rm := rm) (ret' := ret') (bytes := bytes) (maxL := maxL) (y := y) (σ' := σ) (f := f) rfl h3 run fun H1 locs1 hI hS => kk z hz x hx ls H1 locs1 h1 hI hS
theorem v_callGS {α : Type} {y : MethodName} {bytes : ByteArray} {maxL index : Nat} {ret' : Option FieldType} {rm : Room} {np : Nat} {host : String} {As rest st0 : List Value} {toR' : α → Option Value × v_S} {f : Option α} {k : α → Option ρ} (X : v_C Γ l0 R0 cc nL own ret w g)
    (hM : v_M l0 y bytes maxL ret' rm w g As σ toR' f) (q1 : Cond.methodLinkNest own index y host ∈ lw_tbl) (hy : v_yS y bytes maxL ret' np)
    (hnp : As.length = np) (hrm : v_rm rm R0 maxL = true) (hst : st0 = As.reverse ++ rest) (hroom : Nat.ble ((rest.map fun v => v.category).sum) 8 = true) (hd : decode cc pc = .ok (.invokestatic index, 3))
    (kk : ∀ z, f = some z → v_V Γ nL w g toR (pc + 3) lv ((toR' z).1.toList ++ rest) (toR' z).2 (k z)) : v_V Γ nL w g toR pc lv st0 σ (v_b1 f k) := by
  intro x hx ls H locs h1 h2 h3
  obtain ⟨z, hz, hx⟩ := v_join hx
  obtain ⟨a2, a3, a4, a5⟩ := hy
  simp only [v_rm, Bool.and_eq_true, beq_iff_eq, Nat.ble_eq] at hrm
  obtain ⟨r1, r2, r3, r4⟩ := hrm
  have hM' := hM z hz
  rw [← X.2.2.2.2.2.2.2.2.2.2.1] at hM'
  have cw := va_cnB (R := v_R Γ) (s := v_s Γ) (args := v_a Γ) (own := own) (index := index) (rm := rm) (host := host) np X.2.2.2.2.1 (lw_meth a4) rfl r1 r2 (X.2.2.2.2.2.2.2.2.2.1.nestM q1) (X.2.2.2.2.1 _ a3) a5 ⟨by rw [X.2.2.2.2.2.2.2.2.2.2.2]; exact r3, by rw [X.2.2.2.2.2.2.2.2.2.2.2]; exact r4⟩
  have run := va_runSN (p := v_p Γ) (e := v_e Γ) (below := v_b Γ) (meth := v_me Γ) (m := v_m Γ) (c := v_c Γ) (g := F0 (v_m Γ) pc ls st0) (rest := rest) (As := As) (locs := locs) (cells := 0) (slots := 0) ⟨X.1, X.2.1, X.2.2.1, X.2.2.2.1, X.2.2.2.2.1⟩ hM' ⟨cw, X.2.2.2.2.1 _ a2, trivial⟩ ⟨v_P.blind, fun U hU hW => ⟨rfl, v_pre X h2 h3 U hU hW⟩⟩ rfl hnp h1.1 hst (lv_room (Nat.le_of_ble_eq_true hroom)) hd ⟨Nat.zero_le _, Nat.zero_le _⟩
  exact v_run (as := As) (rm := rm) (ret' := ret') (bytes := bytes) (maxL := maxL) (y := y) (σ' := σ) (f := f) rfl h3 run fun H1 locs1 hI hS => kk z hz x hx ls H1 locs1 h1 hI hS
/-- what is known of a method that is called through an interface's method x, at an object of class C -/
def v_yF (C : String) (x y : MethodName) (bytes : ByteArray) (maxL : Nat) (ret' : Option FieldType) (np : Nat) : Prop := (Cond.selects C x y ∈ lw_all ∧ Cond.instanceMethod y ∈ lw_all ∧ Cond.initialized y.cls ∈ lw_all ∧ Cond.code y bytes maxL ret' ∈ lw_all) ∧ (Cond.declares x ∈ lw_tbl ∧ Cond.interfaceMethod x.cls x.cls x.name x.desc ∈ lw_tbl ∧ Cond.publicMethod y ∈ lw_tbl ∧ Cond.unhidden C x.name x.desc ∈ lw_tbl ∧ Cond.castable C x.cls ∈ lw_tbl) ∧ (x.cls ≠ "java/lang/invoke/MethodHandle" ∧ x.cls ≠ "java/lang/invoke/VarHandle" ∧ (parseMethodDescriptor x.desc).map (fun d => d.parameters.length) = some np)
theorem v_callF {α : Type} {C : String} {x y : MethodName} {bytes : ByteArray} {maxL index count ci N : Nat} {ret' : Option FieldType} {rm : Room} {b np : Nat} {T : u_T} {As rest st0 : List Value} {toR' : α → Option Value × v_S} {f : Option α} {k : α → Option ρ} (X : v_C Γ l0 R0 cc nL own ret w g)
    (hM : v_M l0 y bytes maxL ret' rm w g (.ref b :: As) σ toR' f) (hc : w.2.2[ci]? = some (C, T, N)) (q1 : Cond.methodLink own index x ∈ lw_all) (hy : v_yF C x y bytes maxL ret' np)
    (hnp : As.length = np) (hrm : v_rm rm R0 maxL = true) (hst : st0 = As.reverse ++ .ref b :: rest) (hroom : Nat.ble ((rest.map fun v => v.category).sum) 8 = true) (hd : decode cc pc = .ok (.invokeinterface index count, 5))
    (kk : ∀ z, f = some z → v_V Γ nL w g toR (pc + 5) lv ((toR' z).1.toList ++ rest) (toR' z).2 (k z)) : v_V Γ nL w g toR pc lv st0 σ (if v_isc σ (some b) ci = true then v_b1 f k else none) := by
  by_cases q : v_isc σ (some b) ci = true
  · rw [if_pos q]
    intro x1 hx ls H locs h1 h2 h3
    obtain ⟨z, hz, hx⟩ := v_join hx
    obtain ⟨⟨a1, a2, a3, a4⟩, ⟨b1, b2, b3, b4, b5⟩, a5⟩ := hy
    simp only [v_rm, Bool.and_eq_true, beq_iff_eq, Nat.ble_eq] at hrm
    obtain ⟨r1, r2, r3, r4⟩ := hrm
    have hM' := hM z hz
    rw [← X.2.2.2.2.2.2.2.2.2.2.1] at hM'
    have Bz := X.2.2.2.2.2.2.2.2.2.1
    have t0 := Bz.2.2.2.1
    have hF : va_Fw C x y (v_s Γ) := (va_Fw.of (t0 _ b1) (t0 _ b2) (t0 _ b3) (t0 _ b4) (t0 _ b5)).moved ⟨a5.1, a5.2.1⟩ Bz.1.alike
    have hG : GoodIn lw_all (va_wsF own index C x y (ws_ y bytes maxL ret')) := lw_app (fun w hw => by
      simp only [List.mem_cons, List.not_mem_nil, or_false] at hw
      rcases hw with e | e | e | e
      · rw [e]; exact q1
      · rw [e]; exact a1
      · rw [e]; exact a2
      · rw [e]; exact a3) (lw_meth a4)
    have cw := va_cwF (R := v_R Γ) (s := v_s Γ) (args := v_a Γ) (rm := rm) np X.2.2.2.2.1 hG rfl r1 r2 hF a5 ⟨by rw [X.2.2.2.2.2.2.2.2.2.2.2]; exact r3, by rw [X.2.2.2.2.2.2.2.2.2.2.2]; exact r4⟩
    simp only [v_isc] at q
    cases hdf : v_df σ.2.2.2 b with
    | none => rw [hdf] at q; cases q
    | some ce =>
      obtain ⟨t, y9⟩ | ⟨c, fs⟩ := ce
      · rw [hdf] at q; cases q
      · rw [hdf] at q
        have hcc : c = ci := by simpa using q
        subst hcc
        have hrcv : ∃ cell : Cell, H[b]? = some cell ∧ cell.vm.isStatics = false ∧ (v_s Γ).vm.findClass C = some cell.cls := by
          obtain ⟨q0, hq0⟩ := v_wl_d (w := w) (g := g) hdf
          exact va_recv X.2.2.2.2.2.2.2.1 h2.1 hc hq0
        have hat := (X.2.2.2.2.2.2.2.1.1 _ _ hc).2
        have run := va_runF (p := v_p Γ) (e := v_e Γ) (below := v_b Γ) (meth := v_me Γ) (m := v_m Γ) (c := v_c Γ) (g := F0 (v_m Γ) pc ls st0) (rest := rest) (As := As) (locs := locs) (cells := 0) (slots := 0) hat ⟨X.1, X.2.1, X.2.2.1, X.2.2.2.1, X.2.2.2.2.1⟩ hM' cw ⟨v_P.blind, hrcv, fun U hU hW => ⟨rfl, v_pre X h2 h3 U hU hW⟩⟩ rfl hnp h1.1 hst (lv_room (Nat.le_of_ble_eq_true hroom)) hd ⟨Nat.zero_le _, Nat.zero_le _⟩
        exact v_run5 (as := .ref b :: As) rfl h3 run fun H1 locs1 hI hS => kk z hz x1 hx ls H1 locs1 h1 hI hS
  · rw [if_neg q]
    exact v_none
theorem v_cGi {y : MethodName} {bytes : ByteArray} {maxL index : Nat} {ret' : Option FieldType} {rm : Room} {b np : Nat} {As rest st0 : List Value} {f : Option (Int32)} {k : Int32 → Option ρ} (X : v_C Γ l0 R0 cc nL own ret w g) (hM : v_M l0 y bytes maxL ret' rm w g (.ref b :: As) σ (fun z => (some (.int z), σ)) f) (ho : v_rc Γ w g σ b y.cls) (hq : Cond.methodLink own index y ∈ lw_all ∨ ∃ host, Cond.methodLinkNest own index y host ∈ lw_tbl) (hy : v_yV y bytes maxL ret' np) (hnp : As.length = np) (hrm : v_rm rm R0 maxL = true) (hst : st0 = As.reverse ++ .ref b :: rest) (hroom : Nat.ble ((rest.map fun v => v.category).sum) 8 = true) (hd : decode cc pc = .ok (.invokevirtual index, 3))
    (kk : ∀ z : Int32, f = some z → v_V Γ nL w g toR (pc + 3) lv (.int z :: rest) σ (k z)) : v_V Γ nL w g toR pc lv st0 σ (v_b1 f k) := v_callG (k := k) X hM ho hq hy hnp hrm hst hroom hd (fun z hz => kk z hz)
theorem v_cTi {y : MethodName} {bytes : ByteArray} {maxL index : Nat} {ret' : Option FieldType} {rm : Room} {np : Nat} {host : String} {As rest st0 : List Value} {f : Option (Int32)} {k : Int32 → Option ρ} (X : v_C Γ l0 R0 cc nL own ret w g) (hM : v_M l0 y bytes maxL ret' rm w g As σ (fun z => (some (.int z), σ)) f) (q1 : Cond.methodLinkNest own index y host ∈ lw_tbl) (hy : v_yS y bytes maxL ret' np) (hnp : As.length = np) (hrm : v_rm rm R0 maxL = true) (hst : st0 = As.reverse ++ rest) (hroom : Nat.ble ((rest.map fun v => v.category).sum) 8 = true) (hd : decode cc pc = .ok (.invokestatic index, 3))
    (kk : ∀ z : Int32, f = some z → v_V Γ nL w g toR (pc + 3) lv (.int z :: rest) σ (k z)) : v_V Γ nL w g toR pc lv st0 σ (v_b1 f k) := v_callGS (k := k) X hM q1 hy hnp hrm hst hroom hd (fun z hz => kk z hz)
theorem v_cFi {C : String} {x : MethodName} {count ci N : Nat} {T : u_T} {y : MethodName} {bytes : ByteArray} {maxL index : Nat} {ret' : Option FieldType} {rm : Room} {b np : Nat} {As rest st0 : List Value} {f : Option (Int32)} {k : Int32 → Option ρ} (X : v_C Γ l0 R0 cc nL own ret w g) (hM : v_M l0 y bytes maxL ret' rm w g (.ref b :: As) σ (fun z => (some (.int z), σ)) f) (hc : w.2.2[ci]? = some (C, T, N)) (q1 : Cond.methodLink own index x ∈ lw_all) (hy : v_yF C x y bytes maxL ret' np) (hnp : As.length = np) (hrm : v_rm rm R0 maxL = true) (hst : st0 = As.reverse ++ .ref b :: rest) (hroom : Nat.ble ((rest.map fun v => v.category).sum) 8 = true) (hd : decode cc pc = .ok (.invokeinterface index count, 5))
    (kk : ∀ z : Int32, f = some z → v_V Γ nL w g toR (pc + 5) lv (.int z :: rest) σ (k z)) : v_V Γ nL w g toR pc lv st0 σ (if v_isc σ (some b) ci = true then v_b1 f k else none) := v_callF (k := k) X hM hc q1 hy hnp hrm hst hroom hd (fun z hz => kk z hz)
theorem v_cGl {y : MethodName} {bytes : ByteArray} {maxL index : Nat} {ret' : Option FieldType} {rm : Room} {b np : Nat} {As rest st0 : List Value} {f : Option (Int64)} {k : Int64 → Option ρ} (X : v_C Γ l0 R0 cc nL own ret w g) (hM : v_M l0 y bytes maxL ret' rm w g (.ref b :: As) σ (fun z => (some (.long z), σ)) f) (ho : v_rc Γ w g σ b y.cls) (hq : Cond.methodLink own index y ∈ lw_all ∨ ∃ host, Cond.methodLinkNest own index y host ∈ lw_tbl) (hy : v_yV y bytes maxL ret' np) (hnp : As.length = np) (hrm : v_rm rm R0 maxL = true) (hst : st0 = As.reverse ++ .ref b :: rest) (hroom : Nat.ble ((rest.map fun v => v.category).sum) 8 = true) (hd : decode cc pc = .ok (.invokevirtual index, 3))
    (kk : ∀ z : Int64, f = some z → v_V Γ nL w g toR (pc + 3) lv (.long z :: rest) σ (k z)) : v_V Γ nL w g toR pc lv st0 σ (v_b1 f k) := v_callG (k := k) X hM ho hq hy hnp hrm hst hroom hd (fun z hz => kk z hz)
theorem v_cTl {y : MethodName} {bytes : ByteArray} {maxL index : Nat} {ret' : Option FieldType} {rm : Room} {np : Nat} {host : String} {As rest st0 : List Value} {f : Option (Int64)} {k : Int64 → Option ρ} (X : v_C Γ l0 R0 cc nL own ret w g) (hM : v_M l0 y bytes maxL ret' rm w g As σ (fun z => (some (.long z), σ)) f) (q1 : Cond.methodLinkNest own index y host ∈ lw_tbl) (hy : v_yS y bytes maxL ret' np) (hnp : As.length = np) (hrm : v_rm rm R0 maxL = true) (hst : st0 = As.reverse ++ rest) (hroom : Nat.ble ((rest.map fun v => v.category).sum) 8 = true) (hd : decode cc pc = .ok (.invokestatic index, 3))
    (kk : ∀ z : Int64, f = some z → v_V Γ nL w g toR (pc + 3) lv (.long z :: rest) σ (k z)) : v_V Γ nL w g toR pc lv st0 σ (v_b1 f k) := v_callGS (k := k) X hM q1 hy hnp hrm hst hroom hd (fun z hz => kk z hz)
theorem v_cGq {y : MethodName} {bytes : ByteArray} {maxL index : Nat} {ret' : Option FieldType} {rm : Room} {b np : Nat} {As rest st0 : List Value} {f : Option (Option Nat)} {k : Option Nat → Option ρ} (X : v_C Γ l0 R0 cc nL own ret w g) (hM : v_M l0 y bytes maxL ret' rm w g (.ref b :: As) σ (fun z => (some (va_rf z), σ)) f) (ho : v_rc Γ w g σ b y.cls) (hq : Cond.methodLink own index y ∈ lw_all ∨ ∃ host, Cond.methodLinkNest own index y host ∈ lw_tbl) (hy : v_yV y bytes maxL ret' np) (hnp : As.length = np) (hrm : v_rm rm R0 maxL = true) (hst : st0 = As.reverse ++ .ref b :: rest) (hroom : Nat.ble ((rest.map fun v => v.category).sum) 8 = true) (hd : decode cc pc = .ok (.invokevirtual index, 3))
    (kk : ∀ z : Option Nat, f = some z → v_V Γ nL w g toR (pc + 3) lv (va_rf z :: rest) σ (k z)) : v_V Γ nL w g toR pc lv st0 σ (v_b1 f k) := v_callG (k := k) X hM ho hq hy hnp hrm hst hroom hd (fun z hz => kk z hz)
theorem v_cFq {C : String} {x : MethodName} {count ci N : Nat} {T : u_T} {y : MethodName} {bytes : ByteArray} {maxL index : Nat} {ret' : Option FieldType} {rm : Room} {b np : Nat} {As rest st0 : List Value} {f : Option (Option Nat)} {k : Option Nat → Option ρ} (X : v_C Γ l0 R0 cc nL own ret w g) (hM : v_M l0 y bytes maxL ret' rm w g (.ref b :: As) σ (fun z => (some (va_rf z), σ)) f) (hc : w.2.2[ci]? = some (C, T, N)) (q1 : Cond.methodLink own index x ∈ lw_all) (hy : v_yF C x y bytes maxL ret' np) (hnp : As.length = np) (hrm : v_rm rm R0 maxL = true) (hst : st0 = As.reverse ++ .ref b :: rest) (hroom : Nat.ble ((rest.map fun v => v.category).sum) 8 = true) (hd : decode cc pc = .ok (.invokeinterface index count, 5))
    (kk : ∀ z : Option Nat, f = some z → v_V Γ nL w g toR (pc + 5) lv (va_rf z :: rest) σ (k z)) : v_V Γ nL w g toR pc lv st0 σ (if v_isc σ (some b) ci = true then v_b1 f k else none) := v_callF (k := k) X hM hc q1 hy hnp hrm hst hroom hd (fun z hz => kk z hz)
theorem v_cGs {y : MethodName} {bytes : ByteArray} {maxL index : Nat} {ret' : Option FieldType} {rm : Room} {b np : Nat} {As rest st0 : List Value} {f : Option (v_S)} {k : v_S → Option ρ} (X : v_C Γ l0 R0 cc nL own ret w g) (hM : v_M l0 y bytes maxL ret' rm w g (.ref b :: As) σ (fun z => ((none : Option Value), z)) f) (ho : v_rc Γ w g σ b y.cls) (hq : Cond.methodLink own index y ∈ lw_all ∨ ∃ host, Cond.methodLinkNest own index y host ∈ lw_tbl) (hy : v_yV y bytes maxL ret' np) (hnp : As.length = np) (hrm : v_rm rm R0 maxL = true) (hst : st0 = As.reverse ++ .ref b :: rest) (hroom : Nat.ble ((rest.map fun v => v.category).sum) 8 = true) (hd : decode cc pc = .ok (.invokevirtual index, 3))
    (kk : ∀ z : v_S, f = some z → v_V Γ nL w g toR (pc + 3) lv (rest) z (k z)) : v_V Γ nL w g toR pc lv st0 σ (v_b1 f k) := v_callG (k := k) X hM ho hq hy hnp hrm hst hroom hd (fun z hz => kk z hz)
theorem v_cTs {y : MethodName} {bytes : ByteArray} {maxL index : Nat} {ret' : Option FieldType} {rm : Room} {np : Nat} {host : String} {As rest st0 : List Value} {f : Option (v_S)} {k : v_S → Option ρ} (X : v_C Γ l0 R0 cc nL own ret w g) (hM : v_M l0 y bytes maxL ret' rm w g As σ (fun z => ((none : Option Value), z)) f) (q1 : Cond.methodLinkNest own index y host ∈ lw_tbl) (hy : v_yS y bytes maxL ret' np) (hnp : As.length = np) (hrm : v_rm rm R0 maxL = true) (hst : st0 = As.reverse ++ rest) (hroom : Nat.ble ((rest.map fun v => v.category).sum) 8 = true) (hd : decode cc pc = .ok (.invokestatic index, 3))
    (kk : ∀ z : v_S, f = some z → v_V Γ nL w g toR (pc + 3) lv (rest) z (k z)) : v_V Γ nL w g toR pc lv st0 σ (v_b1 f k) := v_callGS (k := k) X hM q1 hy hnp hrm hst hroom hd (fun z hz => kk z hz)
theorem v_cGr {y : MethodName} {bytes : ByteArray} {maxL index : Nat} {ret' : Option FieldType} {rm : Room} {b np : Nat} {As rest st0 : List Value} {f : Option (v_S)} {k : v_S → Option ρ} {n9 : Nat} (X : v_C Γ l0 R0 cc nL own ret w g) (hM : v_M l0 y bytes maxL ret' rm w g (.ref b :: As) σ (fun z => (some (.ref (v_E g n9)), z)) f) (ho : v_rc Γ w g σ b y.cls) (hq : Cond.methodLink own index y ∈ lw_all ∨ ∃ host, Cond.methodLinkNest own index y host ∈ lw_tbl) (hy : v_yV y bytes maxL ret' np) (hnp : As.length = np) (hrm : v_rm rm R0 maxL = true) (hst : st0 = As.reverse ++ .ref b :: rest) (hroom : Nat.ble ((rest.map fun v => v.category).sum) 8 = true) (hd : decode cc pc = .ok (.invokevirtual index, 3))
    (kk : ∀ z : v_S, f = some z → v_V Γ nL w g toR (pc + 3) lv (.ref (v_E g n9) :: rest) z (k z)) : v_V Γ nL w g toR pc lv st0 σ (v_b1 f k) := v_callG (k := k) X hM ho hq hy hnp hrm hst hroom hd (fun z hz => kk z hz)
theorem v_cGis {y : MethodName} {bytes : ByteArray} {maxL index : Nat} {ret' : Option FieldType} {rm : Room} {b np : Nat} {As rest st0 : List Value} {f : Option (Int32 × v_S)} {k : Int32 → v_S → Option ρ} (X : v_C Γ l0 R0 cc nL own ret w g) (hM : v_M l0 y bytes maxL ret' rm w g (.ref b :: As) σ (fun z => (some (.int z.1), z.2)) f) (ho : v_rc Γ w g σ b y.cls) (hq : Cond.methodLink own index y ∈ lw_all ∨ ∃ host, Cond.methodLinkNest own index y host ∈ lw_tbl) (hy : v_yV y bytes maxL ret' np) (hnp : As.length = np) (hrm : v_rm rm R0 maxL = true) (hst : st0 = As.reverse ++ .ref b :: rest) (hroom : Nat.ble ((rest.map fun v => v.category).sum) 8 = true) (hd : decode cc pc = .ok (.invokevirtual index, 3))
    (kk : ∀ (z : Int32) (z2 : v_S), f = some (z, z2) → v_V Γ nL w g toR (pc + 3) lv (.int z :: rest) z2 (k z z2)) : v_V Γ nL w g toR pc lv st0 σ (v_b2 f k) := v_callG (k := fun q => k q.1 q.2) X hM ho hq hy hnp hrm hst hroom hd (fun z hz => kk z.1 z.2 hz)
theorem v_cTis {y : MethodName} {bytes : ByteArray} {maxL index : Nat} {ret' : Option FieldType} {rm : Room} {np : Nat} {host : String} {As rest st0 : List Value} {f : Option (Int32 × v_S)} {k : Int32 → v_S → Option ρ} (X : v_C Γ l0 R0 cc nL own ret w g) (hM : v_M l0 y bytes maxL ret' rm w g As σ (fun z => (some (.int z.1), z.2)) f) (q1 : Cond.methodLinkNest own index y host ∈ lw_tbl) (hy : v_yS y bytes maxL ret' np) (hnp : As.length = np) (hrm : v_rm rm R0 maxL = true) (hst : st0 = As.reverse ++ rest) (hroom : Nat.ble ((rest.map fun v => v.category).sum) 8 = true) (hd : decode cc pc = .ok (.invokestatic index, 3))
    (kk : ∀ (z : Int32) (z2 : v_S), f = some (z, z2) → v_V Γ nL w g toR (pc + 3) lv (.int z :: rest) z2 (k z z2)) : v_V Γ nL w g toR pc lv st0 σ (v_b2 f k) := v_callGS (k := fun q => k q.1 q.2) X hM q1 hy hnp hrm hst hroom hd (fun z hz => kk z.1 z.2 hz)
theorem v_cGls {y : MethodName} {bytes : ByteArray} {maxL index : Nat} {ret' : Option FieldType} {rm : Room} {b np : Nat} {As rest st0 : List Value} {f : Option (Int64 × v_S)} {k : Int64 → v_S → Option ρ} (X : v_C Γ l0 R0 cc nL own ret w g) (hM : v_M l0 y bytes maxL ret' rm w g (.ref b :: As) σ (fun z => (some (.long z.1), z.2)) f) (ho : v_rc Γ w g σ b y.cls) (hq : Cond.methodLink own index y ∈ lw_all ∨ ∃ host, Cond.methodLinkNest own index y host ∈ lw_tbl) (hy : v_yV y bytes maxL ret' np) (hnp : As.length = np) (hrm : v_rm rm R0 maxL = true) (hst : st0 = As.reverse ++ .ref b :: rest) (hroom : Nat.ble ((rest.map fun v => v.category).sum) 8 = true) (hd : decode cc pc = .ok (.invokevirtual index, 3))
    (kk : ∀ (z : Int64) (z2 : v_S), f = some (z, z2) → v_V Γ nL w g toR (pc + 3) lv (.long z :: rest) z2 (k z z2)) : v_V Γ nL w g toR pc lv st0 σ (v_b2 f k) := v_callG (k := fun q => k q.1 q.2) X hM ho hq hy hnp hrm hst hroom hd (fun z hz => kk z.1 z.2 hz)
theorem v_cTls {y : MethodName} {bytes : ByteArray} {maxL index : Nat} {ret' : Option FieldType} {rm : Room} {np : Nat} {host : String} {As rest st0 : List Value} {f : Option (Int64 × v_S)} {k : Int64 → v_S → Option ρ} (X : v_C Γ l0 R0 cc nL own ret w g) (hM : v_M l0 y bytes maxL ret' rm w g As σ (fun z => (some (.long z.1), z.2)) f) (q1 : Cond.methodLinkNest own index y host ∈ lw_tbl) (hy : v_yS y bytes maxL ret' np) (hnp : As.length = np) (hrm : v_rm rm R0 maxL = true) (hst : st0 = As.reverse ++ rest) (hroom : Nat.ble ((rest.map fun v => v.category).sum) 8 = true) (hd : decode cc pc = .ok (.invokestatic index, 3))
    (kk : ∀ (z : Int64) (z2 : v_S), f = some (z, z2) → v_V Γ nL w g toR (pc + 3) lv (.long z :: rest) z2 (k z z2)) : v_V Γ nL w g toR pc lv st0 σ (v_b2 f k) := v_callGS (k := fun q => k q.1 q.2) X hM q1 hy hnp hrm hst hroom hd (fun z hz => kk z.1 z.2 hz)
end VD
