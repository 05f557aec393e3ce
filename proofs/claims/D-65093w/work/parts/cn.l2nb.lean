/-! LAYER 2: functions of the house: bytes in rows are narrowed -/
def hB (f : Nat → Int32) (m : Nat) : Prop := ∀ k, k < m → isB (f k)
theorem gd_tn {α : Type} {b : Bool} {k : Option α} {x : α} (h : gd b k = some x) : b = true := by
  cases b
  · simp [gd] at h
  · rfl
theorem bd_q {α β : Type} {o : Option β} {f : β → Option α} {x : α} (h : bd o f = some x) : ∃ z, o = some z ∧ f z = some x := by
  cases o with
  | none => simp [bd] at h
  | some z => exact ⟨z, rfl, h⟩
theorem hB_0 {f : Nat → Int32} : hB f 0 := fun k hk => absurd hk (by omega)
theorem hB_ai {σ : mS} {v i m : Nat} {b : Int32} (h : hB (σ.2.2.1 v) m) : hB ((md_ai σ v i (vp_nar .byte b)).2.2.1 v) m := fun k hk => by
  rw [ai_I, if_pos rfl, upd_at]
  by_cases q : k = i
  · rw [if_pos q]; exact B_nar b
  · rw [if_neg q]; exact h k hk
theorem hB_s {σ : mS} {v m : Nat} {b : Int32} (h : hB (σ.2.2.1 v) m) : hB ((md_ai σ v m (vp_nar .byte b)).2.2.1 v) (m + 1) := fun k hk => by
  rw [ai_I, if_pos rfl, upd_at]
  by_cases q : k = m
  · rw [if_pos q]; exact B_nar b
  · rw [if_neg q]; exact h k (by omega)
theorem inB_k {k n : Nat} (hk : k < 2147483648) (h : inB (Int32.ofNat k) n = true) : k < n := by
  simp only [inB, Bool.and_eq_true, decide_eq_true_eq, tI_lit hk] at h
  omega
theorem dgB_75 {N v m : Nat} {e r : Int32} {τ : mS} : ∀ (n : Nat) (v8 v9 : Int32) (σ : mS), hB (σ.2.2.1 v) m → xx6_digits_b75 N n v e v8 v9 σ = some (r, τ) → r = e ∧ hB (τ.2.2.1 v) m := by
  intro n
  induction n with
  | zero => intro v8 v9 σ _ h; simp [xx6_digits_b75] at h
  | succ n ih =>
    intro v8 v9 σ H h
    rw [xx6_digits_b75] at h
    split at h
    · simp only [Option.some.injEq, Prod.mk.injEq] at h
      exact ⟨h.1.symm, h.2 ▸ H⟩
    · have h1 := gd_s (gd_s h)
      simp only [lt] at h1
      have h2 := gd_s (gd_s (gd_s (gd_s h1)))
      have h3 := gd_s (gd_s h2)
      exact ih _ _ _ (hB_ai (hB_ai H)) h3
theorem dgB_25 {N v : Nat} (hv : x_ln v ≤ 1000000) {τ : mS} {len : Int32} : ∀ (n k : Nat) (v5 : Int32) (r : Int64) (σ : mS), k ≤ x_ln v → hB (σ.2.2.1 v) k → xx6_digits_b25 N n v (Int32.ofNat k) v5 r σ = some (len, τ) → ∃ m, len = Int32.ofNat m ∧ m ≤ x_ln v ∧ hB (τ.2.2.1 v) m := by
  intro n
  induction n with
  | zero => intro k v5 r σ _ _ h; simp [xx6_digits_b25] at h
  | succ n ih =>
    intro k v5 r σ hk H h
    rw [xx6_digits_b25] at h
    have h1 := gd_s h
    simp only [lt] at h1
    obtain ⟨z, hz, h2⟩ := bd_q h1
    have ez : z.2 = σ := by
      rw [xj8_abs] at hz
      split at hz <;> (simp only [xj8_abs_b10, Option.some.injEq] at hz; rw [← hz])
    have h3 := gd_s h2
    have hi := inB_k (by omega) (gd_tn h3)
    have h4 := gd_s (gd_s h3)
    rw [oN_cl (by omega), ez, oN_s] at h4
    split at h4
    · obtain ⟨e, H2⟩ := dgB_75 _ _ _ _ (hB_s H) h4
      exact ⟨k + 1, e, by omega, H2⟩
    · exact ih (k + 1) _ _ _ (by omega) (hB_s H) h4
theorem dgB {N v : Nat} (hv : x_ln v ≤ 1000000) {σ τ : mS} {a : Int64} {len : Int32} (h : xx6_digits N σ a v 0 = some (len, τ)) : ∃ m, len = Int32.ofNat m ∧ m ≤ x_ln v ∧ hB (τ.2.2.1 v) m := by
  have key : ∀ (k : Nat) (σ : mS), k ≤ x_ln v → hB (σ.2.2.1 v) k → xx6_digits_b18 N a v (Int32.ofNat k) σ = some (len, τ) → ∃ m, len = Int32.ofNat m ∧ m ≤ x_ln v ∧ hB (τ.2.2.1 v) m := fun k σ hk H h => dgB_25 hv _ _ _ _ _ hk H h
  rw [xx6_digits] at h
  split at h
  · exact key 0 σ (by omega) hB_0 h
  · simp only [lt] at h
    have h1 := gd_s (gd_s h)
    have hi := inB_k (k := 0) (by omega) (gd_tn (gd_s h))
    rw [show (0 : Int32) + 1 = Int32.ofNat 1 from by decide, show (0 : Int32).toNatClampNeg = 0 from by decide] at h1
    exact key 1 _ (by omega) (hB_s hB_0) h1
theorem cpB {N v : Nat} {σ τ : mS} {h len : Int32} (H : NB σ) (e : xx2_copy N σ h v 0 = some (len, τ)) (hv : v ≠ 129) : hB (τ.2.2.1 v) len.toNatClampNeg := by
  have key : ∀ y, y = 131 ∨ y = 132 → xx2_copy_b18 N h v 0 y σ = some (len, τ) → hB (τ.2.2.1 v) len.toNatClampNeg := fun y hy e => by
    rw [xx2_copy_b18] at e
    have e1 := gd_s (gd_s (gd_s e))
    simp only [lt] at e1
    have e2 := gd_s e1
    simp only [Option.some.injEq, Prod.mk.injEq] at e2
    obtain ⟨q1, q2⟩ := e2
    have f129 := (cp_fr (σ := σ) (i := y) (j := v) (sp := σ.2.2.1 128 h.toNatClampNeg) (dp := 0) (n := σ.2.2.1 129 h.toNatClampNeg)).2.2.1 129 (by simp only [beq_eq_false_iff_ne]; exact fun q => hv q.symm)
    rw [f129, Int32.zero_add] at q1
    rw [← q2, ← q1]
    intro k hk
    rw [cp_at, if_pos ⟨by rw [show (0 : Int32).toNatClampNeg = 0 from by decide]; omega, by rw [show (0 : Int32).toNatClampNeg = 0 from by decide]; omega⟩]
    rcases hy with rfl | rfl
    · exact (H _).1
    · exact (H _).2
  rw [xx2_copy] at e
  split at e
  · exact key 132 (.inr rfl) e
  · exact key 131 (.inl rfl) e
theorem txB {N v : Nat} (hv : x_ln v ≤ 1000000) (v9 : v ≠ 129) {σ τ : mS} {a : Int32} {b : Int64} {l : Nat} (H : NB σ) (hl : l < 2147483648) (e : xx6_text N σ a b v 0 = some (Int32.ofNat l, τ)) : hB (τ.2.2.1 v) l := by
  rw [xx6_text] at e
  split at e
  · obtain ⟨z, hz, e1⟩ := bd_q e
    simp only [xx6_text_b29, Option.some.injEq, Prod.mk.injEq] at e1
    have := cpB (len := z.1) (τ := z.2) H hz v9
    rw [e1.1, e1.2, oN_cl hl] at this
    exact this
  · obtain ⟨z, hz, e1⟩ := bd_q e
    simp only [xx6_text_b29, Option.some.injEq, Prod.mk.injEq] at e1
    obtain ⟨m, m1, m2, m3⟩ := dgB (len := z.1) (τ := z.2) hv hz
    rw [e1.1, oN_eq hl (by omega)] at m1
    rw [e1.2] at m3
    rw [m1]; exact m3
theorem byB_19 {N v : Nat} {h : Int32} (hv : md_ln v ≤ 1000000) {τ : mS} {l : Nat} (hl : l < 2147483648) : ∀ (n k : Nat) (μ : mS), k ≤ md_ln v → hB (μ.2.2.1 v) k → mm_bytesOf_19 N n v h (Int32.ofNat k) μ = some (Int32.ofNat l, τ) → hB (τ.2.2.1 v) l := by
  intro n
  induction n with
  | zero => intro k μ _ _ h; simp [mm_bytesOf_19] at h
  | succ n ih =>
    intro k μ hk H e
    rw [mm_bytesOf_19] at e
    have e1 := gd_s e
    split at e1
    · rename_i c
      have e2 := gd_s e1
      simp only [Option.some.injEq, Prod.mk.injEq] at e2
      rw [e2.1, oN_le hl (by omega)] at c
      rw [← e2.2]
      exact fun j hj => H j (by omega)
    · obtain ⟨z, hz, e2⟩ := bd_q e1
      have ez : z.2 = μ := by
        rw [mm_byteOf] at hz
        split at hz <;> (have q := gd_s (gd_s hz); simp only [mm_byteOf_36, Option.some.injEq] at q; rw [← q])
      have e3 := gd_s e2
      have hi := inB_k (by omega) (gd_tn e3)
      have e4 := gd_s e3
      simp only [lt] at e4
      rw [oN_cl (by omega), ez, oN_s] at e4
      exact ih (k + 1) _ (by omega) (hB_s H) e4
theorem byB_83 {N v : Nat} {v3 v4 : Int32} (hv : md_ln v ≤ 1000000) {τ : mS} {l : Nat} (hl : l < 2147483648) : ∀ (n k : Nat) (μ : mS), k ≤ md_ln v → hB (μ.2.2.1 v) k → v ≠ 17 → mm_bytesOf_83 N n v v3 v4 (Int32.ofNat k) μ = some (Int32.ofNat l, τ) → hB (τ.2.2.1 v) l := by
  intro n
  induction n with
  | zero => intro k μ _ _ _ h; simp [mm_bytesOf_83] at h
  | succ n ih =>
    intro k μ hk H v17 e
    rw [mm_bytesOf_83] at e
    split at e
    · rename_i c
      simp only [lt, Option.some.injEq, Prod.mk.injEq] at e
      rw [e.1, oN_le hl (by omega)] at c
      rw [← e.2]
      exact fun j hj => H j (by omega)
    · have e3 := gd_s (gd_s e)
      have hi := inB_k (by omega) (gd_tn e3)
      have e4 := gd_s e3
      simp only [lt] at e4
      rw [oN_cl (by omega), oN_s] at e4
      exact ih (k + 1) _ (by omega) (hB_s H) v17 e4
theorem bysB {N v : Nat} {i : Int32} (hv : md_ln v ≤ 1000000) (v17 : v ≠ 17) {μ τ : mS} {l : Nat} (hl : l < 2147483648) (e : mm_bytesOf N μ i v = some (Int32.ofNat l, τ)) : hB (τ.2.2.1 v) l := by
  rw [mm_bytesOf] at e
  obtain ⟨z, _, e1⟩ := bd_q e
  split at e1
  · obtain ⟨y, _, e2⟩ := bd_q e1
    exact byB_19 hv hl _ 0 _ (by omega) hB_0 e2
  · simp only [lt] at e1
    obtain ⟨y, _, e2⟩ := bd_q e1
    obtain ⟨u, _, e3⟩ := bd_q e2
    exact byB_83 hv hl _ 0 _ (by omega) hB_0 v17 e3
theorem LC_NB {L : LQ} {w : WD} {g : Int32} {σ μ : mS} (H : LC L w g σ μ) : NB σ := (LC_TS H.1).1.2.2.2.2.2.2.2
/-- a text argument, both rows narrowed -/
theorem text_argB {L : LQ} (E : EVok (lE L)) {w : WD} {g i : Int32} {σ μ : mS} (H : LC L w g σ μ) (i0 : 1 ≤ i) (i1 : i ≤ 150) (h34 : aT σ i = 3 ∨ aT σ i = 4) {v u : Nat} (hv : v = 407 ∨ v = 520 ∨ v = 521 ∨ v = 522) (hu : vR u) : ∃ l τ τm, l.length ≤ 4000 ∧ xx6_text (lNn L) σ (aT σ i) (aV σ i) v 0 = some (Int32.ofNat l.length, τ) ∧ mm_bytesOf (lNn L) μ i u = some (Int32.ofNat l.length, τm) ∧ hasL (τ.2.2.1 v) 0 l ∧ hasL (τm.2.2.1 u) 0 l ∧ m_fr (fun k => k == v) σ τ ∧ m_fr uM μ τm ∧ LC L w g τ τm ∧ hB (τ.2.2.1 v) l.length ∧ hB (τm.2.2.1 u) l.length := by
  obtain ⟨l, τ, τm, h1, h2, h3, h4, h5, h6, h7, h8⟩ := text_arg E H i0 i1 h34 hv hu
  have vb : x_ln v ≤ 1000000 ∧ v ≠ 129 := by
    rcases hv with rfl | rfl | rfl | rfl
    · exact ⟨vB_407.2.1 ▸ by decide, by decide⟩
    · exact ⟨vB_520.2.1 ▸ by decide, by decide⟩
    · exact ⟨vB_521.2.1 ▸ by decide, by decide⟩
    · exact ⟨vB_522.2.1 ▸ by decide, by decide⟩
  have ub : md_ln u ≤ 1000000 ∧ u ≠ 17 := ⟨by rw [(vR_b hu).2]; decide, by rcases hu with rfl | rfl <;> decide⟩
  exact ⟨l, τ, τm, h1, h2, h3, h4, h5, h6, h7, h8, txB vb.1 vb.2 (LC_NB H) (by omega) h2, bysB ub.1 ub.2 (by omega) h3⟩
/-- a fact of narrowed bytes -/
theorem isB_all {P : Int32 → Prop} (h : ∀ i, i < 256 → P ((Int8.ofNat i).toInt32)) {x : Int32} (hx : isB x) : P x := by
  have e : x = (Int8.ofNat x.toInt8.toBitVec.toNat).toInt32 := by
    have : Int8.ofNat x.toInt8.toBitVec.toNat = x.toInt8 := by
      apply Int8.toBitVec_inj.mp
      simp [Int8.toBitVec_ofNat]
    rw [this]; exact hx.symm
  rw [e]
  exact h _ x.toInt8.toBitVec.isLt
theorem tyq {N : Nat} {μ : mS} {i : Int32} {z : Int32 × mS} (h : mm_typeOf N μ i = some z) : z.2 = μ := by
  rw [mm_typeOf] at h
  split at h <;> (try replace h := gd_s h) <;> (simp only [mm_typeOf_23, Option.some.injEq] at h; rw [← h])
theorem vaq {N : Nat} {μ : mS} {i : Int32} {z : Int64 × mS} (h : mm_valueOf N μ i = some z) : z.2 = μ := by
  rw [mm_valueOf] at h
  have h1 := gd_s h
  simp only [Option.some.injEq] at h1
  rw [← h1]
theorem f19 {N v : Nat} {h len : Int32} {τ : mS} : ∀ (n : Nat) (a : Int32) (μ : mS), mm_bytesOf_19 N n v h a μ = some (len, τ) → m_fr (fun k => k == v) μ τ := by
  intro n
  induction n with
  | zero => intro a μ h; simp [mm_bytesOf_19] at h
  | succ n ih =>
    intro a μ e
    rw [mm_bytesOf_19] at e
    have e1 := gd_s e
    split at e1
    · have e2 := gd_s e1
      simp only [Option.some.injEq, Prod.mk.injEq] at e2
      rw [← e2.2]
      exact mf_rfl
    · obtain ⟨z, hz, e2⟩ := bd_q e1
      have ez : z.2 = μ := by
        rw [mm_byteOf] at hz
        split at hz <;> (have q := gd_s (gd_s hz); simp only [mm_byteOf_36, Option.some.injEq] at q; rw [← q])
      have e4 := gd_s (gd_s e2)
      simp only [lt] at e4
      rw [ez] at e4
      exact mf_tr (mf_ai mf_rfl (by simp)) (ih _ _ e4)
def kB (v k : Nat) : Bool := k == v || k == 16 || k == 17
theorem f83 {N v : Nat} {v3 v4 len : Int32} {τ : mS} : ∀ (n : Nat) (a : Int32) (μ : mS), mm_bytesOf_83 N n v v3 v4 a μ = some (len, τ) → m_fr (kB v) μ τ := by
  intro n
  induction n with
  | zero => intro a μ h; simp [mm_bytesOf_83] at h
  | succ n ih =>
    intro a μ e
    rw [mm_bytesOf_83] at e
    split at e
    · simp only [lt, Option.some.injEq, Prod.mk.injEq] at e
      rw [← e.2]
      exact mf_pi mf_rfl (by simp [kB])
    · have e4 := gd_s (gd_s (gd_s e))
      simp only [lt] at e4
      exact mf_tr (mf_ai mf_rfl (by simp [kB])) (ih _ _ e4)
/-- what reading a text changes -/
theorem bys_fr {N : Nat} (hN : BIG ≤ N) {v : Nat} {i len : Int32} {μ τ : mS} (e : mm_bytesOf N μ i v = some (len, τ)) : m_fr (kB v) μ τ := by
  have k1 : ∀ k, kB v k = false → (fun k => k == v) k = false := fun k hk => by
    simp only [kB, Bool.or_eq_false_iff] at hk
    exact hk.1.1
  have k2 : ∀ k, kB v k = false → bK k = false := fun k hk => by
    simp only [kB, Bool.or_eq_false_iff, beq_eq_false_iff_ne] at hk
    exact bK_f ⟨hk.1.2, hk.2⟩
  rw [mm_bytesOf] at e
  obtain ⟨z, hz, e1⟩ := bd_q e
  rw [← tyq hz]
  split at e1
  · obtain ⟨y, hy, e2⟩ := bd_q e1
    simp only [lt] at e2
    rw [← vaq hy]
    exact mf_mono (f19 _ _ _ e2) k1
  · simp only [lt] at e1
    obtain ⟨y, hy, e2⟩ := bd_q e1
    obtain ⟨u, hu, e3⟩ := bd_q e2
    have hy' := vaq hy
    obtain ⟨t, ht⟩ := numT_ex y.1
    obtain ⟨u', a1, a2, a3⟩ := putNumber_m (N := N) hN (r := y.1) ht (bufL_0 (μ := z.2)) (by simp)
    rw [hy', a1] at hu
    cases hu
    exact mf_tr (mf_pi mf_rfl (by simp [kB])) (mf_tr (mf_mono a3 k2) (f83 _ _ _ e3))
