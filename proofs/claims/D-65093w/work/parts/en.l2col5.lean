/-! LAYER 2: the system's collector: until nothing is left -/
theorem edx_5 {σ : mS} {es xf : Int32 → List Int32} {c : Int32} {y : OB2} (h : edx σ es xf (5, c) y) : rfx (sI σ 324 c) (sJ σ 325 c) y ∨ ∃ f, f ∈ xf c ∧ sI σ 355 f = 0 ∧ (y = (3, sI σ 343 f) ∨ (∃ k, 0 ≤ k ∧ k < sI σ 353 f ∧ rfx (xt σ f k) (xv σ f k) y) ∨ (∃ k, 0 ≤ k ∧ k < sI σ 348 f ∧ rfx (xt σ f (sI σ 261 (sI σ 344 f) + k)) (xv σ f (sI σ 261 (sI σ 344 f) + k)) y)) := by
  rcases h with ⟨h, _⟩ | ⟨h, _⟩ | ⟨h, _⟩ | ⟨_, h⟩
  · exact absurd (show (5 : Nat) = 2 from h) (by decide)
  · exact absurd (show (5 : Nat) = 3 from h) (by decide)
  · exact absurd (show (5 : Nat) = 4 from h) (by decide)
  · exact h
theorem edx_3 {σ : mS} {es xf : Int32 → List Int32} {f : Int32} {y : OB2} (h : edx σ es xf (3, f) y) : (∃ k, 0 ≤ k ∧ k < sI σ 224 f ∧ y = (4, sI σ 231 (sI σ 223 f + k))) ∨ (sI σ 222 f < 0 ∧ y = (5, -1 - sI σ 222 f)) := by
  rcases h with ⟨h, _⟩ | ⟨_, h⟩ | ⟨h, _⟩ | ⟨h, _⟩
  · exact absurd (show (3 : Nat) = 2 from h) (by decide)
  · exact h
  · exact absurd (show (3 : Nat) = 4 from h) (by decide)
  · exact absurd (show (3 : Nat) = 5 from h) (by decide)
/-- coroutines -/
theorem c_lp {N : Nat} (hN : BIG ≤ N) {σ0 : mS} {es xf : Int32 → List Int32} {R : OB2 → Prop} (C : CEN σ0 es xf R) (H : SHX σ0 es xf R) {v1 : Int32} (hv : v1 = 0 ∨ v1 = 1) : ∀ (n : Nat) τ Gd L, JX σ0 R (edx σ0 es xf) (fun _ => False) τ Gd L → 121 - (Gd 5).length < n → ∃ τ' Gd' L', xx5_trace_b13 N n v1 τ = some (v1, τ') ∧ JX σ0 R (edx σ0 es xf) (fun _ => False) τ' Gd' L' ∧ L' 5 = [] ∧ (∀ y, okx y → mkx τ y → mkx τ' y) ∧ (Gd' 2 = Gd 2 ∧ Gd' 3 = Gd 3 ∧ (Gd 5).length ≤ (Gd' 5).length) ∧ (L 5 = [] → τ' = τ ∧ Gd' = Gd ∧ L' = L) ∧ (L 5 ≠ [] → (Gd 5).length < (Gd' 5).length) := by
  intro n
  induction n with
  | zero => intro τ Gd L _ h; omega
  | succ n ih =>
    intro τ Gd L J hn
    obtain ⟨e1, e2⟩ := nil_J J (k := 5) (.inr (.inr rfl))
    rw [xx5_trace_b13]
    by_cases c : L 5 = []
    · have c0 : τ.1 342 ≤ 0 := e1 c
      rw [if_pos c0]
      refine ⟨τ, Gd, L, ?_, J, c, fun _ _ h => h, ⟨rfl, rfl, Nat.le_refl _⟩, fun _ => ⟨rfl, rfl, rfl⟩, fun h => absurd c h⟩
      rcases hv with rfl | rfl
      · rw [gd_z0]
      · rw [gd_z1]
    · obtain ⟨c0, l, x, el⟩ := e2 c
      have c0' : ¬ τ.1 342 ≤ 0 := c0
      obtain ⟨⟨p1, p2, p3, p4⟩, p5, p6, J1⟩ := pop_J J (k := 5) (.inr (.inr rfl)) el
      have gl := gd_len J (k := 5) (.inr (.inr rfl))
      rw [el, List.length_append, List.length_singleton, cap_5] at gl
      have hk := okx_5 (C.2.1 _ p6)
      have hk0 := Int32.le_of_lt hk.1
      rw [cap_5] at p4
      have p4' : Int32.ofNat l.length < 121 := tI_lt.mpr p4
      have p1' : τ.1 342 - 1 = Int32.ofNat l.length := p1
      have J1' : JX σ0 R (edx σ0 es xf) (fun o => o = (5, x)) (md_pi τ 342 (Int32.ofNat l.length)) (lU Gd 5 (Gd 5 ++ [x])) (lU L 5 l) := J1
      have e341 : (md_pi τ 342 (Int32.ofNat l.length)).2.2.1 341 (Int32.ofNat l.length).toNatClampNeg = x := p5
      have e324 : (md_pi τ 342 (Int32.ofNat l.length)).2.2.1 324 x.toNatClampNeg = sI σ0 324 x := mf_I J1'.1 (k := 324) rfl
      have e325 : (md_pi τ 342 (Int32.ofNat l.length)).2.2.2 325 x.toNatClampNeg = sJ σ0 325 x := mf_J J1'.1 (k := 325) rfl
      obtain ⟨s1, s2, s3⟩ := H.2.2 x p6
      have r324 : ∀ o, rfx (sI σ0 324 x) (sJ σ0 325 x) o → R o := fun o ho => C.1 _ o p6 (.inr (.inr (.inr ⟨rfl, .inl ho⟩)))
      obtain ⟨τ1, L1, q1, q2, q3, q4⟩ := xmark (N := N) C J1' r324
      have e326 : τ1.2.2.1 326 x.toNatClampNeg = sI σ0 326 x := mf_I q2.1 (k := 326) rfl
      obtain ⟨τ2, L2, r1, r2, r3, r4⟩ := fr_lp hN C H (v1 := v1) p6 (xx5_trace_b13 N n) (xf x) _ N s1 (fun f hf => hf) (by simp only [BIG] at hN; omega) τ1 L1 q2
      have J2 : JX σ0 R (edx σ0 es xf) (fun _ => False) τ2 (lU Gd 5 (Gd 5 ++ [x])) L2 := JX_ex r2 (fun o ho hm hx _ y hE hy => by
        rw [hx] at hE
        rcases edx_5 hE with h | ⟨f, hf, h0, h⟩
        · exact r3 y hy (q4 y h)
        · exact r4 f hf h0 y h)
      obtain ⟨τ', Gd', L', t1, t2, t3, t4, t5, t6, t7⟩ := ih τ2 _ L2 J2 (by rw [lU_s, List.length_append, List.length_singleton]; omega)
      rw [lU_s, List.length_append, List.length_singleton, lU_o (by decide), lU_o (by decide)] at t5
      refine ⟨τ', Gd', L', ?_, t2, t3, fun y hy hm => t4 y hy (r3 y hy (q3 y hy ?_)), ⟨t5.1, t5.2.1, by omega⟩, fun h => absurd h c, fun _ => by omega⟩
      · rw [if_neg c0', p1', lt, lt, gd_in (by decide) p3 p4', e341, lt, gd_in (by decide) hk0 hk.2, gd_in (by decide) hk0 hk.2, e324, e325, q1, bd_so, gd_in (by decide) hk0 hk.2, e326, lt, r1]
        exact t1
      · simp only [mkx, sI_pi] at hm ⊢; exact hm
/-- all coroutines at hand -/
theorem xtrace5 {N : Nat} (hN : BIG ≤ N) {σ0 τ : mS} {es xf : Int32 → List Int32} {R : OB2 → Prop} (C : CEN σ0 es xf R) (H : SHX σ0 es xf R) {Gd L : Nat → List Int32} (J : JX σ0 R (edx σ0 es xf) (fun _ => False) τ Gd L) : ∃ v τ' Gd' L', xx5_trace N τ = some (v, τ') ∧ JX σ0 R (edx σ0 es xf) (fun _ => False) τ' Gd' L' ∧ L' 5 = [] ∧ (∀ y, okx y → mkx τ y → mkx τ' y) ∧ (Gd' 2 = Gd 2 ∧ Gd' 3 = Gd 3) ∧ ((v = 0 ∧ L 5 = [] ∧ τ' = τ ∧ Gd' = Gd ∧ L' = L) ∨ (v = 1 ∧ (Gd 5).length < (Gd' 5).length)) := by
  obtain ⟨e1, e2⟩ := nil_J J (k := 5) (.inr (.inr rfl))
  have nb : 121 - (Gd 5).length < N := by simp only [BIG] at hN; omega
  rw [xx5_trace]
  by_cases c : L 5 = []
  · obtain ⟨τ', Gd', L', t1, t2, t3, t4, t5, t6, t7⟩ := c_lp hN C H (v1 := 0) (.inl rfl) N τ Gd L J nb
    have c0 : τ.1 342 ≤ 0 := e1 c
    obtain ⟨g1, g2, g3⟩ := t6 c
    refine ⟨0, τ', Gd', L', ?_, t2, t3, t4, ⟨t5.1, t5.2.1⟩, .inl ⟨rfl, c, g1, g2, g3⟩⟩
    rw [if_pos c0]; exact t1
  · obtain ⟨τ', Gd', L', t1, t2, t3, t4, t5, t6, t7⟩ := c_lp hN C H (v1 := 1) (.inr rfl) N τ Gd L J nb
    have c0 : ¬ τ.1 342 ≤ 0 := (e2 c).1
    refine ⟨1, τ', Gd', L', ?_, t2, t3, t4, ⟨t5.1, t5.2.1⟩, .inr ⟨rfl, t7 c⟩⟩
    rw [if_neg c0]; exact t1
theorem f66_1 {k i n : Int32} (h : i ≤ k) (ne : ¬ k = i) (i0 : 0 ≤ i) (kn : k < n) (n1 : n ≤ 12000) : i + 1 ≤ k := by lia
/-- a function's captures -/
theorem f66_lp {N : Nat} {σ0 : mS} {es xf : Int32 → List Int32} {R : OB2 → Prop} {ex : OB2 → Prop} {Gd : Nat → List Int32} (C : CEN σ0 es xf R) (H : SHX σ0 es xf R) {f : Int32} (hR : R (3, f)) (r2 r40 : Int32 → mS → Option mS) (j : Nat) (i : Int32) (i0 : 0 ≤ i) (hj : ((sI σ0 224 f).toInt - i.toInt).toNat < j) : ∀ τ L, JX σ0 R (edx σ0 es xf) ex τ Gd L → ∃ τ' L', xx3_trace_b66 N r2 r40 j f i τ = r40 1 τ' ∧ JX σ0 R (edx σ0 es xf) ex τ' Gd L' ∧ (∀ y, okx y → mkx τ y → mkx τ' y) ∧ (∀ y, ((∃ k, i ≤ k ∧ k < sI σ0 224 f ∧ y = (4, sI σ0 231 (sI σ0 223 f + k))) ∨ (sI σ0 222 f < 0 ∧ y = (5, -1 - sI σ0 222 f))) → mkx τ' y) := by
  have hk := okx_3 (C.2.1 _ hR)
  obtain ⟨s1, s2, s3⟩ := H.2.1 f hR
  induction j generalizing i with
  | zero => omega
  | succ j ih =>
    intro τ L J
    have e224 : τ.2.2.1 224 f.toNatClampNeg = sI σ0 224 f := mf_I J.1 (k := 224) rfl
    have e222 : τ.2.2.1 222 f.toNatClampNeg = sI σ0 222 f := mf_I J.1 (k := 222) rfl
    have e223 : τ.2.2.1 223 f.toNatClampNeg = sI σ0 223 f := mf_I J.1 (k := 223) rfl
    rw [xx3_trace_b66, gd_in (by decide) hk.1 hk.2, e224]
    by_cases c : sI σ0 224 f ≤ i
    · have none' : ∀ y, ¬ ∃ k, i ≤ k ∧ k < sI σ0 224 f ∧ y = (4, sI σ0 231 (sI σ0 223 f + k)) := fun y ⟨k, k1, k2, _⟩ => absurd (Int32.lt_of_le_of_lt (Int32.le_trans c k1) k2) Int32.lt_irrefl
      rw [if_pos c, gd_in (by decide) hk.1 hk.2, e222]
      by_cases c2 : 0 ≤ sI σ0 222 f
      · rw [if_pos c2, xx3_trace_b123]
        refine ⟨τ, L, rfl, J, fun _ _ h => h, fun y hy => ?_⟩
        rcases hy with h | ⟨h, _⟩
        · exact absurd h (none' y)
        · exact absurd h (Int32.not_lt.mpr c2)
      · have r5 : R (5, -1 - sI σ0 222 f) := C.1 _ _ hR (.inr (.inl ⟨rfl, .inr ⟨Int32.not_le.mp c2, rfl⟩⟩))
        obtain ⟨τ1, L1, q1, q2, q3, q4⟩ := mark5 (N := N) J (x := -1 - sI σ0 222 f) (fun _ => ⟨r5, C.2.1 _ r5⟩)
        rw [if_neg c2, gd_in (by decide) hk.1 hk.2, q1, bd_so, xx3_trace_b123]
        refine ⟨τ1, L1, rfl, q2, q3, fun y hy => ?_⟩
        rcases hy with h | ⟨_, h⟩
        · exact absurd h (none' y)
        · exact q4 y ⟨h, (okx_5 (C.2.1 _ r5)).1⟩
    · have ilt := Int32.not_le.mp c
      have B := s3 i i0 ilt
      have T := cw_1 (top := 0) (by decide) s1 (by rw [show (0 : Int32) + sI σ0 224 f = sI σ0 224 f from by lia]; exact s2) (by decide) i0 ilt s2
      have e231 : τ.2.2.1 231 (sI σ0 223 f + i).toNatClampNeg = sI σ0 231 (sI σ0 223 f + i) := mf_I J.1 (k := 231) rfl
      have r4 : R (4, sI σ0 231 (sI σ0 223 f + i)) := C.1 _ _ hR (.inr (.inl ⟨rfl, .inl ⟨i, i0, ilt, rfl⟩⟩))
      obtain ⟨τ1, L1, q1, q2, q3, q4⟩ := xmarkB (N := N) C J r4
      obtain ⟨τ', L', r1, r2, r3, r4'⟩ := ih (i + 1) T.2.1 (by have := tI_lt.mp ilt; omega) τ1 L1 q2
      rw [if_neg c, gd_in (by decide) hk.1 hk.2, e223, gd_in (by decide) B.1 B.2, e231, q1, bd_so, lt]
      refine ⟨τ', L', r1, r2, fun y hy hm => r3 y hy (q3 y hy hm), fun y hy => ?_⟩
      rcases hy with ⟨k, k1, k2, k3⟩ | h
      · by_cases ck : k = i
        · subst ck
          rw [k3]
          exact r3 _ (C.2.1 _ r4) (q4 _ rfl)
        · exact r4' y (.inl ⟨k, f66_1 k1 ck i0 k2 s2, k2, k3⟩)
      · exact r4' y (.inr h)
