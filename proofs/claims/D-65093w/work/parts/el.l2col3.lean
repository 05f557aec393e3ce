/-! LAYER 2: the system's collector: things are gone through -/
/-- rows that are gone through lie in range -/
def SHX (σ0 : mS) (es xf : Int32 → List Int32) (R : OB2 → Prop) : Prop :=
  (∀ t, R (2, t) → seg (sI σ0 217) (sI σ0 197 t) (es t) (-1) ∧ (∀ e, e ∈ es t → 0 ≤ e ∧ e < 20000) ∧ (es t).length ≤ 20000)
  ∧ (∀ f, R (3, f) → 0 ≤ sI σ0 224 f ∧ sI σ0 224 f ≤ 12000 ∧ ∀ k, 0 ≤ k → k < sI σ0 224 f → 0 ≤ sI σ0 223 f + k ∧ sI σ0 223 f + k < 12000)
  ∧ (∀ c, R (5, c) → seg (sI σ0 356) (sI σ0 326 c) (xf c) (-1) ∧ (xf c).length ≤ 202 ∧ ∀ f, f ∈ xf c → (0 ≤ f ∧ f < 202) ∧ (sI σ0 355 f = 0 → (0 ≤ sI σ0 344 f ∧ sI σ0 344 f < 5400) ∧ (sI σ0 353 f ≤ 2600 ∧ ∀ k, 0 ≤ k → k < sI σ0 353 f → 0 ≤ sI σ0 347 f + k ∧ sI σ0 347 f + k < 560000) ∧ (sI σ0 348 f ≤ 100 ∧ ∀ k, 0 ≤ k → k < sI σ0 348 f → 0 ≤ sI σ0 347 f + (sI σ0 261 (sI σ0 344 f) + k) ∧ sI σ0 347 f + (sI σ0 261 (sI σ0 344 f) + k) < 560000)))
theorem MKD_bd {σ0 τ : mS} {R : OB2 → Prop} {E : OB2 → OB2 → Prop} {ex T1 T2 : OB2 → Prop} {Gd : Nat → List Int32} {o : Option mS} {k : mS → Option mS} (H : MKD σ0 R E ex τ Gd T1 o) (h1 : ∀ y, T1 y → okx y) (h : ∀ τ' L', JX σ0 R E ex τ' Gd L' → MKD σ0 R E ex τ' Gd T2 (k τ')) : MKD σ0 R E ex τ Gd (fun y => T1 y ∨ T2 y) (bd o k) := by
  obtain ⟨τ', L', q1, q2, q3, q4⟩ := H
  obtain ⟨τ2, L2, r1, r2, r3, r4⟩ := h τ' L' q2
  refine ⟨τ2, L2, by rw [q1, bd_so]; exact r1, r2, fun y hy hm => r3 y hy (q3 y hy hm), fun y hy => ?_⟩
  rcases hy with hy | hy
  · exact r3 y (h1 y hy) (q4 y hy)
  · exact r4 y hy
/-- a table's entries -/
theorem tt_lp {N : Nat} {σ0 : mS} {es xf : Int32 → List Int32} {R : OB2 → Prop} {ex : OB2 → Prop} {Gd : Nat → List Int32} (C : CEN σ0 es xf R) : ∀ (l : List Int32) (h : Int32) (n : Nat), seg (sI σ0 217) h l (-1) → (∀ e, e ∈ l → 0 ≤ e ∧ e < 20000) → (∀ e, e ∈ l → sI σ0 214 e ≠ 0 → ∀ y, rfx (sI σ0 212 e) (sJ σ0 213 e) y ∨ rfx (sI σ0 214 e) (sJ σ0 215 e) y → R y) → l.length < n → ∀ τ L, JX σ0 R (edx σ0 es xf) ex τ Gd L → MKD σ0 R (edx σ0 es xf) ex τ Gd (fun y => ∃ e, e ∈ l ∧ sI σ0 214 e ≠ 0 ∧ (rfx (sI σ0 212 e) (sJ σ0 213 e) y ∨ rfx (sI σ0 214 e) (sJ σ0 215 e) y)) (xx3_traceTable_b29 N n h τ)
  | [], h, n, hs, _, _, hn, τ, L, J => by
    obtain ⟨n, rfl⟩ : ∃ j, n = j + 1 := ⟨n - 1, by omega⟩
    have : h = -1 := hs
    subst this
    rw [xx3_traceTable_b29, if_pos rfl]
    exact MKD_0 J (fun y hy => by obtain ⟨e, he, _⟩ := hy; exact absurd he (by simp))
  | e :: l, h, n, hs, hr, hR, hn, τ, L, J => by
    obtain ⟨n, rfl⟩ : ∃ j, n = j + 1 := ⟨n - 1, by omega⟩
    obtain ⟨rfl, hs⟩ := hs
    have b := hr h List.mem_cons_self
    have nh : ¬ h = -1 := fun q => by rw [q] at b; exact absurd b.1 (by decide)
    have e214 : τ.2.2.1 214 h.toNatClampNeg = sI σ0 214 h := mf_I J.1 (k := 214) rfl
    have next : ∀ τ' L', JX σ0 R (edx σ0 es xf) ex τ' Gd L' → MKD σ0 R (edx σ0 es xf) ex τ' Gd (fun y => ∃ e, e ∈ l ∧ sI σ0 214 e ≠ 0 ∧ (rfx (sI σ0 212 e) (sJ σ0 213 e) y ∨ rfx (sI σ0 214 e) (sJ σ0 215 e) y)) (xx3_traceTable_b75 N (xx3_traceTable_b29 N n) h τ') := fun τ' L' J' => by
      have e217 : τ'.2.2.1 217 h.toNatClampNeg = sI σ0 217 h := mf_I J'.1 (k := 217) rfl
      rw [xx3_traceTable_b75, gd_in (by decide) b.1 b.2, e217, lt]
      exact tt_lp C l _ n hs (fun e he => hr e (List.mem_cons_of_mem _ he)) (fun e he => hR e (List.mem_cons_of_mem _ he)) (by simp at hn; omega) τ' L' J'
    rw [xx3_traceTable_b29, if_neg nh, gd_in (by decide) b.1 b.2, e214]
    by_cases c : sI σ0 214 h = 0
    · rw [if_pos c]
      refine MKD_T (next τ L J) (fun y hy => ?_)
      obtain ⟨e, he, h1, h2⟩ := hy
      rcases List.mem_cons.mp he with rfl | he
      · exact absurd c h1
      · exact ⟨e, he, h1, h2⟩
    · have e212 : τ.2.2.1 212 h.toNatClampNeg = sI σ0 212 h := mf_I J.1 (k := 212) rfl
      have e213 : τ.2.2.2 213 h.toNatClampNeg = sJ σ0 213 h := mf_J J.1 (k := 213) rfl
      rw [if_neg c, gd_in (by decide) b.1 b.2, gd_in (by decide) b.1 b.2, e212, e213]
      have hk := hR h List.mem_cons_self c
      refine MKD_T (MKD_bd (xmark C J (fun o ho => hk o (.inl ho))) (fun y hy => C.2.1 y (hk y (.inl hy))) (fun τ' L' J' => ?_) (T2 := fun y => rfx (sI σ0 214 h) (sJ σ0 215 h) y ∨ ∃ e, e ∈ l ∧ sI σ0 214 e ≠ 0 ∧ (rfx (sI σ0 212 e) (sJ σ0 213 e) y ∨ rfx (sI σ0 214 e) (sJ σ0 215 e) y))) (fun y hy => ?_)
      · have e214' : τ'.2.2.1 214 h.toNatClampNeg = sI σ0 214 h := mf_I J'.1 (k := 214) rfl
        have e215 : τ'.2.2.2 215 h.toNatClampNeg = sJ σ0 215 h := mf_J J'.1 (k := 215) rfl
        rw [gd_in (by decide) b.1 b.2, gd_in (by decide) b.1 b.2, e214', e215]
        exact MKD_bd (xmark C J' (fun o ho => hk o (.inr ho))) (fun y hy => C.2.1 y (hk y (.inr hy))) next
      · obtain ⟨e, he, h1, h2⟩ := hy
        rcases List.mem_cons.mp he with rfl | he
        · rcases h2 with h2 | h2
          · exact .inl h2
          · exact .inr (.inl h2)
        · exact .inr (.inr ⟨e, he, h1, h2⟩)
theorem xtraceT {N : Nat} (hN : BIG ≤ N) {σ0 τ : mS} {es xf : Int32 → List Int32} {R : OB2 → Prop} {ex : OB2 → Prop} {Gd L : Nat → List Int32} (C : CEN σ0 es xf R) (H : SHX σ0 es xf R) (J : JX σ0 R (edx σ0 es xf) ex τ Gd L) {t : Int32} (hR : R (2, t)) : MKD σ0 R (edx σ0 es xf) ex τ Gd (edx σ0 es xf (2, t)) (xx3_traceTable N τ t) := by
  have hk := okx_2 (C.2.1 _ hR)
  obtain ⟨h1, h2, h3⟩ := H.1 t hR
  have en : ∀ e, e ∈ es t → sI σ0 214 e ≠ 0 → ∀ y, rfx (sI σ0 212 e) (sJ σ0 213 e) y ∨ rfx (sI σ0 214 e) (sJ σ0 215 e) y → R y := fun e he h0 y hy => C.1 _ y hR (.inl ⟨rfl, .inr ⟨e, he, h0, hy⟩⟩)
  have e195 : τ.2.2.1 195 t.toNatClampNeg = sI σ0 195 t := mf_I J.1 (k := 195) rfl
  have fin : ∀ τ' L', JX σ0 R (edx σ0 es xf) ex τ' Gd L' → MKD σ0 R (edx σ0 es xf) ex τ' Gd (fun y => ∃ e, e ∈ es t ∧ sI σ0 214 e ≠ 0 ∧ (rfx (sI σ0 212 e) (sJ σ0 213 e) y ∨ rfx (sI σ0 214 e) (sJ σ0 215 e) y)) (xx3_traceTable_b22 N t τ') := fun τ' L' J' => by
    have e197 : τ'.2.2.1 197 t.toNatClampNeg = sI σ0 197 t := mf_I J'.1 (k := 197) rfl
    rw [xx3_traceTable_b22, gd_in (by decide) hk.1 hk.2, e197, lt]
    exact tt_lp C (es t) _ N h1 h2 en (by simp only [BIG] at hN; omega) τ' L' J'
  have ed : ∀ y, edx σ0 es xf (2, t) y → (sI σ0 195 t ≠ -1 ∧ y = (2, sI σ0 195 t)) ∨ ∃ e, e ∈ es t ∧ sI σ0 214 e ≠ 0 ∧ (rfx (sI σ0 212 e) (sJ σ0 213 e) y ∨ rfx (sI σ0 214 e) (sJ σ0 215 e) y) := fun y hy => by
    rcases hy with ⟨_, h⟩ | ⟨h, _⟩ | ⟨h, _⟩ | ⟨h, _⟩
    · exact h
    · exact absurd (show (2 : Nat) = 3 from h) (by decide)
    · exact absurd (show (2 : Nat) = 4 from h) (by decide)
    · exact absurd (show (2 : Nat) = 5 from h) (by decide)
  rw [xx3_traceTable, gd_in (by decide) hk.1 hk.2, e195]
  by_cases c : sI σ0 195 t = -1
  · rw [if_pos c]
    refine MKD_T (fin τ L J) (fun y hy => ?_)
    rcases ed y hy with ⟨h, _⟩ | h
    · exact absurd c h
    · exact h
  · rw [if_neg c, gd_in (by decide) hk.1 hk.2]
    have hm : R (2, sI σ0 195 t) := C.1 _ _ hR (.inl ⟨rfl, .inl ⟨c, rfl⟩⟩)
    have rf : ∀ y, rfx 5 (Int32.toInt64 (sI σ0 195 t)) y ↔ y = (2, sI σ0 195 t) := fun y => by
      refine ⟨fun h => ?_, fun h => .inr (.inl ⟨rfl, by rw [h, i32_64]⟩)⟩
      rcases h with ⟨h, _⟩ | ⟨_, h⟩ | ⟨h, _⟩ | ⟨h, _⟩ | ⟨h, _⟩
      · exact absurd h (by decide)
      · rw [h, i32_64]
      · exact absurd h (by decide)
      · exact absurd h (by decide)
      · exact absurd h (by decide)
    refine MKD_T (MKD_bd (xmark C J (fun o ho => by rw [(rf o).mp ho]; exact hm)) (fun y hy => by rw [(rf y).mp hy]; exact C.2.1 _ hm) fin) (fun y hy => ?_)
    rcases ed y hy with ⟨_, h⟩ | h
    · exact .inl ((rf y).mpr h)
    · exact .inr h
theorem rfx_6 {f : Int32} (f0 : 0 ≤ f) (y : OB2) : rfx 6 (Int32.toInt64 f) y ↔ y = (3, f) := by
  refine ⟨fun h => ?_, fun h => .inr (.inr (.inl ⟨rfl, by rw [h, i32_64], by rw [i32_64]; exact f0⟩))⟩
  rcases h with ⟨h, _⟩ | ⟨h, _⟩ | ⟨_, h, _⟩ | ⟨h, _⟩ | ⟨h, _⟩
  · exact absurd h (by decide)
  · exact absurd h (by decide)
  · rw [h, i32_64]
  · exact absurd h (by decide)
  · exact absurd h (by decide)
theorem tc_1 {i n : Int32} (i0 : 0 ≤ i) (h : i < n) (h2 : n ≤ 2600) : 0 ≤ i + 1 ∧ i + 1 ≤ n ∧ (i + 1).toInt = i.toInt + 1 ∧ ∀ k, 0 ≤ k → i ≤ k → k = i ∨ i + 1 ≤ k := by
  refine ⟨by lia, by lia, ?_, fun k k0 k1 => by lia⟩
  have a := tI_le.mp i0
  have b := tI_lt.mp h
  have c := tI_le.mp h2
  rw [show (2600 : Int32).toInt = 2600 from rfl] at c
  rw [show (0 : Int32).toInt = 0 from rfl] at a
  rw [tI_add, show (1 : Int32).toInt = 1 from rfl] <;> rw [show (1 : Int32).toInt = 1 from rfl] <;> omega
/-- the values behind the named ones -/
theorem tc91 {N : Nat} {σ0 : mS} {es xf : Int32 → List Int32} {R : OB2 → Prop} {ex : OB2 → Prop} {Gd : Nat → List Int32} (C : CEN σ0 es xf R) {f g0 : Int32} (f0 : 0 ≤ f) (f1 : f < 202) (hn : sI σ0 348 f ≤ 100) (hb : ∀ k, 0 ≤ k → k < sI σ0 348 f → 0 ≤ sI σ0 347 f + (g0 + k) ∧ sI σ0 347 f + (g0 + k) < 560000) (hR : ∀ k, 0 ≤ k → k < sI σ0 348 f → ∀ y, rfx (xt σ0 f (g0 + k)) (xv σ0 f (g0 + k)) y → R y) (j : Nat) (i : Int32) (i0 : 0 ≤ i) (hj : ((sI σ0 348 f).toInt - i.toInt).toNat < j) : ∀ τ L, JX σ0 R (edx σ0 es xf) ex τ Gd L → MKD σ0 R (edx σ0 es xf) ex τ Gd (fun y => ∃ k, i ≤ k ∧ k < sI σ0 348 f ∧ rfx (xt σ0 f (g0 + k)) (xv σ0 f (g0 + k)) y) (xx5_traceCall_b91 N j f (sI σ0 347 f + g0) i τ) := by
  induction j generalizing i with
  | zero => omega
  | succ j ih =>
    intro τ L J
    have e348 : τ.2.2.1 348 f.toNatClampNeg = sI σ0 348 f := mf_I J.1 (k := 348) rfl
    rw [xx5_traceCall_b91, gd_in (by decide) f0 f1, e348]
    by_cases c : sI σ0 348 f ≤ i
    · rw [if_pos c]
      exact MKD_0 J (fun y hy => by
        obtain ⟨k, k1, k2, _⟩ := hy
        exact absurd (Int32.lt_of_le_of_lt (Int32.le_trans c k1) k2) Int32.lt_irrefl)
    · have ilt := Int32.not_le.mp c
      have T := tc_1 i0 ilt (Int32.le_trans hn (by decide))
      have B := hb i i0 ilt
      have ea : sI σ0 347 f + g0 + i = sI σ0 347 f + (g0 + i) := Int32.add_assoc ..
      have q1 : τ.2.2.1 364 (sI σ0 347 f + (g0 + i)).toNatClampNeg = xt σ0 f (g0 + i) := mf_I J.1 (k := 364) rfl
      have q2 : τ.2.2.2 365 (sI σ0 347 f + (g0 + i)).toNatClampNeg = xv σ0 f (g0 + i) := mf_J J.1 (k := 365) rfl
      rw [if_neg c, ea, gd_in (by decide) B.1 B.2, gd_in (by decide) B.1 B.2, q1, q2]
      refine MKD_T (MKD_bd (xmark C J (hR i i0 ilt)) (fun y hy => C.2.1 y (hR i i0 ilt y hy)) (fun τ' L' J' => ?_) (T2 := fun y => ∃ k, i + 1 ≤ k ∧ k < sI σ0 348 f ∧ rfx (xt σ0 f (g0 + k)) (xv σ0 f (g0 + k)) y)) (fun y hy => ?_)
      · rw [lt]
        exact ih (i + 1) T.1 (by have := tI_lt.mp ilt; omega) τ' L' J'
      · obtain ⟨k, k1, k2, k3⟩ := hy
        rcases T.2.2.2 k (Int32.le_trans i0 k1) k1 with rfl | q
        · exact .inl k3
        · exact .inr ⟨k, q, k2, k3⟩
/-- the registers that are held, then those values -/
theorem tc18 {N : Nat} (hN : BIG ≤ N) {σ0 : mS} {es xf : Int32 → List Int32} {R : OB2 → Prop} {ex : OB2 → Prop} {Gd : Nat → List Int32} (C : CEN σ0 es xf R) {f : Int32} (f0 : 0 ≤ f) (f1 : f < 202) (h344 : 0 ≤ sI σ0 344 f ∧ sI σ0 344 f < 5400) (hm : sI σ0 353 f ≤ 2600) (hb : ∀ k, 0 ≤ k → k < sI σ0 353 f → 0 ≤ sI σ0 347 f + k ∧ sI σ0 347 f + k < 560000) (hR : ∀ k, 0 ≤ k → k < sI σ0 353 f → ∀ y, rfx (xt σ0 f k) (xv σ0 f k) y → R y) (hn : sI σ0 348 f ≤ 100) (hb' : ∀ k, 0 ≤ k → k < sI σ0 348 f → 0 ≤ sI σ0 347 f + (sI σ0 261 (sI σ0 344 f) + k) ∧ sI σ0 347 f + (sI σ0 261 (sI σ0 344 f) + k) < 560000) (hR' : ∀ k, 0 ≤ k → k < sI σ0 348 f → ∀ y, rfx (xt σ0 f (sI σ0 261 (sI σ0 344 f) + k)) (xv σ0 f (sI σ0 261 (sI σ0 344 f) + k)) y → R y) (j : Nat) (i : Int32) (i0 : 0 ≤ i) (hj : ((sI σ0 353 f).toInt - i.toInt).toNat < j) : ∀ τ L, JX σ0 R (edx σ0 es xf) ex τ Gd L → MKD σ0 R (edx σ0 es xf) ex τ Gd (fun y => (∃ k, i ≤ k ∧ k < sI σ0 353 f ∧ rfx (xt σ0 f k) (xv σ0 f k) y) ∨ ∃ k, 0 ≤ k ∧ k < sI σ0 348 f ∧ rfx (xt σ0 f (sI σ0 261 (sI σ0 344 f) + k)) (xv σ0 f (sI σ0 261 (sI σ0 344 f) + k)) y) (xx5_traceCall_b18 N j f i τ) := by
  induction j generalizing i with
  | zero => omega
  | succ j ih =>
    intro τ L J
    have e353 : τ.2.2.1 353 f.toNatClampNeg = sI σ0 353 f := mf_I J.1 (k := 353) rfl
    have e347 : τ.2.2.1 347 f.toNatClampNeg = sI σ0 347 f := mf_I J.1 (k := 347) rfl
    have e344 : τ.2.2.1 344 f.toNatClampNeg = sI σ0 344 f := mf_I J.1 (k := 344) rfl
    have e261 : τ.2.2.1 261 (sI σ0 344 f).toNatClampNeg = sI σ0 261 (sI σ0 344 f) := mf_I J.1 (k := 261) rfl
    rw [xx5_traceCall_b18, gd_in (by decide) f0 f1, e353]
    by_cases c : sI σ0 353 f ≤ i
    · rw [if_pos c, gd_in (by decide) f0 f1, gd_in (by decide) f0 f1, e344, gd_in (by decide) h344.1 h344.2, e347, e261, lt]
      have b0 := tI_le.mp hn
      rw [show (100 : Int32).toInt = 100 from rfl] at b0
      refine MKD_T (tc91 C f0 f1 hn hb' hR' N 0 (by decide) (by rw [show (0 : Int32).toInt = 0 from rfl]; simp only [BIG] at hN; omega) τ L J) (fun y hy => ?_)
      rcases hy with ⟨k, k1, k2, _⟩ | h
      · exact absurd (Int32.lt_of_le_of_lt (Int32.le_trans c k1) k2) Int32.lt_irrefl
      · exact h
    · have ilt := Int32.not_le.mp c
      have T := tc_1 i0 ilt hm
      have B := hb i i0 ilt
      have q1 : τ.2.2.1 364 (sI σ0 347 f + i).toNatClampNeg = xt σ0 f i := mf_I J.1 (k := 364) rfl
      have q2 : τ.2.2.2 365 (sI σ0 347 f + i).toNatClampNeg = xv σ0 f i := mf_J J.1 (k := 365) rfl
      rw [if_neg c, gd_in (by decide) f0 f1, e347, gd_in (by decide) B.1 B.2, gd_in (by decide) f0 f1, gd_in (by decide) B.1 B.2, q1, q2]
      refine MKD_T (MKD_bd (xmark C J (hR i i0 ilt)) (fun y hy => C.2.1 y (hR i i0 ilt y hy)) (fun τ' L' J' => ?_) (T2 := fun y => (∃ k, i + 1 ≤ k ∧ k < sI σ0 353 f ∧ rfx (xt σ0 f k) (xv σ0 f k) y) ∨ ∃ k, 0 ≤ k ∧ k < sI σ0 348 f ∧ rfx (xt σ0 f (sI σ0 261 (sI σ0 344 f) + k)) (xv σ0 f (sI σ0 261 (sI σ0 344 f) + k)) y)) (fun y hy => ?_)
      · rw [lt]
        exact ih (i + 1) T.1 (by have := tI_lt.mp ilt; omega) τ' L' J'
      · rcases hy with ⟨k, k1, k2, k3⟩ | h
        · rcases T.2.2.2 k (Int32.le_trans i0 k1) k1 with rfl | q
          · exact .inl k3
          · exact .inr (.inl ⟨k, q, k2, k3⟩)
        · exact .inr (.inr h)
