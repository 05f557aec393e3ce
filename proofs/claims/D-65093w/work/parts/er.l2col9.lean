/-! LAYER 2: the reference's collector: things are gone through -/
def SHM (μ0 : mS) (es : Int32 → List Int32) (R : OB2 → Prop) : Prop :=
  (∀ t, R (2, t) → seg (sI μ0 36) (sI μ0 21 t) (es t) (-1) ∧ (∀ e, e ∈ es t → 0 ≤ e ∧ e < 20000) ∧ (es t).length ≤ 20000)
  ∧ (∀ f, R (3, f) → 0 ≤ sI μ0 45 f → sI μ0 45 f < 9000 ∧ 0 ≤ sI μ0 81 (sI μ0 45 f) ∧ sI μ0 81 (sI μ0 45 f) ≤ 12000 ∧ ∀ k, 0 ≤ k → k < sI μ0 81 (sI μ0 45 f) → 0 ≤ sI μ0 46 f + k ∧ sI μ0 46 f + k < 12000)
  ∧ (∀ d, R (5, d) → sI μ0 156 d = 0 → (0 ≤ sI μ0 164 d ∧ sI μ0 164 d ≤ 500000 ∧ ∀ k, 0 ≤ k → k < sI μ0 164 d → 0 ≤ sI μ0 163 d + k ∧ sI μ0 163 d + k < 500000) ∧ (0 ≤ sI μ0 166 d ∧ sI μ0 166 d ≤ 500 ∧ ∀ k, 0 ≤ k → k < sI μ0 166 d → (0 ≤ sI μ0 165 d + 10 * k ∧ sI μ0 165 d + 10 * k < 5000) ∧ (0 ≤ sI μ0 165 d + 10 * k + 1 ∧ sI μ0 165 d + 10 * k + 1 < 5000)))
theorem mtt_lp {N : Nat} {μ0 : mS} {es : Int32 → List Int32} {R : OB2 → Prop} {ex : OB2 → Prop} {G : List OB2} (C : CEM μ0 es R) : ∀ (l : List Int32) (h : Int32) (n : Nat), seg (sI μ0 36) h l (-1) → (∀ e, e ∈ l → 0 ≤ e ∧ e < 20000) → (∀ e, e ∈ l → sI μ0 34 e ≠ 0 → ∀ y, rfm (sI μ0 32 e) (sJ μ0 33 e) y ∨ rfm (sI μ0 34 e) (sJ μ0 35 e) y → R y) → l.length < n → ∀ τ L, JM μ0 R (edm μ0 es) ex τ G L → MKM μ0 R (edm μ0 es) ex τ G (fun y => ∃ e, e ∈ l ∧ sI μ0 34 e ≠ 0 ∧ (rfm (sI μ0 32 e) (sJ μ0 33 e) y ∨ rfm (sI μ0 34 e) (sJ μ0 35 e) y)) (mm_goThrough_33 N n h τ)
  | [], h, n, hs, _, _, hn, τ, L, J => by
    obtain ⟨n, rfl⟩ : ∃ j, n = j + 1 := ⟨n - 1, by omega⟩
    have : h = -1 := hs
    subst this
    rw [mm_goThrough_33, if_pos (by decide), mm_goThrough_331]
    exact MKM_0 J (fun y hy => by obtain ⟨e, he, _⟩ := hy; exact absurd he (by simp))
  | e :: l, h, n, hs, hr, hR, hn, τ, L, J => by
    obtain ⟨n, rfl⟩ : ∃ j, n = j + 1 := ⟨n - 1, by omega⟩
    obtain ⟨rfl, hs⟩ := hs
    have b := hr h List.mem_cons_self
    have e34 : τ.2.2.1 34 h.toNatClampNeg = sI μ0 34 h := mf_I J.1 (k := 34) rfl
    have next : ∀ τ' L', JM μ0 R (edm μ0 es) ex τ' G L' → MKM μ0 R (edm μ0 es) ex τ' G (fun y => ∃ e, e ∈ l ∧ sI μ0 34 e ≠ 0 ∧ (rfm (sI μ0 32 e) (sJ μ0 33 e) y ∨ rfm (sI μ0 34 e) (sJ μ0 35 e) y)) (mm_goThrough_78 N (mm_goThrough_33 N n) h τ') := fun τ' L' J' => by
      have e36 : τ'.2.2.1 36 h.toNatClampNeg = sI μ0 36 h := mf_I J'.1 (k := 36) rfl
      rw [mm_goThrough_78, gd_in (by decide) b.1 b.2, e36, lt]
      exact mtt_lp C l _ n hs (fun e he => hr e (List.mem_cons_of_mem _ he)) (fun e he => hR e (List.mem_cons_of_mem _ he)) (by simp at hn; omega) τ' L' J'
    rw [mm_goThrough_33, if_neg (Int32.not_lt.mpr b.1), gd_in (by decide) b.1 b.2, e34]
    by_cases c : sI μ0 34 h = 0
    · rw [if_pos c]
      refine MKM_T (next τ L J) (fun y hy => ?_)
      obtain ⟨e, he, h1, h2⟩ := hy
      rcases List.mem_cons.mp he with rfl | he
      · exact absurd c h1
      · exact ⟨e, he, h1, h2⟩
    · have e32 : τ.2.2.1 32 h.toNatClampNeg = sI μ0 32 h := mf_I J.1 (k := 32) rfl
      have e33 : τ.2.2.2 33 h.toNatClampNeg = sJ μ0 33 h := mf_J J.1 (k := 33) rfl
      rw [if_neg c, gd_in (by decide) b.1 b.2, gd_in (by decide) b.1 b.2, e32, e33]
      have hk := hR h List.mem_cons_self c
      refine MKM_T (MKM_bd (reach_a C J (fun o ho => hk o (.inl ho))) (fun y hy => C.2 y (hk y (.inl hy))) (fun τ' L' J' => ?_) (T2 := fun y => rfm (sI μ0 34 h) (sJ μ0 35 h) y ∨ ∃ e, e ∈ l ∧ sI μ0 34 e ≠ 0 ∧ (rfm (sI μ0 32 e) (sJ μ0 33 e) y ∨ rfm (sI μ0 34 e) (sJ μ0 35 e) y))) (fun y hy => ?_)
      · have e34' : τ'.2.2.1 34 h.toNatClampNeg = sI μ0 34 h := mf_I J'.1 (k := 34) rfl
        have e35 : τ'.2.2.2 35 h.toNatClampNeg = sJ μ0 35 h := mf_J J'.1 (k := 35) rfl
        rw [gd_in (by decide) b.1 b.2, gd_in (by decide) b.1 b.2, e34', e35]
        exact MKM_bd (reach_a C J' (fun o ho => hk o (.inr ho))) (fun y hy => C.2 y (hk y (.inr hy))) next
      · obtain ⟨e, he, h1, h2⟩ := hy
        rcases List.mem_cons.mp he with rfl | he
        · rcases h2 with h2 | h2
          · exact .inl h2
          · exact .inr (.inl h2)
        · exact .inr (.inr ⟨e, he, h1, h2⟩)
theorem rfm_4 {t : Int32} (y : OB2) : rfm 4 (Int32.toInt64 t) y ↔ y = (2, t) := by
  refine ⟨fun h => ?_, fun h => .inr (.inl ⟨rfl, by rw [h, i32_64]⟩)⟩
  rcases h with ⟨h, _⟩ | ⟨_, h⟩ | ⟨h, _⟩ | ⟨h, _⟩ | ⟨h, _⟩
  · exact absurd h (by decide)
  · rw [h, i32_64]
  · exact absurd h (by decide)
  · exact absurd h (by decide)
  · exact absurd h (by decide)
theorem rfm_7 {t : Int32} (y : OB2) : rfm 7 (Int32.toInt64 t) y ↔ y = (4, t) := by
  refine ⟨fun h => ?_, fun h => .inr (.inr (.inr (.inl ⟨rfl, by rw [h, i32_64]⟩)))⟩
  rcases h with ⟨h, _⟩ | ⟨h, _⟩ | ⟨h, _⟩ | ⟨_, h⟩ | ⟨h, _⟩
  · exact absurd h (by decide)
  · exact absurd h (by decide)
  · exact absurd h (by decide)
  · rw [h, i32_64]
  · exact absurd h (by decide)
theorem go_end {N : Nat} {o : Option mS} : bd o (fun z => mm_goThrough_331 N z) = o := bd_me (fun z => rfl)
/-- a table -/
theorem mgo_T {N : Nat} (hN : BIG ≤ N) {μ0 τ : mS} {es : Int32 → List Int32} {R : OB2 → Prop} {ex : OB2 → Prop} {G L : List OB2} (C : CEM μ0 es R) (H : SHM μ0 es R) (J : JM μ0 R (edm μ0 es) ex τ G L) {t : Int32} (hR : R (2, t)) : MKM μ0 R (edm μ0 es) ex τ G (edm μ0 es (2, t)) (mm_goThrough N τ 4 t) := by
  have hk := (okm_x (C.2 _ hR)).2.1 rfl
  obtain ⟨h1, h2, h3⟩ := H.1 t hR
  have en : ∀ e, e ∈ es t → sI μ0 34 e ≠ 0 → ∀ y, rfm (sI μ0 32 e) (sJ μ0 33 e) y ∨ rfm (sI μ0 34 e) (sJ μ0 35 e) y → R y := fun e he h0 y hy => C.1 _ y hR (.inl ⟨rfl, .inr ⟨e, he, h0, hy⟩⟩)
  have e20 : τ.2.2.1 20 t.toNatClampNeg = sI μ0 20 t := mf_I J.1 (k := 20) rfl
  have fin : ∀ τ' L', JM μ0 R (edm μ0 es) ex τ' G L' → MKM μ0 R (edm μ0 es) ex τ' G (fun y => ∃ e, e ∈ es t ∧ sI μ0 34 e ≠ 0 ∧ (rfm (sI μ0 32 e) (sJ μ0 33 e) y ∨ rfm (sI μ0 34 e) (sJ μ0 35 e) y)) (mm_goThrough_26 N t τ') := fun τ' L' J' => by
    have e21 : τ'.2.2.1 21 t.toNatClampNeg = sI μ0 21 t := mf_I J'.1 (k := 21) rfl
    rw [mm_goThrough_26, gd_in (by decide) hk.1 hk.2, e21, lt]
    exact mtt_lp C (es t) _ N h1 h2 en (by simp only [BIG] at hN; omega) τ' L' J'
  have ed : ∀ y, edm μ0 es (2, t) y → (0 ≤ sI μ0 20 t ∧ y = (2, sI μ0 20 t)) ∨ ∃ e, e ∈ es t ∧ sI μ0 34 e ≠ 0 ∧ (rfm (sI μ0 32 e) (sJ μ0 33 e) y ∨ rfm (sI μ0 34 e) (sJ μ0 35 e) y) := fun y hy => by
    rcases hy with ⟨_, h⟩ | ⟨h, _⟩ | ⟨h, _⟩ | ⟨h, _⟩
    · exact h
    · exact absurd (show (2 : Nat) = 3 from h) (by decide)
    · exact absurd (show (2 : Nat) = 4 from h) (by decide)
    · exact absurd (show (2 : Nat) = 5 from h) (by decide)
  rw [mm_goThrough, if_pos rfl, gd_in (by decide) hk.1 hk.2, e20]
  by_cases c : sI μ0 20 t < 0
  · rw [if_pos c]
    refine MKM_T (fin τ L J) (fun y hy => ?_)
    rcases ed y hy with ⟨h, _⟩ | h
    · exact absurd c (Int32.not_lt.mpr h)
    · exact h
  · rw [if_neg c, gd_in (by decide) hk.1 hk.2]
    have hm : R (2, sI μ0 20 t) := C.1 _ _ hR (.inl ⟨rfl, .inl ⟨Int32.not_lt.mp c, rfl⟩⟩)
    refine MKM_T (MKM_bd (reach_a C J (fun o ho => by rw [(rfm_4 o).mp ho]; exact hm)) (fun y hy => by rw [(rfm_4 y).mp hy]; exact C.2 _ hm) fin) (fun y hy => ?_)
    rcases ed y hy with ⟨_, h⟩ | h
    · exact .inl ((rfm_4 y).mpr h)
    · exact .inr h
/-- a function -/
theorem mgo_F {N : Nat} (hN : BIG ≤ N) {μ0 τ : mS} {es : Int32 → List Int32} {R : OB2 → Prop} {ex : OB2 → Prop} {G L : List OB2} (C : CEM μ0 es R) (H : SHM μ0 es R) (J : JM μ0 R (edm μ0 es) ex τ G L) {f : Int32} (hR : R (3, f)) : MKM μ0 R (edm μ0 es) ex τ G (edm μ0 es (3, f)) (mm_goThrough N τ 5 f) := by
  have hk := (okm_x (C.2 _ hR)).2.2.1 rfl
  have hk0 : 0 ≤ f := Int32.le_trans (by decide) hk.1
  have hk1 : f < 4100 := Int32.lt_trans hk.2 (by decide)
  have e45 : τ.2.2.1 45 f.toNatClampNeg = sI μ0 45 f := mf_I J.1 (k := 45) rfl
  have ed : ∀ y, edm μ0 es (3, f) y → (sI μ0 45 f < 0 ∧ rfm 6 (Int32.toInt64 (-1 - sI μ0 45 f)) y) ∨ (0 ≤ sI μ0 45 f ∧ ∃ k, 0 ≤ k ∧ k < sI μ0 81 (sI μ0 45 f) ∧ y = (4, sI μ0 50 (sI μ0 46 f + k))) := fun y hy => by
    rcases hy with ⟨h, _⟩ | ⟨_, h⟩ | ⟨h, _⟩ | ⟨h, _⟩
    · exact absurd (show (3 : Nat) = 2 from h) (by decide)
    · exact h
    · exact absurd (show (3 : Nat) = 4 from h) (by decide)
    · exact absurd (show (3 : Nat) = 5 from h) (by decide)
  rw [mm_goThrough, if_neg (by decide), if_pos rfl, gd_in (by decide) hk0 hk1, e45]
  by_cases c : 0 ≤ sI μ0 45 f
  · obtain ⟨s1, s2, s3, s4⟩ := H.2.1 f hR c
    rw [if_pos c]
    have lp : ∀ (j : Nat) (i : Int32), 0 ≤ i → ((sI μ0 81 (sI μ0 45 f)).toInt - i.toInt).toNat < j → ∀ τ L, JM μ0 R (edm μ0 es) ex τ G L → MKM μ0 R (edm μ0 es) ex τ G (fun y => ∃ k, i ≤ k ∧ k < sI μ0 81 (sI μ0 45 f) ∧ y = (4, sI μ0 50 (sI μ0 46 f + k))) (mm_goThrough_123 N j f i τ) := by
      intro j
      induction j with
      | zero => intro i _ h; omega
      | succ j ih =>
        intro i i0 hj τ L J
        have e45 : τ.2.2.1 45 f.toNatClampNeg = sI μ0 45 f := mf_I J.1 (k := 45) rfl
        have e81 : τ.2.2.1 81 (sI μ0 45 f).toNatClampNeg = sI μ0 81 (sI μ0 45 f) := mf_I J.1 (k := 81) rfl
        have e46 : τ.2.2.1 46 f.toNatClampNeg = sI μ0 46 f := mf_I J.1 (k := 46) rfl
        rw [mm_goThrough_123, gd_in (by decide) hk0 hk1, e45, gd_in (by decide) c s1, e81]
        by_cases ci : sI μ0 81 (sI μ0 45 f) ≤ i
        · rw [if_pos ci, mm_goThrough_331]
          exact MKM_0 J (fun y hy => by
            obtain ⟨k, k1, k2, _⟩ := hy
            exact absurd (Int32.lt_of_le_of_lt (Int32.le_trans ci k1) k2) Int32.lt_irrefl)
        · have ilt := Int32.not_le.mp ci
          have B := s4 i i0 ilt
          have T := cw_1 (top := 0) (by decide) s2 (by rw [show (0 : Int32) + sI μ0 81 (sI μ0 45 f) = sI μ0 81 (sI μ0 45 f) from by lia]; exact s3) (by decide) i0 ilt s3
          have e50 : τ.2.2.1 50 (sI μ0 46 f + i).toNatClampNeg = sI μ0 50 (sI μ0 46 f + i) := mf_I J.1 (k := 50) rfl
          have r4 : R (4, sI μ0 50 (sI μ0 46 f + i)) := C.1 _ _ hR (.inr (.inl ⟨rfl, .inr ⟨c, i, i0, ilt, rfl⟩⟩))
          rw [if_neg ci, gd_in (by decide) hk0 hk1, e46, gd_in (by decide) B.1 B.2, e50]
          refine MKM_T (MKM_bd (reach_a C J (fun o ho => by rw [(rfm_7 o).mp ho]; exact r4)) (fun y hy => by rw [(rfm_7 y).mp hy]; exact C.2 _ r4) (fun τ' L' J' => by
            rw [lt]
            exact ih (i + 1) T.2.1 (by have := tI_lt.mp ilt; omega) τ' L' J')) (fun y hy => ?_)
          obtain ⟨k, k1, k2, k3⟩ := hy
          by_cases ck : k = i
          · subst ck; exact .inl ((rfm_7 y).mpr k3)
          · exact .inr ⟨k, f66_1 k1 ck i0 k2 s3, k2, k3⟩
    have b81 := tI_le.mp s3
    rw [show (12000 : Int32).toInt = 12000 from rfl] at b81
    refine MKM_T (lp N 0 (by decide) (by rw [show (0 : Int32).toInt = 0 from rfl]; simp only [BIG] at hN; omega) τ L J) (fun y hy => ?_)
    rcases ed y hy with ⟨h, _⟩ | ⟨_, k, k0, k1, k2⟩
    · exact absurd h (Int32.not_lt.mpr c)
    · exact ⟨k, k0, k1, k2⟩
  · rw [if_neg c, gd_in (by decide) hk0 hk1, bd_me (fun z => rfl)]
    refine MKM_T (reach_a C J (fun o ho => C.1 _ o hR (.inr (.inl ⟨rfl, .inl ⟨Int32.not_le.mp c, ho⟩⟩)))) (fun y hy => ?_)
    rcases ed y hy with ⟨_, h⟩ | ⟨h, _⟩
    · exact h
    · exact absurd h c
/-- a box -/
theorem mgo_B {N : Nat} {μ0 τ : mS} {es : Int32 → List Int32} {R : OB2 → Prop} {ex : OB2 → Prop} {G L : List OB2} (C : CEM μ0 es R) (J : JM μ0 R (edm μ0 es) ex τ G L) {b : Int32} (hR : R (4, b)) : MKM μ0 R (edm μ0 es) ex τ G (edm μ0 es (4, b)) (mm_goThrough N τ 7 b) := by
  have hk := (okm_x (C.2 _ hR)).2.2.2.1 rfl
  have e53 : τ.2.2.1 53 b.toNatClampNeg = sI μ0 53 b := mf_I J.1 (k := 53) rfl
  have e54 : τ.2.2.2 54 b.toNatClampNeg = sJ μ0 54 b := mf_J J.1 (k := 54) rfl
  rw [mm_goThrough, if_neg (by decide), if_neg (by decide), if_pos rfl, gd_in (by decide) hk.1 hk.2, gd_in (by decide) hk.1 hk.2, e53, e54, go_end]
  refine MKM_T (reach_a C J (fun o ho => C.1 _ o hR (.inr (.inr (.inl ⟨rfl, ho⟩))))) (fun y hy => ?_)
  rcases hy with ⟨h, _⟩ | ⟨h, _⟩ | ⟨_, h⟩ | ⟨h, _⟩
  · exact absurd (show (4 : Nat) = 2 from h) (by decide)
  · exact absurd (show (4 : Nat) = 3 from h) (by decide)
  · exact h
  · exact absurd (show (4 : Nat) = 5 from h) (by decide)
