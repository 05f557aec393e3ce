/-! LAYER 2: the reference's collector: coroutines; until nothing is left -/
theorem go_1 {i n : Int32} (i0 : 0 ≤ i) (h : i < n) (h2 : n ≤ 500000) : 0 ≤ i + 1 ∧ (i + 1).toInt = i.toInt + 1 ∧ ∀ k, i ≤ k → k < n → ¬ k = i → i + 1 ≤ k := by
  refine ⟨by lia, ?_, fun k k0 k1 ne => by lia⟩
  have a := tI_le.mp i0
  have b := tI_lt.mp h
  have c := tI_le.mp h2
  rw [show (500000 : Int32).toInt = 500000 from rfl] at c
  rw [show (0 : Int32).toInt = 0 from rfl] at a
  rw [tI_add, show (1 : Int32).toInt = 1 from rfl] <;> rw [show (1 : Int32).toInt = 1 from rfl] <;> omega
theorem go272 {N : Nat} {μ0 : mS} {es : Int32 → List Int32} {R : OB2 → Prop} {ex : OB2 → Prop} {G : List OB2} (C : CEM μ0 es R) {d : Int32} (d0 : 0 ≤ d) (d1 : d < 121) (s2 : 0 ≤ sI μ0 166 d ∧ sI μ0 166 d ≤ 500 ∧ ∀ k, 0 ≤ k → k < sI μ0 166 d → (0 ≤ sI μ0 165 d + 10 * k ∧ sI μ0 165 d + 10 * k < 5000) ∧ (0 ≤ sI μ0 165 d + 10 * k + 1 ∧ sI μ0 165 d + 10 * k + 1 < 5000)) (hr : ∀ k, 0 ≤ k → k < sI μ0 166 d → sI μ0 176 (sI μ0 165 d + 10 * k) = 0 → ∀ y, rfm 5 (Int32.toInt64 (sI μ0 176 (sI μ0 165 d + 10 * k + 1))) y → R y) (j : Nat) : ∀ (i : Int32), 0 ≤ i → ((sI μ0 166 d).toInt - i.toInt).toNat < j → ∀ τ L, JM μ0 R (edm μ0 es) ex τ G L → MKM μ0 R (edm μ0 es) ex τ G (fun y => ∃ k, i ≤ k ∧ k < sI μ0 166 d ∧ sI μ0 176 (sI μ0 165 d + 10 * k) = 0 ∧ rfm 5 (Int32.toInt64 (sI μ0 176 (sI μ0 165 d + 10 * k + 1))) y) (mm_goThrough_272 N j d i τ) := by
  induction j with
  | zero => intro i _ h; omega
  | succ j ih =>
    intro i i0 hj τ L J
    have e166 : τ.2.2.1 166 d.toNatClampNeg = sI μ0 166 d := mf_I J.1 (k := 166) rfl
    have e165 : τ.2.2.1 165 d.toNatClampNeg = sI μ0 165 d := mf_I J.1 (k := 165) rfl
    rw [mm_goThrough_272, gd_in (by decide) d0 d1, e166]
    by_cases ci : sI μ0 166 d ≤ i
    · rw [if_pos ci, mm_goThrough_331]
      exact MKM_0 J (fun y hy => by
        obtain ⟨k, k1, k2, _⟩ := hy
        exact absurd (Int32.lt_of_le_of_lt (Int32.le_trans ci k1) k2) Int32.lt_irrefl)
    · have ilt := Int32.not_le.mp ci
      have B := s2.2.2 i i0 ilt
      have T := go_1 i0 ilt (Int32.le_trans s2.2.1 (by decide))
      have e176 : τ.2.2.1 176 (sI μ0 165 d + 10 * i).toNatClampNeg = sI μ0 176 (sI μ0 165 d + 10 * i) := mf_I J.1 (k := 176) rfl
      have e176' : τ.2.2.1 176 (sI μ0 165 d + 10 * i + 1).toNatClampNeg = sI μ0 176 (sI μ0 165 d + 10 * i + 1) := mf_I J.1 (k := 176) rfl
      have il := tI_lt.mp ilt
      rw [if_neg ci, gd_in (by decide) d0 d1, e165, gd_in (by decide) B.1.1 B.1.2, e176]
      by_cases c0 : sI μ0 176 (sI μ0 165 d + 10 * i) = 0
      · rw [if_pos c0, gd_in (by decide) d0 d1, gd_in (by decide) B.2.1 B.2.2, e176']
        refine MKM_T (MKM_bd (reach_a C J (hr i i0 ilt c0)) (fun y hy => C.2 y (hr i i0 ilt c0 y hy)) (fun τ' L' J' => by
          rw [mm_goThrough_325, lt]
          exact ih (i + 1) T.1 (by omega) τ' L' J')) (fun y hy => ?_)
        obtain ⟨k, k1, k2, k3, k4⟩ := hy
        by_cases ck : k = i
        · subst ck; exact .inl k4
        · exact .inr ⟨k, T.2.2 k k1 k2 ck, k2, k3, k4⟩
      · rw [if_neg c0, mm_goThrough_325, lt]
        refine MKM_T (ih (i + 1) T.1 (by omega) τ L J) (fun y hy => ?_)
        obtain ⟨k, k1, k2, k3, k4⟩ := hy
        by_cases ck : k = i
        · subst ck; exact absurd k3 c0
        · exact ⟨k, T.2.2 k k1 k2 ck, k2, k3, k4⟩
theorem go224 {N : Nat} (hN : BIG ≤ N) {μ0 : mS} {es : Int32 → List Int32} {R : OB2 → Prop} {ex : OB2 → Prop} {G : List OB2} (C : CEM μ0 es R) {d : Int32} (d0 : 0 ≤ d) (d1 : d < 121) (s1 : 0 ≤ sI μ0 164 d ∧ sI μ0 164 d ≤ 500000 ∧ ∀ k, 0 ≤ k → k < sI μ0 164 d → 0 ≤ sI μ0 163 d + k ∧ sI μ0 163 d + k < 500000) (s2 : 0 ≤ sI μ0 166 d ∧ sI μ0 166 d ≤ 500 ∧ ∀ k, 0 ≤ k → k < sI μ0 166 d → (0 ≤ sI μ0 165 d + 10 * k ∧ sI μ0 165 d + 10 * k < 5000) ∧ (0 ≤ sI μ0 165 d + 10 * k + 1 ∧ sI μ0 165 d + 10 * k + 1 < 5000)) (hp : ∀ k, 0 ≤ k → k < sI μ0 164 d → ∀ y, rfm (kpt μ0 d k) (kpv μ0 d k) y → R y) (hr : ∀ k, 0 ≤ k → k < sI μ0 166 d → sI μ0 176 (sI μ0 165 d + 10 * k) = 0 → ∀ y, rfm 5 (Int32.toInt64 (sI μ0 176 (sI μ0 165 d + 10 * k + 1))) y → R y) (j : Nat) : ∀ (i : Int32), 0 ≤ i → ((sI μ0 164 d).toInt - i.toInt).toNat < j → ∀ τ L, JM μ0 R (edm μ0 es) ex τ G L → MKM μ0 R (edm μ0 es) ex τ G (fun y => (∃ k, i ≤ k ∧ k < sI μ0 164 d ∧ rfm (kpt μ0 d k) (kpv μ0 d k) y) ∨ ∃ k, 0 ≤ k ∧ k < sI μ0 166 d ∧ sI μ0 176 (sI μ0 165 d + 10 * k) = 0 ∧ rfm 5 (Int32.toInt64 (sI μ0 176 (sI μ0 165 d + 10 * k + 1))) y) (mm_goThrough_224 N j d i τ) := by
  induction j with
  | zero => intro i _ h; omega
  | succ j ih =>
    intro i i0 hj τ L J
    have e164 : τ.2.2.1 164 d.toNatClampNeg = sI μ0 164 d := mf_I J.1 (k := 164) rfl
    have e163 : τ.2.2.1 163 d.toNatClampNeg = sI μ0 163 d := mf_I J.1 (k := 163) rfl
    rw [mm_goThrough_224, gd_in (by decide) d0 d1, e164]
    by_cases ci : sI μ0 164 d ≤ i
    · have b := tI_le.mp s2.2.1
      rw [show (500 : Int32).toInt = 500 from rfl] at b
      rw [if_pos ci]
      refine MKM_T (go272 C d0 d1 s2 hr N 0 (by decide) (by rw [show (0 : Int32).toInt = 0 from rfl]; simp only [BIG] at hN; omega) τ L J) (fun y hy => ?_)
      rcases hy with ⟨k, k1, k2, _⟩ | h
      · exact absurd (Int32.lt_of_le_of_lt (Int32.le_trans ci k1) k2) Int32.lt_irrefl
      · exact h
    · have ilt := Int32.not_le.mp ci
      have B := s1.2.2 i i0 ilt
      have T := go_1 i0 ilt s1.2.1
      have il := tI_lt.mp ilt
      have q1 : τ.2.2.1 173 (sI μ0 163 d + i).toNatClampNeg = kpt μ0 d i := mf_I J.1 (k := 173) rfl
      have q2 : τ.2.2.2 174 (sI μ0 163 d + i).toNatClampNeg = kpv μ0 d i := mf_J J.1 (k := 174) rfl
      rw [if_neg ci, gd_in (by decide) d0 d1, e163, gd_in (by decide) B.1 B.2, gd_in (by decide) d0 d1, gd_in (by decide) B.1 B.2, q1, q2]
      refine MKM_T (MKM_bd (reach_a C J (hp i i0 ilt)) (fun y hy => C.2 y (hp i i0 ilt y hy)) (fun τ' L' J' => by
        rw [lt]
        exact ih (i + 1) T.1 (by omega) τ' L' J')) (fun y hy => ?_)
      rcases hy with ⟨k, k1, k2, k3⟩ | h
      · by_cases ck : k = i
        · subst ck; exact .inl k3
        · exact .inr (.inl ⟨k, T.2.2 k k1 k2 ck, k2, k3⟩)
      · exact .inr (.inr h)
/-- a coroutine -/
theorem mgo_C {N : Nat} (hN : BIG ≤ N) {μ0 τ : mS} {es : Int32 → List Int32} {R : OB2 → Prop} {ex : OB2 → Prop} {G L : List OB2} (C : CEM μ0 es R) (H : SHM μ0 es R) (J : JM μ0 R (edm μ0 es) ex τ G L) {d : Int32} (hR : R (5, d)) : MKM μ0 R (edm μ0 es) ex τ G (edm μ0 es (5, d)) (mm_goThrough N τ 6 d) := by
  have hk := (okm_x (C.2 _ hR)).2.2.2.2 rfl
  have d1 : d < 121 := Int32.lt_trans hk.2 (by decide)
  have e156 : τ.2.2.1 156 d.toNatClampNeg = sI μ0 156 d := mf_I J.1 (k := 156) rfl
  have e159 : τ.2.2.1 159 d.toNatClampNeg = sI μ0 159 d := mf_I J.1 (k := 159) rfl
  have e158 : τ.2.2.1 158 d.toNatClampNeg = sI μ0 158 d := mf_I J.1 (k := 158) rfl
  have ed : ∀ y, edm μ0 es (5, d) y → sI μ0 156 d = 0 ∧ ((sI μ0 159 d = 0 ∧ rfm 5 (Int32.toInt64 (sI μ0 158 d)) y) ∨ (∃ k, 0 ≤ k ∧ k < sI μ0 164 d ∧ rfm (kpt μ0 d k) (kpv μ0 d k) y) ∨ (∃ k, 0 ≤ k ∧ k < sI μ0 166 d ∧ sI μ0 176 (sI μ0 165 d + 10 * k) = 0 ∧ rfm 5 (Int32.toInt64 (sI μ0 176 (sI μ0 165 d + 10 * k + 1))) y)) := fun y hy => by
    rcases hy with ⟨h, _⟩ | ⟨h, _⟩ | ⟨h, _⟩ | ⟨_, h⟩
    · exact absurd (show (5 : Nat) = 2 from h) (by decide)
    · exact absurd (show (5 : Nat) = 3 from h) (by decide)
    · exact absurd (show (5 : Nat) = 4 from h) (by decide)
    · exact h
  rw [mm_goThrough, if_neg (by decide), if_neg (by decide), if_neg (by decide), gd_in (by decide) hk.1 d1, e156]
  by_cases c : sI μ0 156 d = 0
  · obtain ⟨s1, s2⟩ := H.2.2 d hR c
    have mk : ∀ y, ((sI μ0 159 d = 0 ∧ rfm 5 (Int32.toInt64 (sI μ0 158 d)) y) ∨ (∃ k, 0 ≤ k ∧ k < sI μ0 164 d ∧ rfm (kpt μ0 d k) (kpv μ0 d k) y) ∨ (∃ k, 0 ≤ k ∧ k < sI μ0 166 d ∧ sI μ0 176 (sI μ0 165 d + 10 * k) = 0 ∧ rfm 5 (Int32.toInt64 (sI μ0 176 (sI μ0 165 d + 10 * k + 1))) y)) → R y := fun y hy => C.1 _ y hR (.inr (.inr (.inr ⟨rfl, c, hy⟩)))
    have b := tI_le.mp s1.2.1
    rw [show (500000 : Int32).toInt = 500000 from rfl] at b
    have fin : ∀ τ' L', JM μ0 R (edm μ0 es) ex τ' G L' → MKM μ0 R (edm μ0 es) ex τ' G (fun y => (∃ k, 0 ≤ k ∧ k < sI μ0 164 d ∧ rfm (kpt μ0 d k) (kpv μ0 d k) y) ∨ ∃ k, 0 ≤ k ∧ k < sI μ0 166 d ∧ sI μ0 176 (sI μ0 165 d + 10 * k) = 0 ∧ rfm 5 (Int32.toInt64 (sI μ0 176 (sI μ0 165 d + 10 * k + 1))) y) (mm_goThrough_222 N d τ') := fun τ' L' J' => by
      rw [mm_goThrough_222]
      exact go224 hN C hk.1 d1 s1 s2 (fun k k0 k1 y hy => mk y (.inr (.inl ⟨k, k0, k1, hy⟩))) (fun k k0 k1 k2 y hy => mk y (.inr (.inr ⟨k, k0, k1, k2, hy⟩))) N 0 (by decide) (by rw [show (0 : Int32).toInt = 0 from rfl]; simp only [BIG] at hN; omega) τ' L' J'
    rw [if_pos c, gd_in (by decide) hk.1 d1, e159]
    by_cases c9 : sI μ0 159 d = 0
    · rw [if_pos c9, gd_in (by decide) hk.1 d1, e158]
      refine MKM_T (MKM_bd (reach_a C J (fun o ho => mk o (.inl ⟨c9, ho⟩))) (fun y hy => C.2 y (mk y (.inl ⟨c9, hy⟩))) fin) (fun y hy => ?_)
      rcases (ed y hy).2 with ⟨_, h⟩ | h
      · exact .inl h
      · exact .inr h
    · rw [if_neg c9]
      refine MKM_T (fin τ L J) (fun y hy => ?_)
      rcases (ed y hy).2 with ⟨h, _⟩ | h
      · exact absurd h c9
      · exact h
  · rw [if_neg c, mm_goThrough_331]
    exact MKM_0 J (fun y hy => absurd (ed y hy).1 c)
theorem typ_k {k : Nat} (h : k = 2 ∨ k = 3 ∨ k = 4 ∨ k = 5) : typ k = if k = 2 then 4 else if k = 3 then 5 else if k = 4 then 7 else 6 := rfl
/-- a thing -/
theorem mgo_a {N : Nat} (hN : BIG ≤ N) {μ0 τ : mS} {es : Int32 → List Int32} {R : OB2 → Prop} {ex : OB2 → Prop} {G L : List OB2} (C : CEM μ0 es R) (H : SHM μ0 es R) (J : JM μ0 R (edm μ0 es) ex τ G L) {o : OB2} (h1 : o.1 ≠ 1) (hR : R o) : MKM μ0 R (edm μ0 es) ex τ G (edm μ0 es o) (mm_goThrough N τ (typ o.1) o.2) := by
  have ok := C.2 o hR
  obtain ⟨k, x⟩ := o
  rcases okm_k ok with e | e | e | e | e
  · exact absurd e h1
  · have e' : k = 2 := e
    subst e'
    exact mgo_T hN C H J hR
  · have e' : k = 3 := e
    subst e'
    exact mgo_F hN C H J hR
  · have e' : k = 4 := e
    subst e'
    exact mgo_B C J hR
  · have e' : k = 5 := e
    subst e'
    exact mgo_C hN C H J hR
theorem cod_d {o : OB2} (ok : okm o) (h1 : o.1 ≠ 1) : cod o &&& 7 = typ o.1 ∧ cod o >>> ((3 : Int32) &&& 31) = o.2 := by
  have key : ∀ x t : Int32, 0 ≤ x → x < 12000 → 4 ≤ t → t ≤ 7 → (8 * x + t) &&& 7 = t ∧ (8 * x + t) >>> ((3 : Int32) &&& 31) = x := fun x t x0 x1 t0 t1 => by
    have c0 : 0 ≤ 8 * x + t := by lia
    have e : (8 * x + t).toInt = 8 * x.toInt + t.toInt := by
      have a0 := tI_le.mp x0
      have a1 := tI_lt.mp x1
      have a2 := tI_le.mp t0
      have a3 := tI_le.mp t1
      rw [show (0 : Int32).toInt = 0 from rfl] at a0
      rw [show (12000 : Int32).toInt = 12000 from rfl] at a1
      rw [show (4 : Int32).toInt = 4 from rfl] at a2
      rw [show (7 : Int32).toInt = 7 from rfl] at a3
      have e8 : (8 * x).toInt = 8 * x.toInt := by
        rw [Int32.toInt_mul, show (8 : Int32).toInt = 8 from rfl]
        rw [Int.bmod_eq_of_le (by omega) (by omega)]
      rw [tI_add, e8] <;> rw [e8] <;> omega
    have a0 := tI_le.mp x0
    have a2 := tI_le.mp t0
    have a3 := tI_le.mp t1
    rw [show (0 : Int32).toInt = 0 from rfl] at a0
    rw [show (4 : Int32).toInt = 4 from rfl] at a2
    rw [show (7 : Int32).toInt = 7 from rfl] at a3
    refine ⟨tI_eq.mpr ?_, tI_eq.mpr ?_⟩
    · rw [c8_and c0, e]; omega
    · rw [c8_shr c0, e]; omega
  rcases ok with ⟨h, a, b⟩ | ⟨h, a, b⟩ | ⟨h, a, b⟩ | ⟨h, a, b⟩ | ⟨h, a, b⟩ <;> simp only [cod, h]
  · exact absurd h h1
  · exact key _ 4 a (Int32.lt_trans b (by decide)) (by decide) (by decide)
  · exact key _ 5 (Int32.le_trans (by decide) a) (Int32.lt_trans b (by decide)) (by decide) (by decide)
  · exact key _ 7 a b (by decide) (by decide)
  · exact key _ 6 a (Int32.lt_trans b (by decide)) (by decide) (by decide)
