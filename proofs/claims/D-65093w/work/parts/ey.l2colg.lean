/-! LAYER 2: the reference's collector: strings come together -/
theorem sum_pm {l l' : List Int} (h : l.Perm l') : l.sum = l'.sum := by
  induction h with
  | nil => rfl
  | cons x _ ih => simp only [List.sum_cons, ih]
  | swap x y l => simp only [List.sum_cons]; omega
  | trans _ _ h1 h2 => rw [h1, h2]
theorem sumsub {f : Int32 → Int} : ∀ {l o : List Int32}, l.Nodup → (∀ x, x ∈ l → x ∈ o) → (∀ x, x ∈ o → 0 ≤ f x) → (l.map f).sum ≤ (o.map f).sum
  | [], o, _, _, h => by
    have : ∀ (o : List Int32), (∀ x, x ∈ o → 0 ≤ f x) → 0 ≤ (o.map f).sum := by
      intro o
      induction o with
      | nil => intro _; simp
      | cons a o ih =>
        intro h
        have h1 := h a List.mem_cons_self
        have h2 := ih (fun x hx => h x (List.mem_cons_of_mem _ hx))
        simp only [List.map_cons, List.sum_cons]
        omega
    simpa using this o h
  | a :: l, o, nd, hs, h => by
    obtain ⟨n1, n2⟩ := List.nodup_cons.mp nd
    have ha := hs a List.mem_cons_self
    have pm := List.perm_cons_erase ha
    have e : (o.map f).sum = f a + ((o.erase a).map f).sum := by
      have := sum_pm (pm.map f)
      rw [this]; simp
    have ih := sumsub (f := f) (l := l) (o := o.erase a) n2 (fun x hx => by
      have := hs x (List.mem_cons_of_mem _ hx)
      rcases List.mem_cons.mp (pm.mem_iff.mp this) with q | q
      · rw [q] at hx; exact absurd hx n1
      · exact q) (fun x hx => h x (List.mem_of_mem_erase hx))
    rw [e, List.map_cons, List.sum_cons]
    omega
theorem ss_1 {b a n i : Int32} (h0 : 0 ≤ a) (h1 : a ≤ 300000) (n1 : n ≤ 300000) (h2 : a + n ≤ 300000) (i0 : 0 ≤ i) (i1 : i < n) : (0 ≤ a + i ∧ a + i < 300000) ∧ 0 ≤ i + 1 ∧ i + 1 ≤ n ∧ (i + 1).toInt = i.toInt + 1 ∧ (∀ k, k < i + 1 → ¬ k = i → k < i) := by
  refine ⟨⟨by lia, by lia⟩, by lia, by lia, ?_, fun k k0 ne => by lia⟩
  have a := tI_le.mp i0
  have b := tI_lt.mp i1
  have c := tI_le.mp n1
  rw [show (300000 : Int32).toInt = 300000 from rfl] at c
  rw [show (0 : Int32).toInt = 0 from rfl] at a
  rw [tI_add, show (1 : Int32).toInt = 1 from rfl] <;> rw [show (1 : Int32).toInt = 1 from rfl] <;> omega
theorem ss_2 {a i k n : Int32} (h0 : 0 ≤ a) (h1 : a ≤ 300000) (n1 : n ≤ 300000) (i0 : 0 ≤ i) (i1 : i < n) (k0 : 0 ≤ k) (k1 : k ≤ n) : (a + k = a + i ↔ k = i) ∧ 0 ≤ a + k := ⟨⟨fun h => by lia, fun h => by rw [h]⟩, by lia⟩
/-- one string's bytes -/
theorem ss38 {N : Nat} {σ : mS} {b top v2 n : Int32} (r16 : Int32 → Int32 → mS → Option mS) (b0 : 0 ≤ b) (b1 : b < 42000) (hn : sI σ 3 b = n) (n0 : 0 ≤ n) (n1 : n ≤ 300000) (a0 : 0 ≤ sI σ 2 b) (a1 : sI σ 2 b ≤ 300000) (an : sI σ 2 b + n ≤ 300000) (t0 : 0 ≤ top) (t1 : top ≤ 300000) (tn : top + n ≤ 300000) (j : Nat) : ∀ (i : Int32), 0 ≤ i → i ≤ n → (n.toInt - i.toInt).toNat < j → ∀ τ, m_fr (fun k => k == 11) σ τ → (∀ k, 0 ≤ k → k < i → sI τ 11 (top + k) &&& 255 = sI σ 10 (sI σ 2 b + k) &&& 255) → (∀ m, 0 ≤ m → m < top → sI τ 11 m = sI σ 11 m) → ∃ υ, mm_sweepStrings_38 N r16 j top v2 b i τ = r16 (top + n) (v2 + -1) (md_pi (md_ai υ 2 b.toNatClampNeg top) 13 (sF σ 13 + 1)) ∧ m_fr (fun k => k == 11) σ υ ∧ (∀ k, 0 ≤ k → k < n → sI υ 11 (top + k) &&& 255 = sI σ 10 (sI σ 2 b + k) &&& 255) ∧ (∀ m, 0 ≤ m → m < top → sI υ 11 m = sI σ 11 m) := by
  induction j with
  | zero => intro i _ _ h; omega
  | succ j ih =>
    intro i i0 i1 hj τ fr q1 q2
    have e3 : τ.2.2.1 3 b.toNatClampNeg = n := (mf_I fr (k := 3) rfl).trans hn
    have e2 : τ.2.2.1 2 b.toNatClampNeg = sI σ 2 b := mf_I fr (k := 2) rfl
    rw [mm_sweepStrings_38, gd_in (by decide) b0 b1, e3]
    by_cases c : n ≤ i
    · have ei := Int32.le_antisymm i1 c
      subst ei
      have e3' : (md_ai τ 2 b.toNatClampNeg top).2.2.1 3 b.toNatClampNeg = i := e3
      have e13' : τ.1 13 = sF σ 13 := mf_F fr (k := 13) rfl
      have e13 : (md_ai τ 2 b.toNatClampNeg top).1 13 = sF σ 13 := e13'
      rw [if_pos c, gd_in (by decide) b0 b1, lt, gd_in (by decide) b0 b1, e3', lt, e13, lt, mm_sweepStrings_127, lt]
      exact ⟨τ, rfl, fr, q1, q2⟩
    · have ilt := Int32.not_le.mp c
      have A := ss_1 (b := b) a0 a1 n1 an i0 ilt
      have T := ss_1 (b := b) t0 t1 n1 tn i0 ilt
      have e10 : τ.2.2.1 10 (sI σ 2 b + i).toNatClampNeg = sI σ 10 (sI σ 2 b + i) := mf_I fr (k := 10) rfl
      have il := tI_lt.mp ilt
      rw [if_neg c, gd_in (by decide) b0 b1, e2, gd_in (by decide) A.1.1 A.1.2, gd_in (by decide) T.1.1 T.1.2, e10, lt, lt]
      refine ih (i + 1) A.2.1 A.2.2.1 (by omega) _ (mf_ai fr rfl) (fun k k0 k1 => ?_) (fun m m0 m1 => ?_)
      · have kn : k ≤ n := by
          by_cases ck : k = i
          · rw [ck]; exact i1
          · exact Int32.le_trans (Int32.le_of_lt (A.2.2.2.2 k k1 ck)) i1
        have D := ss_2 t0 t1 n1 i0 ilt k0 kn
        rw [sI_aj T.1.1 D.2]
        by_cases ck : k = i
        · rw [if_pos (D.1.mpr ck), b_mask, ck]
        · rw [if_neg (fun h => ck (D.1.mp h))]
          exact q1 k k0 (A.2.2.2.2 k k1 ck)
      · rw [sI_aj T.1.1 m0, if_neg (fun h => by
          rw [h] at m1
          have := T.1.1
          clear q1 q2 A ih
          lia)]
        exact q2 m m0 m1
