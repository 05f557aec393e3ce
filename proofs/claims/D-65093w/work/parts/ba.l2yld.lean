/-! LAYER 2: the running coroutine waits: the reference lays its part aside -/
def lqM (k : Nat) : Bool := [173, 174].contains k
theorem lay98_lp {N : Nat} {σ : mS} {to wn th d n b q many : Int32} (d0 : 0 ≤ d) (d1 : d < 121) (n0 : 0 ≤ n) (b0 : 0 ≤ b) (b1 : b ≤ 480000) (bn : b + n ≤ 490000) (n1 : n ≤ 490000) (hq : sF σ 175 = q) (q0 : 0 ≤ q) (q1 : q ≤ 500000) (qn : q + n ≤ 500000) (tt : ∀ k, 0 ≤ k → k < n → 0 ≤ sI σ 141 (b + k) ∧ sI σ 141 (b + k) ≤ 8) (j : Nat) (i : Int32) (i0 : 0 ≤ i) (i1 : i ≤ n) (hj : (n.toInt - i.toInt).toNat < j) : ∀ τ : mS, m_fr lqM σ τ → (∀ k, 0 ≤ k → k < i → sI τ 173 (q + k) = sI σ 141 (b + k) ∧ sJ τ 174 (q + k) = sJ σ 142 (b + k)) → (∀ m, 0 ≤ m → m < q → sI τ 173 m = sI σ 173 m ∧ sJ τ 174 m = sJ σ 174 m) → ∃ υ, mm_lay_98 N j to wn th d b n many i τ = mm_lay_195 N N to wn th d b (sI σ 162 d) υ ∧ m_fr (fun k => lqM k || [165, 166, 175].contains k) σ υ ∧ sF υ 175 = q + n ∧ (∀ x, 0 ≤ x → sI υ 165 x = if x = d then sF σ 177 else sI σ 165 x) ∧ (∀ x, 0 ≤ x → sI υ 166 x = if x = d then many else sI σ 166 x) ∧ (∀ k, 0 ≤ k → k < n → sI υ 173 (q + k) = sI σ 141 (b + k) ∧ sJ υ 174 (q + k) = sJ σ 142 (b + k)) ∧ (∀ m, 0 ≤ m → m < q → sI υ 173 m = sI σ 173 m ∧ sJ υ 174 m = sJ σ 174 m) := by
  refine loop_up (lo := 0) (m := n) (fun j i => ∀ τ : mS, m_fr lqM σ τ → (∀ k, 0 ≤ k → k < i → sI τ 173 (q + k) = sI σ 141 (b + k) ∧ sJ τ 174 (q + k) = sJ σ 142 (b + k)) → (∀ m, 0 ≤ m → m < q → sI τ 173 m = sI σ 173 m ∧ sJ τ 174 m = sJ σ 174 m) → ∃ υ, mm_lay_98 N j to wn th d b n many i τ = mm_lay_195 N N to wn th d b (sI σ 162 d) υ ∧ m_fr (fun k => lqM k || [165, 166, 175].contains k) σ υ ∧ sF υ 175 = q + n ∧ (∀ x, 0 ≤ x → sI υ 165 x = if x = d then sF σ 177 else sI σ 165 x) ∧ (∀ x, 0 ≤ x → sI υ 166 x = if x = d then many else sI σ 166 x) ∧ (∀ k, 0 ≤ k → k < n → sI υ 173 (q + k) = sI σ 141 (b + k) ∧ sJ υ 174 (q + k) = sJ σ 142 (b + k)) ∧ (∀ m, 0 ≤ m → m < q → sI υ 173 m = sI σ 173 m ∧ sJ υ 174 m = sJ σ 174 m)) ?_ j i i0 i1 hj
  clear hj i0 i1 i j
  intro j i i0 i1 ih τ fr hw ho
  have e175 : sF τ 175 = q := by rw [mf_F fr rfl]; exact hq
  have e177 : sF τ 177 = sF σ 177 := mf_F fr rfl
  have e162 : sI τ 162 d = sI σ 162 d := mf_I fr rfl
  have e141 : sI τ 141 (b + i) = sI σ 141 (b + i) := mf_I fr rfl
  have e142 : sJ τ 142 (b + i) = sJ σ 142 (b + i) := mf_J fr rfl
  by_cases c : n ≤ i
  · have ek : i = n := Int32.le_antisymm i1 c
    subst ek
    refine ⟨md_ai (md_ai (md_pi τ 175 (q + i)) 165 d.toNatClampNeg (sF σ 177)) 166 d.toNatClampNeg many, ?_, mf_ai (mf_ai (mf_pi (mf_mono fr (fun k hk => (Bool.or_eq_false_iff.mp hk).1)) rfl) rfl) rfl, by simp only [sF_pi, sF_pl, sF_ai, sF_al, sG_pi, sG_pl, sG_ai, sG_al, sI_pi, sI_pl, sI_al, sI_ai1, sI_ai2, sJ_pi, sJ_pl, sJ_ai, sJ_al1, sJ_al2, Nat.reduceEqDiff, if_true, if_false, ne_eq, not_false_eq_true, ite_true, ite_false], fun x x0 => ?_, fun x x0 => ?_, fun k k0 k1 => by simp only [sF_pi, sF_pl, sF_ai, sF_al, sG_pi, sG_pl, sG_ai, sG_al, sI_pi, sI_pl, sI_al, sI_ai1, sI_ai2, sJ_pi, sJ_pl, sJ_ai, sJ_al1, sJ_al2, Nat.reduceEqDiff, if_true, if_false, ne_eq, not_false_eq_true, ite_true, ite_false]; exact hw k k0 k1, fun m m0 m1 => by simp only [sF_pi, sF_pl, sF_ai, sF_al, sG_pi, sG_pl, sG_ai, sG_al, sI_pi, sI_pl, sI_al, sI_ai1, sI_ai2, sJ_pi, sJ_pl, sJ_ai, sJ_al1, sJ_al2, Nat.reduceEqDiff, if_true, if_false, ne_eq, not_false_eq_true, ite_true, ite_false]; exact ho m m0 m1⟩
    · clear tt ih hw ho
      simp (disch := lia) only [mm_lay_98, lt, gd_in, if_pos, if_neg, ↓reduceIte, gd_z0, gd_z1, gd_tt, sF_fold, sG_fold, sI_fold, sJ_fold, sF_pi, sF_pl, sF_ai, sF_al, sG_pi, sG_pl, sG_ai, sG_al, sI_pi, sI_pl, sI_al, sI_ai1, sI_ai2, sJ_pi, sJ_pl, sJ_ai, sJ_al1, sJ_al2, Nat.reduceEqDiff, if_true, if_false, ne_eq, not_false_eq_true, ite_true, ite_false, e175, e177, e162]
    · simp only [sF_pi, sF_pl, sF_ai, sF_al, sG_pi, sG_pl, sG_ai, sG_al, sI_pi, sI_pl, sI_al, sI_ai1, sI_ai2, sJ_pi, sJ_pl, sJ_ai, sJ_al1, sJ_al2, Nat.reduceEqDiff, if_true, if_false, ne_eq, not_false_eq_true, ite_true, ite_false]
      rw [sI_ai d0 x0]
      by_cases z : x = d
      · rw [if_pos ⟨rfl, z⟩, if_pos z]
      · rw [if_neg (fun y => z y.2), if_neg z]
        simp only [sF_pi, sF_pl, sF_ai, sF_al, sG_pi, sG_pl, sG_ai, sG_al, sI_pi, sI_pl, sI_al, sI_ai1, sI_ai2, sJ_pi, sJ_pl, sJ_ai, sJ_al1, sJ_al2, Nat.reduceEqDiff, if_true, if_false, ne_eq, not_false_eq_true, ite_true, ite_false]
        exact mf_I fr rfl
    · rw [sI_ai d0 x0]
      by_cases z : x = d
      · rw [if_pos ⟨rfl, z⟩, if_pos z]
      · rw [if_neg (fun y => z y.2), if_neg z]
        simp only [sF_pi, sF_pl, sF_ai, sF_al, sG_pi, sG_pl, sG_ai, sG_al, sI_pi, sI_pl, sI_al, sI_ai1, sI_ai2, sJ_pi, sJ_pl, sJ_ai, sJ_al1, sJ_al2, Nat.reduceEqDiff, if_true, if_false, ne_eq, not_false_eq_true, ite_true, ite_false]
        exact mf_I fr rfl
  · have t := tt i i0 (Int32.not_le.mp c)
    have nt := nar_tg t.1 t.2
    have st : mm_lay_98 N (j + 1) to wn th d b n many i τ = mm_lay_98 N j to wn th d b n many (i + 1) (md_al (md_ai τ 173 (q + i).toNatClampNeg (sI σ 141 (b + i))) 174 (q + i).toNatClampNeg (sJ σ 142 (b + i))) := by
      clear tt ih hw ho
      simp (disch := lia) only [mm_lay_98, lt, gd_in, if_pos, if_neg, ↓reduceIte, gd_z0, gd_z1, gd_tt, sF_fold, sG_fold, sI_fold, sJ_fold, sF_pi, sF_pl, sF_ai, sF_al, sG_pi, sG_pl, sG_ai, sG_al, sI_pi, sI_pl, sI_al, sI_ai1, sI_ai2, sJ_pi, sJ_pl, sJ_ai, sJ_al1, sJ_al2, Nat.reduceEqDiff, if_true, if_false, ne_eq, not_false_eq_true, ite_true, ite_false, e175, e141, e142, nt]
    rw [st]
    have qi : 0 ≤ q + i := by clear tt ih hw ho; lia
    refine ih (Int32.not_le.mp c) _ (mf_al (mf_ai fr rfl) rfl) (fun k k0 k1 => ?_) (fun m m0 m1 => ?_)
    · have qk : 0 ≤ q + k := by clear tt ih hw ho; lia
      simp only [sF_pi, sF_pl, sF_ai, sF_al, sG_pi, sG_pl, sG_ai, sG_al, sI_pi, sI_pl, sI_al, sI_ai1, sI_ai2, sJ_pi, sJ_pl, sJ_ai, sJ_al1, sJ_al2, Nat.reduceEqDiff, if_true, if_false, ne_eq, not_false_eq_true, ite_true, ite_false]
      rw [sI_ai qi qk, sJ_al qi qk]
      by_cases z : k = i
      · subst z; rw [if_pos ⟨rfl, rfl⟩, if_pos ⟨rfl, rfl⟩]; exact ⟨rfl, rfl⟩
      · have ne : q + k ≠ q + i := fun y => z (by clear tt ih hw ho; lia)
        rw [if_neg (fun y => ne y.2), if_neg (fun y => ne y.2)]
        simp only [sF_pi, sF_pl, sF_ai, sF_al, sG_pi, sG_pl, sG_ai, sG_al, sI_pi, sI_pl, sI_al, sI_ai1, sI_ai2, sJ_pi, sJ_pl, sJ_ai, sJ_al1, sJ_al2, Nat.reduceEqDiff, if_true, if_false, ne_eq, not_false_eq_true, ite_true, ite_false]
        exact hw k k0 (by clear tt ih hw ho; lia)
    · have ne : m ≠ q + i := fun y => by clear tt ih hw ho; lia
      simp only [sF_pi, sF_pl, sF_ai, sF_al, sG_pi, sG_pl, sG_ai, sG_al, sI_pi, sI_pl, sI_al, sI_ai1, sI_ai2, sJ_pi, sJ_pl, sJ_ai, sJ_al1, sJ_al2, Nat.reduceEqDiff, if_true, if_false, ne_eq, not_false_eq_true, ite_true, ite_false]
      rw [sI_ai qi m0, sJ_al qi m0, if_neg (fun y => ne y.2), if_neg (fun y => ne y.2)]
      simp only [sF_pi, sF_pl, sF_ai, sF_al, sG_pi, sG_pl, sG_ai, sG_al, sI_pi, sI_pl, sI_al, sI_ai1, sI_ai2, sJ_pi, sJ_pl, sJ_ai, sJ_al1, sJ_al2, Nat.reduceEqDiff, if_true, if_false, ne_eq, not_false_eq_true, ite_true, ite_false]
      exact ho m m0 m1
/-- one row is laid aside -/
def rowL (σ τ : mS) (k b : Int32) : mS := md_pi (md_ai (md_ai (md_ai (md_ai (md_ai (md_ai (md_ai (md_ai (md_ai (md_ai τ 176 (sF τ 177).toNatClampNeg (sI σ 144 k)) 176 (sF τ 177 + 1).toNatClampNeg (sI σ 145 k)) 176 (sF τ 177 + 2).toNatClampNeg (sI σ 146 k)) 176 (sF τ 177 + 3).toNatClampNeg (sI σ 147 k - b)) 176 (sF τ 177 + 4).toNatClampNeg (sI σ 148 k)) 176 (sF τ 177 + 5).toNatClampNeg (sI σ 149 k - b)) 176 (sF τ 177 + 6).toNatClampNeg (sI σ 150 k)) 176 (sF τ 177 + 7).toNatClampNeg (sI σ 151 k)) 176 (sF τ 177 + 8).toNatClampNeg (sI σ 152 k)) 176 (sF τ 177 + 9).toNatClampNeg (sI σ 153 k)) 177 (sF τ 177 + 10)
def lrM (k : Nat) : Bool := [176, 177].contains k
theorem rowL_fr {σ τ : mS} {k b : Int32} : m_fr lrM τ (rowL σ τ k b) := mf_pi (mf_ai (mf_ai (mf_ai (mf_ai (mf_ai (mf_ai (mf_ai (mf_ai (mf_ai (mf_ai mf_rfl rfl) rfl) rfl) rfl) rfl) rfl) rfl) rfl) rfl) rfl) rfl
theorem rowL_o {σ τ : mS} {k b m r : Int32} (hr : sF τ 177 = r) (r0 : 0 ≤ r) (r1 : r ≤ 5000) (m0 : 0 ≤ m) (h : m < r) : sI (rowL σ τ k b) 176 m = sI τ 176 m := by
  simp only [rowL, sI_pi, hr]
  rw [sI_ai (by lia) m0, if_neg (fun z => by have := z.2; lia), sI_ai (by lia) m0, if_neg (fun z => by have := z.2; lia), sI_ai (by lia) m0, if_neg (fun z => by have := z.2; lia), sI_ai (by lia) m0, if_neg (fun z => by have := z.2; lia), sI_ai (by lia) m0, if_neg (fun z => by have := z.2; lia), sI_ai (by lia) m0, if_neg (fun z => by have := z.2; lia), sI_ai (by lia) m0, if_neg (fun z => by have := z.2; lia), sI_ai (by lia) m0, if_neg (fun z => by have := z.2; lia), sI_ai (by lia) m0, if_neg (fun z => by have := z.2; lia), sI_ai r0 m0, if_neg (fun z => by have := z.2; lia)]
theorem rowL_s {σ τ : mS} {k b r : Int32} (hr : sF τ 177 = r) (r0 : 0 ≤ r) (r1 : r ≤ 4990) : (∀ j, j < 10 → j ≠ 3 → j ≠ 5 → sI (rowL σ τ k b) 176 (r + Int32.ofNat j) = mff σ k j) ∧ sI (rowL σ τ k b) 176 (r + Int32.ofNat 3) = mff σ k 3 - b ∧ sI (rowL σ τ k b) 176 (r + Int32.ofNat 5) = mff σ k 5 - b := by
  have one : ∀ (a c : Int32), 0 ≤ a → 0 ≤ c → a ≤ 9 → c ≤ 9 → a ≠ c → ¬ (r + a = r + c) := fun a c a0 c0 a1 c1 ne e => ne (by lia)
  have nn : ∀ a : Int32, 0 ≤ a → a ≤ 9 → 0 ≤ r + a := fun a a0 a1 => by lia
  have rd : ∀ a : Int32, 0 ≤ a → a ≤ 9 → sI (rowL σ τ k b) 176 (r + a) = if a = 9 then sI σ 153 k else if a = 8 then sI σ 152 k else if a = 7 then sI σ 151 k else if a = 6 then sI σ 150 k else if a = 5 then sI σ 149 k - b else if a = 4 then sI σ 148 k else if a = 3 then sI σ 147 k - b else if a = 2 then sI σ 146 k else if a = 1 then sI σ 145 k else if a = 0 then sI σ 144 k else sI τ 176 (r + a) := fun a a0 a1 => by
    simp only [rowL, sI_pi, hr]
    have w : ∀ (c : Int32) (υ : mS) (v : Int32), 0 ≤ c → c ≤ 9 → sI (md_ai υ 176 (r + c).toNatClampNeg v) 176 (r + a) = if a = c then v else sI υ 176 (r + a) := fun c υ v c0 c1 => by
      rw [sI_ai (nn c c0 c1) (nn a a0 a1)]
      by_cases z : a = c
      · rw [if_pos ⟨rfl, by rw [z]⟩, if_pos z]
      · rw [if_neg (fun y => one a c a0 c0 a1 c1 z y.2), if_neg z]
    rw [w 9 _ _ (by decide) (by decide), w 8 _ _ (by decide) (by decide), w 7 _ _ (by decide) (by decide), w 6 _ _ (by decide) (by decide), w 5 _ _ (by decide) (by decide), w 4 _ _ (by decide) (by decide), w 3 _ _ (by decide) (by decide), w 2 _ _ (by decide) (by decide), w 1 _ _ (by decide) (by decide)]
    have w0 := w 0 τ (sI σ 144 k) (by decide) (by decide)
    rw [Int32.add_zero] at w0
    rw [w0]
  refine ⟨fun j hj h3 h5 => ?_, ?_, ?_⟩
  · have : j = 0 ∨ j = 1 ∨ j = 2 ∨ j = 4 ∨ j = 6 ∨ j = 7 ∨ j = 8 ∨ j = 9 := by omega
    rcases this with rfl | rfl | rfl | rfl | rfl | rfl | rfl | rfl <;> (rw [rd _ (by decide) (by decide)]; rfl)
  · rw [rd _ (by decide) (by decide)]; rfl
  · rw [rd _ (by decide) (by decide)]; rfl
/-- what is known of the state when all is laid aside, before the one that resumed it gets what is given -/
def layF (to wn th d b : Int32) (σ : mS) : mS := md_ai (md_pi (md_ai (md_pi (md_pi (md_ai (md_ai (md_ai σ 167 d.toNatClampNeg (to - b)) 168 d.toNatClampNeg wn) 169 d.toNatClampNeg th) 154 (sI σ 162 d)) 143 b) 156 d.toNatClampNeg 0) 172 (sI σ 160 d)) 156 (sI σ 160 d).toNatClampNeg 1
theorem lay195_lp {N : Nat} {σ : mS} {to wn th d b k0 n r : Int32} (d0 : 0 ≤ d) (d1 : d < 121) (e0 : 0 ≤ sI σ 160 d) (e1 : sI σ 160 d < 121) (hn : sF σ 154 = n) (n1 : n ≤ 250) (k00 : 0 ≤ k0) (kn : k0 ≤ n) (hr : sF σ 177 = r) (r0 : 0 ≤ r) (r1 : r ≤ 5000) (rn : r + 10 * (n - k0) ≤ 5000) (j : Nat) (i : Int32) (i0 : k0 ≤ i) (i1 : i ≤ n) (hj : (n.toInt - i.toInt).toNat < j) : ∀ τ : mS, m_fr lrM σ τ → sF τ 177 = r + 10 * (i - k0) → (∀ m, 0 ≤ m → m < r → sI τ 176 m = sI σ 176 m) → (∀ k, k0 ≤ k → k < i → (∀ j, j < 10 → j ≠ 3 → j ≠ 5 → sI τ 176 (r + 10 * (k - k0) + Int32.ofNat j) = mff σ k j) ∧ sI τ 176 (r + 10 * (k - k0) + Int32.ofNat 3) = mff σ k 3 - b ∧ sI τ 176 (r + 10 * (k - k0) + Int32.ofNat 5) = mff σ k 5 - b) → ∃ υ, mm_lay_195 N j to wn th d b i τ = mm_toResumer N (layF to wn th d b υ) ∧ m_fr lrM σ υ ∧ sF υ 177 = r + 10 * (n - k0) ∧ (∀ m, 0 ≤ m → m < r → sI υ 176 m = sI σ 176 m) ∧ (∀ k, k0 ≤ k → k < n → (∀ j, j < 10 → j ≠ 3 → j ≠ 5 → sI υ 176 (r + 10 * (k - k0) + Int32.ofNat j) = mff σ k j) ∧ sI υ 176 (r + 10 * (k - k0) + Int32.ofNat 3) = mff σ k 3 - b ∧ sI υ 176 (r + 10 * (k - k0) + Int32.ofNat 5) = mff σ k 5 - b) := by
  refine loop_up (lo := k0) (m := n) (fun j i => ∀ τ : mS, m_fr lrM σ τ → sF τ 177 = r + 10 * (i - k0) → (∀ m, 0 ≤ m → m < r → sI τ 176 m = sI σ 176 m) → (∀ k, k0 ≤ k → k < i → (∀ j, j < 10 → j ≠ 3 → j ≠ 5 → sI τ 176 (r + 10 * (k - k0) + Int32.ofNat j) = mff σ k j) ∧ sI τ 176 (r + 10 * (k - k0) + Int32.ofNat 3) = mff σ k 3 - b ∧ sI τ 176 (r + 10 * (k - k0) + Int32.ofNat 5) = mff σ k 5 - b) → ∃ υ, mm_lay_195 N j to wn th d b i τ = mm_toResumer N (layF to wn th d b υ) ∧ m_fr lrM σ υ ∧ sF υ 177 = r + 10 * (n - k0) ∧ (∀ m, 0 ≤ m → m < r → sI υ 176 m = sI σ 176 m) ∧ (∀ k, k0 ≤ k → k < n → (∀ j, j < 10 → j ≠ 3 → j ≠ 5 → sI υ 176 (r + 10 * (k - k0) + Int32.ofNat j) = mff σ k j) ∧ sI υ 176 (r + 10 * (k - k0) + Int32.ofNat 3) = mff σ k 3 - b ∧ sI υ 176 (r + 10 * (k - k0) + Int32.ofNat 5) = mff σ k 5 - b)) ?_ j i i0 i1 hj
  clear hj i0 i1 i j
  intro j i i0 i1 ih τ fr f177 ho hw
  have e154 : sF τ 154 = n := by rw [mf_F fr rfl]; exact hn
  have q : ∀ k x, k ≠ 176 → k ≠ 177 → sI τ k x = sI σ k x := fun k x h1 h2 => mf_I fr (by simp only [lrM, List.contains_cons, List.contains_nil, Bool.or_eq_false_iff, beq_eq_false_iff_ne]; exact ⟨h1, h2, trivial⟩)
  have e160 : sI τ 160 d = sI σ 160 d := q 160 d (by omega) (by omega)
  have e162 : sI τ 162 d = sI σ 162 d := q 162 d (by omega) (by omega)
  by_cases c : n ≤ i
  · have ek : i = n := Int32.le_antisymm i1 c
    subst ek
    refine ⟨τ, ?_, fr, f177, ho, hw⟩
    clear ih ho hw
    have nb0 : vp_nar .byte (0 : Int32) = 0 := nar_tg (by decide) (by decide)
    have nb1 : vp_nar .byte (1 : Int32) = 1 := nar_tg (by decide) (by decide)
    simp (disch := lia) only [mm_lay_195, lt, gd_in, if_pos, if_neg, ↓reduceIte, gd_z0, gd_z1, gd_tt, sF_fold, sG_fold, sI_fold, sJ_fold, sF_pi, sF_pl, sF_ai, sF_al, sG_pi, sG_pl, sG_ai, sG_al, sI_pi, sI_pl, sI_al, sI_ai1, sI_ai2, sJ_pi, sJ_pl, sJ_ai, sJ_al1, sJ_al2, Nat.reduceEqDiff, if_true, if_false, ne_eq, not_false_eq_true, ite_true, ite_false, e154, e160, e162, nb0, nb1, bd_id, layF]
  · have ci : i < n := Int32.not_le.mp c
    have rr : 0 ≤ r + 10 * (i - k0) ∧ r + 10 * (i - k0) ≤ 4990 ∧ 0 ≤ i ∧ i < 256 ∧ r + 10 * (i + 1 - k0) = r + 10 * (i - k0) + 10 := by clear ih ho hw; exact ⟨by lia, by lia, by lia, by lia, by lia⟩
    have st : mm_lay_195 N (j + 1) to wn th d b i τ = mm_lay_195 N j to wn th d b (i + 1) (rowL σ τ i b) := by
      clear ih ho hw
      have r2 := rr
      rw [← f177] at r2
      simp (disch := lia) only [mm_lay_195, lt, gd_in, if_pos, if_neg, ↓reduceIte, gd_z0, gd_z1, gd_tt, sF_fold, sG_fold, sI_fold, sJ_fold, sF_pi, sF_pl, sF_ai, sF_al, sG_pi, sG_pl, sG_ai, sG_al, sI_pi, sI_pl, sI_al, sI_ai1, sI_ai2, sJ_pi, sJ_pl, sJ_ai, sJ_al1, sJ_al2, Nat.reduceEqDiff, if_true, if_false, ne_eq, not_false_eq_true, ite_true, ite_false, e154, q, rowL]
    rw [st]
    have s := rowL_s (σ := σ) (τ := τ) (k := i) (b := b) f177 rr.1 rr.2.1
    refine ih ci _ (mf_tr fr rowL_fr) ?_ (fun m m0 m1 => ?_) (fun k h0 h1 => ?_)
    · rw [rr.2.2.2.2, ← f177]; simp only [rowL, sF_pi, sF_pl, sF_ai, sF_al, sG_pi, sG_pl, sG_ai, sG_al, sI_pi, sI_pl, sI_al, sI_ai1, sI_ai2, sJ_pi, sJ_pl, sJ_ai, sJ_al1, sJ_al2, Nat.reduceEqDiff, if_true, if_false, ne_eq, not_false_eq_true, ite_true, ite_false]
    · rw [rowL_o f177 rr.1 (by clear ih ho hw s; lia) m0 (by clear ih ho hw s; lia)]
      exact ho m m0 m1
    · by_cases z : k = i
      · subst z; exact s
      · have hk := hw k h0 (by clear ih ho hw s; lia)
        have lo : ∀ j : Nat, j < 10 → 0 ≤ r + 10 * (k - k0) + Int32.ofNat j ∧ r + 10 * (k - k0) + Int32.ofNat j < r + 10 * (i - k0) := fun j hj => by
          have j0 : 0 ≤ Int32.ofNat j ∧ Int32.ofNat j < 10 := ⟨oN_nn (by omega), by rw [show (10 : Int32) = Int32.ofNat 10 from rfl, oN_lt (by omega) (by omega)]; exact hj⟩
          generalize Int32.ofNat j = y at *
          clear ih ho hw s hk
          exact ⟨by lia, by lia⟩
        refine ⟨fun j hj h3 h5 => ?_, ?_, ?_⟩
        · rw [rowL_o f177 rr.1 (by clear ih ho hw s hk lo; lia) (lo j hj).1 (lo j hj).2]; exact hk.1 j hj h3 h5
        · rw [rowL_o f177 rr.1 (by clear ih ho hw s hk lo; lia) (lo 3 (by omega)).1 (lo 3 (by omega)).2]; exact hk.2.1
        · rw [rowL_o f177 rr.1 (by clear ih ho hw s hk lo; lia) (lo 5 (by omega)).1 (lo 5 (by omega)).2]; exact hk.2.2
