/-! LAYER 2: a text's string on both sides -/
/-- the reference's strings of texts: each once -/
def TMU (μ : mS) : Prop := ∀ g h, 0 ≤ g → g < sF μ 5 → 0 ≤ h → h < sF μ 5 → m_eq μ g h → g = h
theorem int_ch2 {N : Nat} (hN : BIG ≤ N) {σ : mS} {bk : Int32 → List Int32} {p n L Hh b : Int32} {v : Nat} (H : TM σ bk) (hv : m_ba v L) (hne : v ≠ 2 ∧ v ≠ 3 ∧ v ≠ 4 ∧ v ≠ 7) (p0 : 0 ≤ p) (n0 : 0 ≤ n) (pn : p ≤ p + n) (pL : p + n ≤ L) (cA : sF σ 5 < 30000) (cU : sF σ 6 + n ≤ 72000) (cn : n ≤ 72000) (hB : ∀ k, 0 ≤ k → k < n → isB (sI σ v (p + k))) (hH : hof 7 (fun m => sI σ v (p + m) &&& 255) n = Hh) (hb : Hh &&& 8191 = b) : ∀ (l : List Int32) (k : Nat) (s : Int32), l.length < k → seg (fun s => sI σ 8 s - 1) s l (-1) → (∀ x, x ∈ l → 0 ≤ x ∧ x < sF σ 5) → ∃ s' τ, mm_intern_51 N k v p n Hh b s σ = some (s', τ) ∧ in_post σ τ v p n s' ∧ (τ = σ ∨ ∀ x, x ∈ l → ¬ tm_eq σ v p n x)
  | [], k, s, hk, hs, _ => by
    obtain ⟨k, rfl⟩ : ∃ j, k = j + 1 := ⟨k - 1, by simp at hk; omega⟩
    have : s = -1 := hs
    subst this
    obtain ⟨s', τ, e1, e2⟩ := int_new hN H hv hne p0 n0 pn pL cA cU cn hH hb k
    exact ⟨s', τ, e1, e2, .inr (fun x hx => absurd hx (by simp))⟩
  | x :: l, k, s, hk, hs, hx => by
    obtain ⟨k, rfl⟩ : ∃ j, k = j + 1 := ⟨k - 1, by simp at hk; omega⟩
    obtain ⟨e, hs'⟩ := hs
    subst e
    have ih := int_ch2 hN H hv hne p0 n0 pn pL cA cU cn hB hH hb l k (sI σ 8 s - 1) (by simp at hk; omega) hs' (fun y hy => hx y (List.mem_cons_of_mem _ hy))
    obtain ⟨s0, s1⟩ := hx s List.mem_cons_self
    obtain ⟨q1, q2, q3, q4, q5, q6⟩ := H.2.2.2.2.2.1 s s0 s1
    have t4 := H.2.2.2.1
    have tb := H.2.2.2.2.2.2
    have s2 : s < 30000 := by lia
    clear hx
    have mix : ¬ tm_eq σ v p n s → (∃ s' τ, mm_intern_51 N k v p n Hh b (sI σ 8 s - 1) σ = some (s', τ) ∧ in_post σ τ v p n s' ∧ (τ = σ ∨ ∀ x, x ∈ l → ¬ tm_eq σ v p n x)) → ∃ s' τ, mm_intern_51 N k v p n Hh b (sI σ 8 s - 1) σ = some (s', τ) ∧ in_post σ τ v p n s' ∧ (τ = σ ∨ ∀ x, x ∈ s :: l → ¬ tm_eq σ v p n x) := fun nx h => by
      obtain ⟨s', τ, e1, e2, e3⟩ := h
      refine ⟨s', τ, e1, e2, e3.elim .inl (fun q => .inr (fun x hx => ?_))⟩
      rcases List.mem_cons.mp hx with e | e
      · rw [e]; exact nx
      · exact q x e
    by_cases d2 : sI σ 3 s = n
    · obtain ⟨lp1, lp0⟩ := int_cmp (N := N) (σ := σ) (r51 := mm_intern_51 N k) (s := s) (h := Hh) (b := b) hv p0 pn pL s0 s2 q1 q3 q4 (by lia) d2 N 0 (by decide) n0 (big_d hN)
      by_cases d1 : sI σ 4 s = Hh
      · have ex : mm_intern_51 N (k + 1) v p n Hh b s σ = mm_intern_89 N (mm_intern_51 N k) N v p n Hh b s 1 0 σ := by
          rw [mm_intern_51]
          simp (disch := lia) only [lt, gd_in, if_pos, if_neg, ↓reduceIte, gd_z0, gd_z1, gd_tt, sF_fold, sG_fold, sI_fold, sJ_fold, d1, d2, mm_intern_84]
        rw [ex]
        rcases lp1 with ⟨w1, w2⟩ | ⟨w1, w2⟩
        · refine ⟨s, σ, w2, int_old H s0 s1 ⟨d2, fun k k0 k1 => ?_⟩, .inl rfl⟩
          simp only [m_by]
          rw [if_pos s2, w1 k k0 k1]
        · rw [w2]
          refine mix (fun te => w1 (fun k k0 k1 => ?_)) ih
          have tk := te.2 k k0 k1
          simp only [m_by] at tk
          rw [if_pos s2] at tk
          have u6 := H.2.2.2.1
          refine B_eq (tb _ ?_ ?_) (hB k k0 k1) tk
          · clear mix ih te tk w1 w2 lp0 hB tb q6; lia
          · clear mix ih te tk w1 w2 lp0 hB tb q6; lia
      · have ex : mm_intern_51 N (k + 1) v p n Hh b s σ = mm_intern_89 N (mm_intern_51 N k) N v p n Hh b s 0 0 σ := by
          rw [mm_intern_51]
          simp (disch := lia) only [lt, gd_in, if_pos, if_neg, ↓reduceIte, gd_z0, gd_z1, gd_tt, sF_fold, sG_fold, sI_fold, sJ_fold, d1, mm_intern_84, mm_intern_83]
        rw [ex, lp0]
        refine mix (fun te => d1 ?_) ih
        have hs : sI σ 4 s = hof 7 (m_by σ s) (m_sz σ s) := q6
        rw [hs, te.1, ← hH]
        exact hof_congr n0 te.2
    · have ex : mm_intern_51 N (k + 1) v p n Hh b s σ = mm_intern_89 N (mm_intern_51 N k) N v p n Hh b s 0 0 σ := by
        rw [mm_intern_51]
        by_cases d1 : sI σ 4 s = Hh
        · simp (disch := lia) only [lt, gd_in, if_pos, if_neg, ↓reduceIte, gd_z0, gd_z1, gd_tt, sF_fold, sG_fold, sI_fold, sJ_fold, d1, d2, mm_intern_84, mm_intern_83]
        · simp (disch := lia) only [lt, gd_in, if_pos, if_neg, ↓reduceIte, gd_z0, gd_z1, gd_tt, sF_fold, sG_fold, sI_fold, sJ_fold, d1, mm_intern_84, mm_intern_83]
      have go : mm_intern_89 N (mm_intern_51 N k) N v p n Hh b s 0 0 σ = mm_intern_51 N k v p n Hh b (sI σ 8 s - 1) σ := by
        obtain ⟨j, hj⟩ : ∃ j, N = j + 1 := ⟨N - 1, by simp only [BIG] at hN; omega⟩
        have : mm_intern_89 N (mm_intern_51 N k) (j + 1) v p n Hh b s 0 0 σ = mm_intern_51 N k v p n Hh b (sI σ 8 s - 1) σ := by
          rw [mm_intern_89]
          by_cases c : n ≤ 0
          · simp (disch := lia) only [lt, gd_in, if_pos, if_neg, ↓reduceIte, gd_z0, gd_z1, gd_tt, sF_fold, sG_fold, sI_fold, sJ_fold, mm_intern_137]
          · simp (disch := lia) only [lt, gd_in, if_pos, if_neg, ↓reduceIte, gd_z0, gd_z1, gd_tt, sF_fold, sG_fold, sI_fold, sJ_fold, mm_intern_137]
        rw [← hj] at this
        exact this
      rw [ex, go]
      exact mix (fun te => d2 te.1) ih
theorem intern_m2 {N : Nat} (hN : BIG ≤ N) {σ : mS} {bk : Int32 → List Int32} {p n L : Int32} {v : Nat} (H : TM σ bk) (hv : m_ba v L) (hne : v ≠ 2 ∧ v ≠ 3 ∧ v ≠ 4 ∧ v ≠ 7) (p0 : 0 ≤ p) (n0 : 0 ≤ n) (pn : p ≤ p + n) (pL : p + n ≤ L) (cA : sF σ 5 < 30000) (cU : sF σ 6 + n ≤ 72000) (cn : n ≤ 72000) (hB : ∀ k, 0 ≤ k → k < n → isB (sI σ v (p + k))) : ∃ s τ, mm_intern N σ v p n = some (s, τ) ∧ in_post σ τ v p n s ∧ (τ = σ ∨ ∀ g, 0 ≤ g → g < sF σ 5 → ¬ tm_eq σ v p n g) := by
  have l1 := int_l1 (N := N) (σ := σ) hv p0 pn pL N 0 (by decide) n0 (big_d hN)
  rw [hof_0] at l1
  rw [mm_intern, l1]
  obtain ⟨r1, r2⟩ := @and_8191 (hof 7 (fun m => sI σ v (p + m) &&& 255) n)
  obtain ⟨u1, u2, u3⟩ := H.2.2.2.2.1 _ r1 r2
  have fin := int_ch2 hN H hv hne p0 n0 pn pL cA cU cn hB rfl rfl _ N _ ?_ u1 (fun x hx => ⟨((u3 x).mp hx).1, ((u3 x).mp hx).2.1⟩)
  · obtain ⟨s, τ, e1, e2, e3⟩ := fin
    refine ⟨s, τ, e1, e2, e3.elim .inl (fun q => .inr (fun g g0 g1 te => q g ((u3 g).mpr ⟨g0, g1, ?_⟩) te))⟩
    have hs : sI σ 4 g = hof 7 (m_by σ g) (m_sz σ g) := (TM_sv H g0 g1).2.1
    rw [hs, te.1]
    rw [hof_congr n0 te.2]
  have q := H.2.1
  rw [tI_le] at q
  have z : (30000 : Int32).toInt = 30000 := rfl
  simp only [BIG] at hN
  rcases pw_len _ (sF σ 5) u2 (fun x hx => ⟨((u3 x).mp hx).1, ((u3 x).mp hx).2.1⟩) with e | e
  · omega
  · rw [e]; simp only [List.length_nil]; omega
theorem TMU_in {σ τ : mS} {v : Nat} {p n s : Int32} (U : TMU σ) (h5 : 0 ≤ sF σ 5 ∧ sF σ 5 < 30000) (H : in_post σ τ v p n s) (e : τ = σ ∨ ∀ g, 0 ≤ g → g < sF σ 5 → ¬ tm_eq σ v p n g) : TMU τ := by
  rcases e with e | e
  · rw [e]; exact U
  · obtain ⟨_, s0, s1, sz, sb, sm, nw, _⟩ := H
    rcases nw with q | ⟨q1, q2, _⟩
    · rw [q]; exact U
    · subst q1
      have cs : ∀ g, 0 ≤ g → g < sF τ 5 → g = sF σ 5 ∨ g < sF σ 5 := fun g g0 g1 => by
        rw [q2] at g1
        clear e sm sb sz
        lia
      have no : ∀ g, 0 ≤ g → g < sF σ 5 → ¬ (m_sz τ g = n ∧ ∀ k, 0 ≤ k → k < n → m_by τ g k = m_by τ (sF σ 5) k) := fun g g0 g1 q => by
        obtain ⟨m1, m2, m3, m4⟩ := sm g g0 (.inl g1)
        have z : m_sz σ g = n := by rw [← q.1]; exact m2.symm
        refine e g g0 g1 ⟨z, fun k k0 k1 => ?_⟩
        rw [← sb k k0 k1, ← q.2 k k0 k1]
        exact (m4 k k0 (by show k < m_sz σ g; rw [z]; exact k1)).symm
      intro g h g0 g1 h0 h1 me
      rcases cs g g0 g1 with a | a
      · rcases cs h h0 h1 with b | b
        · rw [a, b]
        · exfalso
          rw [a] at me
          refine no h h0 b ⟨by rw [me.1, sz], fun k k0 k1 => (me.2 k k0 (by rw [sz]; exact k1)).symm⟩
      · rcases cs h h0 h1 with b | b
        · exfalso
          rw [b] at me
          have z : m_sz τ g = n := by rw [← me.1, sz]
          exact no g g0 a ⟨z, fun k k0 k1 => me.2 k k0 (by rw [z]; exact k1)⟩
        · refine U g h g0 a h0 b ?_
          obtain ⟨m1, m2, m3, m4⟩ := sm g g0 (.inl a)
          obtain ⟨n1, n2, n3, n4⟩ := sm h h0 (.inl b)
          have za : m_sz τ g = m_sz σ g := m2
          have zb : m_sz τ h = m_sz σ h := n2
          refine ⟨by rw [← za, ← zb]; exact me.1, fun k k0 k1 => ?_⟩
          rw [← m4 k k0 k1, ← n4 k k0 (by show k < m_sz σ h; rw [← zb, me.1, za]; exact k1)]
          exact me.2 k k0 (by rw [za]; exact k1)
theorem gd_e {α : Type} {b : Bool} {k : Option α} {z : α} (h : gd b k = some z) : k = some z := by
  cases b
  · exact nomatch h
  · exact h
def tx_new (σ : mS) (v : Nat) (p n q Hh : Int32) : mS := md_pi (x_cp (md_ai (md_ai (md_ai (md_ai (md_pi σ 134 (sF σ 134 + 1)) 135 q.toNatClampNeg (sF σ 134 + 1)) 128 (sF σ 134).toNatClampNeg (sF σ 133)) 129 (sF σ 134).toNatClampNeg n) 130 (sF σ 134).toNatClampNeg Hh) v p 132 (sF σ 133) n) 133 (sF σ 133 + n)
theorem is_same {N : Nat} {v2 : Nat} {v1 v3 : Int32} {σ : mS} : ∀ (n : Nat) (v4 v5 : Int32) (z : Int32 × mS), xx2_is_b6 N n v1 v2 v3 v4 v5 σ = some z → z.2 = σ
  | 0, _, _, _, h => nomatch h
  | n + 1, v4, v5, z, h => by
    rw [xx2_is_b6] at h
    have h := gd_e h
    have fin : ∀ w, xx2_is_b58 N w σ = some z → z.2 = σ := fun w q => by
      have q := gd_e q
      cases q
      rfl
    split at h
    · exact fin _ h
    · split at h
      · exact fin _ h
      · have h := gd_e (gd_e (gd_e (gd_e h)))
        split at h
        · exact is_same n _ _ z h
        · exact is_same n _ _ z h
theorem text_sh41 {N : Nat} {v : Nat} {p m Hh : Int32} {σ : mS} : ∀ (n : Nat) (x : Int32) (z : Int32 × mS), xx2_text_2_b41 N n v p m Hh x σ = some z → z.2 = σ ∨ ∃ q, z.2 = tx_new σ v p m q Hh
  | 0, _, _, h => nomatch h
  | n + 1, x, z, h => by
    rw [xx2_text_2_b41] at h
    have h := gd_e h
    split at h
    · simp only [lt] at h
      have h := gd_e (gd_e (gd_e (gd_e (gd_e h))))
      cases h
      exact .inr ⟨x, rfl⟩
    · have h := gd_e h
      simp only [lt] at h
      have h := gd_e h
      split at h
      · have h := gd_e h
        split at h
        · cases hi : xx2_is N σ (σ.2.2.1 135 x.toNatClampNeg - 1) v p with
          | none => rw [hi] at h; exact nomatch h
          | some y =>
            have e := is_same N _ _ y hi
            rw [hi] at h
            simp only [bd] at h
            split at h
            · rw [e] at h
              exact text_sh41 n _ z h
            · cases h
              exact .inl e
        · exact text_sh41 n _ z h
      · exact text_sh41 n _ z h
theorem text_sh6 {N : Nat} {v : Nat} {p m : Int32} {σ : mS} : ∀ (n : Nat) (Hh x : Int32) (z : Int32 × mS), xx2_text_2_b6 N n v p m Hh x σ = some z → z.2 = σ ∨ ∃ q Hh, z.2 = tx_new σ v p m q Hh
  | 0, _, _, _, h => nomatch h
  | n + 1, Hh, x, z, h => by
    rw [xx2_text_2_b6] at h
    split at h
    · rw [xx2_spread] at h
      simp only [bd, lt] at h
      rcases text_sh41 _ _ z h with q | ⟨q, e⟩
      · exact .inl q
      · exact .inr ⟨q, _, e⟩
    · have h := gd_e (gd_e h)
      rw [xx2_mix] at h
      simp only [bd, lt] at h
      exact text_sh6 n _ _ z h
def fTXx (k : Nat) : Bool := [128, 129, 130, 132, 133, 134, 135].contains k
def fTXm (k : Nat) : Bool := [2, 3, 4, 5, 6, 7, 8, 9].contains k
theorem tx_new_fr {σ : mS} {v : Nat} {p n q Hh : Int32} : m_fr fTXx σ (tx_new σ v p n q Hh) := mf_pi (mf_cp (mf_ai (mf_ai (mf_ai (mf_ai (mf_pi mf_rfl rfl) rfl) rfl) rfl) rfl) rfl) rfl
theorem text_fr {N : Nat} {v : Nat} {p n h : Int32} {σ τ : mS} (e : xx2_text_2 N σ v p n = some (h, τ)) : m_fr fTXx σ τ := by
  rcases text_sh6 N _ _ _ e with q | ⟨q, Hh, q2⟩
  · have q' : τ = σ := q
    rw [q']; exact mf_rfl
  · have q' : τ = tx_new σ v p n q Hh := q2
    rw [q']; exact tx_new_fr
theorem NB_new {N : Nat} {v : Nat} {p n h L : Int32} {σ τ : mS} (e : xx2_text_2 N σ v p n = some (h, τ)) (B : NB σ) (hne : v ≠ 128 ∧ v ≠ 129 ∧ v ≠ 130 ∧ v ≠ 132 ∧ v ≠ 135) (p0 : 0 ≤ p) (n0 : 0 ≤ n) (pn : p ≤ p + n) (pL : p + n ≤ L) (hL : L ≤ 1000000) (hB : ∀ k, 0 ≤ k → k < n → isB (sI σ v (p + k))) : NB τ := by
  rcases text_sh6 N _ _ _ e with q | ⟨q, Hh, q2⟩
  · have q' : τ = σ := q
    rw [q']; exact B
  · have q' : τ = tx_new σ v p n q Hh := q2
    rw [q']
    intro k
    refine ⟨?_, ?_⟩
    · have : (tx_new σ v p n q Hh).2.2.1 131 = σ.2.2.1 131 := tx_new_fr.2.2.1 131 rfl
      rw [this]; exact (B k).1
    · show isB ((x_cp _ v p 132 (sF σ 133) n).2.2.1 132 k)
      rw [cp_at]
      split
      · rename_i c
        rw [show (md_ai (md_ai (md_ai (md_ai (md_pi σ 134 (sF σ 134 + 1)) 135 q.toNatClampNeg (sF σ 134 + 1)) 128 (sF σ 134).toNatClampNeg (sF σ 133)) 129 (sF σ 134).toNatClampNeg n) 130 (sF σ 134).toNatClampNeg Hh).2.2.1 v = σ.2.2.1 v from by
          simp only [ai_I, if_neg hne.1, if_neg hne.2.1, if_neg hne.2.2.1, if_neg hne.2.2.2.2]
          rfl]
        have p1 := tI_le.mp (Int32.le_trans pn (Int32.le_trans pL hL))
        have p2 := tI_le.mp (Int32.le_trans pL hL)
        have p3 := tI_le.mp p0
        have n3 := tI_le.mp n0
        rw [show (1000000 : Int32).toInt = 1000000 from rfl] at p1 p2
        rw [show (0 : Int32).toInt = 0 from rfl] at p3 n3
        have n1 : n ≤ 1000000 := by clear hB e q2; lia
        have n2 := tI_le.mp n1
        rw [show (1000000 : Int32).toInt = 1000000 from rfl] at n2
        obtain ⟨c1, c2⟩ := c
        rw [tI_cl n] at c2
        have kk : k - (sF σ 133).toNatClampNeg < n.toInt.toNat := by omega
        clear c1 c2
        generalize k - (sF σ 133).toNatClampNeg = m at *
        have b := hB (Int32.ofNat m) (by rw [tI_le, tI_lit (by omega)]; show (0 : Int) ≤ _; omega) (by rw [tI_lt, tI_lit (by omega)]; omega)
        have ix : (p + Int32.ofNat m).toNatClampNeg = p.toNatClampNeg + m := by
          rw [tI_cl (p + Int32.ofNat m), tI_ad p0 (Int32.le_trans pn (Int32.le_trans pL hL)) (by rw [tI_le, tI_lit (by omega)]; show (0 : Int) ≤ _; omega) (by rw [tI_le, tI_lit (by omega), show (1000000 : Int32).toInt = 1000000 from rfl]; omega), tI_lit (by omega), tI_cl p]
          omega
        rw [← ix]
        exact b
      · have : (md_ai (md_ai (md_ai (md_ai (md_pi σ 134 (sF σ 134 + 1)) 135 q.toNatClampNeg (sF σ 134 + 1)) 128 (sF σ 134).toNatClampNeg (sF σ 133)) 129 (sF σ 134).toNatClampNeg n) 130 (sF σ 134).toNatClampNeg Hh).2.2.1 132 = σ.2.2.1 132 := by
          simp only [ai_I]
          rfl
        rw [this]
        exact (B k).2
def wAddX (w : WD) (h s : Int32) : WD := (wS w, (h, s) :: wX w, w.2.2)
theorem wle_X {w : WD} {h s : Int32} : wle w (wAddX w h s) := ⟨fun _ h => h, fun _ h => List.mem_cons_of_mem _ h, fun _ h => h, fun _ h => h, fun _ h => h, fun _ h => h⟩
/-- a text's string comes to be on both sides -/
theorem text_2 {N : Nat} (hN : BIG ≤ N) {w : WD} {σ μ : mS} {v v' : Nat} {p p' n L L' : Int32} (S : RS w σ μ) (U : TMU μ) (hv : x_ba v L) (hL : L ≤ 1000000) (hne : v ≠ 128 ∧ v ≠ 129 ∧ v ≠ 130 ∧ v ≠ 132 ∧ v ≠ 135) (hv' : m_ba v' L') (hne' : v' ≠ 2 ∧ v' ≠ 3 ∧ v' ≠ 4 ∧ v' ≠ 7) (p0 : 0 ≤ p) (n0 : 0 ≤ n) (pn : p ≤ p + n) (pL : p + n ≤ L) (p0' : 0 ≤ p') (pn' : p' ≤ p' + n) (pL' : p' + n ≤ L') (cT : sF σ 134 < 44000) (cU : sF σ 133 + n ≤ 70000) (cA : sF μ 5 < 30000) (cU' : sF μ 6 + n ≤ 72000) (cn : n ≤ 70000) (hB : ∀ k, 0 ≤ k → k < n → isB (sI σ v (p + k)) ∧ sI μ v' (p' + k) = sI σ v (p + k)) : ∃ h s τ τm, xx2_text_2 N σ v p n = some (h, τ) ∧ mm_intern N μ v' p' n = some (s, τm) ∧ RS (wAddX w h s) τ τm ∧ TMU τm ∧ tx_post σ τ v p n h ∧ in_post μ τm v' p' n s ∧ m_fr fTXx σ τ ∧ m_fr fTXm μ τm := by
  obtain ⟨⟨o, S1⟩, ⟨sl, S2⟩, S3, ⟨bk, S4⟩, S5, S6, S7, S8⟩ := S
  obtain ⟨h, τ, e1, P⟩ := text_x hN S2 hv hL hne p0 n0 pn pL cT cU cn (fun k k0 k1 => (hB k k0 k1).1)
  have n72 : n ≤ 72000 := Int32.le_trans cn (by decide)
  obtain ⟨s, τm, f1, Q, nw⟩ := intern_m2 hN S4 hv' hne' p0' n0 pn' pL' cA cU' n72 (fun k k0 k1 => by rw [(hB k k0 k1).2]; exact (hB k k0 k1).1)
  have fr := text_fr e1
  have nb := NB_new e1 S8 hne p0 n0 pn pL hL (fun k k0 k1 => (hB k k0 k1).1)
  have A0 := S4.1
  refine ⟨h, s, τ, τm, e1, f1, ?_, TMU_in U ⟨A0, cA⟩ Q nw, P, Q, fr, Q.2.2.2.2.2.2.2.2⟩
  obtain ⟨P1, P2, P3, P4, P5, P6, P7, P8, P9, P10, P11, P12⟩ := P
  obtain ⟨Q1, Q2, Q3, Q4, Q5, Q6, Q7, Q8, Q9⟩ := Q
  have t134 := S2.1
  have g134 : sF σ 134 ≤ sF τ 134 := by
    rcases P7 with q | ⟨_, q, _⟩
    · rw [q]; exact Int32.le_refl _
    · rw [q]; clear P6 Q6 hB S6 S5; lia
  have g5 : sF μ 5 ≤ sF τm 5 := by
    rcases Q7 with q | ⟨_, q, _⟩
    · rw [q]; exact Int32.le_refl _
    · rw [q]; clear P6 Q6 hB S6 S5; lia
  have oS : ∀ x, x ∈ (wS w).map Prod.fst → 0 ≤ x ∧ x < 12000 := fun x hx => S1.1.2.2.2.2.1 x (List.mem_append_left _ hx)
  have oM : ∀ x, x ∈ (wS w).map Prod.snd → 30000 ≤ x := fun x hx => (S3.1.2.2.2.2.2.1 x hx).1
  have old : ∀ a b, (a, b) ∈ wS w ∨ (a, b) ∈ wX w → x_sm σ τ a ∧ m_sm μ τm b := fun a b hab => by
    rcases hab with q | q
    · have a1 := oS a (List.mem_map.mpr ⟨(a, b), q, rfl⟩)
      have b1 := oM b (List.mem_map.mpr ⟨(a, b), q, rfl⟩)
      exact ⟨P6 a a1.1 (Int32.lt_of_lt_of_le a1.2 t134), Q6 b (Int32.le_trans (by decide) b1) (.inr b1)⟩
    · obtain ⟨a1, a2, b1, b2⟩ := S5 a b q
      exact ⟨P6 a (Int32.le_trans (by decide) a1) a2, Q6 b b1 (.inl b2)⟩
  refine ⟨⟨o, ?_⟩, P1, ?_, Q1, ?_, ?_, ?_, nb⟩
  · obtain ⟨x1, x2, x3, x4⟩ := S1
    have r136 : sI τ 136 = sI σ 136 := funext P10
    refine ⟨?_, ?_, fun x hx => ?_, fun x a b => by rw [P11]; exact x4 x a b⟩
    · rw [r136, P8 137 (by decide) (by decide), P8 138 (by decide) (by decide), P8 139 (by decide) (by decide), P8 140 (by decide) (by decide)]
      exact x1
    · rw [P8 141 (by decide) (by decide)]
      refine lay_congr x2 (fun x hx => ?_)
      have a1 := oS x hx
      have m := P6 x a1.1 (Int32.lt_of_lt_of_le a1.2 t134)
      exact ⟨m.1, m.2.1⟩
    · have a1 := oS x hx
      obtain ⟨m1, m2, m3, m4⟩ := P6 x a1.1 (Int32.lt_of_lt_of_le a1.2 t134)
      have hx' := x3 x hx
      show sI τ 130 x = hof (x_sz τ x) (x_by τ x) (x_sz τ x)
      have z : x_sz τ x = x_sz σ x := m2
      rw [m3, z, show sI σ 130 x = hof (x_sz σ x) (x_by σ x) (x_sz σ x) from hx']
      exact (hof_congr (((lay_le x2 (by decide)).2.2 x hx).2.2.2) m4).symm
  · obtain ⟨y1, y2, y3, y4, y5⟩ := S3
    refine ⟨?_, ?_, ?_, ?_, fun x hx => ?_⟩
    · rw [show sI τm 14 = sI μ 14 from funext (fun m => mf_I Q9 rfl), mf_F Q9 rfl]; exact y1
    · rw [mf_F Q9 rfl]; exact y2
    · rw [mf_F Q9 rfl]; exact y3
    · rw [mf_F Q9 rfl]; exact y4
    · have b1 := oM x hx
      obtain ⟨m1, m2, m3, m4⟩ := Q6 x (Int32.le_trans (by decide) b1) (.inr b1)
      obtain ⟨z1, z2, z3, z4, z5, z6⟩ := y5 x hx
      rw [m1, m2, mf_F Q9 rfl]
      refine ⟨z1, z2, z3, z4, z5, ?_⟩
      show sI τm 4 x = hof 7 (m_by τm x) (m_sz τm x)
      have z : m_sz τm x = m_sz μ x := m2
      rw [m3, z, show sI μ 4 x = hof 7 (m_by μ x) (m_sz μ x) from z6]
      exact (hof_congr z2 m4).symm
  · intro a b hab
    rcases List.mem_cons.mp hab with q | q
    · cases q
      exact ⟨P2, P3, Q2, Q3⟩
    · obtain ⟨a1, a2, b1, b2⟩ := S5 a b q
      exact ⟨a1, Int32.lt_of_lt_of_le a2 g134, b1, Int32.lt_of_lt_of_le b2 g5⟩
  · intro a b hab
    have cs : (a = h ∧ b = s) ∨ ((a, b) ∈ wS w ∨ (a, b) ∈ wX w) := by
      rcases hab with q | q
      · exact .inr (.inl q)
      · rcases List.mem_cons.mp q with q | q
        · cases q
          exact .inl ⟨rfl, rfl⟩
        · exact .inr (.inr q)
    rcases cs with ⟨rfl, rfl⟩ | q
    · refine ⟨by rw [P4, Q4], fun k k0 k1 => ?_⟩
      rw [P4] at k1
      rw [P5 k k0 k1, Q5 k k0 k1, (hB k k0 k1).2]
    · obtain ⟨⟨m1, m2, m3, m4⟩, n1, n2, n3, n4⟩ := old a b q
      obtain ⟨z1, z2⟩ := S6 a b q
      have za : x_sz τ a = x_sz σ a := m2
      have zb : m_sz τm b = m_sz μ b := n2
      refine ⟨by rw [za, zb]; exact z1, fun k k0 k1 => ?_⟩
      rw [za] at k1
      rw [m4 k k0 k1, n4 k k0 (by show k < m_sz μ b; rw [← z1]; exact k1)]
      exact z2 k k0 k1
  · rw [P8 141 (by decide) (by decide), mf_F Q9 rfl]; exact S7
/-- names are the same on one side where they are on the other -/
theorem name_eq {w : WD} {σ μ : mS} {a b c d : Int32} (S : RS w σ μ) (U : TMU μ) (h : (a, b) ∈ wX w) (h' : (c, d) ∈ wX w) : a = c ↔ b = d := by
  have e := RS_eq S (.inr h) (.inr h')
  obtain ⟨_, ⟨sl, S2⟩, _, _, S5, _⟩ := S
  obtain ⟨a1, a2, b1, b2⟩ := S5 a b h
  obtain ⟨c1, c2, d1, d2⟩ := S5 c d h'
  constructor
  · intro q
    refine U b d b1 b2 d1 d2 (e.mp ?_)
    rw [q]; exact ⟨rfl, fun _ _ _ => rfl⟩
  · intro q
    refine S2.2.2.2.2.2.2.2.2.2.2.1 a c a1 a2 c1 c2 (e.mpr ?_)
    rw [q]; exact ⟨rfl, fun _ _ _ => rfl⟩
