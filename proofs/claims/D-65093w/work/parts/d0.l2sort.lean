/-! LAYER 2: functions of the house: sort: merging -/
/-- what is sorted: tags and values, alike on both sides -/
def SO (w : WD) (T T' : Int32) (n : Nat) (σ μ : mS) : Prop := ∀ j, j < n → μ.2.2.1 228 j = T' ∧ VV w T (σ.2.2.2 539 j) T' (μ.2.2.2 229 j)
def TK (T T' : Int32) : Prop := (T = 3 ∧ T' = 2) ∨ (T = 4 ∧ T' = 3)
theorem sgn_0 {r : Int32} : 0 ≤ sgn r ↔ 0 ≤ r := by
  rw [sgn]
  split
  · exact ⟨fun h => by lia, fun h => by lia⟩
  · split
    · exact ⟨fun h => by lia, fun h => by lia⟩
    · exact ⟨fun h => by lia, fun h => by lia⟩
theorem less_2 {N : Nat} (hN : BIG ≤ N) {w : WD} {σ μ : mS} (S : RS w σ μ) {T T' : Int32} (hT : TK T T') {n a b : Nat} (hn : n ≤ 20000) (O : SO w T T' n σ μ) (ha : a < n) (hb : b < n) : ∃ r : Int32, (r = 0 ∨ r = 1) ∧ xx8_isLess N σ (σ.2.2.2 539 a) (σ.2.2.2 539 b) (if T = 4 then 1 else 0) = some (r, σ) ∧ mm_isLess N μ (Int32.ofNat a) (Int32.ofNat b) = some (r, μ) := by
  obtain ⟨a1, a2⟩ := O a ha
  obtain ⟨b1, b2⟩ := O b hb
  have m60 : ∀ y : Int32, (y = 0 ∨ y = 1) → mm_isLess_60 N y μ = some (y, μ) ∧ xx8_isLess_b41 N y σ = some (y, σ) := fun y h => by
    rcases h with rfl | rfl
    · exact ⟨rfl, rfl⟩
    · exact ⟨rfl, rfl⟩
  rcases hT with ⟨rfl, rfl⟩ | ⟨rfl, rfl⟩
  · have ea : σ.2.2.2 539 a = μ.2.2.2 229 a := by
      rcases a2 with q | q | q | q | q | q | q | q | q
      case inr.inr.inr.inl => exact q.2.2
      all_goals (obtain ⟨q, _⟩ := q; exact absurd q (by decide))
    have eb : σ.2.2.2 539 b = μ.2.2.2 229 b := by
      rcases b2 with q | q | q | q | q | q | q | q | q
      case inr.inr.inr.inl => exact q.2.2
      all_goals (obtain ⟨q, _⟩ := q; exact absurd q (by decide))
    rw [if_neg (by decide), xx8_isLess, if_pos rfl, mm_isLess, gd_oN (by omega) (by decide), oN_cl (by omega), a1, if_pos rfl, gd_oN (by omega) (by decide), gd_oN (by omega) (by decide), oN_cl (by omega), ea, eb]
    by_cases c : 0 ≤ lg_cmp (μ.2.2.2 229 a) (μ.2.2.2 229 b)
    · rw [if_pos c, if_pos c]
      exact ⟨0, .inl rfl, (m60 0 (.inl rfl)).2, (m60 0 (.inl rfl)).1⟩
    · rw [if_neg c, if_neg c]
      exact ⟨1, .inr rfl, (m60 1 (.inr rfl)).2, (m60 1 (.inr rfl)).1⟩
  · have sa := VV_str a2 (.inl rfl)
    have sb := VV_str b2 (.inl rfl)
    obtain ⟨ga, ga'⟩ := RS_gs S sa
    obtain ⟨gb, gb'⟩ := RS_gs S sb
    obtain ⟨za, ya⟩ := S.2.2.2.2.2.1 _ _ sa
    obtain ⟨zb, yb⟩ := S.2.2.2.2.2.1 _ _ sb
    obtain ⟨r, r1, r2⟩ := compare_x hN ga.1 gb.1
    obtain ⟨r', r3, r4⟩ := compare_m hN ga'.1 gb'.1
    have er : r = r' := by
      rw [← za, ← zb] at r4
      refine cmp_one r2 r4 (fun k k0 k1 => ya k k0 ?_) (fun k k0 k1 => yb k k0 ?_) rfl
      · split at k1
        · exact k1
        · lia
      · split at k1
        · lia
        · exact k1
    rw [if_pos rfl, xx8_isLess, if_neg (by decide), mm_isLess, gd_oN (by omega) (by decide), oN_cl (by omega), a1, if_neg (by decide), gd_oN (by omega) (by decide), gd_oN (by omega) (by decide), oN_cl (by omega), r1, r3, bd_so, bd_so]
    dsimp only
    by_cases c : 0 ≤ r
    · rw [if_pos c, if_pos (sgn_0.mpr (er ▸ c))]
      exact ⟨0, .inl rfl, (m60 0 (.inl rfl)).2, (m60 0 (.inl rfl)).1⟩
    · rw [if_neg c, if_neg (fun q => c (er ▸ sgn_0.mp q))]
      exact ⟨1, .inr rfl, (m60 1 (.inr rfl)).2, (m60 1 (.inr rfl)).1⟩
/-- what merging writes -/
def wX' (k : Nat) : Bool := k == 540
def wM' (k : Nat) : Bool := [230, 231].contains k
theorem SO_fr {P Q : Nat → Bool} {w : WD} {T T' : Int32} {n : Nat} {σ μ τ τm : mS} (O : SO w T T' n σ μ) (fr : m_fr P σ τ) (frm : m_fr Q μ τm) (p : P 539 = false) (q1 : Q 228 = false) (q2 : Q 229 = false) : SO w T T' n τ τm := fun j hj => by
  rw [frm.2.2.1 228 q1, fr.2.2.2 539 p, frm.2.2.2 229 q2]; exact O j hj
/-- merged places -/
def MG (w : WD) (T T' : Int32) (lo hi : Nat) (σ μ : mS) : Prop := ∀ j, lo ≤ j → j < hi → μ.2.2.1 230 j = T' ∧ VV w T (σ.2.2.2 540 j) T' (μ.2.2.2 231 j)
theorem updJ {f : Nat → Int64} {k j : Nat} {v : Int64} : vp_updL f k v j = if j = k then v else f j := rfl
theorem mrg_lp' {N : Nat} (hN : BIG ≤ N) {w : WD} {T T' : Int32} (hT : TK T T') (t8 : vp_nar .byte T' = T') {fl : Int32} (hfl : fl = if T = 4 then 1 else 0) {n mid to lo : Nat} (hn : n ≤ 20000) (mt : mid ≤ to) (tn : to ≤ n) : ∀ (c a b k m m' : Nat) (σ μ : mS), k + c = to → c < m → c < m' → a ≤ mid → mid ≤ b → b ≤ to → k + mid = a + b → lo ≤ k → RS w σ μ → SO w T T' n σ μ → MG w T T' lo k σ μ → ∃ τ τm, xx8_merge_b9 N m (Int32.ofNat mid) (Int32.ofNat to) fl (Int32.ofNat a) (Int32.ofNat b) (Int32.ofNat k) σ = some τ ∧ mm_merge_9 N m' (Int32.ofNat mid) (Int32.ofNat to) (Int32.ofNat a) (Int32.ofNat b) (Int32.ofNat k) μ = some τm ∧ m_fr wX' σ τ ∧ m_fr wM' μ τm ∧ MG w T T' lo to τ τm := by
  intro c
  induction c with
  | zero =>
    intro a b k m m' σ μ hk hm hm' h1 h2 h3 h4 h5 S O G
    obtain ⟨m, rfl⟩ : ∃ j, m = j + 1 := ⟨m - 1, by omega⟩
    obtain ⟨m', rfl⟩ : ∃ j, m' = j + 1 := ⟨m' - 1, by omega⟩
    have e : k = to := by omega
    subst e
    exact ⟨σ, μ, by rw [xx8_merge_b9, if_pos (Int32.le_refl _)], by rw [mm_merge_9, if_pos (Int32.le_refl _)], mf_rfl, mf_rfl, G⟩
  | succ c ih =>
    intro a b k m m' σ μ hk hm hm' h1 h2 h3 h4 h5 S O G
    obtain ⟨m, rfl⟩ : ∃ j, m = j + 1 := ⟨m - 1, by omega⟩
    obtain ⟨m', rfl⟩ : ∃ j, m' = j + 1 := ⟨m' - 1, by omega⟩
    -- one is taken from place p
    have take : ∀ (p a' b' : Nat), p < n → a' ≤ mid → b' ≤ to → mid ≤ b' → k + 1 + mid = a' + b' → ∃ τ τm, xx8_merge_b9 N m (Int32.ofNat mid) (Int32.ofNat to) fl (Int32.ofNat a') (Int32.ofNat b') (Int32.ofNat (k + 1)) (md_al σ 540 k (σ.2.2.2 539 p)) = some τ ∧ mm_merge_9 N m' (Int32.ofNat mid) (Int32.ofNat to) (Int32.ofNat a') (Int32.ofNat b') (Int32.ofNat (k + 1)) (md_al (md_ai μ 230 k (vp_nar .byte (μ.2.2.1 228 p))) 231 k ((md_ai μ 230 k (vp_nar .byte (μ.2.2.1 228 p))).2.2.2 229 p)) = some τm ∧ m_fr wX' σ τ ∧ m_fr wM' μ τm ∧ MG w T T' lo to τ τm := fun p a' b' pn ha' hb' hb'' he => by
      have f1 : m_fr wX' σ (md_al σ 540 k (σ.2.2.2 539 p)) := mf_al mf_rfl rfl
      have f2 : m_fr wM' μ (md_al (md_ai μ 230 k (vp_nar .byte (μ.2.2.1 228 p))) 231 k ((md_ai μ 230 k (vp_nar .byte (μ.2.2.1 228 p))).2.2.2 229 p)) := mf_al (mf_ai mf_rfl rfl) rfl
      have S1 := RS_fr S f1 f2 (fun k a b => by simp only [wX', beq_eq_false_iff_ne]; omega) (fun k a b c => by
        simp only [wM', List.contains_cons, List.contains_nil, Bool.or_eq_false_iff, beq_eq_false_iff_ne]
        repeat' apply And.intro
        all_goals first | trivial | omega)
      have G1 : MG w T T' lo (k + 1) (md_al σ 540 k (σ.2.2.2 539 p)) (md_al (md_ai μ 230 k (vp_nar .byte (μ.2.2.1 228 p))) 231 k ((md_ai μ 230 k (vp_nar .byte (μ.2.2.1 228 p))).2.2.2 229 p)) := fun j j0 j1 => by
        obtain ⟨o1, o2⟩ := O p pn
        rw [al_J, al_J, if_pos rfl, if_pos rfl, updJ, updJ]
        show (if (230 : Nat) = 230 then upd (μ.2.2.1 230) k (vp_nar .byte (μ.2.2.1 228 p)) else μ.2.2.1 230) j = T' ∧ _
        rw [if_pos rfl, upd_at]
        by_cases q : j = k
        · rw [if_pos q, if_pos q, if_pos q, o1]
          exact ⟨t8, o2⟩
        · rw [if_neg q, if_neg q, if_neg q]
          exact G j j0 (by omega)
      obtain ⟨τ, τm, r1, r2, r3, r4, r5⟩ := ih a' b' (k + 1) m m' _ _ (by omega) (by omega) (by omega) ha' hb'' hb' he (by omega) S1 (SO_fr O f1 f2 rfl rfl rfl) G1
      exact ⟨τ, τm, r1, r2, mf_tr f1 r3, mf_tr f2 r4, r5⟩
    have nk : ¬ Int32.ofNat to ≤ Int32.ofNat k := oN_nle (by omega) (by omega)
    have right : b < to → ∃ τ τm, xx8_merge_b50 N (xx8_merge_b9 N m) (Int32.ofNat mid) (Int32.ofNat to) fl (Int32.ofNat a) (Int32.ofNat b) (Int32.ofNat k) σ = some τ ∧ mm_merge_38 N (mm_merge_9 N m') (Int32.ofNat mid) (Int32.ofNat to) (Int32.ofNat a) (Int32.ofNat b) (Int32.ofNat k) μ = some τm ∧ m_fr wX' σ τ ∧ m_fr wM' μ τm ∧ MG w T T' lo to τ τm := fun hb => by
      obtain ⟨τ, τm, r1, r2, r3⟩ := take b a (b + 1) (by omega) h1 (by omega) (by omega) (by omega)
      refine ⟨τ, τm, ?_, ?_, r3⟩
      · rw [xx8_merge_b50, xx8_merge_b55, if_neg (show ¬ (1 : Int32) = 0 by decide), lt, gd_oN (by omega) (by decide), oN_cl (by omega), xx8_merge_b91, gd_oN (by omega) (by decide), oN_cl (by omega), lt, lt, oN_s, oN_s]
        exact r1
      · rw [mm_merge_38, mm_merge_43, if_neg (show ¬ (1 : Int32) = 0 by decide), mm_merge_57, gd_oN (by omega) (by decide), gd_oN (by omega) (by decide), oN_cl (by omega), oN_cl (by omega), lt, gd_oN (by omega) (by decide), gd_oN (by omega) (by decide), lt, if_neg (show ¬ (1 : Int32) = 0 by decide), mm_merge_99, lt, if_neg (show ¬ (1 : Int32) = 0 by decide), mm_merge_114, lt, lt, Int32.add_zero, oN_s, oN_s]
        exact r2
    have left : a < mid → ∃ τ τm, xx8_merge_b54 N (xx8_merge_b9 N m) (Int32.ofNat mid) (Int32.ofNat to) fl (Int32.ofNat a) (Int32.ofNat b) (Int32.ofNat k) σ = some τ ∧ mm_merge_42 N (mm_merge_9 N m') (Int32.ofNat mid) (Int32.ofNat to) (Int32.ofNat a) (Int32.ofNat b) (Int32.ofNat k) μ = some τm ∧ m_fr wX' σ τ ∧ m_fr wM' μ τm ∧ MG w T T' lo to τ τm := fun ha => by
      obtain ⟨τ, τm, r1, r2, r3⟩ := take a (a + 1) b (by omega) (by omega) (by omega) (by omega) (by omega)
      refine ⟨τ, τm, ?_, ?_, r3⟩
      · rw [xx8_merge_b54, xx8_merge_b55, if_pos rfl, lt, gd_oN (by omega) (by decide), oN_cl (by omega), xx8_merge_b91, gd_oN (by omega) (by decide), oN_cl (by omega), lt, lt, oN_s, oN_s]
        exact r1
      · rw [mm_merge_42, mm_merge_43, if_pos rfl, mm_merge_57, gd_oN (by omega) (by decide), gd_oN (by omega) (by decide), oN_cl (by omega), oN_cl (by omega), lt, gd_oN (by omega) (by decide), gd_oN (by omega) (by decide), lt, if_pos rfl, mm_merge_99, lt, if_pos rfl, mm_merge_114, lt, lt, Int32.add_zero, oN_s, oN_s]
        exact r2
    rw [xx8_merge_b9, if_neg nk, mm_merge_9, if_neg nk]
    by_cases c1 : a = mid
    · rw [if_pos (by rw [c1]), if_pos (by rw [c1])]
      exact right (by omega)
    · have c1' : ¬ Int32.ofNat a = Int32.ofNat mid := fun q => c1 ((oN_eq (by omega) (by omega)).mp q)
      rw [if_neg c1', if_neg c1']
      by_cases c2 : b < to
      · have nb : ¬ Int32.ofNat to ≤ Int32.ofNat b := oN_nle (by omega) c2
        obtain ⟨r, r01, r1, r2⟩ := less_2 hN S hT hn O (show b < n by omega) (show a < n by omega)
        rw [← hfl] at r1
        rw [if_neg nb, if_neg nb, gd_oN (by omega) (by decide), gd_oN (by omega) (by decide), oN_cl (by omega), oN_cl (by omega), r1, r2, bd_so, bd_so]
        dsimp only
        rcases r01 with rfl | rfl
        · rw [if_pos rfl, if_pos rfl]; exact left (by omega)
        · rw [if_neg (show ¬ (1 : Int32) = 0 by decide), if_neg (show ¬ (1 : Int32) = 0 by decide)]; exact right c2
      · have nb : Int32.ofNat to ≤ Int32.ofNat b := by rw [oN_le (by omega) (by omega)]; omega
        rw [if_pos nb, if_pos nb]
        exact left (by omega)
