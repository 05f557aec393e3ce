/-! LAYER 2: the two sides: strings, keys -/
/-- rows of bytes of strings hold bytes -/
def NB (σ : mS) : Prop := ∀ k, isB (σ.2.2.1 131 k) ∧ isB (σ.2.2.1 132 k)
theorem NB_fr {P : Nat → Bool} {σ τ : mS} (h : NB σ) (fr : m_fr P σ τ) (h1 : P 131 = false) (h2 : P 132 = false) : NB τ := fun k => by
  rw [fr.2.2.1 131 h1, fr.2.2.1 132 h2]; exact h k
theorem NB_ai {σ : mS} {b : Int32} {i v : Nat} (h : NB σ) : NB (md_ai σ v i (vp_nar .byte b)) := fun k => by
  rw [ai_I, ai_I]
  refine ⟨?_, ?_⟩
  · by_cases c : 131 = v
    · rw [if_pos c, upd_at]
      by_cases q : k = i
      · rw [if_pos q]; exact B_nar b
      · rw [if_neg q, ← c]; exact (h k).1
    · rw [if_neg c]; exact (h k).1
  · by_cases c : 132 = v
    · rw [if_pos c, upd_at]
      by_cases q : k = i
      · rw [if_pos q]; exact B_nar b
      · rw [if_neg q, ← c]; exact (h k).2
    · rw [if_neg c]; exact (h k).2
def RS (w : WD) (σ μ : mS) : Prop := (∃ f, SX σ ((wS w).map Prod.fst) f) ∧ (∃ sl, TX σ sl) ∧ SM μ ((wS w).map Prod.snd) ∧ (∃ bk, TM μ bk) ∧ (∀ a b, (a, b) ∈ wX w → 12000 ≤ a ∧ a < sF σ 134 ∧ 0 ≤ b ∧ b < sF μ 5) ∧ (∀ a b, (a, b) ∈ wS w ∨ (a, b) ∈ wX w → x_sz σ a = m_sz μ b ∧ ∀ k, 0 ≤ k → k < x_sz σ a → x_by σ a k = m_by μ b k) ∧ sF σ 141 = sF μ 12 ∧ NB σ
/-- handles of a world are in range and go one to one -/
def WOK (w : WD) : Prop := bij (wT w) ∧ bij (wF w) ∧ bij (wC w) ∧ bij (wB w) ∧ (∀ a b, (a, b) ∈ wF w → 0 ≤ a ∧ 64 ≤ b) ∧ (∀ a b, (a, b) ∈ wC w → 1 ≤ a ∧ 0 ≤ b ∧ b < 120)
theorem RS_dst {w : WD} {σ μ : mS} (H : RS w σ μ) : dst σ := by
  obtain ⟨_, ⟨sl, h⟩, _⟩ := H
  exact TX_dst h
theorem RS_gs {w : WD} {σ μ : mS} {a b : Int32} (H : RS w σ μ) (h : (a, b) ∈ wS w ∨ (a, b) ∈ wX w) : gs σ a ∧ mgs μ b := by
  obtain ⟨⟨f, h1⟩, ⟨sl, h2⟩, h3, ⟨bk, h4⟩, h5, h6, _⟩ := H
  rcases h with h | h
  · have ha : a ∈ (wS w).map Prod.fst := List.mem_map.mpr ⟨(a, b), h, rfl⟩
    have hb : b ∈ (wS w).map Prod.snd := List.mem_map.mpr ⟨(a, b), h, rfl⟩
    obtain ⟨q1, q2, _, q4⟩ := SX_mem h1 ha
    obtain ⟨r1, _, r3⟩ := SM_mem h3 hb
    exact ⟨⟨q1, q4, fun q => by lia⟩, r1, r3⟩
  · obtain ⟨x1, x2, x3, x4⟩ := h5 a b h
    obtain ⟨q1, q2⟩ := TX_sv h2 x1 x2
    obtain ⟨r1, r2, _⟩ := TM_sv h4 x3 x4
    exact ⟨⟨q1, q2, fun _ => x2⟩, r1, r2⟩
theorem RS_eq {w : WD} {σ μ : mS} {a b c d : Int32} (H : RS w σ μ) (h : (a, b) ∈ wS w ∨ (a, b) ∈ wX w) (h' : (c, d) ∈ wS w ∨ (c, d) ∈ wX w) : x_eq σ a c ↔ m_eq μ b d := by
  obtain ⟨e1, e2⟩ := H.2.2.2.2.2.1 a b h
  obtain ⟨f1, f2⟩ := H.2.2.2.2.2.1 c d h'
  constructor
  · rintro ⟨q1, q2⟩
    refine ⟨by rw [← e1, ← f1]; exact q1, fun k k0 k1 => ?_⟩
    rw [← e1] at k1
    rw [← e2 k k0 k1, ← f2 k k0 (by rw [q1]; exact k1)]
    exact q2 k k0 k1
  · rintro ⟨q1, q2⟩
    have s : x_sz σ c = x_sz σ a := by rw [e1, f1]; exact q1
    refine ⟨s, fun k k0 k1 => ?_⟩
    rw [e2 k k0 k1, f2 k k0 (by rw [s]; exact k1)]
    exact q2 k k0 (by rw [← e1]; exact k1)
theorem VV_ok {w : WD} {σ μ : mS} {tx tm : Int32} {vx vm : Int64} (H : RS w σ μ) (v : VV w tx vx tm vm) (h0 : tx ≠ 0) (h8 : tx ≠ 8) : k_ok σ tx vx ∧ mk_ok μ tm vm := by
  obtain ⟨a1, a2, a3, a4, a5, a6, a7, a8, a9, a10, a11, a12⟩ := VV_tag v
  have m0 : tm ≠ 0 := fun q => h0 (a5.mpr q)
  have m7 : tm ≠ 7 := fun q => h8 (a11.mpr q)
  refine ⟨⟨by lia, by lia, a12, fun q => ?_⟩, by lia, by lia, fun q => ?_⟩
  · rcases v with v | v | v | v | ⟨_, _, a, b, v3, v4, v5⟩ | v | v | v | v
    all_goals try (obtain ⟨r, _⟩ := v; rw [r] at q; exact absurd q (by decide))
    rw [v3, h_ll]
    exact (RS_gs H v5).1
  · have q4 : tx = 4 := a7.mpr q
    rcases v with v | v | v | v | ⟨_, _, a, b, v3, v4, v5⟩ | v | v | v | v
    all_goals try (obtain ⟨r, _⟩ := v; rw [r] at q4; exact absurd q4 (by decide))
    rw [v4, h_ll]
    exact (RS_gs H v5).2
theorem ll_iff {a b : Int32} : Int32.toInt64 a = Int32.toInt64 b ↔ a = b := ⟨ll_inj, fun h => by rw [h]⟩
theorem VV_eq {w : WD} {σ μ : mS} {tx tm ux um : Int32} {vx vm yx ym : Int64} (W : WOK w) (H : RS w σ μ) (v : VV w tx vx tm vm) (u : VV w ux yx um ym) : k_eq σ tx vx ux yx ↔ mk_eq μ tm vm um ym := by
  obtain ⟨w1, w2, w3, w4, w5, w6⟩ := W
  have no : tx ≠ ux → tm ≠ um → (k_eq σ tx vx ux yx ↔ mk_eq μ tm vm um ym) := fun h h' => ⟨fun q => absurd q.1 h, fun q => absurd q.1 h'⟩
  -- the same kind of handle
  have hd : ∀ (t t' : Int32) (a b c d : Int32), t ≠ 4 → t' ≠ 3 → (a = c ↔ b = d) → (k_eq σ t (Int32.toInt64 a) t (Int32.toInt64 c) ↔ mk_eq μ t' (Int32.toInt64 b) t' (Int32.toInt64 d)) := by
    intro t t' a b c d n4 n3 hh
    simp only [k_eq, mk_eq, if_neg n4, if_neg n3, true_and, ll_iff]
    exact hh
  rcases v with ⟨rfl, rfl, rfl, rfl⟩ | ⟨rfl, rfl, rfl, rfl⟩ | ⟨rfl, rfl, rfl, rfl⟩ | ⟨rfl, rfl, rfl⟩ | ⟨rfl, rfl, a, b, rfl, rfl, p⟩ | ⟨rfl, rfl, a, b, rfl, rfl, p⟩ | ⟨rfl, rfl, a, b, rfl, rfl, p⟩ | ⟨rfl, rfl, a, b, rfl, rfl, p⟩ | ⟨rfl, rfl, a, b, rfl, rfl, p⟩ <;>
  rcases u with ⟨rfl, rfl, rfl, rfl⟩ | ⟨rfl, rfl, rfl, rfl⟩ | ⟨rfl, rfl, rfl, rfl⟩ | ⟨rfl, rfl, rfl⟩ | ⟨rfl, rfl, c, d, rfl, rfl, q⟩ | ⟨rfl, rfl, c, d, rfl, rfl, q⟩ | ⟨rfl, rfl, c, d, rfl, rfl, q⟩ | ⟨rfl, rfl, c, d, rfl, rfl, q⟩ | ⟨rfl, rfl, c, d, rfl, rfl, q⟩
  all_goals first
    | exact no (by decide) (by decide)
    | exact ⟨fun _ => mkeq_rfl, fun _ => keq_rfl⟩
    | skip
  · -- false and true
    exact ⟨fun r => absurd r.1 (by decide), fun r => absurd r.2 (by rw [if_neg (by decide)]; decide)⟩
  · exact ⟨fun r => absurd r.1 (by decide), fun r => absurd r.2 (by rw [if_neg (by decide)]; decide)⟩
  · -- numbers
    simp only [k_eq, mk_eq, if_neg (show ¬ (3 : Int32) = 4 by decide), if_neg (show ¬ (2 : Int32) = 3 by decide), true_and]
  · -- strings
    simp only [k_eq, mk_eq, if_true, true_and, h_ll]
    exact RS_eq H p q
  · exact hd 5 4 a b c d (by decide) (by decide) (w1 a b c d p q)
  · refine hd 6 5 a b c d (by decide) (by decide) ?_
    rcases p with p | ⟨p1, p2, p3⟩
    · rcases q with q | ⟨q1, q2, q3⟩
      · exact w2 a b c d p q
      · have := w5 a b p
        exact ⟨fun r => by exfalso; lia, fun r => by exfalso; lia⟩
    · rcases q with q | ⟨q1, q2, q3⟩
      · have := w5 c d q
        exact ⟨fun r => by exfalso; lia, fun r => by exfalso; lia⟩
      · exact ⟨fun r => by lia, fun r => by lia⟩
  · refine hd 7 6 a b c d (by decide) (by decide) ?_
    rcases p with p | ⟨p1, p2⟩
    · rcases q with q | ⟨q1, q2⟩
      · exact w3 a b c d p q
      · have := w6 a b p
        exact ⟨fun r => by exfalso; lia, fun r => by exfalso; lia⟩
    · rcases q with q | ⟨q1, q2⟩
      · have := w6 c d q
        exact ⟨fun r => by exfalso; lia, fun r => by exfalso; lia⟩
      · exact ⟨fun r => by lia, fun r => by lia⟩
  · exact p.elim
