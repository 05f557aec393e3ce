/-! LAYER 2: tokens: quoted strings -/
def fQx (k : Nat) : Bool := [711, 712, 713].contains k
def fQm (k : Nat) : Bool := [60, 62, 65, 66].contains k
theorem fQx_S {σ τ : mS} (h : m_fr fSx σ τ) : m_fr fQx σ τ := mf_mono h (fun k hk => by
  simp only [fSx, fQx, List.contains_cons, List.contains_nil, Bool.or_eq_false_iff, beq_eq_false_iff_ne] at hk ⊢
  (repeat' (first | exact trivial | omega | apply And.intro)))
theorem fQm_S {σ τ : mS} (h : m_fr fSm σ τ) : m_fr fQm σ τ := mf_mono h (fun k hk => by
  simp only [fSm, fQm, List.contains_cons, List.contains_nil, Bool.or_eq_false_iff, beq_eq_false_iff_ne] at hk ⊢
  (repeat' (first | exact trivial | omega | apply And.intro)))
/-- a string that was read, or none -/
def QD (n p : Int32) (σ μ : mS) (X : Option (Int32 × mS)) (Y : Option mS) : Prop := (∃ σ' μ' L, X = some (1, σ') ∧ Y = some μ' ∧ (SBy L σ' μ' ∧ L.toInt ≤ (sF σ' 713).toInt - p.toInt) ∧ (sF σ' 713 = sF μ' 62 ∧ p < sF σ' 713 ∧ sF σ' 713 ≤ n) ∧ sF μ' 60 = 4 ∧ m_fr fQx σ σ' ∧ m_fr fQm μ μ') ∨ (∃ σ' μ', X = some (0, σ') ∧ Y = some μ' ∧ m_fr fSx σ σ' ∧ m_fr fSm μ μ')
theorem QD_tr {n p : Int32} {σ0 μ0 σ μ : mS} {X : Option (Int32 × mS)} {Y : Option mS} (f : m_fr fSx σ0 σ) (g : m_fr fSm μ0 μ) (h : QD n p σ μ X Y) : QD n p σ0 μ0 X Y := by
  rcases h with ⟨σ', μ', L, e1, e2, e3, e4, e5, e6, e7⟩ | ⟨σ', μ', e1, e2, e3, e4⟩
  · exact .inl ⟨σ', μ', L, e1, e2, e3, e4, e5, mf_tr (fQx_S f) e6, mf_tr (fQm_S g) e7⟩
  · exact .inr ⟨σ', μ', e1, e2, mf_tr f e3, mf_tr g e4⟩
theorem QD_no {n p : Int32} {σ μ σ' μ' : mS} (f : m_fr fSx σ σ') (g : m_fr fSm μ μ') : QD n p σ μ (some (0, σ')) (some μ') := .inr ⟨σ', μ', rfl, rfl, f, g⟩
theorem QD_ok {n p e L : Int32} {σ μ : mS} (S : SBy L σ μ) (h : p < e ∧ e ≤ n) (g : L.toInt ≤ e.toInt - p.toInt) : QD n p σ μ (some (1, md_pi σ 713 e)) (some (md_pi (md_pi μ 60 4) 62 e)) :=
  .inl ⟨_, _, L, rfl, rfl, ⟨⟨S.1, S.2.1, S.2.2.1, S.2.2.2⟩, g⟩, ⟨rfl, h⟩, rfl, mf_pi mf_rfl rfl, mf_pi (mf_pi mf_rfl rfl) rfl⟩
theorem qd_0 {N j : Nat} {q r : Int32} {μ : mS} : mm_readQuoted_14 N (j + 1) q r 0 μ = some μ := by
  rw [mm_readQuoted_14, if_pos rfl]
  rfl
theorem qd_r {r n v : Int32} (h0 : 0 ≤ v) (h : v + 1 < r) (rn : r ≤ n) (n1 : n ≤ 8000) (vn : v < n) : 0 ≤ r ∧ ¬ r ≤ 0 ∧ (n.toInt - r.toInt).toNat + 1 ≤ (n.toInt - v.toInt).toNat ∧ v < r := by
  have a1 : v + 1 ≤ 1000000 := by lia
  have i : (v + 1).toInt = v.toInt + 1 := tI_inc h0 (by lia)
  have q := tI_lt.mp h
  have q2 := tI_le.mp rn
  exact ⟨by lia, by lia, by omega, by lia⟩
theorem qd_b {n v : Int32} (h0 : 0 ≤ v) (n1 : n ≤ 8000) (vn : v < n) : 0 ≤ v + 1 ∧ v + 1 ≤ n ∧ v < v + 1 ∧ (n.toInt - (v + 1).toInt).toNat + 1 = (n.toInt - v.toInt).toNat ∧ (v + 1).toInt = v.toInt + 1 := by
  have i : (v + 1).toInt = v.toInt + 1 := tI_inc h0 (by lia)
  have q := tI_lt.mp vn
  exact ⟨by lia, by lia, by lia, by omega, i⟩
theorem quoted_lp {N : Nat} (hN : BIG ≤ N) {n q p : Int32} {t : Int32 → Int32} (T : TXo n t) (q0 : 0 ≤ q) : ∀ (j j2 : Nat) (v L : Int32) (σ μ : mS), TXx n t σ → TXm n t μ → SBy L σ μ → L.toInt + p.toInt + 1 ≤ v.toInt → 0 ≤ v → p < v → v ≤ n → (n.toInt - v.toInt).toNat < j → (n.toInt - v.toInt).toNat + 1 < j2 → QD n p σ μ (xx11_string_b12 N j q v σ) (mm_readQuoted_14 N j2 q v 1 μ) := by
  intro j
  induction j with
  | zero => intro j2 v L σ μ _ _ _ _ _ _ _ h; omega
  | succ j ih =>
    intro j2 v L σ μ X Y S hL v0 pv vn hj hj2
    obtain ⟨i, hi⟩ : ∃ i, j2 = i + 2 := ⟨j2 - 2, by clear ih; omega⟩
    subst hi
    rw [xx11_string_b12, mm_readQuoted_14, if_neg (show ¬ (1 : Int32) = 0 by decide), at_t T X v0, sg_t T Y v0]
    simp only [bd]
    by_cases c : t v = q
    · have l := TX_in T vn (fun e => by rw [← c, e] at q0; exact absurd q0 (by decide))
      have b := qd_b v0 T.1.2 l
      rw [if_pos c, if_pos c]
      exact QD_ok S ⟨Int32.lt_trans pv b.2.2.1, b.2.1⟩ (by have := b.2.2.2.2; omega)
    rw [if_neg c, if_neg c, at_t T X v0, sg_t T Y v0]
    simp only [bd]
    by_cases c1 : t v < 0
    · rw [if_pos c1, if_pos c1]
      exact QD_no mf_rfl mf_rfl
    have l := TX_in T vn (fun e => by rw [e] at c1; exact c1 (by decide))
    have b := qd_b v0 T.1.2 l
    rw [if_neg c1, if_neg c1, at_t T X v0]
    simp only [bd]
    by_cases c2 : t v = 10
    · rw [if_pos c2, if_pos c2]
      exact QD_no mf_rfl mf_rfl
    rw [if_neg c2, if_neg c2, at_t T X v0]
    simp only [bd]
    by_cases c3 : t v = 92
    · rw [if_pos c3, if_pos c3]
      obtain ⟨r, σ', μ', e1, e2, e3, f, g⟩ := escape_2 hN T X Y S b.1 b.2.1
      rw [e1, e2]
      dsimp only
      rcases e3 with e | ⟨⟨e3, e4⟩, ⟨L', S'⟩, gL⟩
      · subst e
        rw [if_neg (by decide), if_pos (by decide)]
        show QD n p σ μ (some (0, σ')) (mm_readQuoted_14 N (i + 1) q (-1) 0 μ')
        rw [qd_0]
        exact QD_no f g
      · have k := qd_r v0 e3 e4 T.1.2 l
        rw [if_pos k.1, if_neg k.2.1]
        exact QD_tr f g (ih (i + 1) r L' σ' μ' (TXx_fr X f rfl rfl rfl) (TXm_fr Y g rfl rfl) S' (by rw [S'.2.1, S.2.1] at gL; have := b.2.2.2.2; clear ih; omega) k.1 (Int32.lt_trans pv k.2.2.2) e4 (by have := b.2.2.2.1; clear ih; omega) (by have := b.2.2.2.1; clear ih; omega))
    rw [if_neg c3, if_neg c3, at_t T X v0]
    simp only
    rcases say_2 (N := N) (c := t v) S with ⟨σ', μ', e1, e2, S', f, g⟩ | ⟨μ', e1, e2, g⟩
    · rw [e1, e2]
      dsimp only
      rw [if_neg (by decide)]
      exact QD_tr f g (ih (i + 1) (v + 1) (L + 1) σ' μ' (TXx_fr X f rfl rfl rfl) (TXm_fr Y g rfl rfl) S' (by rw [gi S]; have := b.2.2.2.2; clear ih; omega) b.1 (Int32.lt_trans pv b.2.2.1) b.2.1 (by have := b.2.2.2.1; clear ih; omega) (by have := b.2.2.2.1; clear ih; omega))
    · rw [e1, e2]
      dsimp only
      rw [if_pos rfl]
      show QD n p σ μ (some (0, σ)) (mm_readQuoted_14 N (i + 1) q (v + 1) 0 μ')
      rw [qd_0]
      exact QD_no mf_rfl g
theorem SBy_0 {σ μ : mS} : SBy 0 (md_pi σ 712 0) (md_pi μ 66 0) := ⟨by decide, rfl, rfl, fun k k0 k1 => absurd (Int32.lt_of_le_of_lt k0 k1) Int32.lt_irrefl⟩
/-- a quoted string -/
theorem quoted_2 {N : Nat} (hN : BIG ≤ N) {n q p : Int32} {t : Int32 → Int32} {σ μ : mS} (T : TXo n t) (X : TXx n t σ) (Y : TXm n t μ) (q0 : 0 ≤ q) (p0 : 0 ≤ p) (pn : p < n) (h1 : sF σ 708 = p) (h2 : sF μ 58 = p) : QD n p σ μ (xx11_string N σ q) (mm_readQuoted N μ q) := by
  rw [xx11_string, mm_readQuoted]
  simp only [lt, sF_fold]
  have b := qd_b p0 T.1.2 pn
  have m1 : (n.toInt - (p + 1).toInt).toNat + 1 < N := by
    have i1 := sc_2 (m := n) b.1 T.1.2
    have i2 : 9000 ≤ N := Nat.le_trans (by decide) hN
    omega
  rw [show sF (md_pi σ 712 0) 708 = p from h1, show sF (md_pi μ 66 0) 58 = p from h2]
  exact QD_tr (mf_pi mf_rfl rfl) (mf_pi mf_rfl rfl) (quoted_lp hN T q0 N N (p + 1) 0 (md_pi σ 712 0) (md_pi μ 66 0) (TXx_fr X (mf_pi (P := fSx) mf_rfl rfl) rfl rfl rfl) (TXm_fr Y (mf_pi (P := fSm) mf_rfl rfl) rfl rfl) SBy_0 (by have := b.2.2.2.2; rw [show (0 : Int32).toInt = 0 from rfl]; omega) b.1 b.2.2.1 b.2.1 (by omega) m1)
