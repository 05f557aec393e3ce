/-! LAYER 2: tokens: long strings, numbers -/
def QL (n p : Int32) (σ μ : mS) (X Y : Option (Int32 × mS)) : Prop := (∃ σ' μ' L, X = some (1, σ') ∧ Y = some (1, μ') ∧ (SBy L σ' μ' ∧ L.toInt ≤ (sF σ' 713).toInt - p.toInt) ∧ (sF σ' 713 = sF μ' 62 ∧ p < sF σ' 713 ∧ sF σ' 713 ≤ n) ∧ sF μ' 60 = 4 ∧ m_fr fQx σ σ' ∧ m_fr fQm μ μ') ∨ (∃ σ' μ', X = some (0, σ') ∧ Y = some (0, μ') ∧ m_fr fSx σ σ' ∧ m_fr fSm μ μ')
theorem QL_tr {n p : Int32} {σ0 μ0 σ μ : mS} {X Y : Option (Int32 × mS)} (f : m_fr fSx σ0 σ) (g : m_fr fSm μ0 μ) (h : QL n p σ μ X Y) : QL n p σ0 μ0 X Y := by
  rcases h with ⟨σ', μ', L, e1, e2, e3, e4, e5, e6, e7⟩ | ⟨σ', μ', e1, e2, e3, e4⟩
  · exact .inl ⟨σ', μ', L, e1, e2, e3, e4, e5, mf_tr (fQx_S f) e6, mf_tr (fQm_S g) e7⟩
  · exact .inr ⟨σ', μ', e1, e2, mf_tr f e3, mf_tr g e4⟩
theorem QL_no {n p : Int32} {σ μ σ' μ' : mS} (f : m_fr fSx σ σ') (g : m_fr fSm μ μ') : QL n p σ μ (some (0, σ')) (some (0, μ')) := .inr ⟨σ', μ', rfl, rfl, f, g⟩
theorem QL_ok {n p e L : Int32} {σ μ : mS} (S : SBy L σ μ) (h : p < e ∧ e ≤ n) (g : L.toInt ≤ e.toInt - p.toInt) : QL n p σ μ (some (1, md_pi σ 713 e)) (some (1, md_pi (md_pi μ 60 4) 62 e)) :=
  .inl ⟨_, _, L, rfl, rfl, ⟨⟨S.1, S.2.1, S.2.2.1, S.2.2.2⟩, g⟩, ⟨rfl, h⟩, rfl, mf_pi mf_rfl rfl, mf_pi (mf_pi mf_rfl rfl) rfl⟩
/-- a byte more, where there is room -/
theorem say_3 {N : Nat} {L c : Int32} {σ μ : mS} (S : SBy L σ μ) (h : L < 2000) : ∃ σ' μ', xx11_say N σ c = some (1, σ') ∧ mm_add N μ c = some (1, μ') ∧ SBy (L + 1) σ' μ' ∧ m_fr fSx σ σ' ∧ m_fr fSm μ μ' := by
  rcases say_2 (N := N) (c := c) S with k | ⟨μ', e1, e2, g2⟩
  · exact k
  · exfalso
    obtain ⟨⟨l0, l1⟩, s1, s2, s3⟩ := S
    rw [xx11_say] at e1
    simp only [sF_fold, lt] at e1
    rw [s1, if_pos h, gd_in (by decide) l0 (sy_1 l0 h).2.1] at e1
    have e3 := congrArg (fun o : Option (Int32 × mS) => match o with | some z => z.1 | none => 0) e1
    exact absurd (show (1 : Int32) = 0 from e3) (by decide)
theorem lg_1 {L v c : Int32} (l0 : 0 ≤ L) (v0 : 0 ≤ v) (h : ¬ c ≤ v) (c1 : c ≤ 8000) (m : c - v + L ≤ 2000) (l2 : L ≤ 2000) : L < 2000 ∧ 0 ≤ v + 1 ∧ v + 1 ≤ c ∧ c - (v + 1) + (L + 1) ≤ 2000 ∧ (c.toInt - (v + 1).toInt).toNat + 1 = (c.toInt - v.toInt).toNat ∧ (v + 1).toInt = v.toInt + 1 := by
  have i : (v + 1).toInt = v.toInt + 1 := tI_inc v0 (by lia)
  have q := tI_lt.mp (Int32.not_le.mp h)
  refine ⟨by lia, by lia, by lia, by lia, by omega, i⟩
theorem long_lp {N : Nat} {n p c lv : Int32} {t : Int32 → Int32} (T : TXo n t) (c1 : c < n) (h : p < c + lv + 2 ∧ c + lv + 2 ≤ n) (hc : c ≤ c + lv + 2) : ∀ (j : Nat) (v L : Int32) (σ μ : mS), TXx n t σ → TXm n t μ → SBy L σ μ → L.toInt + p.toInt ≤ v.toInt → 0 ≤ v → v ≤ c → c - v + L ≤ 2000 → (c.toInt - v.toInt).toNat < j → QL n p σ μ (xx11_longString_b57 N j lv c v σ) (mm_readLong_76 N j lv c v μ) := by
  intro j
  induction j with
  | zero => intro v L σ μ _ _ _ _ _ _ _ h; omega
  | succ j ih =>
    intro v L σ μ X Y S hL v0 vc m hj
    rw [xx11_longString_b57, mm_readLong_76]
    by_cases d : c ≤ v
    · rw [if_pos d, if_pos d, show c + 2 + lv = c + lv + 2 from by rw [Int32.add_assoc, Int32.add_comm 2, ← Int32.add_assoc]]
      exact QL_ok S h (by have q1 := tI_le.mp vc; have q2 := tI_le.mp hc; clear ih; omega)
    · have e := lg_1 S.1.1 v0 d (Int32.le_trans (Int32.le_of_lt c1) T.1.2) m S.1.2
      rw [if_neg d, if_neg d, at_t T X v0, sg_t T Y v0]
      simp only [bd, lt]
      obtain ⟨σ', μ', e1, e2, S', f, g⟩ := say_3 (N := N) (c := t v) S e.1
      rw [e1, e2]
      exact QL_tr f g (ih (v + 1) (L + 1) σ' μ' (TXx_fr X f rfl rfl rfl) (TXm_fr Y g rfl rfl) S' (by rw [gi S]; have := e.2.2.2.2.2; clear ih; omega) e.2.1 e.2.2.1 e.2.2.2.1 (by have := e.2.2.2.2.1; clear ih; omega))
theorem lg_2 {c b : Int32} (b0 : 0 ≤ b) (h : b ≤ c) (c1 : c ≤ 8000) (m : ¬ 2000 < c - b) : c - b + 0 ≤ 2000 := by lia
theorem lg_3 {p lv n : Int32} (p0 : 0 ≤ p) (pn : p < n) (l0 : 0 ≤ lv) (l9 : lv ≤ 9) (h : p + 1 + lv < n) (n1 : n ≤ 8000) : 0 ≤ p + lv + 2 ∧ p + lv + 2 ≤ n ∧ p + 2 + lv = p + lv + 2 ∧ p < p + lv + 2 := by refine ⟨?_, ?_, ?_, ?_⟩ <;> lia
theorem lg_4 {p b c lv n : Int32} (p0 : 0 ≤ p) (pb : p < b) (h : b ≤ c) (l0 : 0 ≤ lv) (l9 : lv ≤ 9) (c1 : c < n) (n1 : n ≤ 8000) (h2 : c + 1 + lv < n) : p < c + lv + 2 ∧ c + lv + 2 ≤ n ∧ c ≤ c + lv + 2 := by refine ⟨?_, ?_, ?_⟩ <;> lia
theorem lg_5 {b c : Int32} (h : b ≤ c) (ne : ¬ b = c) (c1 : c ≤ 8000) (b0 : 0 ≤ b) : b + 1 ≤ c ∧ 0 ≤ b + 1 ∧ b ≤ b + 1 := by refine ⟨?_, ?_, ?_⟩ <;> lia
theorem lg_6 {x y : Int32} : (x ≤ y) ↔ ¬ y < x := ⟨Int32.not_lt.mpr, Int32.not_lt.mp⟩
/-- the part behind the opening: x where the content begins -/
theorem long_37 {N : Nat} (hN : BIG ≤ N) {n p c lv x : Int32} {t : Int32 → Int32} {σ μ : mS} (T : TXo n t) (X : TXx n t σ) (Y : TXm n t μ) (s0 : sF σ 712 = 0) (c0 : 0 ≤ c) (c1 : c < n) (x0 : 0 ≤ x) (xc : x ≤ c) (px : p ≤ x) (h : p < c + lv + 2 ∧ c + lv + 2 ≤ n ∧ c ≤ c + lv + 2) : QL n p σ μ (if c < 0 then xx11_longString_b52 N σ else (if c - x ≤ 2000 then xx11_longString_b57 N N lv c x σ else xx11_longString_b52 N σ)) (if c - x ≤ 2000 then lt (md_pi μ 66 (0)) (fun σ7 : mS => mm_readLong_76 N N lv c x σ7) else gd (zB (0)) (some ((0, μ) : Int32 × mS))) := by
  rw [if_neg (fun q => Int32.not_le.mpr q c0)]
  by_cases d : c - x ≤ 2000
  · rw [if_pos d, if_pos d]
    have S : SBy 0 σ (md_pi μ 66 0) := ⟨by decide, s0, rfl, fun k k0 k1 => absurd (Int32.lt_of_le_of_lt k0 k1) Int32.lt_irrefl⟩
    exact QL_tr mf_rfl (mf_pi mf_rfl rfl) (long_lp T c1 ⟨h.1, h.2.1⟩ h.2.2 N x 0 σ (md_pi μ 66 0) X (TXm_fr Y (mf_pi (P := fSm) mf_rfl rfl) rfl rfl) S (by have := tI_le.mp px; rw [show (0 : Int32).toInt = 0 from rfl]; omega) x0 xc (lg_2 x0 xc (Int32.le_trans (Int32.le_of_lt c1) T.1.2) (Int32.not_lt.mpr d)) (big_d hN))
  · rw [if_neg d, if_neg d]
    exact QL_no mf_rfl mf_rfl
/-- a long string, behind an opening -/
theorem long_2 {N : Nat} (hN : BIG ≤ N) {n p : Int32} {t : Int32 → Int32} {σ μ : mS} (T : TXo n t) (X : TXx n t σ) (Y : TXm n t μ) (p0 : 0 ≤ p) (pn : p < n) (h1 : sF σ 708 = p) (h2 : sF μ 58 = p) (hb : 0 ≤ brk t p 91) : QL n p σ μ (xx11_longString N σ (brk t p 91)) (mm_readLong N μ) := by
  rcases brk_r T (m := 91) p0 (by decide) with e | ⟨l0, l9, l1, l2⟩
  · rw [e] at hb; exact absurd hb (by decide)
  have e := lg_3 p0 pn l0 l9 l2 T.1.2
  have X' : TXx n t (md_pi σ 712 0) := TXx_fr X (mf_pi (P := fSx) mf_rfl rfl) rfl rfl rfl
  rw [xx11_longString, mm_readLong]
  simp only [lt, sF_fold]
  rw [h2, opening_m hN T Y p0]
  simp only [bd]
  rw [show sF (md_pi σ 712 0) 708 = p from h1, if_pos hb, h2, e.2.2.1]
  generalize hl : brk t p 91 = lv at *
  rw [closing_t hN T X' e.1 e.2.1, closing_m hN T Y e.1 e.2.1 l0 l9]
  simp only [bd]
  rw [at_t T X' e.1, mm_readLong_32]
  simp only [bd]
  rcases cls_r T (lv := lv) e.1 e.2.1 l0 with q | ⟨k1, k2, k3, k4⟩
  · rw [q, if_neg (show ¬ (0 : Int32) ≤ -1 by decide)]
    by_cases d : t (p + lv + 2) = 10
    · rw [if_pos d, xx11_longString_b37]
      exact QL_no (mf_pi mf_rfl rfl) mf_rfl
    · rw [if_neg d, xx11_longString_b37]
      exact QL_no (mf_pi mf_rfl rfl) mf_rfl
  · have c0 := Int32.le_trans e.1 k1
    have m := lg_4 p0 e.2.2.2 k1 l0 l9 k2 T.1.2 k4
    rw [if_pos c0, sg_t T Y e.1]
    simp only [bd]
    by_cases d : t (p + lv + 2) = 10
    · have ne : ¬ p + lv + 2 = cls t n (p + lv + 2) lv := fun q => by
        have k5 := (brk_i T c0 (m := 93) (by decide) (by decide) l0 l9).mp k3
        rw [← q, d] at k5
        exact absurd k5.1 (by decide)
      have e5 := lg_5 k1 ne (Int32.le_trans (Int32.le_of_lt k2) T.1.2) e.1
      rw [if_pos d, if_pos d, xx11_longString_b37, mm_readLong_55]
      exact QL_tr (mf_pi mf_rfl rfl) mf_rfl (long_37 hN T X' Y rfl c0 k2 e5.2.1 e5.1 (Int32.le_trans (Int32.le_of_lt e.2.2.2) e5.2.2) m)
    · rw [if_neg d, if_neg d, xx11_longString_b37, mm_readLong_55, Int32.add_zero]
      exact QL_tr (mf_pi mf_rfl rfl) mf_rfl (long_37 hN T X' Y rfl c0 k2 e.1 k1 (Int32.le_of_lt e.2.2.2) m)
/-- without an opening there is no long string -/
theorem long_n {N : Nat} (hN : BIG ≤ N) {n p : Int32} {t : Int32 → Int32} {μ : mS} (T : TXo n t) (Y : TXm n t μ) (p0 : 0 ≤ p) (h2 : sF μ 58 = p) (hb : brk t p 91 < 0) : mm_readLong N μ = some (0, μ) := by
  rw [mm_readLong]
  simp only [lt, sF_fold]
  rw [h2, opening_m hN T Y p0]
  simp only [bd]
  rw [if_neg (fun q => wth_nn.mp q hb), mm_readLong_32, if_neg (by decide)]
  rfl
