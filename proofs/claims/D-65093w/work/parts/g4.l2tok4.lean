/-! LAYER 2: tokens: bytes of strings, escapes (printed by geng4.py) -/
def SBy (L : Int32) (σ μ : mS) : Prop := (0 ≤ L ∧ L ≤ 2000) ∧ sF σ 712 = L ∧ sF μ 66 = L ∧ ∀ k, 0 ≤ k → k < L → sI σ 711 k = sI μ 65 k ∧ isB (sI σ 711 k)
def fSx (k : Nat) : Bool := [711, 712].contains k
def fSm (k : Nat) : Bool := [65, 66].contains k
theorem sy_1 {L : Int32} (h0 : 0 ≤ L) (h : L < 2000) : (0 ≤ L + 1 ∧ L + 1 ≤ 2000) ∧ L < 2004 ∧ ¬ 2001 ≤ L ∧ ¬ 2000 < L + 1 ∧ (∀ k, k < L + 1 → k = L ∨ k < L) := ⟨⟨by lia, by lia⟩, by lia, by lia, by lia, fun k h => by lia⟩
/-- a byte more -/
theorem say_2 {N : Nat} {L c : Int32} {σ μ : mS} (S : SBy L σ μ) : (∃ σ' μ', xx11_say N σ c = some (1, σ') ∧ mm_add N μ c = some (1, μ') ∧ SBy (L + 1) σ' μ' ∧ m_fr fSx σ σ' ∧ m_fr fSm μ μ') ∨ (∃ μ', xx11_say N σ c = some (0, σ) ∧ mm_add N μ c = some (0, μ') ∧ m_fr fSm μ μ') := by
  obtain ⟨⟨l0, l1⟩, s1, s2, s3⟩ := S
  by_cases h : L < 2000
  · left
    obtain ⟨a1, a2, a3, a4, a5⟩ := sy_1 l0 h
    refine ⟨md_ai (md_pi σ 712 (L + 1)) 711 L.toNatClampNeg (vp_nar .byte (Int32.toInt8 c).toInt32), md_pi (md_ai μ 65 L.toNatClampNeg (vp_nar .byte (Int32.toInt8 c).toInt32)) 66 (L + 1), ?_, ?_, ⟨a1, ?_, ?_, fun k k0 k1 => ?_⟩, mf_ai (mf_pi mf_rfl rfl) rfl, mf_pi (mf_ai mf_rfl rfl) rfl⟩
    · rw [xx11_say]
      simp only [sF_fold, lt]
      rw [s1, if_pos h, gd_in (by decide) l0 a2]
      rfl
    · rw [mm_add]
      simp only [sF_fold, lt]
      rw [s2, if_neg a3, gd_in (by decide) l0 a2, show sF (md_ai μ 65 L.toNatClampNeg (vp_nar .byte (Int32.toInt8 c).toInt32)) 66 = L from s2, mm_add_31]
      simp only [sF_fold]
      rw [sF_pi, if_pos rfl, if_neg a4]
      rfl
    · rw [sF_ai, sF_pi, if_pos rfl]
    · rw [sF_pi, if_pos rfl]
    · rw [sI_pi, sI_ai l0 k0, sI_ai l0 k0]
      rcases a5 k k1 with q | q
      · rw [if_pos ⟨rfl, q⟩, if_pos ⟨rfl, q⟩]; exact ⟨rfl, B_nar _⟩
      · have ne : ¬ k = L := fun e => by rw [e] at q; exact Int32.lt_irrefl q
        rw [if_neg (fun q => ne q.2), if_neg (fun q => ne q.2), sI_pi]
        exact s3 k k0 q
  · right
    have e : L = 2000 := by clear s3; lia
    subst e
    refine ⟨md_pi (md_ai μ 65 (2000 : Int32).toNatClampNeg (vp_nar .byte (Int32.toInt8 c).toInt32)) 66 (2000 + 1), ?_, ?_, mf_pi (mf_ai mf_rfl rfl) rfl⟩
    · rw [xx11_say]
      simp only [sF_fold]
      rw [s1, if_neg (by decide)]
      rfl
    · rw [mm_add]
      simp only [sF_fold, lt]
      rw [s2, if_neg (by decide), gd_in (by decide) (by decide) (by decide), show sF (md_ai μ 65 (2000 : Int32).toNatClampNeg (vp_nar .byte (Int32.toInt8 c).toInt32)) 66 = 2000 from s2, mm_add_31]
      simp only [sF_fold]
      rw [sF_pi, if_pos rfl, if_pos (by decide)]
      rfl
/-- what comes of bytes that were said: nothing, or the place behind them -/
def ESQ (n a : Int32) (σ μ : mS) (r : Int32) (σ' μ' : mS) : Prop := (r = -1 ∨ ((a < r ∧ r ≤ n) ∧ (∃ L, SBy L σ' μ') ∧ (sF σ' 712).toInt ≤ (sF σ 712).toInt + (r.toInt - a.toInt) + 1)) ∧ m_fr fSx σ σ' ∧ m_fr fSm μ μ'
theorem ESQ_no {n a : Int32} {σ μ σ' μ' : mS} (f1 : m_fr fSx σ σ') (f2 : m_fr fSm μ μ') : ESQ n a σ μ (-1) σ' μ' := ⟨.inl rfl, f1, f2⟩
theorem ESQ_ok {n a r L : Int32} {σ μ σ' μ' : mS} (S : SBy L σ' μ') (f1 : m_fr fSx σ σ') (f2 : m_fr fSm μ μ') (h : a < r ∧ r ≤ n) (g : L.toInt ≤ (sF σ 712).toInt + (r.toInt - a.toInt) + 1) : ESQ n a σ μ r σ' μ' := ⟨.inr ⟨h, ⟨L, S⟩, by rw [S.2.1]; exact g⟩, f1, f2⟩
theorem gi {L : Int32} {σ μ : mS} (S : SBy L σ μ) : (L + 1).toInt = L.toInt + 1 := tI_inc S.1.1 (Int32.lt_of_le_of_lt S.1.2 (by decide))
theorem grw_0 {L a r : Int32} {σ μ : mS} (S : SBy L σ μ) (h : a < r) : L.toInt ≤ (sF σ 712).toInt + (r.toInt - a.toInt) + 1 := by
  have q := tI_lt.mp h
  rw [S.2.1]; omega
theorem grw_k {L a r : Int32} {σ μ : mS} (S : SBy L σ μ) (h : a < r) : (L + 1).toInt ≤ (sF σ 712).toInt + (r.toInt - a.toInt) + 1 := by
  have q := tI_lt.mp h
  rw [S.2.1, gi S]; omega
/-- what a byte behind a backslash stands for -/
def pln (c : Int32) : Int32 := if c = 10 then 10 else if c = 34 then 34 else if c = 39 then 39 else if c = 92 then 92 else if c = 97 then 7 else if c = 98 then 8 else if c = 102 then 12 else if c = 110 then 10 else if c = 114 then 13 else if c = 116 then 9 else if c = 118 then 11 else -1
theorem pln_x {N : Nat} {σ : mS} {c : Int32} : xx11_plain N σ c = some (pln c, σ) := by
  by_cases n10 : c = 10
  · subst n10; rfl
  by_cases n34 : c = 34
  · subst n34; rfl
  by_cases n39 : c = 39
  · subst n39; rfl
  by_cases n92 : c = 92
  · subst n92; rfl
  by_cases n97 : c = 97
  · subst n97; rfl
  by_cases n98 : c = 98
  · subst n98; rfl
  by_cases n102 : c = 102
  · subst n102; rfl
  by_cases n110 : c = 110
  · subst n110; rfl
  by_cases n114 : c = 114
  · subst n114; rfl
  by_cases n116 : c = 116
  · subst n116; rfl
  by_cases n118 : c = 118
  · subst n118; rfl
  rw [xx11_plain, pln, if_neg n10, if_neg n10, if_neg n34, if_neg n34, if_neg n39, if_neg n39, if_neg n92, if_neg n92, if_neg n97, if_neg n97, if_neg n98, if_neg n98, if_neg n102, if_neg n102, if_neg n110, if_neg n110, if_neg n114, if_neg n114, if_neg n116, if_neg n116, if_neg n118, if_neg n118]
theorem esc_m {N : Nat} {n : Int32} {t : Int32 → Int32} {μ : mS} (T : TXo n t) (X : TXm n t μ) {a : Int32} (h0 : 0 ≤ a) : mm_escape N μ a = mm_escape_112 N a (t a) (pln (t a)) μ := by
  rw [mm_escape, sg_t T X h0]
  simp only [bd]
  generalize t a = c
  by_cases n10 : c = 10
  · subst n10
    rw [if_neg (by decide), if_neg (by decide), if_neg (by decide), if_neg (by decide), if_neg (by decide), if_neg (by decide), if_neg (by decide), if_neg (by decide), if_neg (by decide), if_neg (by decide), if_pos rfl, mm_escape_107]
    rfl
  by_cases n34 : c = 34
  · subst n34
    rw [if_neg (by decide), if_neg (by decide), if_neg (by decide), if_neg (by decide), if_neg (by decide), if_neg (by decide), if_neg (by decide), if_neg (by decide), if_pos rfl, mm_escape_107]
    rfl
  by_cases n39 : c = 39
  · subst n39
    rw [if_neg (by decide), if_neg (by decide), if_neg (by decide), if_neg (by decide), if_neg (by decide), if_neg (by decide), if_neg (by decide), if_neg (by decide), if_neg (by decide), if_pos rfl, mm_escape_107]
    rfl
  by_cases n92 : c = 92
  · subst n92
    rw [if_neg (by decide), if_neg (by decide), if_neg (by decide), if_neg (by decide), if_neg (by decide), if_neg (by decide), if_neg (by decide), if_pos rfl, mm_escape_107]
    rfl
  by_cases n97 : c = 97
  · subst n97
    rw [if_pos rfl]
    rfl
  by_cases n98 : c = 98
  · subst n98
    rw [if_neg (by decide), if_pos rfl]
    rfl
  by_cases n102 : c = 102
  · subst n102
    rw [if_neg (by decide), if_neg (by decide), if_pos rfl]
    rfl
  by_cases n110 : c = 110
  · subst n110
    rw [if_neg (by decide), if_neg (by decide), if_neg (by decide), if_pos rfl]
    rfl
  by_cases n114 : c = 114
  · subst n114
    rw [if_neg (by decide), if_neg (by decide), if_neg (by decide), if_neg (by decide), if_pos rfl]
    rfl
  by_cases n116 : c = 116
  · subst n116
    rw [if_neg (by decide), if_neg (by decide), if_neg (by decide), if_neg (by decide), if_neg (by decide), if_pos rfl]
    rfl
  by_cases n118 : c = 118
  · subst n118
    rw [if_neg (by decide), if_neg (by decide), if_neg (by decide), if_neg (by decide), if_neg (by decide), if_neg (by decide), if_pos rfl]
    rfl
  rw [if_neg n97, if_neg n98, if_neg n102, if_neg n110, if_neg n114, if_neg n116, if_neg n118, if_neg n92, if_neg n34, if_neg n39, if_neg n10, pln, if_neg n10, if_neg n34, if_neg n39, if_neg n92, if_neg n97, if_neg n98, if_neg n102, if_neg n110, if_neg n114, if_neg n116, if_neg n118]
theorem wth_n : wth (-1) < 0 := by decide
theorem es_in {n : Int32} {t : Int32 → Int32} (T : TXo n t) {v : Int32} (h1 : v ≤ n) (h : ¬ wth (t v) < 0) : v < n := TX_in T h1 (fun e => h (by rw [e]; decide))
theorem es_dg {n : Int32} {t : Int32 → Int32} (T : TXo n t) {v : Int32} (h1 : v ≤ n) (h : isDg (t v) = true) : v < n := TX_in T h1 (fun e => by rw [e] at h; exact absurd h (by decide))
/-- blanks are passed over -/
theorem ez_2 {N : Nat} {n : Int32} {t : Int32 → Int32} {σ μ : mS} (T : TXo n t) (X : TXx n t σ) (Y : TXm n t μ) : ∀ (j : Nat) (v : Int32), 0 ≤ v → v ≤ n → (n.toInt - v.toInt).toNat < j → ∃ r, xx11_escape_b42 N j v σ = some (r, σ) ∧ mm_escape_144 N j v μ = some (r, μ) ∧ v ≤ r ∧ r ≤ n := by
  intro j
  induction j with
  | zero => intro v _ _ h; omega
  | succ j ih =>
    intro v h0 h1 hj
    rw [xx11_escape_b42, mm_escape_144, at_t T X h0, sg_t T Y h0]
    simp only [bd, bk_t, bkt_m, lt]
    by_cases c : isBk (t v) = true
    · have s := sk_1 h0 T.1.2 (skp_b T h1 c)
      rw [if_neg (fun q => b01_0.mp q c), if_neg (fun q => b01_0.mp q c)]
      obtain ⟨r, e1, e2, e3, e4⟩ := ih (v + 1) s.1 s.2.1 (by omega)
      exact ⟨r, e1, e2, Int32.le_trans (Int32.le_of_lt s.2.2.1) e3, e4⟩
    · rw [if_pos (b01_0.mpr c), if_pos (b01_0.mpr c)]
      exact ⟨v, rfl, rfl, Int32.le_refl _, h1⟩
/-- the end of digits -/
theorem e201 {N : Nat} {n a v x : Int32} {σ μ : mS} {L : Int32} (S : SBy L σ μ) (hv : a < v ∧ v ≤ n) : ∃ r σ' μ', xx11_escape_b201 N a v x σ = some (r, σ') ∧ mm_escape_288 N x v μ = some (r, μ') ∧ ESQ n a σ μ r σ' μ' := by
  rw [xx11_escape_b201, if_neg (Int32.not_le.mpr hv.1), mm_escape_288]
  by_cases c : 255 < x
  · rw [if_pos c, if_pos c]
    exact ⟨-1, σ, μ, rfl, rfl, ESQ_no mf_rfl mf_rfl⟩
  · rw [if_neg c, if_neg c]
    rcases say_2 (N := N) (c := x) S with ⟨σ', μ', e1, e2, S', f1, f2⟩ | ⟨μ', e1, e2, f2⟩
    · rw [e1, e2]
      exact ⟨v, σ', μ', rfl, rfl, ESQ_ok S' f1 f2 hv (grw_k S hv.1)⟩
    · rw [e1, e2]
      exact ⟨-1, σ, μ', rfl, rfl, ESQ_no mf_rfl f2⟩
theorem ed_1 {a v n : Int32} (a0 : 0 ≤ a) (n1 : n ≤ 8000) (h : ¬ a + 3 ≤ v) (av : a ≤ v) (vn : v < n) : 0 ≤ v ∧ 0 ≤ v + 1 ∧ v + 1 ≤ n ∧ a ≤ v + 1 ∧ a < v + 1 ∧ (n.toInt - (v + 1).toInt).toNat + 1 = (n.toInt - v.toInt).toNat := by
  have v0 : 0 ≤ v := by lia
  have i : (v + 1).toInt = v.toInt + 1 := tI_inc v0 (by lia)
  have q := tI_lt.mp vn
  exact ⟨v0, by lia, by lia, by lia, by lia, by omega⟩
/-- digits -/
theorem ed_2 {N : Nat} {n a : Int32} {t : Int32 → Int32} {σ μ : mS} {L : Int32} (T : TXo n t) (X : TXx n t σ) (Y : TXm n t μ) (S : SBy L σ μ) (a0 : 0 ≤ a) : ∀ (j : Nat) (v x : Int32), a < v → v ≤ n → (n.toInt - v.toInt).toNat < j → ∃ r σ' μ', xx11_escape_b161 N j a v x σ = some (r, σ') ∧ mm_escape_245 N j a x v μ = some (r, μ') ∧ ESQ n a σ μ r σ' μ' := by
  intro j
  induction j with
  | zero => intro v x _ _ h; omega
  | succ j ih =>
    intro v x h0 h1 hj
    rw [xx11_escape_b161, mm_escape_245]
    by_cases c : a + 3 ≤ v
    · rw [if_pos c, if_pos c]
      exact e201 S ⟨h0, h1⟩
    · have v0 : 0 ≤ v := Int32.le_trans a0 (Int32.le_of_lt h0)
      rw [if_neg c, if_neg c, at_t T X v0, sg_t T Y v0]
      simp only [bd, dg_t, dgt_m, lt]
      by_cases d : isDg (t v) = true
      · have e := ed_1 a0 T.1.2 c (Int32.le_of_lt h0) (es_dg T h1 d)
        rw [if_neg (fun q => b01_0.mp q d), if_neg (fun q => b01_0.mp q d), at_t T X v0, sg_t T Y v0]
        exact ih (v + 1) _ e.2.2.2.2.1 e.2.2.1 (by omega)
      · rw [if_pos (b01_0.mpr d), if_pos (b01_0.mpr d)]
        exact e201 S ⟨h0, h1⟩
