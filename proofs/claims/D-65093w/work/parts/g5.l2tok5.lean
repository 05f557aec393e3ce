/-! LAYER 2: tokens: points, escapes -/
/-- both give the same place, or both none; the bytes alike -/
def EE (n a : Int32) (σ μ : mS) (X Y : Option (Int32 × mS)) : Prop := ∃ r σ' μ', X = some (r, σ') ∧ Y = some (r, μ') ∧ ESQ n a σ μ r σ' μ'
theorem EE_no {n a : Int32} {σ μ σ' μ' : mS} (f1 : m_fr fSx σ σ') (f2 : m_fr fSm μ μ') : EE n a σ μ (some (-1, σ')) (some (-1, μ')) := ⟨-1, σ', μ', rfl, rfl, ESQ_no f1 f2⟩
theorem EE_ok {n a r L : Int32} {σ μ σ' μ' : mS} (S : SBy L σ' μ') (f1 : m_fr fSx σ σ') (f2 : m_fr fSm μ μ') (h : a < r ∧ r ≤ n) (g : L.toInt ≤ (sF σ 712).toInt + (r.toInt - a.toInt) + 1) : EE n a σ μ (some (r, σ')) (some (r, μ')) := ⟨r, σ', μ', rfl, rfl, ESQ_ok S f1 f2 h g⟩
/-- a byte, then more -/
theorem EE_s {N : Nat} {n a L c : Int32} {σ0 μ0 σ μ : mS} {F G F' G' : Int32 × mS → Option (Int32 × mS)} (S : SBy L σ μ) (f1 : m_fr fSx σ0 σ) (f2 : m_fr fSm μ0 μ) (hF : ∀ z, F z = some (-1, z.2)) (hF' : ∀ z, F' z = some (-1, z.2)) (hG : ∀ s m, SBy (L + 1) s m → m_fr fSx σ0 s → m_fr fSm μ0 m → EE n a σ0 μ0 (G (1, s)) (G' (1, m))) : EE n a σ0 μ0 (bd (xx11_say N σ c) (fun z => if z.1 = 0 then F z else G z)) (bd (mm_add N μ c) (fun z => if z.1 = 0 then F' z else G' z)) := by
  rcases say_2 (N := N) (c := c) S with ⟨σ', μ', e1, e2, S', g1, g2⟩ | ⟨μ', e1, e2, g2⟩
  · rw [e1, e2]
    show EE n a σ0 μ0 (if (1 : Int32) = 0 then F (1, σ') else G (1, σ')) (if (1 : Int32) = 0 then F' (1, μ') else G' (1, μ'))
    rw [if_neg (by decide), if_neg (by decide)]
    exact hG _ _ S' (mf_tr f1 g1) (mf_tr f2 g2)
  · rw [e1, e2]
    show EE n a σ0 μ0 (if (0 : Int32) = 0 then F (0, σ) else G (0, σ)) (if (0 : Int32) = 0 then F' (0, μ') else G' (0, μ'))
    rw [if_pos rfl, if_pos rfl, hF, hF']
    exact EE_no f1 (mf_tr f2 g2)
theorem pt_1 {x v n : Int32} (x0 : 0 ≤ x) (h : x < v) (n1 : n ≤ 8000) (vn : v < n) : 0 ≤ v ∧ 0 ≤ v + 1 ∧ x < v + 1 ∧ v + 1 ≤ n ∧ (n.toInt - (v + 1).toInt).toNat + 1 = (n.toInt - v.toInt).toNat := by
  have v0 : 0 ≤ v := by lia
  have i : (v + 1).toInt = v.toInt + 1 := tI_inc v0 (by lia)
  have q := tI_lt.mp vn
  exact ⟨v0, by lia, by lia, by lia, by omega⟩
theorem pt_3 {x v n : Int32} (x0 : 0 ≤ x) (h : x < v) (n1 : n ≤ 8000) (c : ¬ v = x + 1) (vn : v ≤ n) : x.toInt + 3 ≤ (v + 1).toInt := by
  have v0 : 0 ≤ v := Int32.le_trans x0 (Int32.le_of_lt h)
  have i : (v + 1).toInt = v.toInt + 1 := tI_inc v0 (by lia)
  have j : (x + 1).toInt = x.toInt + 1 := tI_inc x0 (by lia)
  have q := tI_lt.mp (show x + 1 < v by lia)
  omega
/-- the end of a point's digits -/
theorem pt_57 {N : Nat} {n x v y L : Int32} {t : Int32 → Int32} {σ μ : mS} (T : TXo n t) (X : TXx n t σ) (Y : TXm n t μ) (S : SBy L σ μ) (x0 : 0 ≤ x) (h : x < v) (vn : v ≤ n) : EE n x σ μ (xx11_sign8_b57 N x v y σ) (mm_point_43 N (x + 1) y v μ) := by
  rw [xx11_sign8_b57, mm_point_43]
  by_cases c1 : v = x + 1
  · rw [if_pos c1, if_pos c1]
    exact EE_no mf_rfl mf_rfl
  have v0 : 0 ≤ v := Int32.le_trans x0 (Int32.le_of_lt h)
  rw [if_neg c1, if_neg c1, at_t T X v0, sg_t T Y v0]
  simp only [bd]
  by_cases c2 : t v = 125
  · have e := (pt_1 x0 h T.1.2 (TX_in T vn (fun q => by rw [c2] at q; exact absurd q (by decide)))).2.2
    have r : x < v + 1 ∧ v + 1 ≤ n := ⟨e.1, e.2.1⟩
    have k : x.toInt + 3 ≤ (v + 1).toInt := pt_3 x0 h T.1.2 c1 vn
    clear e h
    rw [if_pos c2, if_pos c2]
    by_cases c3 : y ≤ 1114111
    · rw [if_pos c3, if_pos c3]
      by_cases c4 : 128 ≤ y
      · rw [if_pos c4, if_pos c4]
        by_cases c5 : 2048 ≤ y
        · rw [if_pos c5, if_pos c5]
          by_cases c6 : 65536 ≤ y
          · rw [if_pos c6, if_pos c6]
            refine EE_s S mf_rfl mf_rfl (fun _ => rfl) (fun _ => rfl) (fun s1 m1 S1 f1 g1 => ?_)
            refine EE_s S1 f1 g1 (fun _ => rfl) (fun _ => rfl) (fun s2 m2 S2 f2 g2 => ?_)
            refine EE_s S2 f2 g2 (fun _ => rfl) (fun _ => rfl) (fun s3 m3 S3 f3 g3 => ?_)
            refine EE_s S3 f3 g3 (fun _ => rfl) (fun _ => rfl) (fun s4 m4 S4 f4 g4 => ?_)
            exact EE_ok S4 f4 g4 r (by rw [gi S3, gi S2, gi S1, gi S, S.2.1]; omega)
          · rw [if_neg c6, if_neg c6]
            refine EE_s S mf_rfl mf_rfl (fun _ => rfl) (fun _ => rfl) (fun s1 m1 S1 f1 g1 => ?_)
            refine EE_s S1 f1 g1 (fun _ => rfl) (fun _ => rfl) (fun s2 m2 S2 f2 g2 => ?_)
            refine EE_s S2 f2 g2 (fun _ => rfl) (fun _ => rfl) (fun s3 m3 S3 f3 g3 => ?_)
            exact EE_ok S3 f3 g3 r (by rw [gi S2, gi S1, gi S, S.2.1]; omega)
        · rw [if_neg c5, if_neg c5]
          refine EE_s S mf_rfl mf_rfl (fun _ => rfl) (fun _ => rfl) (fun s1 m1 S1 f1 g1 => ?_)
          refine EE_s S1 f1 g1 (fun _ => rfl) (fun _ => rfl) (fun s2 m2 S2 f2 g2 => ?_)
          exact EE_ok S2 f2 g2 r (by rw [gi S1, gi S, S.2.1]; omega)
      · rw [if_neg c4, if_neg c4]
        refine EE_s (F := fun z => xx11_sign8_b295 N (-1) z.2) (G := fun z => xx11_sign8_b295 N (v + 1) z.2) (F' := fun z => mm_point_281 N (-1) z.2) (G' := fun z => mm_point_281 N (v + 1) z.2) S mf_rfl mf_rfl (fun _ => rfl) (fun _ => rfl) (fun s1 m1 S1 f1 g1 => ?_)
        exact EE_ok S1 f1 g1 r (by rw [gi S, S.2.1]; omega)
    · rw [if_neg c3, if_neg c3]
      exact EE_no mf_rfl mf_rfl
  · rw [if_neg c2, if_neg c2]
    exact EE_no mf_rfl mf_rfl
theorem pt_18 {N : Nat} {n x L : Int32} {t : Int32 → Int32} {σ μ : mS} (T : TXo n t) (X : TXx n t σ) (Y : TXm n t μ) (S : SBy L σ μ) (x0 : 0 ≤ x) : ∀ (j : Nat) (v y : Int32), x < v → v ≤ n → (n.toInt - v.toInt).toNat < j → EE n x σ μ (xx11_sign8_b18 N j x v y σ) (mm_point_4 N j (x + 1) y v μ) := by
  intro j
  induction j with
  | zero => intro v y _ _ h; omega
  | succ j ih =>
    intro v y h vn hj
    rw [xx11_sign8_b18, mm_point_4, show x + 1 + 6 = x + 7 from by rw [Int32.add_assoc]; rfl]
    by_cases c : x + 7 ≤ v
    · rw [if_pos c, if_pos c]
      exact pt_57 T X Y S x0 h vn
    · have v0 : 0 ≤ v := Int32.le_trans x0 (Int32.le_of_lt h)
      rw [if_neg c, if_neg c, at_t T X v0, sg_t T Y v0]
      simp only [bd, wo_t, wot_m, lt]
      by_cases d : wth (t v) < 0
      · rw [if_pos d, if_pos d]
        exact pt_57 T X Y S x0 h vn
      · have e := pt_1 x0 h T.1.2 (es_in T vn d)
        rw [if_neg d, if_neg d, at_t T X v0, sg_t T Y v0]
        simp only [wo_t, wot_m]
        exact ih (v + 1) _ e.2.2.1 e.2.2.2.1 (by clear ih; omega)
theorem pln_n : pln (-1) < 0 := by decide
theorem ex_1 {n a : Int32} (a0 : 0 ≤ a) (h : a < n) (n1 : n ≤ 8000) : 0 ≤ a + 1 ∧ a < a + 1 ∧ a + 1 ≤ n := by refine ⟨?_, ?_, ?_⟩ <;> lia
theorem ex_2 {n a : Int32} (a0 : 0 ≤ a) (h : a + 1 < n) (n1 : n ≤ 8000) (h1 : a < n) : 0 ≤ a + 2 ∧ a < a + 2 ∧ a + 2 ≤ n ∧ a + 1 < a + 2 := by refine ⟨?_, ?_, ?_, ?_⟩ <;> lia
theorem ex_3 {n a : Int32} (a0 : 0 ≤ a) (h : a + 2 < n) (n1 : n ≤ 8000) (h1 : a < n) : a < a + 3 ∧ a + 3 ≤ n := by refine ⟨?_, ?_⟩ <;> lia
theorem ESQ_lo {n a b r : Int32} {σ μ σ' μ' : mS} (h : ESQ n b σ μ r σ' μ') (ab : a ≤ b) : ESQ n a σ μ r σ' μ' := ⟨h.1.elim .inl (fun q => .inr ⟨⟨Int32.lt_of_le_of_lt ab q.1.1, q.1.2⟩, q.2.1, by have k := tI_le.mp ab; have k2 := q.2.2; omega⟩), h.2⟩
theorem EE_lo {n a b : Int32} {σ μ : mS} {X Y : Option (Int32 × mS)} (h : EE n b σ μ X Y) (ab : a ≤ b) : EE n a σ μ X Y := by
  obtain ⟨r, σ', μ', e1, e2, e3⟩ := h
  exact ⟨r, σ', μ', e1, e2, ESQ_lo e3 ab⟩
theorem wth_nn {x : Int32} : (0 ≤ x) ↔ ¬ x < 0 := ⟨Int32.not_lt.mpr, Int32.not_lt.mp⟩
theorem m202 {N : Nat} {a x : Int32} {μ : mS} : mm_escape_202 N a x (-1) μ = some (-1, μ) := rfl
/-- what stands behind a backslash -/
theorem escape_2 {N : Nat} (hN : BIG ≤ N) {n a L : Int32} {t : Int32 → Int32} {σ μ : mS} (T : TXo n t) (X : TXx n t σ) (Y : TXm n t μ) (S : SBy L σ μ) (a0 : 0 ≤ a) (an : a ≤ n) : EE n a σ μ (xx11_escape N σ a) (mm_escape N μ a) := by
  rw [esc_m T Y a0, xx11_escape, at_t T X a0]
  simp only [bd, pln_x]
  rw [mm_escape_112]
  by_cases c : pln (t a) < 0
  · rw [if_pos c, if_pos c]
    by_cases c1 : t a = 122
    · rw [if_pos c1, if_pos c1]
      have l := TX_in T an (fun q => by rw [c1] at q; exact absurd q (by decide))
      have e := ex_1 a0 l T.1.2
      simp only [lt]
      obtain ⟨r, e1, e2, e3, e4⟩ := ez_2 (N := N) T X Y N (a + 1) e.1 e.2.2 (big_d hN)
      rw [e1, e2]
      exact EE_ok S mf_rfl mf_rfl ⟨Int32.lt_of_lt_of_le e.2.1 e3, e4⟩ (grw_0 S (Int32.lt_of_lt_of_le e.2.1 e3))
    rw [if_neg c1, if_neg c1]
    by_cases c2 : t a = 120
    · rw [if_pos c2, if_pos c2]
      have l := TX_in T an (fun q => by rw [c2] at q; exact absurd q (by decide))
      have e := ex_1 a0 l T.1.2
      rw [at_t T X e.1, sg_t T Y e.1]
      simp only [bd, wo_t, wot_m]
      by_cases d1 : wth (t (a + 1)) < 0
      · rw [if_pos d1, if_neg (fun q => wth_nn.mp q d1), m202]
        exact EE_no mf_rfl mf_rfl
      have e' := ex_2 a0 (es_in T e.2.2 d1) T.1.2 l
      rw [if_neg d1, if_pos (wth_nn.mpr d1), at_t T X e'.1, sg_t T Y e'.1]
      simp only [bd, wo_t, wot_m]
      rw [mm_escape_202]
      by_cases d2 : wth (t (a + 2)) < 0
      · rw [if_pos d2, if_pos d2]
        exact EE_no mf_rfl mf_rfl
      rw [if_neg d2, if_neg d2, at_t T X e.1]
      simp only [bd, wo_t]
      rw [at_t T X e'.1]
      simp only [wo_t]
      refine EE_s S mf_rfl mf_rfl (fun _ => rfl) (fun _ => rfl) (fun s1 m1 S1 f1 g1 => ?_)
      exact EE_ok S1 f1 g1 (ex_3 a0 (es_in T e'.2.2.1 d2) T.1.2 l) (grw_k S (ex_3 a0 (es_in T e'.2.2.1 d2) T.1.2 l).1)
    rw [if_neg c2, if_neg c2]
    simp only [bd, dgt_m]
    by_cases c3 : t a = 117
    · have l := TX_in T an (fun q => by rw [c3] at q; exact absurd q (by decide))
      have e := ex_1 a0 l T.1.2
      rw [if_pos c3, c3, if_pos (by decide), if_pos rfl, xx11_sign8, at_t T X e.1, sg_t T Y e.1]
      simp only [bd, lt]
      by_cases d : t (a + 1) = 123
      · have e' := ex_2 a0 (TX_in T e.2.2 (fun q => by rw [d] at q; exact absurd q (by decide))) T.1.2 l
        have k := pt_18 (N := N) T X Y S e.1 N (a + 2) 0 e'.2.2.2 e'.2.2.1 (big_d hN)
        obtain ⟨r, σ', μ', e1, e2, e3⟩ := k
        rw [if_pos d, if_pos d, mm_point, show a + 1 + 1 = a + 2 from by rw [Int32.add_assoc]; rfl, e1]
        rw [show a + 1 + 1 = a + 2 from by rw [Int32.add_assoc]; rfl] at e2
        rw [e2]
        exact ⟨r, σ', μ', rfl, rfl, ESQ_lo e3 (Int32.le_of_lt e.2.1)⟩
      · rw [if_neg d, if_neg d]
        exact EE_no mf_rfl mf_rfl
    rw [if_neg c3]
    obtain ⟨M, hM⟩ : ∃ M, N = M + 1 := ⟨N - 1, by have : 1 ≤ N := Nat.le_trans (by decide) hN; omega⟩
    have c30 : ¬ a + 3 ≤ a := by
      have n1 := T.1.2
      clear S X Y T c c1 c2 c3 hM hN
      lia
    by_cases c4 : isDg (t a) = true
    · have l := es_dg T an c4
      have e := ex_1 a0 l T.1.2
      rw [if_neg (fun q => b01_0.mp q c4)]
      have b1 : ∀ K, xx11_escape_b161 K N a a 0 σ = xx11_escape_b161 K M a (a + 1) (10 * 0 + t a - 48) σ := fun K => by
        rw [hM, xx11_escape_b161, if_neg c30, at_t T X a0]
        simp only [bd, dg_t, lt]
        rw [if_neg (fun q => b01_0.mp q c4), at_t T X a0]
      have b2 : ∀ K, mm_escape_245 K N a 0 a μ = mm_escape_245 K M a (10 * 0 + t a - 48) (a + 1) μ := fun K => by
        rw [hM, mm_escape_245, if_neg c30, sg_t T Y a0]
        simp only [bd, dgt_m, lt]
        rw [if_neg (fun q => b01_0.mp q c4), sg_t T Y a0]
      rw [b1, b2]
      have i1 := sc_2 (m := n) e.1 T.1.2
      have i2 : 9000 ≤ N := Nat.le_trans (by decide) hN
      exact ed_2 T X Y S a0 M (a + 1) _ e.2.1 e.2.2 (by clear b1 b2; omega)
    · rw [if_pos (b01_0.mpr c4), if_neg c3]
      have b1 : ∀ K, xx11_escape_b161 K N a a 0 σ = some (-1, σ) := fun K => by
        rw [hM, xx11_escape_b161, if_neg c30, at_t T X a0]
        simp only [bd, dg_t, lt]
        rw [if_pos (b01_0.mpr c4), xx11_escape_b201, if_pos (Int32.le_refl _)]
        rfl
      rw [b1]
      exact EE_no mf_rfl mf_rfl
  · rw [if_neg c, if_neg c]
    have l := TX_in T an (fun q => by rw [q] at c; exact c (by decide))
    have e := ex_1 a0 l T.1.2
    refine EE_s S mf_rfl mf_rfl (fun _ => rfl) (fun _ => rfl) (fun s1 m1 S1 f1 g1 => ?_)
    exact EE_ok S1 f1 g1 e.2 (grw_k S e.2.1)
