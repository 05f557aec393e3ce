/-! LAYER 2: functions of the house: print: the reference's side -/
theorem sizeOf_m {N : Nat} (hN : BIG ≤ N) {w : WD} {σ μ : mS} {tx tm : Int32} {vx vm : Int64} (T : TS w σ μ) (v : VV w tx vx tm vm) {l : List Int32} (hl : TXT σ tx vx l) : ∃ τ, mm_sizeOfText N μ tm vm = some (Int32.ofNat l.length, τ) ∧ m_fr bK μ τ := by
  have t := VV_t v
  by_cases c : tx = 4
  · have c' : tm = 3 := t.2.2.1.mp c
    subst c c'
    rcases v with v | v | v | v | ⟨_, _, a, b, v1, v2, v3⟩ | v | v | v | v
    case inr.inr.inr.inr.inl =>
      have gg := RS_gs T.1 v3
      have sz := (T.1.2.2.2.2.2.1 a b v3).1
      have le : l = xL σ a := by
        rcases hl with h | h | h | h | h | h
        case inr.inr.inr.inr.inl => rw [h.2, v1, h_ll]
        all_goals exact absurd h.1 (by decide)
      have s0 : 0 ≤ x_sz σ a := gg.1.1.2.2.2.1
      have ln : (xL σ a).length = (x_sz σ a).toNatClampNeg := bL_len
      have s1 : x_sz σ a = Int32.ofNat (xL σ a).length := by rw [ln, oN_cl' s0]
      refine ⟨μ, ?_, mf_rfl⟩
      rw [mm_sizeOfText, if_pos rfl, v2, h_ll, gd_in (by decide) gg.2.1.1 gg.2.1.2.1, sI_fold, le, ← s1]
      exact congrArg (fun z => some (z, μ)) sz.symm
    all_goals (obtain ⟨q, _⟩ := v; exact absurd q (by decide))
  · have T1 : TS w σ (md_pi μ 17 0) := TS_fr (Q := fun k => k == 17) (P := fun _ => false) T mf_rfl (mf_pi mf_rfl rfl) (fun _ _ => rfl) (fun k hk => by simp only [beq_eq_false_iff_ne]; omega)
    obtain ⟨τ, a1, a2, a3⟩ := putValue_m hN T1 v hl bufL_0 (by decide)
    refine ⟨τ, ?_, mf_tr (mf_pi mf_rfl rfl) a3⟩
    have e := a2.1
    rw [List.nil_append] at e
    rw [mm_sizeOfText, if_neg (fun q => c (t.2.2.1.mpr q)), lt, a1, bd_so, sF_fold, e]
/-- the texts of the arguments from i on -/
def AT (σ : mS) : Nat → List (List Int32) → Prop
  | _, [] => True
  | i, l :: ls => (TXT σ (aT σ (Int32.ofNat i)) (aV σ (Int32.ofNat i)) l ∧ l.length ≤ 4000) ∧ AT σ (i + 1) ls
theorem AT_ex {σ : mS} : ∀ (m i : Nat), (∀ j, i ≤ j → j < i + m → ∃ l, TXT σ (aT σ (Int32.ofNat j)) (aV σ (Int32.ofNat j)) l ∧ l.length ≤ 4000) → ∃ ls, ls.length = m ∧ AT σ i ls
  | 0, _, _ => ⟨[], rfl, trivial⟩
  | m + 1, i, h => by
    obtain ⟨l, hl⟩ := h i (by omega) (by omega)
    obtain ⟨ls, h1, h2⟩ := AT_ex m (i + 1) (fun j a b => h j (by omega) (by omega))
    exact ⟨l :: ls, by rw [List.length_cons, h1], hl, h2⟩
/-- what is told behind the first argument -/
def prR : List (List Int32) → List Int32
  | [] => [10]
  | l :: ls => 9 :: (l ++ prR ls)
def prS : List (List Int32) → Nat
  | [] => 0
  | l :: ls => l.length + prS ls
theorem prR_len : ∀ ls, (prR ls).length = ls.length + prS ls + 1
  | [] => rfl
  | l :: ls => by
    have := prR_len ls
    simp only [prR, prS, List.length_cons, List.length_append]; omega
def prX (k : Nat) : Bool := uX k || k == 523 || k == 524
def prM (k : Nat) : Bool := [16, 17, 219, 220].contains k
theorem prX_f {k : Nat} (h : k ≠ 407 ∧ (k < 520 ∨ 524 < k) ∧ (k < 538 ∨ 540 < k)) : prX k = false := by
  simp only [prX, Bool.or_eq_false_iff, beq_eq_false_iff_ne]
  exact ⟨⟨uX_f (by omega), by omega⟩, by omega⟩
theorem prM_f {k : Nat} (h : k ≠ 16 ∧ k ≠ 17 ∧ k ≠ 219 ∧ k ≠ 220) : prM k = false := by
  simp only [prM, List.contains_cons, List.contains_nil, Bool.or_eq_false_iff, beq_eq_false_iff_ne]
  repeat' apply And.intro
  all_goals first | trivial | omega
theorem bK_prM {μ τ : mS} (h : m_fr bK μ τ) : m_fr prM μ τ := mf_mono h (fun k hk => by
  refine bK_f ?_
  constructor <;> (rintro rfl; exact absurd hk (by decide)))
theorem tag_Lp {N : Nat} {L : LQ} {w : WD} {g i : Int32} {σ0 μ0 σ : mS} (H : LC L w g σ0 μ0) (fr : m_fr prX σ0 σ) (i0 : 1 ≤ i) : xx8_tag N σ i = some (aT σ0 i, σ) ∧ xx8_value N σ i = some (aV σ0 i, σ) := by
  rw [← aT_fr fr rfl rfl, ← aV_fr fr rfl rfl]
  have e : sF σ 399 = ln L := (mf_F fr rfl).trans H.2.1.1.1
  simp only [xx8_tag, xx8_tag_b26, xx8_value, xx8_value_b26, aT, aV, sF_fold]
  rw [e]
  by_cases c : ln L < i
  · rw [if_pos c, if_pos c, if_pos c, if_pos c]; exact ⟨rfl, rfl⟩
  · obtain ⟨c1, c2, c3⟩ := lc_1 c H.2.1.2 i0
    rw [if_neg c, if_neg c, if_neg c, if_neg c, gd_in (by decide) c1 c2, gd_in (by decide) c1 c2]
    exact ⟨rfl, rfl⟩
theorem tag_Mp {N : Nat} {L : LQ} {w : WD} {g i : Int32} {σ0 μ0 μ : mS} (H : LC L w g σ0 μ0) (fr : m_fr prM μ0 μ) (i0 : 1 ≤ i) (i1 : i ≤ 150) : mm_typeOf N μ i = some (bT μ0 i, μ) ∧ mm_valueOf N μ i = some (bV μ0 i, μ) := by
  rw [← bT_fr fr rfl rfl rfl, ← bV_fr fr rfl rfl]
  have cb := CL_b H.1.1
  obtain ⟨c1, c2⟩ := lc_2 cb.1 cb.2.1 i0 i1
  have h8 : sF μ 221 = (lT L).2.2.2.1 := (mf_F fr rfl).trans H.2.2.1.2.2.1
  have h9 : sF μ 222 = ln L := (mf_F fr rfl).trans H.2.2.1.2.2.2.1
  simp only [mm_typeOf, mm_typeOf_23, mm_valueOf, bT, bV, sF_fold]
  rw [h8, h9, gd_in (by decide) c1 c2, gd_in (by decide) c1 c2]
  by_cases c : ln L < i
  · rw [if_pos c, if_pos c]; exact ⟨rfl, rfl⟩
  · rw [if_neg c, if_neg c]; exact ⟨rfl, rfl⟩
theorem TS_pr {L : LQ} {w : WD} {g : Int32} {σ0 μ0 σ μ : mS} (H : LC L w g σ0 μ0) (fr : m_fr prX σ0 σ) (frm : m_fr prM μ0 μ) : TS w σ μ := TS_fr (LC_TS H.1) fr frm (fun k hk => prX_f (by omega)) (fun k hk => prM_f (by omega))
/-- a byte is told -/
def ouM (b : Int32) (μ : mS) : mS := md_pi (md_ai μ 219 (sF μ 220).toNatClampNeg (vp_nar .byte b)) 220 (sF μ 220 + 1)
def oPM (k : Nat) : Bool := k == 219 || k == 220
theorem oPM_prM {μ τ : mS} (h : m_fr oPM μ τ) : m_fr prM μ τ := mf_mono h (fun k hk => by
  simp only [oPM, Bool.or_eq_false_iff, beq_eq_false_iff_ne]
  constructor <;> (rintro rfl; exact absurd hk (by decide)))
/-- told: these bytes from p0 on, and nothing else changed -/
def TO (p0 : Nat) (acc : List Int32) (μ0 μ : mS) : Prop := m_fr prM μ0 μ ∧ hasL (μ.2.2.1 219) p0 acc ∧ sF μ 220 = Int32.ofNat (p0 + acc.length) ∧ ∀ k, k < p0 → μ.2.2.1 219 k = μ0.2.2.1 219 k
theorem TO_fr {p0 : Nat} {acc : List Int32} {μ0 μ τ : mS} (h : TO p0 acc μ0 μ) (fr : m_fr bK μ τ) : TO p0 acc μ0 τ := by
  obtain ⟨h1, h2, h3, h4⟩ := h
  have e : τ.2.2.1 219 = μ.2.2.1 219 := fr.2.2.1 219 rfl
  exact ⟨mf_tr h1 (bK_prM fr), by rw [e]; exact h2, by rw [mf_F fr rfl]; exact h3, fun k hk => by rw [e]; exact h4 k hk⟩
theorem ou_m {p0 : Nat} {acc : List Int32} {b : Int32} {μ0 μ : mS} (h : TO p0 acc μ0 μ) (hp : p0 + acc.length < 16000) : inB (sF μ 220) 16000 = true ∧ TO p0 (acc ++ [b &&& 255]) μ0 (ouM b μ) ∧ m_fr oPM μ (ouM b μ) := by
  obtain ⟨h1, h2, h3, h4⟩ := h
  have e : (sF μ 220).toNatClampNeg = p0 + acc.length := by rw [h3, oN_cl (by omega)]
  have fr : m_fr oPM μ (ouM b μ) := mf_pi (mf_ai mf_rfl rfl) rfl
  have at1 : ∀ k, (ouM b μ).2.2.1 219 k = if k = p0 + acc.length then vp_nar .byte b else μ.2.2.1 219 k := fun k => by
    show (md_ai μ 219 (sF μ 220).toNatClampNeg (vp_nar .byte b)).2.2.1 219 k = _
    rw [ai_I, if_pos rfl, upd_at, e]
  refine ⟨by rw [h3]; exact tI_in (by rw [tI_lit (by omega)]; omega) (by rw [tI_lit (by omega)]; omega), ⟨mf_tr h1 (oPM_prM fr), hasL_app.mpr ⟨hasL_congr h2 (fun k k0 k1 => by rw [at1, if_neg (by omega)]), hasL_one (by rw [at1, if_pos rfl, b_mask])⟩, ?_, fun k hk => by rw [at1, if_neg (by omega)]; exact h4 k hk⟩, fr⟩
  have : sF (ouM b μ) 220 = sF μ 220 + 1 := by simp only [ouM, sF_pi, sF_pl, sF_ai, sF_al, sG_pi, sG_pl, sG_ai, sG_al, sI_pi, sI_pl, sI_al, sI_ai1, sI_ai2, sJ_pi, sJ_pl, sJ_ai, sJ_al1, sJ_al2, Nat.reduceEqDiff, if_true, if_false, ne_eq, not_false_eq_true, ite_true, ite_false]
  rw [this, h3, oN_s, List.length_append, List.length_singleton]; rfl
/-- what is put together is told -/
theorem pc_m {N : Nat} {r : Int32 → mS → Option mS} {p0 : Nat} {μ0 : mS} {v2 : Int32} {l : List Int32} (hl : l.length ≤ 4400) : ∀ (n j : Nat) (μ : mS) (acc : List Int32), bufL μ l → j ≤ l.length → l.length - j < n → TO p0 acc μ0 μ → p0 + acc.length + (l.length - j) ≤ 16000 → ∃ τ, mm_print_119 N r n v2 (Int32.ofNat j) μ = r (v2 + 1) τ ∧ TO p0 (acc ++ l.drop j) μ0 τ
  | 0, _, _, _, _, _, h, _, _ => by omega
  | n + 1, j, μ, acc, hf, hj, hn, ht, hp => by
    rw [mm_print_119]
    simp only [sF_fold]
    by_cases c : j = l.length
    · subst c
      refine ⟨μ, ?_, ?_⟩
      · rw [if_pos (by rw [hf.1]; exact Int32.le_refl _), lt]
      · rw [List.drop_length, List.append_nil]; exact ht
    · obtain ⟨b1, b2, b3⟩ := ou_m (b := μ.2.2.1 16 j) ht (by omega)
      have hb1 : μ.2.2.1 16 j &&& 255 = l.getD j 0 := by
        have := hf.2 j (by rw [List.length_take]; omega)
        rw [Nat.zero_add, List.take_of_length_le (by omega)] at this
        exact this
      rw [hb1] at b2
      have nf : ¬ sF μ 17 ≤ Int32.ofNat j := by rw [hf.1, oN_le (by omega) (by omega)]; omega
      have f2 : bufL (ouM (μ.2.2.1 16 j) μ) l := ⟨by rw [mf_F b3 rfl]; exact hf.1, by rw [b3.2.2.1 16 rfl]; exact hf.2⟩
      obtain ⟨τ, d1, d2⟩ := pc_m (N := N) (r := r) (v2 := v2) hl n (j + 1) (ouM (μ.2.2.1 16 j) μ) (acc ++ [l.getD j 0]) f2 (by omega) (by omega) b2 (by rw [List.length_append, List.length_singleton]; omega)
      refine ⟨τ, ?_, ?_⟩
      · rw [if_neg nf, gd_oN (by omega) (by omega), b1, oN_cl (by omega)]
        have e : Int32.ofNat j + 1 = Int32.ofNat (j + 1) := oN_s
        rw [← d1]
        simp only [lt, sF_pi, gd]
        rw [← e]
        simp only [ouM]
        first | rfl | skip
      · rw [dr_1 (by omega)]
        rw [List.append_assoc] at d2
        exact d2
/-- an argument is told -/
theorem p98_m {N : Nat} (hN : BIG ≤ N) {L : LQ} {w : WD} {g : Int32} {σ0 μ0 μ : mS} (H : LC L w g σ0 μ0) {r : Int32 → mS → Option mS} {p0 i : Nat} {acc l : List Int32} (i0 : 1 ≤ i) (i1 : i ≤ 100) (hi : ¬ ln L < Int32.ofNat i) (ht : TO p0 acc μ0 μ) (hl : TXT σ0 (aT σ0 (Int32.ofNat i)) (aV σ0 (Int32.ofNat i)) l) (len : l.length ≤ 4000) (hp : p0 + acc.length + l.length ≤ 16000) : ∃ τ, mm_print_98 N r (Int32.ofNat i) μ = r (Int32.ofNat (i + 1)) τ ∧ TO p0 (acc ++ l) μ0 τ := by
  have j0 : (1 : Int32) ≤ Int32.ofNat i := by rw [show (1 : Int32) = Int32.ofNat 1 from rfl, oN_le (by omega) (by omega)]; exact i0
  have j1 : Int32.ofNat i ≤ 150 := by rw [show (150 : Int32) = Int32.ofNat 150 from rfl, oN_le (by omega) (by omega)]; omega
  have f1 : m_fr bK μ (md_pi μ 17 0) := mf_pi mf_rfl rfl
  have t1 := TO_fr ht f1
  have tm := tag_Mp (N := N) H t1.1 j0 j1
  obtain ⟨τ, a1, a2, a3⟩ := putValue_m hN (TS_pr H mf_rfl t1.1) (arg_V' H j0 hi) hl bufL_0 (by decide)
  rw [List.nil_append] at a2
  obtain ⟨τ', b1, b2⟩ := pc_m (N := N) (r := r) (v2 := Int32.ofNat i) (by omega) N 0 τ acc a2 (by omega) (by simp only [BIG] at hN; omega) (TO_fr t1 a3) (by omega)
  refine ⟨τ', ?_, by rw [List.drop_zero] at b2; exact b2⟩
  rw [mm_print_98, lt, tm.1, bd_so]
  dsimp only
  rw [tm.2, bd_so]
  dsimp only
  rw [a1, bd_so]
  have b1' : mm_print_119 N r N (Int32.ofNat i) 0 τ = r (Int32.ofNat i + 1) τ' := b1
  rw [b1', oN_s]
theorem nl_i {n i : Nat} (hn : n ≤ 100) (hi : i ≤ 101) : (Int32.ofNat n < Int32.ofNat i ↔ n < i) := oN_lt (by omega) (by omega)
/-- the other arguments, and the end of the line -/
theorem po_m {N : Nat} (hN : BIG ≤ N) {L : LQ} {w : WD} {g : Int32} {σ0 μ0 : mS} (H : LC L w g σ0 μ0) {nL p0 : Nat} (hn : ln L = Int32.ofNat nL) (n1 : nL ≤ 100) : ∀ (ls : List (List Int32)) (i n : Nat) (acc : List Int32) (μ : mS), 2 ≤ i → i + ls.length = nL + 1 → AT σ0 i ls → ls.length < n → TO p0 acc μ0 μ → p0 + (acc ++ prR ls).length ≤ 16000 → ∃ τ, mm_print_64 N n (Int32.ofNat i) μ = some τ ∧ TO p0 (acc ++ prR ls) μ0 τ
  | [], i, n, acc, μ, i2, hi, _, hf, ht, hp => by
    obtain ⟨n, rfl⟩ : ∃ j, n = j + 1 := ⟨n - 1, by simp at hf; omega⟩
    simp only [prR, List.length_append, List.length_cons, List.length_nil] at hp hi
    obtain ⟨b1, b2, b3⟩ := ou_m (b := 10) ht (by omega)
    have h222 : sF μ 222 = Int32.ofNat nL := by rw [← hn]; exact (mf_F ht.1 rfl).trans H.2.2.1.2.2.2.1
    refine ⟨ouM 10 μ, ?_, b2⟩
    rw [mm_print_64, sF_fold, h222, if_pos ((nl_i n1 (by omega)).mpr (by omega)), sF_fold, b1]
    rfl
  | l :: ls, i, n, acc, μ, i2, hi, ha, hf, ht, hp => by
    obtain ⟨n, rfl⟩ : ∃ j, n = j + 1 := ⟨n - 1, by simp at hf; omega⟩
    have len := prR_len ls
    simp only [prR, List.length_append, List.length_cons] at hp hi hf
    obtain ⟨⟨a1, a2⟩, a3⟩ := ha
    obtain ⟨b1, b2, b3⟩ := ou_m (b := 9) ht (by omega)
    have h222 : sF μ 222 = Int32.ofNat nL := by rw [← hn]; exact (mf_F ht.1 rfl).trans H.2.2.1.2.2.2.1
    have ni : ¬ Int32.ofNat nL < Int32.ofNat i := fun q => by have := (nl_i n1 (by omega)).mp q; omega
    obtain ⟨τ, c1, c2⟩ := p98_m hN H (r := mm_print_64 N n) (i := i) (by omega) (by omega) (by rw [hn]; exact ni) b2 a1 a2 (by rw [List.length_append, List.length_singleton]; omega)
    obtain ⟨τ', d1, d2⟩ := po_m hN H hn n1 ls (i + 1) n _ τ (by omega) (by omega) a3 (by omega) c2 (by simp only [List.length_append, List.length_singleton]; omega)
    refine ⟨τ', ?_, ?_⟩
    · have n2 : ¬ Int32.ofNat i ≤ 1 := by
        rw [show (1 : Int32) = Int32.ofNat 1 from rfl, oN_le (by omega) (by omega)]; omega
      rw [mm_print_64, sF_fold, h222, if_neg ni, if_neg n2, sF_fold, b1]
      exact c1.trans d1
    · have e : acc ++ [9 &&& 255] ++ l ++ prR ls = acc ++ prR (l :: ls) := by
        simp only [prR, List.append_assoc, List.cons_append, List.nil_append]
        rfl
      rw [← e]; exact d2
/-- sizes -/
theorem ps_m {N : Nat} (hN : BIG ≤ N) {L : LQ} {w : WD} {g : Int32} {σ0 μ0 : mS} (H : LC L w g σ0 μ0) {nL : Nat} (hn : ln L = Int32.ofNat nL) (n1 : nL ≤ 100) : ∀ (ls : List (List Int32)) (i n s : Nat) (μ : mS), 1 ≤ i → i + ls.length = nL + 1 → AT σ0 i ls → ls.length < n → m_fr bK μ0 μ → ∃ τ, mm_print_18 N n (Int32.ofNat s) (Int32.ofNat i) μ = (if sF τ 220 + Int32.ofNat (s + prS ls) ≤ 16000 then mm_print_64 N N 1 τ else some τ) ∧ m_fr bK μ0 τ
  | [], i, n, s, μ, i1, hi, _, hf, ht => by
    obtain ⟨n, rfl⟩ : ∃ j, n = j + 1 := ⟨n - 1, by simp at hf; omega⟩
    simp only [List.length_nil] at hi
    have h222 : sF μ 222 = Int32.ofNat nL := by rw [← hn]; exact (mf_F ht rfl).trans H.2.2.1.2.2.2.1
    refine ⟨μ, ?_, ht⟩
    rw [mm_print_18, sF_fold, h222, if_pos ((nl_i n1 (by omega)).mpr (by omega))]
    rfl
  | l :: ls, i, n, s, μ, i1, hi, ha, hf, ht => by
    obtain ⟨n, rfl⟩ : ∃ j, n = j + 1 := ⟨n - 1, by simp at hf; omega⟩
    simp only [List.length_cons] at hi hf
    obtain ⟨⟨a1, a2⟩, a3⟩ := ha
    have h222 : sF μ 222 = Int32.ofNat nL := by rw [← hn]; exact (mf_F ht rfl).trans H.2.2.1.2.2.2.1
    have ni : ¬ Int32.ofNat nL < Int32.ofNat i := fun q => by have := (nl_i n1 (by omega)).mp q; omega
    have j0 : (1 : Int32) ≤ Int32.ofNat i := by rw [show (1 : Int32) = Int32.ofNat 1 from rfl, oN_le (by omega) (by omega)]; exact i1
    have j1 : Int32.ofNat i ≤ 150 := by rw [show (150 : Int32) = Int32.ofNat 150 from rfl, oN_le (by omega) (by omega)]; omega
    have tm := tag_Mp (N := N) H (bK_prM ht) j0 j1
    obtain ⟨τ, b1, b2⟩ := sizeOf_m hN (TS_pr H mf_rfl (bK_prM ht)) (arg_V' H j0 (by rw [hn]; exact ni)) a1
    obtain ⟨τ', c1, c2⟩ := ps_m hN H hn n1 ls (i + 1) n (s + l.length) τ (by omega) (by omega) a3 (by omega) (mf_tr ht b2)
    refine ⟨τ', ?_, c2⟩
    rw [mm_print_18, sF_fold, h222, if_neg ni, tm.1, bd_so]
    dsimp only
    rw [tm.2, bd_so]
    dsimp only
    rw [b1, bd_so]
    have e1 : Int32.ofNat s + Int32.ofNat l.length = Int32.ofNat (s + l.length) := oN_add
    have e2 : Int32.ofNat i + 1 = Int32.ofNat (i + 1) := oN_s
    show mm_print_18 N n (Int32.ofNat s + Int32.ofNat l.length) (Int32.ofNat i + 1) τ = _
    rw [e1, e2, c1, prS, ← Nat.add_assoc]
def prA : List (List Int32) → List Int32
  | [] => [10]
  | l :: ls => l ++ prR ls
theorem print_m {N : Nat} (hN : BIG ≤ N) {L : LQ} {w : WD} {g : Int32} {σ0 μ0 : mS} (H : LC L w g σ0 μ0) {nL p0 : Nat} (hn : ln L = Int32.ofNat nL) (n1 : nL ≤ 100) (h0 : sF μ0 220 = Int32.ofNat p0) (p1 : p0 ≤ 16000) {ls : List (List Int32)} (hs : ls.length = nL) (ha : AT σ0 1 ls) : (p0 + (prA ls).length ≤ 16000 ∧ ∃ τ, mm_print N μ0 = some τ ∧ TO p0 (prA ls) μ0 τ) ∨ (16000 < p0 + (prA ls).length ∧ ∃ τ, mm_print N μ0 = some τ ∧ m_fr bK μ0 τ) := by
  have h222 : sF μ0 222 = Int32.ofNat nL := by rw [← hn]; exact H.2.2.1.2.2.2.1
  have start : mm_print N μ0 = mm_print_18 N N (Int32.ofNat (if nL = 0 then 1 else nL)) (Int32.ofNat 1) μ0 := by
    rw [mm_print, sF_fold, h222]
    by_cases c : nL = 0
    · subst c; rfl
    · have : ¬ Int32.ofNat nL = 0 := fun q => c (by
        rw [show (0 : Int32) = Int32.ofNat 0 from rfl, oN_eq (by omega) (by omega)] at q; exact q)
      rw [if_neg this, if_neg c]; rfl
  have big : ls.length < N := by simp only [BIG] at hN; omega
  obtain ⟨τ, a1, a2⟩ := ps_m hN H hn n1 ls 1 N (if nL = 0 then 1 else nL) μ0 (by omega) (by omega) ha big mf_rfl
  have sm : ∀ (i : Nat) (ls : List (List Int32)), AT σ0 i ls → prS ls ≤ 4000 * ls.length := fun i ls => by
    induction ls generalizing i with
    | nil => intro _; simp [prS]
    | cons l ls ih =>
      intro h
      have := ih (i + 1) h.2
      have := h.1.2
      simp only [prS, List.length_cons]; omega
  have sm1 := sm 1 ls ha
  have tot : (if nL = 0 then 1 else nL) + prS ls = (prA ls).length := by
    cases ls with
    | nil => simp only [List.length_nil] at hs; subst hs; rfl
    | cons l ls =>
      have := prR_len ls
      simp only [List.length_cons] at hs
      rw [if_neg (by omega)]
      simp only [prA, prS, List.length_append]; omega
  have e220 : sF τ 220 = Int32.ofNat p0 := (mf_F a2 rfl).trans h0
  have bd1 : (prA ls).length ≤ 500000 := by
    rw [← tot]
    split <;> omega
  rw [e220, tot, oN_add] at a1
  have cmp : Int32.ofNat (p0 + (prA ls).length) ≤ 16000 ↔ p0 + (prA ls).length ≤ 16000 := by
    rw [show (16000 : Int32) = Int32.ofNat 16000 from rfl, oN_le (by omega) (by omega)]
  by_cases c : p0 + (prA ls).length ≤ 16000
  · refine .inl ⟨c, ?_⟩
    rw [if_pos (cmp.mpr c)] at a1
    rw [start, a1]
    have t0 : TO p0 [] μ0 τ := TO_fr ⟨mf_rfl, hasL_nil, h0, fun _ _ => rfl⟩ a2
    obtain ⟨n, rfl⟩ : ∃ j, N = j + 1 := ⟨N - 1, by omega⟩
    have t222 : sF τ 222 = Int32.ofNat nL := (mf_F a2 rfl).trans h222
    cases ls with
    | nil =>
      simp only [List.length_nil] at hs
      subst hs
      simp only [prA, List.length_cons, List.length_nil] at c
      obtain ⟨b1, b2, b3⟩ := ou_m (b := 10) t0 (by rw [List.length_nil]; omega)
      refine ⟨ouM 10 τ, ?_, b2⟩
      have z : (Int32.ofNat 0) < (1 : Int32) := by decide
      rw [mm_print_64, sF_fold, t222, if_pos z, sF_fold, b1]
      rfl
    | cons l ls =>
      simp only [List.length_cons] at hs
      obtain ⟨⟨q1, q2⟩, q3⟩ := ha
      have len := prR_len ls
      simp only [prA, List.length_append] at c
      have ni : ¬ Int32.ofNat nL < Int32.ofNat 1 := fun q => by have := (nl_i n1 (by omega)).mp q; omega
      obtain ⟨τ1, c1, c2⟩ := p98_m hN H (r := mm_print_64 (n + 1) n) (i := 1) (by omega) (by omega) (by rw [hn]; exact ni) t0 q1 q2 (by rw [List.length_nil]; omega)
      rw [List.nil_append] at c2
      obtain ⟨τ', d1, d2⟩ := po_m hN H hn n1 ls 2 n _ τ1 (by omega) (by omega) q3 (by simp only [BIG] at hN; omega) c2 (by simp only [List.length_append]; omega)
      refine ⟨τ', ?_, d2⟩
      have ni' : ¬ Int32.ofNat nL < 1 := ni
      rw [mm_print_64, sF_fold, t222, if_neg ni', if_pos (Int32.le_refl _)]
      exact c1.trans d1
  · refine .inr ⟨by omega, τ, ?_, a2⟩
    rw [start, a1, if_neg (fun q => c (cmp.mp q))]
