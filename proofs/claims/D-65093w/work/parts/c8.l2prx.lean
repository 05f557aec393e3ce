/-! LAYER 2: functions of the house: print: the system's side, and both -/
theorem cB_nn {p n L : Nat} (h : p + n ≤ L) (hL : L < 2147483648) : x_cB (Int32.ofNat p) (Int32.ofNat n) L = true := by
  simp only [x_cB, Bool.and_eq_true, decide_eq_true_eq]
  rw [tI_lit (by omega), tI_lit (by omega)]
  omega
def prF : List Int32 → List (List Int32) → List Int32
  | B, [] => B.dropLast ++ [10]
  | B, l :: ls => prF (B ++ l ++ [9]) ls
theorem prF_A : ∀ (ls : List (List Int32)) (A : List Int32), prF (A ++ [9]) ls = A ++ prR ls
  | [], A => by simp only [prF, prR, List.dropLast_concat]
  | l :: ls, A => by
    have := prF_A ls (A ++ [9] ++ l)
    simp only [prF, prR] at this ⊢
    rw [this]
    simp only [List.append_assoc, List.cons_append, List.nil_append]
theorem prF_0 : ∀ (ls : List (List Int32)), prF [] ls = prA ls
  | [] => rfl
  | l :: ls => by
    have := prF_A ls l
    simp only [prF, prA, List.nil_append]
    exact this
theorem prF_len : ∀ (ls : List (List Int32)) (B : List Int32), (B ≠ [] ∨ ls ≠ []) → (prF B ls).length = B.length + ls.length + prS ls
  | [], B, h => by
    have : B ≠ [] := h.elim id (fun q => absurd rfl q)
    have l0 : 0 < B.length := List.length_pos_iff.mpr this
    simp only [prF, prS, List.length_append, List.length_dropLast, List.length_cons, List.length_nil]; omega
  | l :: ls, B, _ => by
    have := prF_len ls (B ++ l ++ [9]) (.inl (by simp))
    simp only [prF, prS]
    rw [this]
    simp only [List.length_append, List.length_cons, List.length_nil]; omega
def prY (k : Nat) : Bool := uX k || k == 523
theorem prY_X {σ τ : mS} (h : m_fr prY σ τ) : m_fr prX σ τ := mf_mono h (fun k hk => by
  simp only [prX, prY, Bool.or_eq_false_iff] at hk ⊢
  exact hk.1)
theorem uX_Y {σ τ : mS} (h : m_fr uX σ τ) : m_fr prY σ τ := mf_mono h (fun k hk => by
  simp only [prY, Bool.or_eq_false_iff] at hk
  exact hk.1)
/-- told: these bytes from p0 on -/
def TQP (p0 : Nat) (acc : List Int32) (σ0 σ : mS) : Prop := m_fr prY σ0 σ ∧ hasL (σ.2.2.1 523) p0 acc ∧ ∀ k, k < p0 → σ.2.2.1 523 k = σ0.2.2.1 523 k
theorem TQP_u {p0 : Nat} {acc : List Int32} {σ0 σ τ : mS} (h : TQP p0 acc σ0 σ) (fr : m_fr uX σ τ) : TQP p0 acc σ0 τ := by
  have e : τ.2.2.1 523 = σ.2.2.1 523 := fr.2.2.1 523 rfl
  exact ⟨mf_tr h.1 (uX_Y fr), by rw [e]; exact h.2.1, fun k hk => by rw [e]; exact h.2.2 k hk⟩
theorem TQP_xw {p0 n : Nat} {a b : List Int32} {σ0 σ τ : mS} (h : TQP p0 a σ0 σ) (x : xw 523 (p0 + a.length) n σ τ) (hb : hasL (τ.2.2.1 523) (p0 + a.length) b) : TQP p0 (a ++ b) σ0 τ :=
  ⟨mf_tr h.1 (mf_mono x.1 (fun k hk => by simp only [prY, Bool.or_eq_false_iff] at hk; exact hk.2)), hasL_app.mpr ⟨hasL_xw h.2.1 x (by omega), hb⟩, fun k hk => by rw [x.2 k (.inl (by omega))]; exact h.2.2 k hk⟩
theorem stop_x {N n : Nat} {v1 v3 : Int32} {τ : mS} (h : sF τ 399 ≠ 0) : xx8_print_b9 N (n + 1) v1 0 v3 τ = some τ := by
  have e : xx8_print_b104 N v1 0 τ = some τ := by
    rw [xx8_print_b104, sF_fold, if_neg h]; rfl
  rw [xx8_print_b9, e]
  simp only [if_true, ite_self]
theorem on_1 {m : Nat} : Int32.ofNat (m + 1) - 1 = Int32.ofNat m := by
  rw [← oN_s]; lia
/-- the line's end -/
theorem end_x {N p0 : Nat} {B : List Int32} {σ0 σ : mS} {x : Int32} (h : TQP p0 B σ0 σ) (hp : p0 + B.length < 16000) : ∃ τ, xx8_print_b130 N (Int32.ofNat (p0 + B.length + 1)) 1 σ = some (md_pi τ 524 (Int32.ofNat (p0 + B.length + 1))) ∧ TQP p0 (B ++ [10]) σ0 τ := by
  obtain ⟨f1, f2, f3⟩ := wr_1 (b := 10) vB_523 h.2.1 (by omega)
  refine ⟨md_ai σ 523 (p0 + B.length) (vp_nar .byte 10), ?_, ⟨mf_tr h.1 (mf_ai mf_rfl rfl), f2, fun k hk => by rw [f3.2 k (.inl (by omega))]; exact h.2.2 k hk⟩⟩
  rw [xx8_print_b130, if_neg (by decide), on_1, gd_oN (by omega) (by decide), oN_cl (by omega)]
  rfl
theorem cpB_t {p0 : Nat} {B l : List Int32} {σ0 τ1 : mS} (t1 : TQP p0 B σ0 τ1) (y2 : hasL (τ1.2.2.1 520) 0 l) (c : p0 + B.length + l.length + 1 ≤ 16000) : TQP p0 (B ++ l) σ0 (x_cp τ1 520 0 523 (Int32.ofNat (p0 + B.length)) (Int32.ofNat l.length)) := by
  have x1 := cp_xw (σ := τ1) (i := 520) (j := 523) (sp := 0) (p := p0 + B.length) (n := Int32.ofNat l.length) (l := l.length) (by omega) (oN_cl (by omega))
  refine TQP_xw t1 x1 (fun k hk => ?_)
  rw [cp_at, oN_cl (by omega), oN_cl (by omega), if_pos (by omega)]
  have := y2 k hk
  rw [Nat.zero_add] at this
  rw [show p0 + B.length + k - (p0 + B.length) = k from by omega, show (0 : Int32).toNatClampNeg = 0 from rfl, Nat.zero_add]
  exact this
theorem tab_t {p0 : Nat} {A : List Int32} {σ0 σ : mS} (t2 : TQP p0 A σ0 σ) (c : p0 + A.length < 16000) : TQP p0 (A ++ [9]) σ0 (md_ai σ 523 (p0 + A.length) (vp_nar .byte 9)) := by
  obtain ⟨f1, f2, f3⟩ := wr_1 (b := 9) vB_523 t2.2.1 c
  exact ⟨mf_tr t2.1 (mf_ai mf_rfl rfl), f2, fun k hk => by rw [f3.2 k (.inl (by omega))]; exact t2.2.2 k hk⟩
theorem cpB_x {N : Nat} {r : Int32 → Int32 → Int32 → mS → Option mS} {m l : Nat} {v3 : Int32} {τ : mS} (c : m + l < 16000) (hl : l ≤ 4000) : xx8_print_b62 N r (Int32.ofNat m) v3 (Int32.ofNat l) 1 τ = r (Int32.ofNat (m + l) + 1) 1 (v3 + 1) (md_ai (x_cp τ 520 0 523 (Int32.ofNat m) (Int32.ofNat l)) 523 (m + l) (vp_nar .byte 9)) := by
  have c1 : x_cB 0 (Int32.ofNat l) (x_ln 520) = true := by
    rw [vB_520.2.1]
    exact cB_nn (p := 0) (by omega) (by omega)
  have c2 : x_cB (Int32.ofNat m) (Int32.ofNat l) (x_ln 523) = true := by
    rw [vB_523.2.1]
    exact cB_nn (by omega) (by omega)
  have g : (x_aB 4 520 && x_aB 4 523 && x_cB 0 (Int32.ofNat l) (x_ln 520) && x_cB (Int32.ofNat m) (Int32.ofNat l) (x_ln 523)) = true := by
    rw [vB_520.1, vB_523.1, c1, c2]; rfl
  rw [xx8_print_b62, if_neg (by decide), g]
  simp only [gd, lt]
  rw [oN_add]
  have g1 : inB (Int32.ofNat (m + l)) 16000 = true := tI_in (by rw [tI_lit (by omega)]; omega) (by rw [tI_lit (by omega)]; omega)
  rw [g1, oN_cl (show m + l < 2147483648 by omega)]
  simp only [xx8_print_b98, lt]
theorem pr_x {N : Nat} (hN : BIG ≤ N) {L : LQ} {w : WD} {g : Int32} {σ0 μ0 : mS} (H : LC L w g σ0 μ0) {nL p0 : Nat} (hn : ln L = Int32.ofNat nL) (n1 : nL ≤ 100) (n0 : 1 ≤ nL) : ∀ (ls : List (List Int32)) (i n : Nat) (B : List Int32) (σ : mS), 1 ≤ i → i + ls.length = nL + 1 → (B ≠ [] ∨ ls ≠ []) → AT σ0 i ls → ls.length + 2 ≤ n → TQP p0 B σ0 σ → p0 + B.length ≤ 16000 → ∃ τ, xx8_print_b9 N n (Int32.ofNat (p0 + B.length)) 1 (Int32.ofNat i) σ = some τ ∧ ((p0 + (prF B ls).length ≤ 16000 ∧ ∃ τ', TQP p0 (prF B ls) σ0 τ' ∧ τ = md_pi τ' 524 (Int32.ofNat (p0 + (prF B ls).length))) ∨ (16000 < p0 + (prF B ls).length ∧ m_fr prY σ0 τ ∧ ∀ k, k < p0 → τ.2.2.1 523 k = σ0.2.2.1 523 k)) := by
  intro ls
  induction ls with
  | nil =>
    intro i n B σ i1 hi hb _ hf ht hp
    obtain ⟨n, rfl⟩ : ∃ j, n = j + 1 := ⟨n - 1, by omega⟩
    simp only [List.length_nil] at hi
    have hB : B ≠ [] := hb.elim id (fun q => absurd rfl q)
    have l0 : 0 < B.length := List.length_pos_iff.mpr hB
    have ld : B.dropLast.length = B.length - 1 := List.length_dropLast
    have eB := List.dropLast_concat_getLast hB
    have h399 : sF σ 399 = Int32.ofNat nL := by rw [← hn]; exact (mf_F (prY_X ht.1) rfl).trans H.2.1.1.1
    have td : TQP p0 B.dropLast σ0 σ := ⟨ht.1, by
      have q := ht.2.1
      rw [← eB] at q
      exact (hasL_app.mp q).1, ht.2.2⟩
    obtain ⟨τ, e1, e2⟩ := end_x (N := N) (x := 0) td (by omega)
    have le : p0 + B.dropLast.length + 1 = p0 + B.length := by omega
    rw [le] at e1
    have nz : ¬ Int32.ofNat nL = 0 := fun q => by
      rw [show (0 : Int32) = Int32.ofNat 0 from rfl, oN_eq (by omega) (by omega)] at q; omega
    have lf : (prF B []).length = B.length := by
      simp only [prF, List.length_append, List.length_cons, List.length_nil]; omega
    refine ⟨_, ?_, .inl ⟨by rw [lf]; exact hp, τ, e2, rfl⟩⟩
    rw [lf, xx8_print_b9, sF_fold, h399, if_pos ((nl_i n1 (by omega)).mpr (by omega)), xx8_print_b104, sF_fold, h399, if_neg nz]
    exact e1
  | cons l ls ih =>
    intro i n B σ i1 hi hb ha hf ht hp
    obtain ⟨n, rfl⟩ : ∃ j, n = j + 1 := ⟨n - 1, by omega⟩
    simp only [List.length_cons] at hi hf
    obtain ⟨⟨a1, a2⟩, a3⟩ := ha
    have h399 : sF σ 399 = Int32.ofNat nL := by rw [← hn]; exact (mf_F (prY_X ht.1) rfl).trans H.2.1.1.1
    have ni : ¬ Int32.ofNat nL < Int32.ofNat i := fun q => by have := (nl_i n1 (by omega)).mp q; omega
    have j0 : (1 : Int32) ≤ Int32.ofNat i := by rw [show (1 : Int32) = Int32.ofNat 1 from rfl, oN_le (by omega) (by omega)]; exact i1
    have tl := tag_Lp (N := N) H (prY_X ht.1) j0
    have a1' := TXT_fr a1 (prY_X ht.1) (fun k hk => prX_f (by omega))
    obtain ⟨τ1, y1, y2, y3⟩ := textOf_x hN (TS_pr H (prY_X ht.1) mf_rfl) (arg_V' H j0 (by rw [hn]; exact ni)) (v := 520) (p := 0) (L := 4200) rfl vB_520 a1' (by omega)
    have y1' : xx8_textOf N σ (aT σ0 (Int32.ofNat i)) (aV σ0 (Int32.ofNat i)) 520 0 = some (Int32.ofNat l.length, τ1) := by
      rw [Nat.zero_add] at y1; exact y1
    have t1 := TQP_u ht (xw_u y3 (by omega))
    have len := prF_len ls (B ++ l ++ [9]) (.inl (by simp))
    have len' : (prF B (l :: ls)).length = B.length + l.length + 1 + ls.length + prS ls := by
      show (prF (B ++ l ++ [9]) ls).length = _
      rw [len]; simp only [List.length_append, List.length_cons, List.length_nil]
    have cmp : 16000 < Int32.ofNat (p0 + B.length) + Int32.ofNat l.length + 1 ↔ 16000 < p0 + B.length + l.length + 1 := by
      rw [oN_add, oN_s, show (16000 : Int32) = Int32.ofNat 16000 from rfl, oN_lt (by omega) (by omega)]
    have head : xx8_print_b9 N (n + 1) (Int32.ofNat (p0 + B.length)) 1 (Int32.ofNat i) σ = (if 16000 < Int32.ofNat (p0 + B.length) + Int32.ofNat l.length + 1 then xx8_print_b62 N (xx8_print_b9 N n) (Int32.ofNat (p0 + B.length)) (Int32.ofNat i) (Int32.ofNat l.length) 0 τ1 else xx8_print_b62 N (xx8_print_b9 N n) (Int32.ofNat (p0 + B.length)) (Int32.ofNat i) (Int32.ofNat l.length) 1 τ1) := by
      rw [xx8_print_b9, sF_fold, h399, if_neg ni, if_neg (by decide), tl.1, bd_so]
      dsimp only
      rw [tl.2, bd_so]
      dsimp only
      rw [y1', bd_so]
    rw [head]
    by_cases c : 16000 < p0 + B.length + l.length + 1
    · obtain ⟨n, rfl⟩ : ∃ j, n = j + 1 := ⟨n - 1, by omega⟩
      rw [if_pos (cmp.mpr c), xx8_print_b62, if_pos rfl, xx8_print_b98, lt, stop_x (by
        rw [mf_F (prY_X t1.1) rfl, H.2.1.1.1, hn]
        intro q
        rw [show (0 : Int32) = Int32.ofNat 0 from rfl, oN_eq (by omega) (by omega)] at q; omega)]
      exact ⟨τ1, rfl, .inr ⟨by rw [len']; omega, t1.1, t1.2.2⟩⟩
    · have t3 := tab_t (cpB_t t1 y2 (by omega)) (by rw [List.length_append]; omega)
      have lb : p0 + (B ++ l).length = p0 + B.length + l.length := by rw [List.length_append]; omega
      rw [lb] at t3
      obtain ⟨τ, r1, r2⟩ := ih (i + 1) n (B ++ l ++ [9]) _ (by omega) (by omega) (.inl (by simp)) a3 (by omega) t3 (by simp only [List.length_append, List.length_cons, List.length_nil]; omega)
      have e3 : Int32.ofNat (p0 + (B ++ l ++ [9]).length) = Int32.ofNat (p0 + B.length + l.length) + 1 := by
        rw [oN_s]
        congr 1
        simp only [List.length_append, List.length_cons, List.length_nil]; omega
      rw [e3, ← oN_s] at r1
      refine ⟨τ, ?_, r2⟩
      rw [if_neg (fun q => c (cmp.mp q)), cpB_x (by omega) a2]
      exact r1
theorem print_x {N : Nat} (hN : BIG ≤ N) {L : LQ} {w : WD} {g : Int32} {σ0 μ0 : mS} (H : LC L w g σ0 μ0) {nL p0 : Nat} (hn : ln L = Int32.ofNat nL) (n1 : nL ≤ 100) (h0 : sF σ0 524 = Int32.ofNat p0) (p1 : p0 ≤ 16000) {ls : List (List Int32)} (hs : ls.length = nL) (ha : AT σ0 1 ls) : ∃ τ, xx8_print N σ0 = some τ ∧ ((p0 + (prA ls).length ≤ 16000 ∧ ∃ τ', TQP p0 (prA ls) σ0 τ' ∧ τ = md_pi τ' 524 (Int32.ofNat (p0 + (prA ls).length))) ∨ (16000 < p0 + (prA ls).length ∧ m_fr prY σ0 τ ∧ ∀ k, k < p0 → τ.2.2.1 523 k = σ0.2.2.1 523 k)) := by
  have t0 : TQP p0 [] σ0 σ0 := ⟨mf_rfl, hasL_nil, fun _ _ => rfl⟩
  have big : ls.length + 2 ≤ N := by simp only [BIG] at hN; omega
  rw [xx8_print, sF_fold, h0, lt]
  by_cases c : nL = 0
  · subst c
    have : ls = [] := List.length_eq_zero_iff.mp hs
    subst this
    obtain ⟨n, hn'⟩ : ∃ j, N = j + 1 := ⟨N - 1, by omega⟩
    have h399 : sF σ0 399 = 0 := H.2.1.1.1.trans hn
    have st : xx8_print_b9 N N (Int32.ofNat p0) 1 1 σ0 = (if 16000 ≤ Int32.ofNat p0 then some σ0 else xx8_print_b130 N (Int32.ofNat (p0 + 1)) 1 σ0) := by
      rw [show xx8_print_b9 N N (Int32.ofNat p0) 1 1 σ0 = xx8_print_b9 N (n + 1) (Int32.ofNat p0) 1 1 σ0 by rw [← hn'], xx8_print_b9, sF_fold, h399, if_pos (by decide), xx8_print_b104, sF_fold, h399, if_pos rfl, xx8_print_b126, xx8_print_b126, lt, lt, oN_s]
      rfl
    rw [st]
    by_cases q : p0 = 16000
    · subst q
      exact ⟨σ0, if_pos (by decide), .inr ⟨by decide, mf_rfl, fun _ _ => rfl⟩⟩
    · have nq : ¬ 16000 ≤ Int32.ofNat p0 := by
        rw [show (16000 : Int32) = Int32.ofNat 16000 from rfl, oN_le (by omega) (by omega)]; omega
      obtain ⟨τ, e1, e2⟩ := end_x (N := N) (x := 0) t0 (by rw [List.length_nil]; omega)
      rw [if_neg nq]
      exact ⟨_, e1, .inl ⟨by simp only [prA, List.length_cons, List.length_nil]; omega, τ, e2, rfl⟩⟩
  · have := pr_x hN H hn n1 (by omega) ls 1 N [] σ0 (by omega) (by omega) (.inr (fun q => c (by rw [← hs, q]; rfl))) ha big t0 (by rw [List.length_nil]; omega)
    rw [prF_0, List.length_nil, Nat.add_zero] at this
    exact this
/-- what was told changes -/
theorem LC_ou {L : LQ} {w : WD} {g : Int32} {σ μ τ τm : mS} (H : LC L w g σ μ) (fr : m_fr prX σ τ) (frm : m_fr prM μ τm) (o : OU τ τm) : LC L w g τ τm := by
  obtain ⟨M, V, _⟩ := H.1.1
  have M2 := ME_fr M (by
    rw [show eQ (lE L) + fQ μ = eQ (lE L) + fQ μ from rfl]
    exact RH_fr M.1.1 fr frm (fun k a b => prX_f (by omega)) (fun k a b c d e f g h => prM_f (by omega))) (ZS_fr M.2.1 fr rfl) (HO_fr M.2.2.1 wle_rfl fr frm (fun k hk => prX_f (by omega)) (fun k a b => prM_f (by omega)) (fun x y _ => xL_fr fr (fun k a b => prX_f (by omega))) (fun k _ => by rw [frm.2.2.1 44 rfl])) wle_rfl rfl (cds_fr fr rfl rfl rfl) fr frm (fun k hk => by simp only [kX] at hk; exact prX_f (by omega)) (fun k hk => by simp only [kM] at hk; exact prM_f (by omega))
  obtain ⟨v1, v2, v3, v4, v5, v6, v7⟩ := V
  have V2 : SV (lE L) w τ τm := ⟨mf_tr v1 (mf_mono fr (fun k hk => by
    have := xR_f hk
    exact prX_f (by omega))), mf_tr v2 (mf_mono frm (fun k hk => by
    refine prM_f ⟨?_, ?_, ?_, ?_⟩ <;> (rintro rfl; exact absurd hk (by decide)))), v3, o, by rw [mf_F fr rfl]; exact v5, by rw [mf_F frm rfl]; exact v6, by rw [mf_F frm rfl]; exact v7⟩
  have C := CL_fr H.1.1 M2 V2 wle_rfl (cds_fr fr rfl rfl rfl) fr frm (fun k hk => by simp only [kX] at hk; exact prX_f (by omega)) (fun k hk => by simp only [kM] at hk; exact prM_f (by omega))
  exact LC_fr H ⟨C, by rw [mf_F fr rfl]; exact H.1.2.1, by rw [mf_F frm rfl]; exact H.1.2.2⟩ wle_rfl fr frm (fun k hk => prX_f (by omega)) (fun k hk => prM_f (by omega))
theorem plain_0 {N : Nat} {z : mS} : xx8_plain N z 0 = bd (xx8_print N z) (fun z9 => xx8_plain_b465 N z9) := rfl
theorem base_0 {N : Nat} {z : mS} : mm_base N z 0 = bd (mm_print N z) (fun z15 => mm_base_465 N z15) := rfl
theorem lib_print {L : LQ} (E : EVok (lE L)) {w : WD} {σ μ : mS} (H : LC L w 0 σ μ) : LO L w (xx8_plain (lNn L) σ 0) (mm_base (lNn L) μ 0) := by
  have hN := EV_N E
  obtain ⟨u1, u2, u3, u4⟩ := H.1.1.2.1.2.2.2.1
  have n0 : 0 ≤ ln L := H.2.1.1.2.1
  have n1 := H.2.1.2
  have hn : ln L = Int32.ofNat (ln L).toNatClampNeg := (oN_cl' n0).symm
  have hp : sF σ 524 = Int32.ofNat (sF σ 524).toNatClampNeg := (oN_cl' u2).symm
  generalize hnl : (ln L).toNatClampNeg = nL at hn
  generalize hpp : (sF σ 524).toNatClampNeg = p0 at hp
  have nl31 : nL < 2147483648 := by rw [← hnl, tI_cl]; have := tI_rng (ln L); omega
  have p31 : p0 < 2147483648 := by rw [← hpp, tI_cl]; have := tI_rng (sF σ 524); omega
  have n100 : nL ≤ 100 := by
    rw [hn, show (100 : Int32) = Int32.ofNat 100 from rfl, oN_le (by omega) (by omega)] at n1; exact n1
  have p16 : p0 ≤ 16000 := by
    rw [hp, show (16000 : Int32) = Int32.ofNat 16000 from rfl, oN_le (by omega) (by omega)] at u3; exact u3
  obtain ⟨ls, hs, ha⟩ := AT_ex (σ := σ) nL 1 (fun j a b => by
    have j0 : (1 : Int32) ≤ Int32.ofNat j := by rw [show (1 : Int32) = Int32.ofNat 1 from rfl, oN_le (by omega) (by omega)]; exact a
    exact VV_ex (LC_TS H.1) (arg_V' H j0 (by rw [hn]; exact fun q => by have := (nl_i n100 (by omega)).mp q; omega)))
  obtain ⟨τ, x1, x2⟩ := print_x (N := eN (lE L)) hN H hn n100 hp p16 hs ha
  have hm := print_m (N := eN (lE L)) hN H hn n100 (u1.symm.trans hp) p16 hs ha
  rw [plain_0, base_0]
  show LO L w (bd (xx8_print (eN (lE L)) σ) _) (bd (mm_print (eN (lE L)) μ) _)
  have old : ∀ k : Int32, 0 ≤ k → k.toNatClampNeg < p0 → σ.2.2.1 523 k.toNatClampNeg &&& 255 = μ.2.2.1 219 k.toNatClampNeg &&& 255 := fun k k0 k1 => u4 k k0 (by
    rw [hp, ← oN_cl' k0, oN_lt (by rw [tI_cl]; have := tI_rng k; omega) p31]; exact k1)
  rcases x2 with ⟨c, τ', t1, rfl⟩ | ⟨c, t1, t2⟩
  · rcases hm with ⟨_, τm, m1, m2⟩ | ⟨c', _⟩
    · rw [x1, m1]
      refine LO_ok (LC_ou H (mf_tr (prY_X t1.1) (mf_pi mf_rfl rfl)) m2.1 ?_)
      have e524 : sF (md_pi τ' 524 (Int32.ofNat (p0 + (prA ls).length))) 524 = Int32.ofNat (p0 + (prA ls).length) := by simp only [sF_pi, sF_pl, sF_ai, sF_al, sG_pi, sG_pl, sG_ai, sG_al, sI_pi, sI_pl, sI_al, sI_ai1, sI_ai2, sJ_pi, sJ_pl, sJ_ai, sJ_al1, sJ_al2, Nat.reduceEqDiff, if_true, if_false, ne_eq, not_false_eq_true, ite_true, ite_false]
      refine ⟨by rw [e524]; exact m2.2.2.1.symm, by rw [e524]; exact oN_nn (by omega), by rw [e524, show (16000 : Int32) = Int32.ofNat 16000 from rfl, oN_le (by omega) (by omega)]; exact c, fun k k0 k1 => ?_⟩
      have kl : k.toNatClampNeg < p0 + (prA ls).length := by
        rw [e524, ← oN_cl' k0, oN_lt (by rw [tI_cl]; have := tI_rng k; omega) (by omega)] at k1; exact k1
      show τ'.2.2.1 523 k.toNatClampNeg &&& 255 = τm.2.2.1 219 k.toNatClampNeg &&& 255
      by_cases q : k.toNatClampNeg < p0
      · rw [t1.2.2 _ q, m2.2.2.2 _ q]; exact old k k0 q
      · have := hasL_eq t1.2.1 m2.2.1 (k := k.toNatClampNeg - p0) (by omega)
        rw [show p0 + (k.toNatClampNeg - p0) = k.toNatClampNeg from by omega] at this
        exact this
    · omega
  · rcases hm with ⟨c', _⟩ | ⟨_, τm, m1, m2⟩
    · omega
    · rw [x1, m1]
      refine LO_ok (LC_ou H (prY_X t1) (bK_prM m2) ?_)
      have e524 : sF τ 524 = sF σ 524 := mf_F t1 rfl
      have e220 : sF τm 220 = sF μ 220 := mf_F m2 rfl
      refine ⟨by rw [e524, e220]; exact u1, by rw [e524]; exact u2, by rw [e524]; exact u3, fun k k0 k1 => ?_⟩
      have kl : k.toNatClampNeg < p0 := by
        rw [e524, hp, ← oN_cl' k0, oN_lt (by rw [tI_cl]; have := tI_rng k; omega) (by omega)] at k1; exact k1
      show τ.2.2.1 523 k.toNatClampNeg &&& 255 = τm.2.2.1 219 k.toNatClampNeg &&& 255
      rw [t2 _ kl, m2.2.2.1 219 rfl]
      exact old k k0 kl
