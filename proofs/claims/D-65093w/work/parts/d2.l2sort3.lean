/-! LAYER 2: functions of the house: sort, whole -/
/-- the entry of a key that is live -/
def eJ (σ : mS) (l : List Int32) (j : Nat) (e : Int32) : Prop := e ∈ l ∧ sI σ 212 e = 3 ∧ sJ σ 213 e = Int32.toInt64 (Int32.ofNat (j + 1))
theorem eJ_fr {P : Nat → Bool} {σ τ : mS} {l : List Int32} {j : Nat} {e : Int32} (fr : m_fr P σ τ) (p1 : P 212 = false) (p2 : P 213 = false) : eJ τ l j e ↔ eJ σ l j e := by
  simp only [eJ, mf_I fr p1, mf_J fr p2]
theorem liveE {L : LQ} (E : EVok (lE L)) {w : WD} {a b : Int32} {es es' : Int32 → List Int32} {σ μ : mS} (H : LC L w 0 σ μ) (R : RT w σ μ es es') (h : (a, b) ∈ wT w) {j : Nat} (lv : lvn σ (es a) (Int32.ofNat (j + 1))) : ∃ r c d, xx3_live (lNn L) σ a 3 (Int32.toInt64 (Int32.ofNat (j + 1))) = some (r, σ) ∧ mm_get (lNn L) μ b 2 (Int32.toInt64 (Int32.ofNat (j + 1))) = some (gt μ c d) ∧ LC L w 0 σ (gt μ c d) ∧ eJ σ (es a) j r ∧ (0 ≤ r ∧ r < 20000) ∧ sI σ 214 r ≠ 0 ∧ VV w (sI σ 214 r) (sJ σ 215 r) c d := by
  have RR := LC_RT H
  obtain ⟨⟨ps, hs, ff, fh, M⟩, _⟩ := id R
  obtain ⟨r, c, d, r1, r2, r3, r4⟩ := live_L E H h (VV_n (v := Int32.toInt64 (Int32.ofNat (j + 1)))) (by decide)
  obtain ⟨r', q1, q2⟩ := live_x (EV_N E) (RS_dst RR.2.1) M.1 (tX_mem h) (VV_ok RR.2.1 (VV_n (w := w) (v := Int32.toInt64 (Int32.ofNat (j + 1)))) (by decide) (by decide)).1
  have q1' : xx3_live (lNn L) σ a 3 (Int32.toInt64 (Int32.ofNat (j + 1))) = some (r', σ) := q1
  rw [r1] at q1'
  cases q1'
  obtain ⟨e, e1, e2, e3, e4⟩ := lv
  rcases q2 with ⟨s1, s2, s3⟩ | ⟨s1, s2⟩
  · have k3 : sI σ 212 r = 3 := s2.1
    have k4 : sJ σ 213 r = Int32.toInt64 (Int32.ofNat (j + 1)) := by
      have := s2.2
      rw [if_neg (by rw [k3]; decide)] at this
      exact this
    rcases r4 with ⟨t1, _⟩ | ⟨t0, t1, t2, t3, t4⟩
    · have := (M.1.1 a (tX_mem h) r s1).1
      rw [t1] at this
      exact absurd this (by decide)
    · exact ⟨r, c, d, r1, r2, r3, ⟨s1, k3, k4⟩, ⟨t0, t1⟩, t2, t4⟩
  · exact absurd (s2 e e1 ⟨e2, by rw [if_neg (by rw [e2]; decide)]; exact e3⟩) e4
theorem eJ_one {w : WD} {σ μ : mS} {es es' : Int32 → List Int32} {a b : Int32} (R : RT w σ μ es es') (h : (a, b) ∈ wT w) {j : Nat} {e f : Int32} (he : eJ σ (es a) j e) (hf : eJ σ (es a) j f) : e = f := by
  obtain ⟨⟨ps, hs, ff, fh, M⟩, _⟩ := R
  refine M.1.2.2 a (tX_mem h) e f he.1 hf.1 ⟨by rw [he.2.1, hf.2.1], ?_⟩
  rw [if_neg (by rw [he.2.1]; decide), he.2.2, hf.2.2]
/-- what the reference has read -/
def RD (w : WD) (σ : mS) (l : List Int32) (k : Nat) (μ : mS) : Prop := ∀ j, j < k → ∀ e, eJ σ l j e → sI σ 214 e ≠ 0 ∧ VV w (sI σ 214 e) (sJ σ 215 e) (μ.2.2.1 228 j) (μ.2.2.2 229 j)
theorem rd_m {L : LQ} (E : EVok (lE L)) {w : WD} {a b : Int32} (h : (a, b) ∈ wT w) {es es' : Int32 → List Int32} {σ : mS} {n : Nat} (hn : n ≤ 20000) (lv : ∀ j, j < n → lvn σ (es a) (Int32.ofNat (j + 1))) : ∀ (c k m : Nat) (μ : mS), k + c = n → c < m → LC L w 0 σ μ → RT w σ μ es es' → RD w σ (es a) k μ → ∃ τ, mm_sort_9 (lNn L) m b (Int32.ofNat n) (Int32.ofNat k) μ = mm_sort_53 (lNn L) (lNn L) b (Int32.ofNat n) 0 τ ∧ LC L w 0 σ τ ∧ RT w σ τ es es' ∧ RD w σ (es a) n τ := by
  intro c
  induction c with
  | zero =>
    intro k m μ hk hm H R D
    obtain ⟨m, rfl⟩ : ∃ j, m = j + 1 := ⟨m - 1, by omega⟩
    have e : k = n := by omega
    subst e
    exact ⟨μ, by rw [mm_sort_9, if_pos (Int32.le_refl _)], H, R, D⟩
  | succ c ih =>
    intro k m μ hk hm H R D
    obtain ⟨m, rfl⟩ : ∃ j, m = j + 1 := ⟨m - 1, by omega⟩
    obtain ⟨r, c', d', r1, r2, r3, r4, r5, r6, r7⟩ := liveE E H R h (lv k (by omega))
    have t := VV_tag r7
    have nr : vp_nar .byte (c'.toInt8.toInt32) = c' := nar_tag t.2.2.1 (Int32.le_trans t.2.2.2.1 (by decide))
    have fr : m_fr sM (gt μ c' d') (md_al (md_ai (gt μ c' d') 228 k c') 229 k d') := mf_al (mf_ai mf_rfl rfl) rfl
    have um : m_fr uM (gt μ c' d') (md_al (md_ai (gt μ c' d') 228 k c') 229 k d') := mf_mono fr (fun k hk => sM_f (by
      have := hk
      simp only [uM, inR, Bool.or_eq_false_iff, Bool.and_eq_false_iff, decide_eq_false_iff_not] at this
      omega))
    have R1 : RT w σ (gt μ c' d') es es' := RT_fr R wle_rfl rfl mf_rfl (gt_u (μ := μ) (c := c') (d := d')) (fun k _ => rfl) (fun k hk => uM_f (by omega))
    have R2 : RT w σ (md_al (md_ai (gt μ c' d') 228 k c') 229 k d') es es' := RT_fr R1 wle_rfl rfl mf_rfl fr (fun k _ => rfl) (fun k hk => sM_f (by omega))
    have e228 : ∀ j, (md_al (md_ai (gt μ c' d') 228 k c') 229 k d').2.2.1 228 j = if j = k then c' else μ.2.2.1 228 j := fun j => by
      show (if (228 : Nat) = 228 then upd ((gt μ c' d').2.2.1 228) k c' else (gt μ c' d').2.2.1 228) j = _
      rw [if_pos rfl, upd_at]; rfl
    have e229 : ∀ j, (md_al (md_ai (gt μ c' d') 228 k c') 229 k d').2.2.2 229 j = if j = k then d' else μ.2.2.2 229 j := fun j => by
      rw [al_J, if_pos rfl, updJ]
      rfl
    obtain ⟨τ, s1, s2, s3, s4⟩ := ih (k + 1) m _ (by omega) (by omega) (LC_u r3 mf_rfl um) R2 (fun j hj e he => by
      rw [e228, e229]
      by_cases q : j = k
      · subst q
        have := eJ_one R h he r4
        subst this
        rw [if_pos rfl, if_pos rfl]
        exact ⟨r6, r7⟩
      · rw [if_neg q, if_neg q]; exact D j (by omega) e he)
    refine ⟨τ, ?_, s2, s3, s4⟩
    rw [mm_sort_9, if_neg (oN_nle (by omega) (by omega)), oL_s (by omega), r2, bd_so, gd_oN (by omega) (by decide), gt_42', nr, oN_cl (by omega), lt, gd_oN (by omega) (by decide), lt, lt, oN_s]
    exact s1
/-- what was seen of the first places -/
def CK (w : WD) (T T' : Int32) (k : Nat) (σ μ : mS) : Prop := k = 0 ∨ (TK T T' ∧ σ.2.2.1 538 0 = T ∧ SO w T T' k σ μ)
def kXs (k : Nat) : Bool := [538, 539].contains k
theorem kXs_f {k : Nat} (h : k < 538 ∨ 539 < k) : kXs k = false := by
  simp only [kXs, List.contains_cons, List.contains_nil, Bool.or_eq_false_iff, beq_eq_false_iff_ne]
  repeat' apply And.intro
  all_goals first | trivial | omega
theorem kXs_u {σ τ : mS} (h : m_fr kXs σ τ) : m_fr uX σ τ := mf_mono h (fun k hk => kXs_f (by
  have := hk
  simp only [uX, inR, Bool.or_eq_false_iff, Bool.and_eq_false_iff, decide_eq_false_iff_not] at this
  omega))
theorem ck_2 {L : LQ} (E : EVok (lE L)) {w : WD} {a b : Int32} (h : (a, b) ∈ wT w) {es es' : Int32 → List Int32} {τ : mS} {n : Nat} (hn : n ≤ 20000) (lv : ∀ j, j < n → lvn τ (es a) (Int32.ofNat (j + 1))) {μ : mS} (D : RD w τ (es a) n μ) : ∀ (c k m m' : Nat) (T T' : Int32) (σ : mS), k + c = n → c < m → c < m' → m_fr kXs τ σ → LC L w 0 σ μ → RT w σ μ es es' → CK w T T' k σ μ → LO L w (xx8_sort_b20 (lNn L) m a (Int32.ofNat n) (Int32.ofNat k) σ) (mm_sort_53 (lNn L) m' b (Int32.ofNat n) (Int32.ofNat k) μ) := by
  have big : 200000 < lNn L := by
    have := EV_N E
    simp only [BIG] at this
    show 200000 < eN (lE L)
    omega
  intro c
  induction c with
  | zero =>
    intro k m m' T T' σ hk hm hm' fr H R C
    obtain ⟨m, rfl⟩ : ∃ j, m = j + 1 := ⟨m - 1, by omega⟩
    obtain ⟨m', rfl⟩ : ∃ j, m' = j + 1 := ⟨m' - 1, by omega⟩
    have e : k = n := by omega
    subst e
    have hk : ∀ j : Int32, 1 ≤ j → j ≤ Int32.ofNat k → hKy σ (es a) j := fun j j1 j2 => by
      have q1 := j1
      have q2 := j2
      rw [tI_le] at q1 q2
      rw [tI_lit (by omega)] at q2
      have z1 : (1 : Int32).toInt = 1 := rfl
      have := lv (j.toInt.toNat - 1) (by omega)
      have ej : Int32.ofNat (j.toInt.toNat - 1 + 1) = j := by rw [tI_eq, tI_lit (by omega)]; omega
      rw [ej] at this
      exact hK_fr (hK_lvn this) fr (kXs_f (by omega)) (kXs_f (by omega))
    rw [xx8_sort_b20, mm_sort_53, if_pos (Int32.le_refl _), if_pos (Int32.le_refl _)]
    rcases C with C | ⟨C1, C2, C3⟩
    · subst C
      exact all_2 E h (T := 3) (T' := 2) (.inl ⟨rfl, rfl⟩) hn 0 1 (lNn L) (lNn L) σ μ (by omega) (by omega) (by omega) (by omega) (by omega) H R (fun j hj => absurd hj (by omega)) (fun q => absurd q (by omega)) hk
    · exact all_2 E h C1 hn k 1 (lNn L) (lNn L) σ μ (by omega) (by omega) (by omega) (by omega) (by omega) H R C3 (fun _ => C2) hk
  | succ c ih =>
    intro k m m' T T' σ hk hm hm' fr H R C
    obtain ⟨m, rfl⟩ : ∃ j, m = j + 1 := ⟨m - 1, by omega⟩
    obtain ⟨m', rfl⟩ : ∃ j, m' = j + 1 := ⟨m' - 1, by omega⟩
    have nk : ¬ Int32.ofNat n ≤ Int32.ofNat k := oN_nle (by omega) (by omega)
    have lvσ : lvn σ (es a) (Int32.ofNat (k + 1)) := (mf_lvn fr (kXs_f (by omega)) (kXs_f (by omega)) (kXs_f (by omega))).mpr (lv k (by omega))
    obtain ⟨r, c', d', r1, _, _, r4, r5, r6, _⟩ := liveE E H R h lvσ
    obtain ⟨_, dv⟩ := D k (by omega) r ((eJ_fr fr (kXs_f (by omega)) (kXs_f (by omega))).mp r4)
    rw [← mf_I fr (kXs_f (by omega)) (k := 214), ← mf_J fr (kXs_f (by omega)) (k := 215)] at dv
    have tg := VV_tag dv
    have tv := VV_t dv
    have nr : vp_nar .byte (sI σ 214 r) = sI σ 214 r := nar_tg tg.1 tg.2.1
    -- the rows behind
    have f1 : m_fr kXs σ (md_al (md_ai σ 538 k (sI σ 214 r)) 539 k (sJ σ 215 r)) := mf_al (mf_ai mf_rfl rfl) rfl
    have e538 : ∀ j, (md_al (md_ai σ 538 k (sI σ 214 r)) 539 k (sJ σ 215 r)).2.2.1 538 j = if j = k then sI σ 214 r else σ.2.2.1 538 j := fun j => by
      show (if (538 : Nat) = 538 then upd (σ.2.2.1 538) k (sI σ 214 r) else σ.2.2.1 538) j = _
      rw [if_pos rfl, upd_at]
    have e539 : ∀ j, (md_al (md_ai σ 538 k (sI σ 214 r)) 539 k (sJ σ 215 r)).2.2.2 539 j = if j = k then sJ σ 215 r else σ.2.2.2 539 j := fun j => by
      rw [al_J, if_pos rfl, updJ]; rfl
    have st : xx8_sort_b20 (lNn L) (m + 1) a (Int32.ofNat n) (Int32.ofNat k) σ = (if sI σ 214 r = 3 then xx8_sort_b101 (lNn L) (xx8_sort_b20 (lNn L) m) a (Int32.ofNat n) (Int32.ofNat k) (md_al (md_ai σ 538 k (sI σ 214 r)) 539 k (sJ σ 215 r)) else if sI σ 214 r = 4 then xx8_sort_b101 (lNn L) (xx8_sort_b20 (lNn L) m) a (Int32.ofNat n) (Int32.ofNat k) (md_al (md_ai σ 538 k (sI σ 214 r)) 539 k (sJ σ 215 r)) else xx8_sort_b116 (lNn L) (xx8_sort_b20 (lNn L) m) (md_al (md_ai σ 538 k (sI σ 214 r)) 539 k (sJ σ 215 r))) := by
      rw [xx8_sort_b20, if_neg nk, oL_s (by omega), r1, bd_so]
      dsimp only
      rw [gd_in (by decide) r5.1 r5.2, gd_oN (by omega) (by decide), oN_cl (by omega), sI_fold, nr, lt, gd_in (by decide) r5.1 r5.2, gd_oN (by omega) (by decide), lt, gd_oN (by omega) (by decide), gd_oN (by omega) (by decide)]
      have e1 : (md_ai σ 538 k (sI σ 214 r)).2.2.2 215 r.toNatClampNeg = sJ σ 215 r := rfl
      have e2 := e538 k
      rw [if_pos rfl] at e2
      rw [e1, e2]
    generalize md_al (md_ai σ 538 k (sI σ 214 r)) 539 k (sJ σ 215 r) = υ at *
    have H1 : LC L w 0 υ μ := LC_u H (kXs_u f1) mf_rfl
    have fault : LO L w (xx8_sort_b116 (lNn L) (xx8_sort_b20 (lNn L) m) υ) (mm_sort_85 (lNn L) (mm_sort_53 (lNn L) m') μ) := by
      rw [xx8_sort_b116, mm_sort_85, gd_z1, lt, show (fun z10 : mS => some z10) = (fun z => some z) from rfl, bd_id]
      exact .inr (fault_L E H1.1 (t := 118) (tm := 43) (by decide) (by decide) (by decide +kernel) (by decide +kernel))
    -- a tag that may be
    have ok : TK (sI σ 214 r) (μ.2.2.1 228 k) → LO L w (xx8_sort_b101 (lNn L) (xx8_sort_b20 (lNn L) m) a (Int32.ofNat n) (Int32.ofNat k) υ) (if μ.2.2.1 228 k = μ.2.2.1 228 0 then lt (Int32.ofNat k + 1) (fun x12 => mm_sort_53 (lNn L) m' b (Int32.ofNat n) x12 μ) else mm_sort_85 (lNn L) (mm_sort_53 (lNn L) m') μ) := fun tk => by
      have R1 : RT w υ μ es es' := RT_fr R wle_rfl rfl f1 (mf_rfl (P := fun _ => false)) (fun k hk => kXs_f (by omega)) (fun k _ => rfl)
      rw [xx8_sort_b101, gd_oN (by omega) (by decide), show (inB 0 20001) = true from by decide, gd_tt, oN_cl (by omega), show (0 : Int32).toNatClampNeg = 0 from by decide, e538, e538, if_pos rfl]
      have nx : ∀ T T', TK T T' → CK w T T' (k + 1) υ μ → LO L w (lt (Int32.ofNat k + 1) (fun x10 => xx8_sort_b20 (lNn L) m a (Int32.ofNat n) x10 υ)) (lt (Int32.ofNat k + 1) (fun x12 => mm_sort_53 (lNn L) m' b (Int32.ofNat n) x12 μ)) := fun T T' _ hC => by
        rw [lt, lt, oN_s]
        exact ih (k + 1) m m' T T' υ (by omega) (by omega) (by omega) (mf_tr fr f1) H1 R1 hC
      by_cases k0 : k = 0
      · subst k0
        rw [if_pos rfl, if_pos rfl, if_pos rfl]
        refine nx _ _ tk (.inr ⟨tk, by rw [e538, if_pos rfl], fun j hj => ?_⟩)
        have : j = 0 := by omega
        subst this
        exact ⟨rfl, by rw [e539, if_pos rfl]; exact dv⟩
      · rcases C with C | ⟨C1, C2, C3⟩
        · exact absurd C k0
        have z := C3 0 (by omega)
        rw [if_neg (show ¬ (0 : Nat) = k by omega), C2, z.1]
        by_cases q : sI σ 214 r = T
        · have q' : μ.2.2.1 228 k = T' := by
            rcases tk with ⟨t1, t2⟩ | ⟨t1, t2⟩ <;> rcases C1 with ⟨c1, c2⟩ | ⟨c1, c2⟩
            · rw [t2, c2]
            · rw [t1, c1] at q; exact absurd q (by decide)
            · rw [t1, c1] at q; exact absurd q (by decide)
            · rw [t2, c2]
          rw [if_pos q, if_pos q']
          refine nx T T' C1 (.inr ⟨C1, by rw [e538, if_neg (by omega)]; exact C2, fun j hj => ?_⟩)
          rw [e539]
          by_cases jk : j = k
          · subst jk
            rw [if_pos rfl, ← q, ← q']
            exact ⟨rfl, dv⟩
          · rw [if_neg jk]; exact C3 j (by omega)
        · have q' : ¬ μ.2.2.1 228 k = T' := fun q' => q (by
            rcases tk with ⟨t1, t2⟩ | ⟨t1, t2⟩ <;> rcases C1 with ⟨c1, c2⟩ | ⟨c1, c2⟩
            · rw [t1, c1]
            · rw [t2, c2] at q'; exact absurd q' (by decide)
            · rw [t2, c2] at q'; exact absurd q' (by decide)
            · rw [t1, c1])
          rw [if_neg q, if_neg q']
          exact fault
    have iw : mm_isWritten (lNn L) μ (μ.2.2.1 228 k) = some (if μ.2.2.1 228 k = 3 then 1 else if μ.2.2.1 228 k = 2 then 1 else 0, μ) := by
      rw [mm_isWritten]
      split
      · rfl
      · split <;> rfl
    rw [st, mm_sort_53, if_neg nk, gd_oN (by omega) (by decide), oN_cl (by omega), iw, bd_so]
    dsimp only
    rw [gd_oN (by omega) (by decide), show (inB 0 20000) = true from by decide, gd_tt, show (0 : Int32).toNatClampNeg = 0 from by decide]
    by_cases t3 : sI σ 214 r = 3
    · have t3' := tv.2.1.mp t3
      rw [if_pos t3, t3', if_neg (show ¬ (2 : Int32) = 3 by decide), if_pos rfl, if_neg (show ¬ (1 : Int32) = 0 by decide)]
      have := ok (.inl ⟨t3, t3'⟩)
      rw [t3'] at this
      exact this
    · rw [if_neg t3]
      by_cases t4 : sI σ 214 r = 4
      · have t4' := tv.2.2.1.mp t4
        rw [if_pos t4, t4', if_pos rfl, if_neg (show ¬ (1 : Int32) = 0 by decide)]
        have := ok (.inr ⟨t4, t4'⟩)
        rw [t4'] at this
        exact this
      · rw [if_neg t4, if_neg (fun q => t4 (tv.2.2.1.mpr q)), if_neg (fun q => t3 (tv.2.1.mpr q)), if_pos rfl]
        exact fault
theorem tables_32 {N : Nat} {z : mS} : xx8_tables N z 32 = xx8_sort N z := show bx (xx8_sort N z) (fun z7 => xx8_tables_b75 N z7) = xx8_sort N z from bx_ok
theorem oft_32 {N : Nat} {z : mS} : mm_ofTables N z 32 = bd (mm_isOf N z 1 4 32) (fun z14 => bd (mm_unless N z14.2 z14.1) (fun z15 => if sF z15 227 = 0 then bd (mm_valueOf N z15 1) (fun z16 => lt (Int64.toInt32 z16.1) (fun x17 => bd (mm_sort N z16.2 x17) (fun z18 => mm_ofTables_293 N z18))) else some z15)) := rfl
theorem lib_sort {L : LQ} (E : EVok (lE L)) {w : WD} {σ μ : mS} (H : LC L w 0 σ μ) (hl : lB L = 32) : LO L w (xx8_tables (lNn L) σ 32) (mm_ofTables (lNn L) μ 32) := by
  have hl' : (32 : Int32) = Int32.ofNat (lB L) := by rw [hl]; rfl
  have big : 200000 < lNn L := by
    have := EV_N E
    simp only [BIG] at this
    show 200000 < eN (lE L)
    omega
  rw [tables_32, oft_32, xx8_sort]
  refine (tab_L E H (i := 1) (by decide) (by decide) hl' (fun z => ⟨md_pi z 227 1, ?_, u227⟩)).elim (fun ⟨a, b, hab, a1, a2, a3, a4, a5, a6⟩ => ?_) (fun o => .inr o)
  · simp only [unless_0, bd_so, bx_so, bd_bd, lt, gd_z1, gd_z0, sF_fold, sF_pi, if_true, i10, if_false, ite_true, ite_false]
  obtain ⟨n, τ, τm, es, es', o1, o2, n0, n1, H1, H2, R, il, fr, frm⟩ := lenF_L E H hab
  rw [a5, a6, bx_so, bd_so]
  dsimp only
  rw [unless_1 (L_227 H), bd_so]
  simp only [L_227 H, if_true]
  rw [(tag_M H (i := 1) (by decide) (by decide)).2, bd_so, lt, a4, h_ll, o1, bd_so]
  dsimp only
  rw [show (fun z37 => mm_ofTables_293 (lNn L) z37) = fun z37 => some z37 from rfl, bd_id, mm_sort, o2, bd_so]
  dsimp only
  rw [h_ll, lt]
  have nn : 0 ≤ n.toInt ∧ n.toInt ≤ 20000 := by
    rw [tI_le] at n0 n1
    exact ⟨n0, n1⟩
  have en : n = Int32.ofNat n.toInt.toNat := by rw [tI_eq, tI_lit (by omega)]; omega
  have lv : ∀ j, j < n.toInt.toNat → lvn τ (es a) (Int32.ofNat (j + 1)) := fun j hj => il.2.2.1 _ (by rw [show (1 : Int32) = Int32.ofNat 1 from rfl, oN_le (by omega) (by omega)]; omega) (by rw [tI_le, tI_lit (by omega)]; omega)
  rw [en]
  obtain ⟨υm, s1, s2, s3, s4⟩ := rd_m E hab (n := n.toInt.toNat) (by omega) lv n.toInt.toNat 0 (lNn L) τm (by omega) (by omega) H1 R (fun j hj => absurd hj (by omega))
  have s1' : mm_sort_9 (lNn L) (lNn L) b (Int32.ofNat n.toInt.toNat) 0 τm = _ := s1
  rw [s1']
  exact ck_2 E hab (by omega) lv s4 n.toInt.toNat 0 (lNn L) (lNn L) 0 0 τ (by omega) (by omega) (by omega) mf_rfl s2 s3 (.inl rfl)
