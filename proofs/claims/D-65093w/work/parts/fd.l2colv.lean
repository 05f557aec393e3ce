/-! LAYER 2: the system's collector: tables -/
theorem st15 {N : Nat} {σ : mS} {fb : List Int32} (hr : ∀ x, x ∈ fb → 0 ≤ x ∧ x < 3000) : ∀ (R P : List Int32) (n : Nat) (v : Int32) (τ : mS), fb = P ++ R → R.length < n → seg (sI σ 209) v R (-1) → m_fr (fun k => k == 246) σ τ → (∀ x, 0 ≤ x → x < 3000 → sI τ 246 x = if x ∈ P then 1 else 0) → ∃ τ', xx3_sweep_b15 N n v τ = xx3_sweep_b36 N N 0 τ' ∧ m_fr (fun k => k == 246) σ τ' ∧ (∀ x, 0 ≤ x → x < 3000 → sI τ' 246 x = if x ∈ fb then 1 else 0)
  | [], P, n, v, τ, he, hn, sg, fr, h => by
    obtain ⟨n, rfl⟩ : ∃ j, n = j + 1 := ⟨n - 1, by simp at hn; omega⟩
    have e : v = -1 := sg
    subst e
    rw [List.append_nil] at he
    rw [xx3_sweep_b15, if_pos rfl]
    exact ⟨τ, rfl, fr, by rw [he]; exact h⟩
  | x :: R, P, n, v, τ, he, hn, sg, fr, h => by
    obtain ⟨n, rfl⟩ : ∃ j, n = j + 1 := ⟨n - 1, by simp at hn; omega⟩
    obtain ⟨rfl, sg⟩ := sg
    obtain ⟨v0, v1⟩ := hr v (by rw [he]; simp)
    have e235 : sI (md_ai τ 246 v.toNatClampNeg 1) 209 v = sI σ 209 v := by rw [sI_ai1 (by decide)]; exact mf_I fr rfl
    rw [xx3_sweep_b15, if_neg (fun e => by rw [e] at v0; exact absurd v0 (by decide)), gd_in (by decide) v0 v1, nar_b1]
    simp only [lt, sI_fold]
    rw [gd_in (by decide) v0 v1, e235]
    refine st15 hr R (P ++ [v]) n (sI σ 209 v) _ (by rw [he]; simp) (by simp at hn; omega) sg (mf_ai fr rfl) (fun y y0 y1 => ?_)
    rw [sI_ai v0 y0, h y y0 y1]
    by_cases e : y = v
    · rw [if_pos ⟨rfl, e⟩, if_pos (mem_sn.mpr (.inr e))]
    · rw [if_neg (fun q => e q.2)]
      by_cases m : y ∈ P
      · rw [if_pos m, if_pos (mem_sn.mpr (.inl m))]
      · rw [if_neg m, if_neg (fun q => (mem_sn.mp q).elim m e)]
def tsF (k : Nat) : Bool := hD k || hY k || k == 238 || k == 246
def pv (σ : mS) (v t : Int32) : Bool := decide (v ≤ t ∨ sI σ 238 t ≠ 0)
def esv (σ : mS) (es : Int32 → List Int32) (v : Int32) : Int32 → List Int32 := fun t => if t < v then (es t).filter (alv σ) else es t
def TSI (σ τ : mS) (ts fb : List Int32) (es : Int32 → List Int32) (v : Int32) : Prop := m_fr tsF σ τ ∧ (∃ ps hs ff fh, MX τ (ts.filter (pv σ v)) (esv σ es v) ps hs ff fh) ∧ (∃ ft, FT τ (ts.filter (pv σ v)) ft) ∧ (∀ x, 0 ≤ x → x < 3000 → sI τ 246 x = if x ∈ fb then 1 else 0) ∧ (∀ x, 0 ≤ x → x < v → sI τ 238 x = 0) ∧ (∀ x, v ≤ x → x < 3000 → sI τ 238 x = sI σ 238 x)
theorem stt_1 {v : Int32} (h0 : 0 ≤ v) (h1 : ¬ 3000 ≤ v) : (0 ≤ v ∧ v < 3000) ∧ (0 ≤ v + 1 ∧ v + 1 ≤ 3000) ∧ (v + 1).toInt = v.toInt + 1 ∧ v.toInt < 3000 ∧ (∀ d, d < v + 1 ↔ d < v ∨ d = v) ∧ (∀ d, v + 1 ≤ d ↔ v ≤ d ∧ d ≠ v) := by
  have h := Int32.not_le.mp h1
  refine ⟨⟨h0, h⟩, ⟨by lia, by lia⟩, tI_inc h0 (by lia), ?_, fun d => ⟨fun q => by lia, fun q => by rcases q with q | q <;> lia⟩, fun d => ⟨fun q => ⟨by lia, fun e => by lia⟩, fun q => by lia⟩⟩
  rw [tI_lt] at h
  exact h
/-- the mark of v is cleared, v is done -/
theorem TSI_z {σ τ : mS} {ts ts' fb : List Int32} {es : Int32 → List Int32} {v : Int32} (h0 : 0 ≤ v) (h1 : ¬ 3000 ≤ v) (fr : m_fr tsF σ τ) (M : ∃ ps hs ff fh, MX τ ts' (esv σ es (v + 1)) ps hs ff fh) (T : ∃ ft, FT τ ts' ft) (e : ts' = ts.filter (pv σ (v + 1))) (a4 : ∀ x, 0 ≤ x → x < 3000 → sI τ 246 x = if x ∈ fb then 1 else 0) (a5 : ∀ x, 0 ≤ x → x < v → sI τ 238 x = 0) (a6 : ∀ x, v ≤ x → x < 3000 → sI τ 238 x = sI σ 238 x) : TSI σ (md_ai τ 238 v.toNatClampNeg 0) ts fb es (v + 1) := by
  obtain ⟨r1, r2, r3, r4, r5, r6⟩ := stt_1 h0 h1
  subst e
  have fr' : m_fr (fun k => k == 238) τ (md_ai τ 238 v.toNatClampNeg 0) := mf_ai mf_rfl rfl
  refine ⟨mf_ai fr (by decide), ?_, ?_, fun x x0 x1 => ?_, fun x x0 x1 => ?_, fun x x0 x1 => ?_⟩
  · obtain ⟨ps, hs, ff, fh, F, H, B, E⟩ := M
    exact ⟨ps, hs, ff, fh, mf_FX2 fr' ⟨rfl, rfl, rfl, rfl, rfl, rfl⟩ ⟨rfl, rfl, rfl, rfl, rfl⟩ F, mf_HS fr' ⟨rfl, rfl, rfl, rfl, rfl, rfl, rfl, rfl, rfl⟩ H, fun t ht => mf_HB fr' rfl rfl rfl rfl (mf_I fr' rfl) (B t ht), mf_EX fr' ⟨rfl, rfl, rfl, rfl, rfl, rfl, rfl, rfl⟩ E⟩
  · obtain ⟨ft, t1, t2, t3, t4, t5⟩ := T
    exact ⟨ft, by rw [mf_F fr' (k := 210) rfl]; exact seg_congr t1 (fun x _ => mf_I fr' rfl), t2, t3, by rw [mf_F fr' (k := 211) rfl]; exact t4, t5⟩
  · rw [sI_ai1 (by decide)]; exact a4 x x0 x1
  · rw [sI_ai h0 x0]
    by_cases e : x = v
    · rw [if_pos ⟨rfl, e⟩]
    · rw [if_neg (fun q => e q.2)]
      exact a5 x x0 (((r5 x).mp x1).resolve_right e)
  · have q := (r6 x).mp x0
    rw [sI_ai h0 (Int32.le_trans h0 q.1), if_neg (fun w => q.2 w.2)]
    exact a6 x q.1 x1
theorem pv_same {σ : mS} {ts : List Int32} {v : Int32} (h0 : 0 ≤ v) (h1 : ¬ 3000 ≤ v) (h : v ∈ ts → sI σ 238 v ≠ 0) : ts.filter (pv σ v) = ts.filter (pv σ (v + 1)) := by
  obtain ⟨r1, r2, r3, r4, r5, r6⟩ := stt_1 h0 h1
  refine List.filter_congr (fun t ht => ?_)
  simp only [pv]
  congr 1
  rw [r6 t]
  refine propext ⟨fun q => ?_, fun q => ?_⟩
  · rcases q with q | q
    · by_cases e : t = v
      · exact .inr (by rw [e]; exact h (by rw [← e]; exact ht))
      · exact .inl ⟨q, e⟩
    · exact .inr q
  · rcases q with q | q
    · exact .inl q.1
    · exact .inr q
theorem pv_rmv {σ : mS} {ts : List Int32} {v : Int32} (h0 : 0 ≤ v) (h1 : ¬ 3000 ≤ v) (h : sI σ 238 v = 0) : rmv (ts.filter (pv σ v)) v = ts.filter (pv σ (v + 1)) := by
  obtain ⟨r1, r2, r3, r4, r5, r6⟩ := stt_1 h0 h1
  rw [rmv, List.filter_filter]
  refine List.filter_congr (fun t ht => ?_)
  simp only [pv]
  by_cases e : t = v
  · rw [e, h]
    have : ¬ (v + 1 ≤ v) := fun q => ((r6 v).mp q).2 rfl
    simp [this]
  · have : (v + 1 ≤ t) = (v ≤ t) := propext ⟨fun q => ((r6 t).mp q).1, fun q => (r6 t).mpr ⟨q, e⟩⟩
    simp [e, this]
theorem esv_s {σ : mS} {es : Int32 → List Int32} {v : Int32} (h0 : 0 ≤ v) (h1 : ¬ 3000 ≤ v) : esv σ es (v + 1) = fU (esv σ es v) v ((es v).filter (alv σ)) := by
  obtain ⟨r1, r2, r3, r4, r5, r6⟩ := stt_1 h0 h1
  funext t
  simp only [esv, fU]
  by_cases e : t = v
  · rw [if_pos e, if_pos ((r5 t).mpr (.inr e)), e]
  · rw [if_neg e]
    by_cases q : t < v
    · rw [if_pos q, if_pos ((r5 t).mpr (.inl q))]
    · rw [if_neg q, if_neg (fun w => ((r5 t).mp w).elim q e)]
theorem esv_v {σ : mS} {es : Int32 → List Int32} {v : Int32} : esv σ es v v = es v := by
  simp only [esv]
  rw [if_neg Int32.lt_irrefl]
/-- a table that isn't in use counts for nothing -/
theorem MX_es {τ : mS} {ts ff fh : List Int32} {es es' ps hs : Int32 → List Int32} (M : MX τ ts es ps hs ff fh) (h : ∀ t, t ∈ ts → es' t = es t) : MX τ ts es' ps hs ff fh := by
  obtain ⟨F, H, B, E1, E2, E3, E4, E5, E6, E7⟩ := M
  refine ⟨⟨fun t ht => by rw [h t ht]; exact F.1 t ht, fun p p0 p1 => ?_, fun t ht => by rw [h t ht]; exact F.2.2 t ht⟩, ⟨fun t ht => by rw [h t ht]; exact H.1 t ht, H.2⟩, fun t ht => by rw [h t ht]; exact B t ht, E1, fun t ht => by rw [h t ht]; exact E2 t ht, E3, E4, fun x hx => ⟨(E5 x hx).1, (E5 x hx).2.1, fun t ht => by rw [h t ht]; exact (E5 x hx).2.2 t ht⟩, E6, ?_⟩
  · obtain ⟨a1, a2, a3⟩ := F.2.1 p p0 p1
    refine ⟨a1, a2, fun x => ?_⟩
    rw [a3 x]
    refine ⟨fun ⟨⟨t, q1, q2⟩, q3⟩ => ⟨⟨t, q1, by rw [h t q1]; exact q2⟩, q3⟩, fun ⟨⟨t, q1, q2⟩, q3⟩ => ⟨⟨t, q1, by rw [← h t q1]; exact q2⟩, q3⟩⟩
  · rw [E7]
    congr 2
    exact List.map_congr_left (fun t ht => by rw [h t ht])
theorem st36 {N : Nat} (hN : BIG ≤ N) {σ : mS} {ts fb : List Int32} {es : Int32 → List Int32} (hd : dst σ) (hfb : ∀ x, 0 ≤ x → x < 3000 → (x ∈ fb ↔ x ∉ ts)) : ∀ (j : Nat) (v : Int32) (τ : mS), TSI σ τ ts fb es v → 0 ≤ v → v ≤ 3000 → (3000 - v.toInt).toNat < j → ∃ τ', xx3_sweep_b36 N j v τ = bd (xx3_sweepFunctions N τ') (fun z4 => bd (xx3_sweepBoxes N z4) (fun z5 => bd (xx2_sweep N z5) (fun z6 => some z6))) ∧ TSI σ τ' ts fb es 3000 := by
  intro j
  induction j with
  | zero => intro v τ _ _ _ h; omega
  | succ j ih =>
    intro v τ S h0 h1 hj
    rw [xx3_sweep_b36]
    by_cases c : 3000 ≤ v
    · have e := Int32.le_antisymm h1 c
      subst e
      rw [if_pos c]
      exact ⟨τ, rfl, S⟩
    · obtain ⟨r1, r2, r3, r4, r5, r6⟩ := stt_1 h0 c
      obtain ⟨a1, ⟨ps, hs, ff, fh, M⟩, ⟨ft, T⟩, a4, a5, a6⟩ := S
      have e246 := a4 v r1.1 r1.2
      have e238 := a6 v (Int32.le_refl _) r1.2
      have alE : alv τ = alv σ := by
        funext x
        simp only [alv]
        rw [mf_I a1 (k := 214) rfl]
      have hd' : dst τ := (mf_FX a1 ⟨rfl, rfl, rfl, rfl, rfl, rfl⟩).2.2 hd
      rw [if_neg c, gd_in (by decide) r1.1 r1.2]
      simp only [lt, sI_fold]
      rw [e246]
      by_cases m : v ∈ fb
      · have nt := (hfb v r1.1 r1.2).mp m
        rw [if_pos m, if_neg (by decide), xx3_sweep_b77, gd_in (by decide) r1.1 r1.2, nar_b0]
        refine ih (v + 1) _ (TSI_z h0 c a1 ⟨ps, hs, ff, fh, MX_es M (fun t ht => ?_)⟩ ⟨ft, T⟩ (pv_same h0 c (fun w => absurd w nt)) a4 a5 a6) r2.1 r2.2 (by omega)
        rw [esv_s h0 c, fU_o (fun e => nt (by rw [← e]; exact (List.mem_filter.mp ht).1))]
      · have vt : v ∈ ts := Classical.byContradiction (fun q => m ((hfb v r1.1 r1.2).mpr q))
        have vt' : v ∈ ts.filter (pv σ v) := List.mem_filter.mpr ⟨vt, by simp [pv]⟩
        -- behind bury
        have B : ∃ τ1 ps1 ff1, (if sI τ 200 v ≤ 0 then xx3_sweep_b63 N (xx3_sweep_b36 N j) v τ else bd (xx3_bury N τ v) (fun z7 => xx3_sweep_b63 N (xx3_sweep_b36 N j) v z7)) = xx3_sweep_b63 N (xx3_sweep_b36 N j) v τ1 ∧ MX τ1 (ts.filter (pv σ v)) (esv σ es (v + 1)) ps1 hs ff1 fh ∧ FT τ1 (ts.filter (pv σ v)) ft ∧ m_fr hY τ τ1 := by
          by_cases d : sI τ 200 v ≤ 0
          · rw [if_pos d]
            refine ⟨τ, ps, ff, rfl, MX_es M (fun t ht => ?_), T, mf_rfl⟩
            rw [esv_s h0 c]
            by_cases e : t = v
            · rw [e, fU_s, esv_v]
              have := (M.2.2.2.2.1 v vt').2.2.2.2
              rw [esv_v, alE] at this
              rw [tI_le, show (0 : Int32).toInt = 0 from rfl] at d
              have z : ((es v).filter (fun e => !alv σ e)).length = 0 := by omega
              refine List.filter_eq_self.mpr (fun x hx => ?_)
              have := List.filter_eq_nil_iff.mp (List.eq_nil_of_length_eq_zero z) x hx
              simpa using this
            · rw [fU_o e]
          · rw [if_neg d]
            obtain ⟨τ1, ps1, ff1, b1, b2, b3, b4⟩ := bury_x hN M vt'
            rw [esv_v, alE] at b2
            refine ⟨τ1, ps1, ff1, by rw [b1]; rfl, by rw [esv_s h0 c]; exact b2, ?_, b4⟩
            obtain ⟨t1, t2, t3, t4, t5⟩ := T
            exact ⟨by rw [mf_F b4 (k := 210) rfl]; exact seg_congr t1 (fun x _ => mf_I b4 rfl), t2, t3, by rw [mf_F b4 (k := 211) rfl]; exact t4, t5⟩
        obtain ⟨τ1, ps1, ff1, b1, M1, T1, fr1⟩ := B
        have fr2 : m_fr tsF σ τ1 := mf_tr a1 (mf_mono fr1 (fun k hk => by
          simp only [tsF, Bool.or_eq_false_iff] at hk
          exact hk.1.1.2))
        have c4 : ∀ x, 0 ≤ x → x < 3000 → sI τ1 246 x = if x ∈ fb then 1 else 0 := fun x x0 x1 => by rw [mf_I fr1 rfl]; exact a4 x x0 x1
        have c5 : ∀ x, 0 ≤ x → x < v → sI τ1 238 x = 0 := fun x x0 x1 => by rw [mf_I fr1 rfl]; exact a5 x x0 x1
        have c6 : ∀ x, v ≤ x → x < 3000 → sI τ1 238 x = sI σ 238 x := fun x x0 x1 => by rw [mf_I fr1 rfl]; exact a6 x x0 x1
        have hd1 : dst τ1 := (mf_FX fr1 ⟨rfl, rfl, rfl, rfl, rfl, rfl⟩).2.2 hd'
        rw [if_neg m, if_pos rfl, gd_in (by decide) r1.1 r1.2, b1, xx3_sweep_b63, gd_in (by decide) r1.1 r1.2]
        simp only [sI_fold]
        rw [c6 v (Int32.le_refl _) r1.2]
        by_cases z : sI σ 238 v = 0
        · obtain ⟨τ2, ps2, hs2, ff2, fh2, d1, M2, T2, fr3, _⟩ := drop_x hN M1 hd1 T1 vt'
          rw [if_pos z, d1]
          simp only [bd]
          rw [xx3_sweep_b77, gd_in (by decide) r1.1 r1.2, nar_b0]
          simp only [lt]
          exact ih (v + 1) _ (TSI_z h0 c (mf_tr fr2 (mf_mono fr3 (fun k hk => by
            simp only [tsF, Bool.or_eq_false_iff] at hk
            exact hk.1.1.1))) ⟨ps2, hs2, ff2, fh2, M2⟩ ⟨v :: ft, T2⟩ (pv_rmv h0 c z) (fun x x0 x1 => by rw [mf_I fr3 rfl]; exact c4 x x0 x1) (fun x x0 x1 => by rw [mf_I fr3 rfl]; exact c5 x x0 x1) (fun x x0 x1 => by rw [mf_I fr3 rfl]; exact c6 x x0 x1)) r2.1 r2.2 (by omega)
        · rw [if_neg z, xx3_sweep_b77, gd_in (by decide) r1.1 r1.2, nar_b0]
          simp only [lt]
          exact ih (v + 1) _ (TSI_z h0 c fr2 ⟨ps1, hs, ff1, fh, M1⟩ ⟨ft, T1⟩ (pv_same h0 c (fun _ => z)) c4 c5 c6) r2.1 r2.2 (by omega)
/-- the tables that are not marked go; what comes behind them -/
theorem sweepT_x {N : Nat} (hN : BIG ≤ N) {σ : mS} {ts ft ff fh : List Int32} {es ps hs : Int32 → List Int32} (M : MX σ ts es ps hs ff fh) (hd : dst σ) (T : FT σ ts ft) : ∃ τ, xx3_sweep N σ = bd (xx3_sweepFunctions N τ) (fun z4 => bd (xx3_sweepBoxes N z4) (fun z5 => bd (xx2_sweep N z5) (fun z6 => some z6))) ∧ (∃ ps hs ff fh, MX τ (ts.filter (mkd σ 238)) (fun t => (es t).filter (alv σ)) ps hs ff fh) ∧ (∃ ft, FT τ (ts.filter (mkd σ 238)) ft) ∧ (∀ x, 0 ≤ x → x < 3000 → sI τ 238 x = 0) ∧ m_fr tsF σ τ := by
  have trg : ∀ t, t ∈ ts → 0 ≤ t ∧ t < 3000 := fun t ht => ⟨(M.2.1.1 t ht).1, (M.2.1.1 t ht).2.1⟩
  obtain ⟨τ0, e0, fr0, z0⟩ := fl2_x (σ := σ) hN bo_246.1 bo_246.2.1 bo_246.2.2 (by decide) (by decide)
  obtain ⟨T1, T2, T3, T4, T5⟩ := T
  have hfb : ∀ x, 0 ≤ x → x < 3000 → (x ∈ ft ↔ x ∉ ts) := fun x x0 x1 => by
    refine ⟨fun h => (T3 x h).2.2, fun h => Classical.byContradiction (fun q => ?_)⟩
    have nd2 : (x :: (ts ++ ft)).Nodup := List.nodup_cons.mpr ⟨fun w => (List.mem_append.mp w).elim h q, List.nodup_append.mpr ⟨M.2.2.2.1, T2, fun a ha b hb e => (T3 b hb).2.2 (by rw [← e]; exact ha)⟩⟩
    have := nd_M (M := 3000) nd2 (fun y hy => by
      rcases List.mem_cons.mp hy with w | w
      · rw [w]; exact ⟨x0, x1⟩
      · rcases List.mem_append.mp w with w | w
        · exact trg y w
        · exact ⟨(T3 y w).1, (T3 y w).2.1⟩)
    rw [show (3000 : Int32).toInt = 3000 from rfl] at this
    simp only [List.length_cons, List.length_append] at this
    omega
  obtain ⟨τ1, e1, fr1, h1⟩ := st15 (N := N) (σ := σ) (fb := ft) (fun x hx => ⟨(T3 x hx).1, (T3 x hx).2.1⟩) ft [] N (sF τ0 210) τ0 rfl (by simp only [BIG] at hN; omega) (by rw [mf_F fr0 (k := 210) rfl]; exact T1) fr0 (fun x x0 x1 => by rw [z0 x x0 x1, if_neg (by simp)])
  have p0 : ts.filter (pv σ 0) = ts := List.filter_eq_self.mpr (fun t ht => by simp [pv, (trg t ht).1])
  have p1 : ts.filter (pv σ 3000) = ts.filter (mkd σ 238) := List.filter_congr (fun t ht => by
    have : ¬ (3000 : Int32) ≤ t := Int32.not_le.mpr (trg t ht).2
    simp [pv, mkd, this])
  obtain ⟨τ, e2, S⟩ := st36 hN (σ := σ) (ts := ts) (fb := ft) (es := es) hd hfb N 0 τ1 ⟨mf_mono fr1 (fun k hk => by
      simp only [tsF, Bool.or_eq_false_iff, beq_eq_false_iff_ne] at hk
      simp only [beq_eq_false_iff_ne]
      exact hk.2), by
      rw [p0]
      obtain ⟨F, H, B, E⟩ := M
      exact ⟨ps, hs, ff, fh, MX_es ⟨mf_FX2 fr1 ⟨rfl, rfl, rfl, rfl, rfl, rfl⟩ ⟨rfl, rfl, rfl, rfl, rfl⟩ F, mf_HS fr1 ⟨rfl, rfl, rfl, rfl, rfl, rfl, rfl, rfl, rfl⟩ H, fun t ht => mf_HB fr1 rfl rfl rfl rfl (mf_I fr1 rfl) (B t ht), mf_EX fr1 ⟨rfl, rfl, rfl, rfl, rfl, rfl, rfl, rfl⟩ E⟩ (fun t ht => by
        simp only [esv]
        rw [if_neg (Int32.not_lt.mpr (trg t ht).1)])⟩, by
      rw [p0]
      exact ⟨ft, by rw [mf_F fr1 (k := 210) rfl]; exact seg_congr T1 (fun x _ => mf_I fr1 rfl), T2, T3, by rw [mf_F fr1 (k := 211) rfl]; exact T4, T5⟩, h1, fun x x0 x1 => absurd (Int32.lt_of_le_of_lt x0 x1) Int32.lt_irrefl, fun x _ _ => mf_I fr1 rfl⟩ (by decide) (by decide) (by
      simp only [BIG] at hN
      rw [show (0 : Int32).toInt = 0 from rfl]
      omega)
  obtain ⟨a1, ⟨ps', hs', ff', fh', M'⟩, T', a4, a5, a6⟩ := S
  rw [p1] at M' T'
  refine ⟨τ, ?_, ⟨ps', hs', ff', fh', MX_es M' (fun t ht => ?_)⟩, T', a5, a1⟩
  · rw [← e2, ← e1, xx3_sweep, e0]
    rfl
  · simp only [esv]
    rw [if_pos (trg t (List.mem_filter.mp ht).1).2]
