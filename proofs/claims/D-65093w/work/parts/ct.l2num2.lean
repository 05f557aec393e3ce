/-! LAYER 2: functions of the house: tonumber: the loops -/
theorem gw_1 {N : Nat} (big : 10000 < N) {l : List Int32} {g : Int32} {v : Int64} {σ μ : mS} (T : TT l σ μ) {k : Nat} (hk : k ≤ l.length) (h : g = 0 ∨ skL l k ≠ l.length) : xx8_giveWorth N σ (Int32.ofNat k) (Int32.ofNat l.length) g v = bx (xx8_giveNil N σ) (fun z1 => some (.ok z1)) := by
  have h4 := T.1
  have le := sk_le hk
  rw [xx8_giveWorth, sk_w T (l.length - k) k N (by omega) (by omega), xx8_giveWorth_b28]
  by_cases c : g = 0
  · rw [if_pos c]; rfl
  · rw [if_neg c, if_neg (fun q => (h.resolve_left c) ((oN_eq (by omega) (by omega)).mp q))]; rfl
theorem gw_2 {N : Nat} (big : 10000 < N) {l : List Int32} {g : Int32} {v : Int64} {σ μ : mS} (T : TT l σ μ) {k : Nat} (hk : k ≤ l.length) (h : g ≠ 0) (h' : skL l k = l.length) : xx8_giveWorth N σ (Int32.ofNat k) (Int32.ofNat l.length) g v = bx (xx8_giveNumber N σ v) (fun z1 => some (.ok z1)) := by
  have h4 := T.1
  rw [xx8_giveWorth, sk_w T (l.length - k) k N (by omega) (by omega), xx8_giveWorth_b28, if_neg h, h', if_pos rfl]; rfl
theorem at_o {l : List Int32} {k : Nat} (h : l.length ≤ k) : atL l k = -1 := by rw [atL, if_neg (by omega)]
theorem dec_2 {N : Nat} {l : List Int32} {σ μ : mS} (T : TT l σ μ) {v3 v2 v5 : Int32} : ∀ (c k n n' : Nat) (v : Int64) (g : Int32), k + c = l.length → c < n → c < n' → ∃ (k' : Nat) (v' : Int64) (g' : Int32), xx8_ofText_b132 N n (Int32.ofNat l.length) (Int32.ofNat k) v3 0 v5 v g σ = xx8_ofText_b248 N (Int32.ofNat l.length) (Int32.ofNat k') v3 v5 v' g' σ ∧ mm_givePlain_113 N n' (Int32.ofNat k) v2 v v5 g μ = mm_givePlain_178 N (Int32.ofNat k') v2 v' v5 g' μ ∧ k' ≤ l.length := by
  have h4 := T.1
  intro c
  induction c with
  | zero =>
    intro k n n' v g hk hn hn'
    obtain ⟨n, rfl⟩ : ∃ j, n = j + 1 := ⟨n - 1, by omega⟩
    obtain ⟨n', rfl⟩ : ∃ j, n' = j + 1 := ⟨n' - 1, by omega⟩
    refine ⟨k, v, g, ?_, ?_, by omega⟩
    · rw [xx8_ofText_b132, if_pos (by rw [oN_le (by omega) (by omega)]; omega)]
    · rw [mm_givePlain_113, at_m T (by omega), bd_so, dg_m, bd_so]
      dsimp only
      rw [at_o (by omega), if_neg (show ¬ dgB' (-1) = true by decide), if_pos rfl]
  | succ c ih =>
    intro k n n' v g hk hn hn'
    obtain ⟨n, rfl⟩ : ∃ j, n = j + 1 := ⟨n - 1, by omega⟩
    obtain ⟨n', rfl⟩ : ∃ j, n' = j + 1 := ⟨n' - 1, by omega⟩
    obtain ⟨b1, b2⟩ := TT_x T (k := k) (by omega)
    have ea : atL l k = l.getD k 0 := by rw [atL, if_pos (by omega)]
    cases e : dgB' (l.getD k 0)
    · refine ⟨k, v, g, ?_, ?_, by omega⟩
      · rw [xx8_ofText_b132, if_neg (oN_nle (by omega) (by omega)), if_pos rfl, gd_oN (by omega) (by decide), oN_cl (by omega), dg_x, bd_so, dg_B b1, b2, e]
        dsimp only
        rw [if_neg (show ¬ false = true by decide), if_pos rfl]
      · rw [mm_givePlain_113, at_m T (by omega), bd_so, dg_m, bd_so, ea, e]
        dsimp only
        rw [if_neg (show ¬ false = true by decide), if_pos rfl]
    · have wd : woV (l.getD k 0) = l.getD k 0 - 48 := by rw [woV, if_pos e]
      have recu := ih (k + 1) n n' (v * 10 + Int32.toInt64 (l.getD k 0 - 48)) (if g = 0 then 0 else if 0 < lg_cmp v ((9223372036854775807 - Int32.toInt64 (l.getD k 0 - 48)) / 10) then 0 else 1) (by omega) (by omega) (by omega)
      obtain ⟨k', v', g', r1, r2, r3⟩ := recu
      refine ⟨k', v', g', ?_, ?_, r3⟩
      · have b212 : ∀ y : Int32, xx8_ofText_b212 N (xx8_ofText_b132 N n) (Int32.ofNat l.length) (Int32.ofNat k) v3 0 v5 v (l.getD k 0 - 48) y σ = xx8_ofText_b132 N n (Int32.ofNat l.length) (Int32.ofNat (k + 1)) v3 0 v5 (v * 10 + Int32.toInt64 (l.getD k 0 - 48)) y σ := fun y => by
          rw [xx8_ofText_b212, if_pos rfl, xx8_ofText_b240, lt, oN_s]
        rw [xx8_ofText_b132, if_neg (oN_nle (by omega) (by omega)), if_pos rfl, gd_oN (by omega) (by decide), oN_cl (by omega), dg_x, bd_so, dg_B b1, b2, e]
        dsimp only
        rw [if_pos rfl, if_neg (show ¬ (1 : Int32) = 0 by decide), xx8_ofText_b169, gd_oN (by omega) (by decide), oN_cl (by omega), wo_x, bd_so, wo_B b1, b2, wd]
        dsimp only
        rw [← r1]
        by_cases c0 : g = 0
        · rw [if_pos c0, if_pos c0, xx8_ofText_b211, b212]
        · rw [if_neg c0, if_neg c0, if_pos rfl, show (!decide ((10 : Int64) = 0)) = true from by decide, gd_tt]
          by_cases c1 : 0 < lg_cmp v ((9223372036854775807 - Int32.toInt64 (l.getD k 0 - 48)) / 10)
          · rw [if_pos c1, if_pos c1, xx8_ofText_b211, b212]
          · rw [if_neg c1, if_neg c1, xx8_ofText_b207, b212]
      · have b160 : ∀ y : Int32, mm_givePlain_160 N (mm_givePlain_113 N n') (Int32.ofNat k) v2 v v5 (l.getD k 0 - 48) y μ = mm_givePlain_113 N n' (Int32.ofNat (k + 1)) v2 (v * 10 + Int32.toInt64 (l.getD k 0 - 48)) v5 y μ := fun y => by
          rw [mm_givePlain_160, lt, lt, oN_s]
        rw [mm_givePlain_113, at_m T (by omega), bd_so, dg_m, bd_so, ea, e]
        dsimp only
        rw [if_pos rfl, if_neg (show ¬ (1 : Int32) = 0 by decide), at_m T (by omega), bd_so, lt, ea]
        dsimp only
        rw [← r2]
        by_cases c0 : g = 0
        · rw [if_pos c0, if_pos c0, mm_givePlain_159, b160]
        · rw [if_neg c0, if_neg c0, show (!decide ((10 : Int64) = 0)) = true from by decide, gd_tt]
          by_cases c1 : 0 < lg_cmp v ((9223372036854775807 - Int32.toInt64 (l.getD k 0 - 48)) / 10)
          · rw [if_pos c1, if_pos c1, mm_givePlain_159, b160]
          · rw [if_neg c1, if_neg c1, b160]
theorem hex_2 {N : Nat} {l : List Int32} {σ μ : mS} (T : TT l σ μ) {v3 v2 v5 v4 : Int32} (h4' : v4 ≠ 0) : ∀ (c k n n' : Nat) (v : Int64), k + c = l.length → c < n → c < n' → ∃ (k' : Nat) (v' : Int64), xx8_ofText_b132 N n (Int32.ofNat l.length) (Int32.ofNat k) v3 v4 v5 v 1 σ = xx8_ofText_b248 N (Int32.ofNat l.length) (Int32.ofNat k') v3 v5 v' 1 σ ∧ mm_givePlain_82 N n' (Int32.ofNat k) v2 v v5 1 μ = mm_givePlain_178 N (Int32.ofNat k') v2 v' v5 1 μ ∧ k' ≤ l.length := by
  have h4 := T.1
  intro c
  induction c with
  | zero =>
    intro k n n' v hk hn hn'
    obtain ⟨n, rfl⟩ : ∃ j, n = j + 1 := ⟨n - 1, by omega⟩
    obtain ⟨n', rfl⟩ : ∃ j, n' = j + 1 := ⟨n' - 1, by omega⟩
    refine ⟨k, v, ?_, ?_, by omega⟩
    · rw [xx8_ofText_b132, if_pos (by rw [oN_le (by omega) (by omega)]; omega)]
    · rw [mm_givePlain_82, at_m T (by omega), bd_so, wo_m, bd_so]
      dsimp only
      rw [at_o (by omega), if_pos (show woV (-1) < 0 by decide)]
  | succ c ih =>
    intro k n n' v hk hn hn'
    obtain ⟨n, rfl⟩ : ∃ j, n = j + 1 := ⟨n - 1, by omega⟩
    obtain ⟨n', rfl⟩ : ∃ j, n' = j + 1 := ⟨n' - 1, by omega⟩
    obtain ⟨b1, b2⟩ := TT_x T (k := k) (by omega)
    have ea : atL l k = l.getD k 0 := by rw [atL, if_pos (by omega)]
    by_cases e : woV (l.getD k 0) < 0
    · refine ⟨k, v, ?_, ?_, by omega⟩
      · rw [xx8_ofText_b132, if_neg (oN_nle (by omega) (by omega)), if_neg h4', gd_oN (by omega) (by decide), oN_cl (by omega), wo_x, bd_so, wo_B b1, b2]
        dsimp only
        rw [if_pos e]
      · rw [mm_givePlain_82, at_m T (by omega), bd_so, wo_m, bd_so, ea]
        dsimp only
        rw [if_pos e]
    · obtain ⟨k', v', r1, r2, r3⟩ := ih (k + 1) n n' (v <<< (Int32.toInt64 4 &&& 63) ||| Int32.toInt64 (woV (l.getD k 0))) (by omega) (by omega) (by omega)
      refine ⟨k', v', ?_, ?_, r3⟩
      · rw [xx8_ofText_b132, if_neg (oN_nle (by omega) (by omega)), if_neg h4', gd_oN (by omega) (by decide), oN_cl (by omega), wo_x, bd_so, wo_B b1, b2]
        dsimp only
        rw [if_neg e, xx8_ofText_b169, gd_oN (by omega) (by decide), oN_cl (by omega), wo_x, bd_so, wo_B b1, b2]
        dsimp only
        rw [if_neg (show ¬ (1 : Int32) = 0 by decide), if_neg h4', xx8_ofText_b207, xx8_ofText_b212, if_neg h4', xx8_ofText_b240, lt, oN_s, r1]
      · rw [mm_givePlain_82, at_m T (by omega), bd_so, wo_m, bd_so, ea]
        dsimp only
        rw [if_neg e, at_m T (by omega), bd_so, wo_m, bd_so, lt, lt, ea, oN_s, r2]
theorem bas_2 {N : Nat} {l : List Int32} {σ μ : mS} (T : TT l σ μ) {b v4 v5 v3 : Int32} (hb : b ≤ 36) : ∀ (c k n n' : Nat) (v : Int64), k + c = l.length → c < n → c < n' → ∃ (k' : Nat) (v' : Int64), xx8_ofBase_b67 N n (Int32.ofNat l.length) b (Int32.ofNat k) v4 v5 v σ = xx8_ofBase_b109 N (Int32.ofNat l.length) (Int32.ofNat k') v4 v5 v' σ ∧ mm_giveBased_40 N n' b (Int32.ofNat k) v3 v5 v μ = (if Int32.ofNat k' ≤ v5 then mm_giveBased_97 N v3 v' μ else bd (mm_skip N μ (Int32.ofNat k')) (fun z4 => if z4.1 = sF z4.2 224 then mm_giveBased_98 N v3 v' 1 z4.2 else mm_giveBased_97 N v3 v' z4.2)) ∧ k' ≤ l.length := by
  have h4 := T.1
  intro c
  induction c with
  | zero =>
    intro k n n' v hk hn hn'
    obtain ⟨n, rfl⟩ : ∃ j, n = j + 1 := ⟨n - 1, by omega⟩
    obtain ⟨n', rfl⟩ : ∃ j, n' = j + 1 := ⟨n' - 1, by omega⟩
    refine ⟨k, v, ?_, ?_, by omega⟩
    · rw [xx8_ofBase_b67, if_pos (by rw [oN_le (by omega) (by omega)]; omega)]
    · rw [mm_giveBased_40, at_m T (by omega), bd_so, wa_m, bd_so]
      dsimp only
      rw [at_o (by omega), if_pos (show b ≤ waV (-1) from Int32.le_trans hb (by decide))]
      rfl
  | succ c ih =>
    intro k n n' v hk hn hn'
    obtain ⟨n, rfl⟩ : ∃ j, n = j + 1 := ⟨n - 1, by omega⟩
    obtain ⟨n', rfl⟩ : ∃ j, n' = j + 1 := ⟨n' - 1, by omega⟩
    obtain ⟨b1, b2⟩ := TT_x T (k := k) (by omega)
    have ea : atL l k = l.getD k 0 := by rw [atL, if_pos (by omega)]
    by_cases e : b ≤ waV (l.getD k 0)
    · refine ⟨k, v, ?_, ?_, by omega⟩
      · rw [xx8_ofBase_b67, if_neg (oN_nle (by omega) (by omega)), gd_oN (by omega) (by decide), oN_cl (by omega), wa_x, bd_so, wa_B b1, b2]
        dsimp only
        rw [if_pos e]
      · rw [mm_giveBased_40, at_m T (by omega), bd_so, wa_m, bd_so, ea]
        dsimp only
        rw [if_pos e]
        rfl
    · obtain ⟨k', v', r1, r2, r3⟩ := ih (k + 1) n n' (v * Int32.toInt64 b + Int32.toInt64 (waV (l.getD k 0))) (by omega) (by omega) (by omega)
      refine ⟨k', v', ?_, ?_, r3⟩
      · rw [xx8_ofBase_b67, if_neg (oN_nle (by omega) (by omega)), gd_oN (by omega) (by decide), oN_cl (by omega), wa_x, bd_so, wa_B b1, b2]
        dsimp only
        rw [if_neg e, gd_oN (by omega) (by decide), wa_x, bd_so, wa_B b1, b2, lt, lt, oN_s, r1]
      · rw [mm_giveBased_40, at_m T (by omega), bd_so, wa_m, bd_so, ea]
        dsimp only
        rw [if_neg e, at_m T (by omega), bd_so, wa_m, bd_so, lt, lt, ea, oN_s, r2]
/-- the end: a number, or nothing -/
theorem tn_end {L : LQ} {w : WD} {σ μ : mS} (H : LC L w 0 σ μ) {l : List Int32} (T : TT l σ μ) (big : 10000 < lNn L) {k : Nat} (hk : k ≤ l.length) (g : Int32) (v : Int64) : ∃ τ τm, bx (xx8_giveWorth (lNn L) σ (Int32.ofNat k) (Int32.ofNat l.length) g v) (fun z1 => some (Except.ok z1)) = some (.ok τ) ∧ mm_giveValue (lNn L) μ (if g ≠ 0 ∧ skL l k = l.length then 2 else 0) (if g ≠ 0 ∧ skL l k = l.length then v else 0) = some τm ∧ LC L w 1 τ τm := by
  have vn : VV w 3 v 2 v := .inr (.inr (.inr (.inl ⟨rfl, rfl, rfl⟩)))
  by_cases c : g ≠ 0 ∧ skL l k = l.length
  · obtain ⟨τ, τm, b1, b2, b3, _⟩ := give_L (N := lNn L) H (by decide) vn
    refine ⟨τ, τm, ?_, by rw [if_pos c, if_pos c]; exact b2, b3⟩
    rw [gw_2 big T hk c.1 c.2, xx8_giveNumber, b1, bx_so, bx_so, bx_so]
  · obtain ⟨τ, τm, b1, b2, b3, _⟩ := give_L (N := lNn L) H (by decide) (VV_nil (w := w))
    refine ⟨τ, τm, ?_, by rw [if_neg c, if_neg c]; exact b2, b3⟩
    rw [gw_1 big T hk (by by_cases q : g = 0 <;> simp_all), xx8_giveNil, b1, bx_so, bx_so, bx_so]
theorem sk_mm {N : Nat} (big : 10000 < N) {l : List Int32} {σ μ : mS} (T : TT l σ μ) {k : Nat} (hk : k ≤ l.length) : mm_skip N μ (Int32.ofNat k) = some (Int32.ofNat (skL l k), μ) := sk_m T (l.length - k) k N (by omega) (by have := T.1; omega)
theorem plain_end {L : LQ} {w : WD} {σ μ : mS} (H : LC L w 0 σ μ) {l : List Int32} (T : TT l σ μ) (big : 10000 < lNn L) {k f : Nat} (hk : k ≤ l.length) (hf : f ≤ 10000) (g mn : Int32) (v : Int64) : LO L w (xx8_ofText_b248 (lNn L) (Int32.ofNat l.length) (Int32.ofNat k) mn (Int32.ofNat f) v g σ) (mm_givePlain_178 (lNn L) (Int32.ofNat k) mn v (Int32.ofNat f) g μ) := by
  have h4 := T.1
  have le := sk_le hk
  have key : ∀ g' : Int32, (g' = 0 ∨ g' = 1) → (g' = 1 ↔ (g ≠ 0 ∧ f < k)) → LO L w (xx8_ofText_b267 (lNn L) mn v (Int32.ofNat k) (Int32.ofNat l.length) g' σ) (mm_givePlain_178 (lNn L) (Int32.ofNat k) mn v (Int32.ofNat f) g μ) := fun g' g01 gg => by
    obtain ⟨τ, τm, t1, t2, t3⟩ := tn_end H T big hk g' (if mn = 0 then v else -v)
    have sys : xx8_ofText_b267 (lNn L) mn v (Int32.ofNat k) (Int32.ofNat l.length) g' σ = some (.ok τ) := by
      rw [xx8_ofText_b267]
      by_cases c : mn = 0
      · rw [if_pos c] at t1 ⊢; rw [xx8_ofText_b279]; exact t1
      · rw [if_neg c] at t1 ⊢; rw [xx8_ofText_b279]; exact t1
    have b205 : ¬ (g' ≠ 0 ∧ skL l k = l.length) → mm_givePlain_205 (lNn L) mn v μ = some τm := fun q => by
      rw [if_neg q, if_neg q] at t2
      rw [mm_givePlain_205, mm_givePlain_206, if_pos rfl, mm_givePlain_219, if_pos rfl, mm_givePlain_238, t2, bd_so]
    have ref : mm_givePlain_178 (lNn L) (Int32.ofNat k) mn v (Int32.ofNat f) g μ = some τm := by
      rw [mm_givePlain_178]
      by_cases c0 : g = 0
      · rw [if_pos c0]
        exact b205 (fun q => by
          rcases g01 with r | r
          · exact q.1 r
          · exact (gg.mp r).1 c0)
      · rw [if_neg c0]
        by_cases c1 : f < k
        · have g1 : g' = 1 := gg.mpr ⟨c0, c1⟩
          rw [if_neg (oN_nle (by omega) c1), sk_mm big T hk, bd_so]
          dsimp only
          rw [sF_fold, T.2.2.2.1]
          by_cases c2 : skL l k = l.length
          · have q : g' ≠ 0 ∧ skL l k = l.length := ⟨by rw [g1]; decide, c2⟩
            rw [if_pos q, if_pos q] at t2
            rw [if_pos (by rw [c2]), mm_givePlain_206, if_neg (show ¬ (1 : Int32) = 0 by decide), mm_givePlain_219, if_neg (show ¬ (1 : Int32) = 0 by decide)]
            by_cases c : mn = 0
            · rw [if_pos c] at t2 ⊢; rw [mm_givePlain_238, t2, bd_so]
            · rw [if_neg c] at t2 ⊢; rw [mm_givePlain_238, t2, bd_so]
          · rw [if_neg (fun q => c2 ((oN_eq (by omega) (by omega)).mp q))]
            exact b205 (fun q => c2 q.2)
        · rw [if_pos (by rw [oN_le (by omega) (by omega)]; omega)]
          exact b205 (fun q => by
            rcases g01 with r | r
            · exact q.1 r
            · exact c1 (gg.mp r).2)
    rw [sys, ref]
    exact LO_ok t3
  rw [xx8_ofText_b248]
  by_cases c0 : g = 0
  · rw [if_pos c0, xx8_ofText_b266]
    exact key 0 (.inl rfl) ⟨fun q => absurd q (by decide), fun q => absurd c0 q.1⟩
  · rw [if_neg c0]
    by_cases c1 : f < k
    · rw [if_neg (oN_nle (by omega) c1)]
      exact key 1 (.inr rfl) ⟨fun _ => ⟨c0, c1⟩, fun _ => rfl⟩
    · rw [if_pos (by rw [oN_le (by omega) (by omega)]; omega), xx8_ofText_b266]
      exact key 0 (.inl rfl) ⟨fun q => absurd q (by decide), fun q => absurd q.2 c1⟩
theorem base_end {L : LQ} {w : WD} {σ μ : mS} (H : LC L w 0 σ μ) {l : List Int32} (T : TT l σ μ) (big : 10000 < lNn L) {k f : Nat} (hk : k ≤ l.length) (hf : f ≤ 10000) (mn : Int32) (v : Int64) : LO L w (xx8_ofBase_b109 (lNn L) (Int32.ofNat l.length) (Int32.ofNat k) mn (Int32.ofNat f) v σ) (if Int32.ofNat k ≤ Int32.ofNat f then mm_giveBased_97 (lNn L) mn v μ else bd (mm_skip (lNn L) μ (Int32.ofNat k)) (fun z4 => if z4.1 = sF z4.2 224 then mm_giveBased_98 (lNn L) mn v 1 z4.2 else mm_giveBased_97 (lNn L) mn v z4.2)) := by
  have h4 := T.1
  have le := sk_le hk
  have key : ∀ g' : Int32, (g' = 0 ∨ g' = 1) → (g' = 1 ↔ f < k) → LO L w (xx8_ofBase_b123 (lNn L) mn v (Int32.ofNat k) (Int32.ofNat l.length) g' σ) (if Int32.ofNat k ≤ Int32.ofNat f then mm_giveBased_97 (lNn L) mn v μ else bd (mm_skip (lNn L) μ (Int32.ofNat k)) (fun z4 => if z4.1 = sF z4.2 224 then mm_giveBased_98 (lNn L) mn v 1 z4.2 else mm_giveBased_97 (lNn L) mn v z4.2)) := fun g' g01 gg => by
    obtain ⟨τ, τm, t1, t2, t3⟩ := tn_end H T big hk g' (if mn = 0 then v else -v)
    have sys : xx8_ofBase_b123 (lNn L) mn v (Int32.ofNat k) (Int32.ofNat l.length) g' σ = some (.ok τ) := by
      rw [xx8_ofBase_b123]
      by_cases c : mn = 0
      · rw [if_pos c] at t1 ⊢; rw [xx8_ofBase_b136]; exact t1
      · rw [if_neg c] at t1 ⊢; rw [xx8_ofBase_b136]; exact t1
    have b205 : ¬ (g' ≠ 0 ∧ skL l k = l.length) → mm_giveBased_97 (lNn L) mn v μ = some τm := fun q => by
      rw [if_neg q, if_neg q] at t2
      rw [mm_giveBased_97, mm_giveBased_98, if_pos rfl, mm_giveBased_111, if_pos rfl, mm_giveBased_132, t2, bd_so]
    have ref : (if Int32.ofNat k ≤ Int32.ofNat f then mm_giveBased_97 (lNn L) mn v μ else bd (mm_skip (lNn L) μ (Int32.ofNat k)) (fun z4 => if z4.1 = sF z4.2 224 then mm_giveBased_98 (lNn L) mn v 1 z4.2 else mm_giveBased_97 (lNn L) mn v z4.2)) = some τm := by
      by_cases c1 : f < k
      · have g1 : g' = 1 := gg.mpr c1
        rw [if_neg (oN_nle (by omega) c1), sk_mm big T hk, bd_so]
        dsimp only
        rw [T.2.2.2.1]
        by_cases c2 : skL l k = l.length
        · have q : g' ≠ 0 ∧ skL l k = l.length := ⟨by rw [g1]; decide, c2⟩
          rw [if_pos q, if_pos q] at t2
          rw [if_pos (by rw [c2]), mm_giveBased_98, if_neg (show ¬ (1 : Int32) = 0 by decide), mm_giveBased_111, if_neg (show ¬ (1 : Int32) = 0 by decide)]
          by_cases c : mn = 0
          · rw [if_pos c] at t2 ⊢; rw [mm_giveBased_132, t2, bd_so]
          · rw [if_neg c] at t2 ⊢; rw [mm_giveBased_132, t2, bd_so]
        · rw [if_neg (fun q => c2 ((oN_eq (by omega) (by omega)).mp q))]
          exact b205 (fun q => c2 q.2)
      · rw [if_pos (by rw [oN_le (by omega) (by omega)]; omega)]
        exact b205 (fun q => by
          rcases g01 with r | r
          · exact q.1 r
          · exact c1 (gg.mp r))
    rw [sys, ref]
    exact LO_ok t3
  rw [xx8_ofBase_b109]
  by_cases c1 : f < k
  · rw [if_neg (oN_nle (by omega) c1)]
    exact key 1 (.inr rfl) ⟨fun _ => c1, fun _ => rfl⟩
  · rw [if_pos (show Int32.ofNat k ≤ Int32.ofNat f by rw [oN_le (by omega) (by omega)]; omega)]
    exact key 0 (.inl rfl) ⟨fun q => absurd q (by decide), fun q => absurd q c1⟩
