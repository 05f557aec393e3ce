/-! LAYER 2: what waits is laid together, whole -/
/-- those behind a lie where they lay, the others below v -/
def CHN (W : Int32 → Prop) (at0 sz at' : Int32 → Int32) (v a : Int32) : Prop := (-1 ≤ a ∧ 0 ≤ v) ∧ (∀ d, W d → 0 < sz d → (a < at0 d ∧ at' d = at0 d ∧ v ≤ at0 d) ∨ (at0 d ≤ a ∧ 0 ≤ at' d ∧ at' d + sz d ≤ v ∧ at' d ≤ a)) ∧ ∀ d e, W d → W e → d ≠ e → 0 < sz d → 0 < sz e → at0 d ≤ a → at0 e ≤ a → at' d + sz d ≤ at' e ∨ at' e + sz e ≤ at' d
theorem chn_1 {x y s t v M : Int32} (M1 : M ≤ 500000) (x0 : 0 ≤ x) (xM : x + s ≤ M) (s0 : 0 < s) (s1 : s ≤ M) (x1 : x ≤ M) (y1 : y + t ≤ M) (t0 : 0 < t) (t1 : t ≤ M) (y2 : y ≤ M) (y0 : 0 ≤ y) (xy : x ≤ y) (dj : x + s ≤ y ∨ y + t ≤ x) (v0 : 0 ≤ v) (vx : v ≤ x) : x < y ∧ v + s ≤ y ∧ x + s ≤ y := by
  rcases dj with d | d
  · exact ⟨by lia, by lia, d⟩
  · exfalso; lia
theorem chn_2 {x s v M : Int32} (M1 : M ≤ 500000) (x1 : x ≤ M) (s1 : s ≤ M) (s0 : 0 < s) (v0 : 0 ≤ v) (vx : v ≤ x) : 0 ≤ v + s ∧ v ≤ v + s := ⟨by lia, by lia⟩
theorem CHN_s {W : Int32 → Prop} {at0 sz at' au : Int32 → Int32} {v a b M : Int32} (M1 : M ≤ 500000) (rg : ∀ d, W d → 0 < sz d → 0 ≤ at0 d ∧ at0 d ≤ M ∧ sz d ≤ M ∧ at0 d + sz d ≤ M) (dj : ∀ d e, W d → W e → d ≠ e → 0 < sz d → 0 < sz e → at0 d + sz d ≤ at0 e ∨ at0 e + sz e ≤ at0 d) (H : CHN W at0 sz at' v a) (wb : W b) (sb : 0 < sz b) (ab : a < at' b) (mn : ∀ d, W d → 0 < sz d → a < at' d → at' b ≤ at' d) (hb : au b = v) (ho : ∀ d, W d → d ≠ b → au d = at' d) : CHN W at0 sz au (v + sz b) (at0 b) ∧ at' b = at0 b ∧ v ≤ at0 b ∧ a < at0 b ∧ (∀ d, W d → 0 < sz d → d ≠ b → a < at0 d → at0 b + sz b ≤ at0 d) := by
  obtain ⟨⟨a0, v0⟩, h1, h2⟩ := H
  have hB : a < at0 b ∧ at' b = at0 b ∧ v ≤ at0 b := by
    rcases h1 b wb sb with q | q
    · exact q
    · exact absurd ab (Int32.not_lt.mpr q.2.2.2)
  have rb := rg b wb sb
  have up : ∀ d, W d → 0 < sz d → d ≠ b → a < at0 d → at0 b < at0 d ∧ v + sz b ≤ at0 d ∧ at0 b + sz b ≤ at0 d := fun d wd sd ne ad => by
    have hd : at' d = at0 d := by
      rcases h1 d wd sd with q | q
      · exact q.2.1
      · exact absurd ad (Int32.not_lt.mpr q.1)
    have m := mn d wd sd (by rw [hd]; exact ad)
    rw [hB.2.1, hd] at m
    have rd := rg d wd sd
    exact chn_1 M1 rb.1 rb.2.2.2 sb rb.2.2.1 rb.2.1 rd.2.2.2 sd rd.2.2.1 rd.2.1 rd.1 m (dj b d wb wd (fun q => ne q.symm) sb sd) v0 hB.2.2
  have vs : 0 ≤ v + sz b ∧ v ≤ v + sz b := chn_2 M1 rb.2.1 rb.2.2.1 sb v0 hB.2.2
  refine ⟨⟨⟨Int32.le_trans (by decide) rb.1, vs.1⟩, fun d wd sd => ?_, fun d e wd we ne sd se ad ae => ?_⟩, hB.2.1, hB.2.2, hB.1, fun d wd sd ne ad => (up d wd sd ne ad).2.2⟩
  · by_cases q : d = b
    · subst q
      right
      rw [hb]
      exact ⟨Int32.le_refl _, v0, Int32.le_refl _, hB.2.2⟩
    · rw [ho d wd q]
      rcases h1 d wd sd with r | r
      · left
        have u := up d wd sd q r.1
        exact ⟨u.1, r.2.1, u.2.1⟩
      · right
        exact ⟨Int32.le_trans r.1 (Int32.le_of_lt hB.1), r.2.1, Int32.le_trans r.2.2.1 vs.2, Int32.le_trans r.2.2.2 (Int32.le_of_lt hB.1)⟩
  · have pd : ∀ f, W f → 0 < sz f → f ≠ b → at0 f ≤ at0 b → at0 f ≤ a := fun f wf sf nf af => by
      by_cases z : a < at0 f
      · exact absurd af (Int32.not_le.mpr (up f wf sf nf z).1)
      · exact Int32.not_lt.mp z
    by_cases qd : d = b
    · subst qd
      rw [hb, ho e we (fun q => ne q.symm)]
      right
      have ae' := pd e we se (fun q => ne q.symm) ae
      rcases h1 e we se with r | r
      · exact absurd r.1 (Int32.not_lt.mpr ae')
      · exact r.2.2.1
    · by_cases qe : e = b
      · subst qe
        rw [hb, ho d wd qd]
        left
        have ad' := pd d wd sd qd ad
        rcases h1 d wd sd with r | r
        · exact absurd r.1 (Int32.not_lt.mpr ad')
        · exact r.2.2.1
      · rw [ho d wd qd, ho e we qe]
        exact h2 d e wd we ne sd se (pd d wd sd qd ad) (pd e we se qe ae)
/-- how much is not laid yet -/
def sS (wb : Int32 → Bool) (at0 sz : Int32 → Int32) (L : List Int32) (a : Int32) : Int := (L.map (fun d => if wb d = true ∧ 0 < sz d ∧ a < at0 d then (sz d).toInt else 0)).sum
theorem sum_one {l : List Int32} {f g : Int32 → Int} {p : Int32} (nd : l.Nodup) (hp : p ∈ l) (h : ∀ x, x ∈ l → x ≠ p → g x = f x) : (l.map g).sum + f p = (l.map f).sum + g p := by
  induction l with
  | nil => exact absurd hp (by simp)
  | cons a l ih =>
    obtain ⟨n1, n2⟩ := List.nodup_cons.mp nd
    simp only [List.map_cons, List.sum_cons]
    rcases List.mem_cons.mp hp with q | q
    · subst q
      have : l.map g = l.map f := List.map_congr_left (fun x hx => h x (List.mem_cons_of_mem _ hx) (fun z => n1 (z ▸ hx)))
      rw [this]; omega
    · have := ih n2 q (fun x hx => h x (List.mem_cons_of_mem _ hx))
      have e := h a List.mem_cons_self (fun z => n1 (z ▸ q))
      rw [e]; omega
theorem sS_s {wb : Int32 → Bool} {W : Int32 → Prop} {at0 sz : Int32 → Int32} {L : List Int32} {a b : Int32} (nd : L.Nodup) (hW : ∀ d, wb d = true → d ∈ L → W d) (hb : b ∈ L) (wbb : wb b = true) (sb : 0 < sz b) (ab : a < at0 b) (up : ∀ d, W d → 0 < sz d → d ≠ b → a < at0 d → at0 b + sz b ≤ at0 d) (lt : ∀ d, at0 b + sz b ≤ d → at0 b < d) : (sz b).toInt + sS wb at0 sz L (at0 b) = sS wb at0 sz L a := by
  have := sum_one (f := fun d => if wb d = true ∧ 0 < sz d ∧ a < at0 d then (sz d).toInt else 0) (g := fun d => if wb d = true ∧ 0 < sz d ∧ at0 b < at0 d then (sz d).toInt else 0) nd hb (fun x hx ne => by
    by_cases c : wb x = true ∧ 0 < sz x ∧ a < at0 x
    · have u := lt _ (up x (hW x c.1 hx) c.2.1 ne c.2.2)
      rw [if_pos c, if_pos ⟨c.1, c.2.1, u⟩]
    · rw [if_neg c, if_neg (fun d => c ⟨d.1, d.2.1, Int32.lt_trans ab d.2.2⟩)])
  rw [if_pos ⟨wbb, sb, ab⟩, if_neg (fun d => Int32.lt_irrefl d.2.2)] at this
  simp only [sS]
  omega
theorem sS_0 {wb : Int32 → Bool} {at0 sz : Int32 → Int32} {L : List Int32} {a : Int32} : 0 ≤ sS wb at0 sz L a := by
  simp only [sS]
  induction L with
  | nil => simp
  | cons x l ih =>
    simp only [List.map_cons, List.sum_cons]
    have : 0 ≤ (if wb x = true ∧ 0 < sz x ∧ a < at0 x then (sz x).toInt else 0) := by
      by_cases c : wb x = true ∧ 0 < sz x ∧ a < at0 x
      · rw [if_pos c]
        have := c.2.1
        rw [tI_lt] at this
        have z0 : (0 : Int32).toInt = 0 := rfl
        omega
      · rw [if_neg c]; omega
    omega
def wtb (μ : mS) (d : Int32) : Bool := decide (0 ≤ d) && decide (d < 120) && decide (sI μ 170 d = 1) && decide (sI μ 156 d = 0) && decide (sI μ 159 d = 1)
theorem wtb_i {μ : mS} {d : Int32} : wtb μ d = true ↔ wts μ d := by
  simp only [wtb, wts, Bool.and_eq_true, decide_eq_true_eq, and_assoc]
def IV (μ τ : mS) (L : List Int32) (v a : Int32) : Prop := CHN (wts μ) (sI μ 163) (sI μ 164) (sI τ 163) v a ∧ (v ≤ 500000 ∧ a ≤ 500000) ∧ (∀ d, wts μ d → 0 < sI μ 164 d → ∀ i, 0 ≤ i → i < sI μ 164 d → sI τ 173 (sI τ 163 d + i) = sI μ 173 (sI μ 163 d + i) ∧ sJ τ 174 (sI τ 163 d + i) = sJ μ 174 (sI μ 163 d + i)) ∧ v.toInt + sS (wtb μ) (sI μ 163) (sI μ 164) L a = sS (wtb μ) (sI μ 163) (sI μ 164) L (-1)
def s10 (μ : mS) (d : Int32) : Int32 := 10 * sI μ 166 d
def IR (μ τ : mS) (L : List Int32) (v a : Int32) : Prop := CHN (wts μ) (sI μ 165) (s10 μ) (sI τ 165) v a ∧ (v ≤ 5000 ∧ a ≤ 5000) ∧ (∀ d, wts μ d → 0 < s10 μ d → ∀ i, 0 ≤ i → i < s10 μ d → sI τ 176 (sI τ 165 d + i) = sI μ 176 (sI μ 165 d + i)) ∧ v.toInt + sS (wtb μ) (sI μ 165) (s10 μ) L a = sS (wtb μ) (sI μ 165) (s10 μ) L (-1)
theorem mv_1 {x y s t v i M : Int32} (M1 : M ≤ 500000) (x1 : x + s ≤ M) (x0 : 0 ≤ x) (xM : x ≤ M) (s0 : 0 < s) (sM : s ≤ M) (y0 : 0 ≤ y) (yM : y ≤ M) (v0 : 0 ≤ v) (vx : v ≤ x) (i0 : 0 ≤ i) (i1 : i < t) (tM : t ≤ M) (yt : y + t ≤ M) (h : y + t ≤ v ∨ x + s ≤ y) : 0 ≤ y + i ∧ (y + i < v ∨ v + s ≤ y + i) := by
  rcases h with h | h
  · exact ⟨by lia, .inl (by lia)⟩
  · exact ⟨by lia, .inr (by lia)⟩
theorem mv_2 {x s d M : Int32} (M1 : M ≤ 500000) (x1 : x + s ≤ M) (x0 : 0 ≤ x) (xM : x ≤ M) (s0 : 0 < s) (sM : s ≤ M) (h : x + s ≤ d) : x < d := by lia
theorem mv_3 {x s v M : Int32} (M1 : M ≤ 500000) (x1 : x + s ≤ M) (x0 : 0 ≤ x) (xM : x ≤ M) (s0 : 0 < s) (sM : s ≤ M) (v0 : 0 ≤ v) (vx : v ≤ x) : v + s ≤ M ∧ (v + s).toInt = v.toInt + s.toInt := by
  refine ⟨by lia, ?_⟩
  exact tI_ad v0 (by lia) (by lia) (by lia)
theorem V_step {N : Nat} (hN : BIG ≤ N) {r9 : Int32 → Int32 → Int32 → Int32 → mS → Option mS} {μ τ : mS} {L : List Int32} {v a b v2 v4 v6 : Int32} (K : KL μ) (tg : ∀ d, wts μ d → ∀ i, 0 ≤ i → i < sI μ 164 d → 0 ≤ kpt μ d i ∧ kpt μ d i ≤ 8) (nd : L.Nodup) (hL : ∀ d, wts μ d → d ∈ L) (I : IV μ τ L v a) (e164 : ∀ x, sI τ 164 x = sI μ 164 x) (b0 : 0 ≤ b) (b1 : b < 120) (wb : wts μ b) (sb : 0 < sI τ 164 b) (ab : a < sI τ 163 b) (mn : ∀ d, 0 ≤ d → d < 120 → wts μ d → 0 < sI τ 164 d → a < sI τ 163 d → sI τ 163 b ≤ sI τ 163 d) : ∃ υ v' a', mm_layTogether_160 N r9 N v v2 (sI τ 163 b) v4 b v6 0 τ = mm_layTogether_232 N r9 v' v2 a' v4 b v6 υ ∧ m_fr tkM τ υ ∧ IV μ υ L v' a' ∧ a < a' := by
  obtain ⟨C, ⟨v5, a5⟩, D, S⟩ := I
  obtain ⟨k1, k2, k3, k4⟩ := K
  have M1 : (500000 : Int32) ≤ 500000 := Int32.le_refl _
  have rg : ∀ d, wts μ d → 0 < sI μ 164 d → 0 ≤ sI μ 163 d ∧ sI μ 163 d ≤ 500000 ∧ sI μ 164 d ≤ 500000 ∧ sI μ 163 d + sI μ 164 d ≤ 500000 := fun d wd sd => by
    obtain ⟨q1, q2, q3, q4, q5, q6⟩ := k3 d wd
    have := q5 sd
    exact ⟨this.1, this.2.1, q2, Int32.le_trans this.2.2 k1.2⟩
  rw [e164] at sb
  have step := CHN_s (au := fun x => if x = b then v else sI τ 163 x) M1 rg (fun d e wd we ne sd se => (k4 d e wd we ne).1 sd se) C wb sb ab (fun d wd sd ad => mn d wd.1 wd.2.1 wd (by rw [e164]; exact sd) ad) (by simp only [if_true]) (fun d _ ne => by simp only [if_neg ne])
  obtain ⟨C', e63, vx, ax, up⟩ := step
  have rb := rg b wb sb
  have v0 := C.1.2
  have b121 : b < 121 := Int32.lt_trans b1 (by decide)
  rw [e63]
  obtain ⟨υ, x1, x2, x3, x4, x5⟩ := lt160_lp (N := N) (r9 := r9) (σ := τ) (n := sI μ 164 b) (b := b) (a := sI μ 163 b) (v2 := v2) (v4 := v4) (v6 := v6) (v := v) b0 b121 (e164 b) (Int32.le_of_lt sb) rb.2.2.1 v0 vx rb.2.1 rb.2.2.2 (fun k h0 h1 => by
    have := D b wb sb k h0 h1
    rw [e63] at this
    rw [this.1]
    exact tg b wb k h0 h1) N 0 (by decide) (Int32.le_of_lt sb) (big_d hN) τ mf_rfl (fun _ => rfl) (fun k h0 h1 => absurd h1 (Int32.not_lt.mpr h0)) (fun _ _ _ => ⟨rfl, rfl⟩)
  have au : ∀ d, wts μ d → sI υ 163 d = if d = b then v else sI τ 163 d := fun d wd => x3 d wd.1
  have m3 := mv_3 M1 rb.2.2.2 rb.1 rb.2.1 sb rb.2.2.1 v0 vx
  refine ⟨υ, v + sI μ 164 b, sI μ 163 b, x1, x2, ⟨?_, ⟨m3.1, rb.2.1⟩, fun d wd sd i i0 i1 => ?_, ?_⟩, ax⟩
  · refine ⟨C'.1, fun d wd sd => ?_, fun d e wd we ne sd se ad ae => ?_⟩
    · rw [au d wd]; exact C'.2.1 d wd sd
    · rw [au d wd, au e we]; exact C'.2.2 d e wd we ne sd se ad ae
  · rw [au d wd]
    by_cases q : d = b
    · subst q
      rw [if_pos rfl, (x4 i i0 i1).1, (x4 i i0 i1).2]
      have := D d wd sd i i0 i1
      rw [e63] at this
      exact this
    · rw [if_neg q]
      have rd := rg d wd sd
      have cd := C.2.1 d wd sd
      have oo : 0 ≤ sI τ 163 d + i ∧ (sI τ 163 d + i < v ∨ v + sI μ 164 b ≤ sI τ 163 d + i) := by
        rcases cd with r | r
        · rw [r.2.1]
          exact mv_1 M1 rb.2.2.2 rb.1 rb.2.1 sb rb.2.2.1 rd.1 rd.2.1 v0 vx i0 i1 rd.2.2.1 rd.2.2.2 (.inr (up d wd sd q r.1))
        · exact mv_1 M1 rb.2.2.2 rb.1 rb.2.1 sb rb.2.2.1 r.2.1 (Int32.le_trans r.2.2.2 a5) v0 vx i0 i1 rd.2.2.1 (Int32.le_trans r.2.2.1 v5) (.inl r.2.2.1)
      rw [(x5 _ oo.1 oo.2).1, (x5 _ oo.1 oo.2).2]
      exact D d wd sd i i0 i1
  · have s := sS_s (wb := wtb μ) (W := wts μ) (at0 := sI μ 163) (sz := sI μ 164) nd (fun d hd _ => wtb_i.mp hd) (hL b wb) (wtb_i.mpr wb) sb ax up (fun d hd => mv_2 M1 rb.2.2.2 rb.1 rb.2.1 sb rb.2.2.1 hd)
    rw [m3.2]
    omega
theorem ten_1 {r : Int32} (h0 : 0 ≤ r) (h1 : r ≤ 500) : (0 < 10 * r ↔ 0 < r) ∧ 0 ≤ 10 * r ∧ 10 * r ≤ 5000 ∧ (10 * r).toInt = 10 * r.toInt := by
  refine ⟨⟨fun h => by lia, fun h => by lia⟩, by lia, by lia, ?_⟩
  rw [tI_mul] <;> have := tI_rng r <;> rw [tI_le] at h0 h1 <;> (have z : (500 : Int32).toInt = 500 := rfl) <;> (have z1 : (10 : Int32).toInt = 10 := rfl) <;> (have z0 : (0 : Int32).toInt = 0 := rfl) <;> rw [z] at h1 <;> rw [z0] at h0 <;> rw [z1] <;> omega
theorem R_step {N : Nat} (hN : BIG ≤ N) {r9 : Int32 → Int32 → Int32 → Int32 → mS → Option mS} {μ τ : mS} {L : List Int32} {v a b v1 v3 v5 : Int32} (K : KL μ) (nd : L.Nodup) (hL : ∀ d, wts μ d → d ∈ L) (I : IR μ τ L v a) (e166 : ∀ x, sI τ 166 x = sI μ 166 x) (b0 : 0 ≤ b) (b1 : b < 120) (wb : wts μ b) (sb : 0 < sI τ 166 b) (ab : a < sI τ 165 b) (mn : ∀ d, 0 ≤ d → d < 120 → wts μ d → 0 < sI τ 166 d → a < sI τ 165 d → sI τ 165 b ≤ sI τ 165 d) : ∃ υ v' a', mm_layTogether_249 N r9 N v1 v v3 (sI τ 165 b) v5 b 0 τ = mm_layTogether_310 N r9 v1 v' v3 a' v5 b υ ∧ m_fr trM τ υ ∧ IR μ υ L v' a' ∧ a < a' := by
  obtain ⟨C, ⟨v5', a5⟩, D, S⟩ := I
  obtain ⟨k1, k2, k3, k4⟩ := K
  have M1 : (5000 : Int32) ≤ 500000 := by decide
  have tn : ∀ d, wts μ d → (0 < s10 μ d ↔ 0 < sI μ 166 d) ∧ 0 ≤ s10 μ d ∧ s10 μ d ≤ 5000 ∧ (s10 μ d).toInt = 10 * (sI μ 166 d).toInt := fun d wd => by
    obtain ⟨q1, q2, q3, q4, q5, q6⟩ := k3 d wd
    exact ten_1 q3 q4
  have rg : ∀ d, wts μ d → 0 < s10 μ d → 0 ≤ sI μ 165 d ∧ sI μ 165 d ≤ 5000 ∧ s10 μ d ≤ 5000 ∧ sI μ 165 d + s10 μ d ≤ 5000 := fun d wd sd => by
    obtain ⟨q1, q2, q3, q4, q5, q6⟩ := k3 d wd
    have := q6 ((tn d wd).1.mp sd)
    exact ⟨this.1, this.2.1, (tn d wd).2.2.1, Int32.le_trans this.2.2 k2.2⟩
  rw [e166] at sb
  have sb' : 0 < s10 μ b := (tn b wb).1.mpr sb
  have step := CHN_s (au := fun x => if x = b then v else sI τ 165 x) M1 rg (fun d e wd we ne sd se => (k4 d e wd we ne).2 ((tn d wd).1.mp sd) ((tn e we).1.mp se)) C wb sb' ab (fun d wd sd ad => mn d wd.1 wd.2.1 wd (by rw [e166]; exact (tn d wd).1.mp sd) ad) (by simp only [if_true]) (fun d _ ne => by simp only [if_neg ne])
  obtain ⟨C', e63, vx, ax, up⟩ := step
  have rb := rg b wb sb'
  have v0 := C.1.2
  have b121 : b < 121 := Int32.lt_trans b1 (by decide)
  have q5 := k3 b wb
  rw [e63]
  obtain ⟨υ, x1, x2, x3, x4, x5⟩ := lt249_lp (N := N) (r9 := r9) (σ := τ) (n := s10 μ b) (b := b) (a := sI μ 165 b) (v1 := v1) (v3 := v3) (v5 := v5) (v := v) (s := sI μ 166 b) b0 b121 (e166 b) q5.2.2.1 q5.2.2.2.1 rfl v0 vx rb.2.1 rb.2.2.2 N 0 (by decide) (Int32.le_of_lt sb') (big_d hN) τ mf_rfl (fun _ => rfl) (fun k h0 h1 => absurd h1 (Int32.not_lt.mpr h0)) (fun _ _ _ => rfl)
  have au : ∀ d, wts μ d → sI υ 165 d = if d = b then v else sI τ 165 d := fun d wd => x3 d wd.1
  have m3 := mv_3 M1 rb.2.2.2 rb.1 rb.2.1 sb' rb.2.2.1 v0 vx
  refine ⟨υ, v + s10 μ b, sI μ 165 b, x1, x2, ⟨?_, ⟨m3.1, rb.2.1⟩, fun d wd sd i i0 i1 => ?_, ?_⟩, ax⟩
  · refine ⟨C'.1, fun d wd sd => ?_, fun d e wd we ne sd se ad ae => ?_⟩
    · rw [au d wd]; exact C'.2.1 d wd sd
    · rw [au d wd, au e we]; exact C'.2.2 d e wd we ne sd se ad ae
  · rw [au d wd]
    by_cases q : d = b
    · subst q
      rw [if_pos rfl, x4 i i0 i1]
      have := D d wd sd i i0 i1
      rw [e63] at this
      exact this
    · rw [if_neg q]
      have rd := rg d wd sd
      have cd := C.2.1 d wd sd
      have oo : 0 ≤ sI τ 165 d + i ∧ (sI τ 165 d + i < v ∨ v + s10 μ b ≤ sI τ 165 d + i) := by
        rcases cd with r | r
        · rw [r.2.1]
          exact mv_1 M1 rb.2.2.2 rb.1 rb.2.1 sb' rb.2.2.1 rd.1 rd.2.1 v0 vx i0 i1 rd.2.2.1 rd.2.2.2 (.inr (up d wd sd q r.1))
        · exact mv_1 M1 rb.2.2.2 rb.1 rb.2.1 sb' rb.2.2.1 r.2.1 (Int32.le_trans r.2.2.2 a5) v0 vx i0 i1 rd.2.2.1 (Int32.le_trans r.2.2.1 v5') (.inl r.2.2.1)
      rw [x5 _ oo.1 oo.2]
      exact D d wd sd i i0 i1
  · have s := sS_s (wb := wtb μ) (W := wts μ) (at0 := sI μ 165) (sz := s10 μ) nd (fun d hd _ => wtb_i.mp hd) (hL b wb) (wtb_i.mpr wb) sb' ax up (fun d hd => mv_2 M1 rb.2.2.2 rb.1 rb.2.1 sb' rb.2.2.1 hd)
    rw [m3.2]
    omega
