/-! LAYER 2: the machines stay while the heap changes -/
theorem BC_kb {S : SR} {w : WD} {xf : Int32 → List Int32} {σ μ : mS} : ∀ {e : Int32 × Int32} {rest : PL2}, BC S w xf σ μ e rest → 0 ≤ sI μ 162 e.2 ∧ sI μ 162 e.2 ≤ 256 ∧ 0 ≤ sI μ 161 e.2 ∧ sI μ 161 e.2 ≤ 600000 ∧ sI μ 161 e.2 ≤ 2300 * sI μ 162 e.2
  | (c, d), [], h => by
    obtain ⟨h1, h2, h3, h4⟩ := h
    subst h2
    simp only
    rw [h3, h4]
    exact ⟨by decide, by decide, by decide, by decide, by decide⟩
  | (c, d), e :: rest, h => by
    obtain ⟨_, _, ⟨a1, a2⟩, _, _, _, _, ⟨b1, b2⟩, _⟩ := h
    simp only
    exact ⟨by lia, a2, b1, by lia, by lia⟩
theorem BC_fr {P Q : Nat → Bool} {S : SR} {w w' : WD} {xf : Int32 → List Int32} {σ μ τ τm : mS} (wl : wle w w') (hc : cds w σ τ) (fr : m_fr P σ τ) (frm : m_fr Q μ τm) (hp : ∀ k, kX k → P k = false) (hq : ∀ k, kM k → Q k = false) : ∀ {e : Int32 × Int32} {rest : PL2}, BC S w xf σ μ e rest → BC S w' xf τ τm e rest
  | (c, d), [], h => by
    obtain ⟨h1, h2, h3, h4⟩ := h
    refine ⟨h1, h2, ?_, ?_⟩
    · rw [mf_I frm (hq 162 ⟨by omega, by omega⟩)]; exact h3
    · rw [mf_I frm (hq 161 ⟨by omega, by omega⟩)]; exact h4
  | (c, d), e :: rest, h => by
    obtain ⟨h1, h2, h3, h4, h5, h6, h7, h8, h9, h10⟩ := h
    have kb' := BC_kb h10
    have i : ∀ k, 141 ≤ k → k ≤ 178 → ∀ m, sI τm k m = sI μ k m := fun k a b m => mf_I frm (hq k ⟨a, b⟩)
    have x : ∀ k, 323 ≤ k → k ≤ 339 → ∀ m, sI τ k m = sI σ k m := fun k a b m => mf_I fr (hp k (.inl ⟨a, b⟩))
    have m5 : ∀ k, mff τm k 5 = mff μ k 5 := fun k => mff_fr frm hq (by omega)
    have m6 : ∀ k, mff τm k 6 = mff μ k 6 := fun k => mff_fr frm hq (by omega)
    have m7 : ∀ k, mff τm k 7 = mff μ k 7 := fun k => mff_fr frm hq (by omega)
    have i162 := i 162 (by omega) (by omega)
    have i161 := i 161 (by omega) (by omega)
    have i159 := i 159 (by omega) (by omega)
    have i166 := i 166 (by omega) (by omega)
    have i164 := i 164 (by omega) (by omega)
    have i144 := i 144 (by omega) (by omega)
    have i160 := i 160 (by omega) (by omega)
    have i156 := i 156 (by omega) (by omega)
    have x324 := x 324 (by omega) (by omega)
    have x328 := x 328 (by omega) (by omega)
    have x327 := x 327 (by omega) (by omega)
    have x323 := x 323 (by omega) (by omega)
    have x329 := x 329 (by omega) (by omega)
    have x330 := x 330 (by omega) (by omega)
    have x331 := x 331 (by omega) (by omega)
    refine ⟨wl.2.2.2.2.2 _ h1, ?_, ?_, ?_, ?_, ?_, ?_, ?_, ?_, BC_fr wl hc fr frm hp hq h10⟩
    · rw [x324, i159, i166, i164]; exact h2
    · rw [i162]; exact h3
    · rw [x328, i144, i162]; exact h4
    · rw [i161, i162, m5]; exact h5
    · rw [x327, i160]; exact h6
    · rw [x323, i156]; exact h7
    · rw [i161, i162]; exact h8
    · rw [i162, i162, i161, x329, x330, x331, m5, m6, m7]
      exact FLr_fr h9 ⟨kb'.1, by lia, kb'.2.2.1, kb'.2.2.2.1⟩ wl hc fr frm hp hq
theorem XF_fr {P : Nat → Bool} {w w' : WD} {xf : Int32 → List Int32} {σ τ : mS} (H : XF w xf σ) (hw : wC w' = wC w) (fr : m_fr P σ τ) (hp : ∀ k, kX k → P k = false) : XF w' xf τ := by
  obtain ⟨fc, bl, h1, h2, h3, h4, h5, ⟨b1, b2, b3, b4⟩, h7, h8⟩ := H
  have x : ∀ k, 343 ≤ k → k ≤ 365 → sI τ k = sI σ k := fun k a b => by funext m; exact mf_I fr (hp k (.inr ⟨a, b⟩))
  have y : ∀ k, 343 ≤ k → k ≤ 365 → sF τ k = sF σ k := fun k a b => mf_F fr (hp k (.inr ⟨a, b⟩))
  have x326 : ∀ m, sI τ 326 m = sI σ 326 m := fun m => mf_I fr (hp 326 (.inl ⟨by omega, by omega⟩))
  have cx : cX w' = cX w := by simp only [cX, hw]
  have fa : fAll w' xf = fAll w xf := by simp only [fAll, cx]
  refine ⟨fc, bl, ?_, fun c hc => ?_, by rw [fa]; exact h3, by rw [fa]; exact h4, by rw [fa]; exact h5, ⟨?_, ?_, ?_, ?_⟩, h7, ?_⟩
  · rw [x 356 (by omega) (by omega), y 357 (by omega) (by omega)]; exact h1
  · rw [x 356 (by omega) (by omega), x326]; exact h2 c (by rw [← cx]; exact hc)
  · rw [x 359 (by omega) (by omega), y 361 (by omega) (by omega)]; exact b1
  · rw [x 360 (by omega) (by omega), y 362 (by omega) (by omega)]; exact b2
  · rw [x 347 (by omega) (by omega), x 349 (by omega) (by omega), y 363 (by omega) (by omega)]; exact b3
  · rw [y 363 (by omega) (by omega)]; exact b4
  · rw [x 349 (by omega) (by omega), fa]; exact h8
theorem KL_fr {Q : Nat → Bool} {μ τm : mS} (H : KL μ) (frm : m_fr Q μ τm) (hq : ∀ k, kM k → Q k = false) : KL τm := by
  have i : ∀ k, 141 ≤ k → k ≤ 178 → ∀ m, sI τm k m = sI μ k m := fun k a b m => mf_I frm (hq k ⟨a, b⟩)
  have f : ∀ k, 141 ≤ k → k ≤ 178 → sF τm k = sF μ k := fun k a b => mf_F frm (hq k ⟨a, b⟩)
  have wt : ∀ d, wts τm d → wts μ d := fun d h => by
    simp only [wts] at h ⊢
    rw [i 170 (by omega) (by omega), i 156 (by omega) (by omega), i 159 (by omega) (by omega)] at h
    exact h
  obtain ⟨h1, h2, h3, h4⟩ := H
  simp only [KL]
  rw [f 175 (by omega) (by omega), f 177 (by omega) (by omega)]
  refine ⟨h1, h2, fun d hd => ?_, fun d e hd he hn => ?_⟩
  · rw [i 163 (by omega) (by omega), i 164 (by omega) (by omega), i 165 (by omega) (by omega), i 166 (by omega) (by omega)]
    exact h3 d (wt d hd)
  · rw [i 163 (by omega) (by omega), i 164 (by omega) (by omega), i 165 (by omega) (by omega), i 166 (by omega) (by omega), i 163 (by omega) (by omega), i 164 (by omega) (by omega), i 165 (by omega) (by omega), i 166 (by omega) (by omega)]
    exact h4 d e (wt d hd) (wt e he) hn
theorem CO_fr {P Q : Nat → Bool} {S : SR} {w w' : WD} {xf : Int32 → List Int32} {ch : PL2} {σ μ τ τm : mS} (H : CO S w xf ch σ μ) (wl : wle w w') (hw : wC w' = wC w) (hc : cds w σ τ) (fr : m_fr P σ τ) (frm : m_fr Q μ τm) (hp : ∀ k, kX k → P k = false) (hq : ∀ k, kM k → Q k = false) : CO S w' xf ch τ τm := by
  have i : ∀ k, 141 ≤ k → k ≤ 178 → ∀ m, sI τm k m = sI μ k m := fun k a b m => mf_I frm (hq k ⟨a, b⟩)
  have j : ∀ k, 141 ≤ k → k ≤ 178 → ∀ m, sJ τm k m = sJ μ k m := fun k a b m => mf_J frm (hq k ⟨a, b⟩)
  have f : ∀ k, 141 ≤ k → k ≤ 178 → sF τm k = sF μ k := fun k a b => mf_F frm (hq k ⟨a, b⟩)
  have x : ∀ k, 323 ≤ k → k ≤ 339 → ∀ m, sI τ k m = sI σ k m := fun k a b m => mf_I fr (hp k (.inl ⟨a, b⟩))
  have xj : ∀ k, 323 ≤ k → k ≤ 339 → ∀ m, sJ τ k m = sJ σ k m := fun k a b m => mf_J fr (hp k (.inl ⟨a, b⟩))
  have y : ∀ k, 323 ≤ k → k ≤ 339 → sF τ k = sF σ k := fun k a b => mf_F fr (hp k (.inl ⟨a, b⟩))
  obtain ⟨h1, h2, ⟨fcs, h3⟩, h4, h5, h6⟩ := H
  refine ⟨fun c d hcd => ?_, fun d d0 d1 hd => ?_, ⟨fcs, ?_⟩, ?_, ?_, KL_fr h6 frm hq⟩
  · rw [hw] at hcd
    obtain ⟨a1, a2, a3, a4, a5⟩ := h1 c d hcd
    refine ⟨a1, ?_, ?_, ?_, a5.imp id (fun a5 => ?_)⟩
    · rw [x 323 (by omega) (by omega), i 156 (by omega) (by omega)]; exact a2
    · rw [xj 335 (by omega) (by omega), i 157 (by omega) (by omega)]; exact a3
    · rw [i 170 (by omega) (by omega)]; exact a4
    · simp only [cKd]
      rw [x 323 (by omega) (by omega), x 324 (by omega) (by omega), xj 325 (by omega) (by omega), x 332 (by omega) (by omega), x 333 (by omega) (by omega), x 334 (by omega) (by omega), i 166 (by omega) (by omega), i 164 (by omega) (by omega), i 159 (by omega) (by omega), i 158 (by omega) (by omega), i 167 (by omega) (by omega), i 168 (by omega) (by omega), i 169 (by omega) (by omega)]
      rcases a5 with b | b | b
      · exact .inl b
      · obtain ⟨b1, b2, b3, b4, b5, b6⟩ := b
        exact .inr (.inl ⟨b1, b2, b3, b4, VV_mono wl b5, b6⟩)
      · obtain ⟨b1, b2, b3, b4, b5, b6, b7⟩ := b
        refine .inr (.inr ⟨b1, b2, b3, ?_, b5, b6, b7⟩)
        refine FL_cg b4 ⟨by decide, by lia, by decide, by decide⟩ wl (fun _ _ => xcs_fr fr hp) hc (fun k j' _ _ _ => ?_) (fun m _ _ => ⟨?_, ?_⟩)
        · simp only [kff]
          rw [i 176 (by omega) (by omega), i 165 (by omega) (by omega)]
        · simp only [kpt]
          rw [i 173 (by omega) (by omega), i 163 (by omega) (by omega)]
        · simp only [kpv]
          rw [j 174 (by omega) (by omega), i 163 (by omega) (by omega)]
  · rw [i 170 (by omega) (by omega)]
    exact h2 d d0 d1 (by rw [← hw]; exact hd)
  · have x336 : sI τ 336 = sI σ 336 := by funext m; exact x 336 (by omega) (by omega) m
    rw [x336, y 337 (by omega) (by omega), hw]
    exact h3
  · rw [y 338 (by omega) (by omega), f 171 (by omega) (by omega), hw]; exact h4
  · rw [xj 335 (by omega) (by omega), i 157 (by omega) (by omega)]; exact h5
theorem ME_fr {P Q : Nat → Bool} {S : SR} {K : Int32 → Int32 → Int32 → Prop} {q : Int} {w w' : WD} {xf : Int32 → List Int32} {c d : Int32} {rest : PL2} {σ μ τ τm : mS} (H : ME S K q w xf c d rest σ μ) (R : RH K (q + fQ μ) w' τ τm) (Z : ZS w' τ) (HH : HO w' τ τm) (wl : wle w w') (hw : wC w' = wC w) (hc : cds w σ τ) (fr : m_fr P σ τ) (frm : m_fr Q μ τm) (hp : ∀ k, kX k ∨ k = 396 → P k = false) (hq : ∀ k, kM k ∨ k = 180 → Q k = false) : ME S K q w' xf c d rest τ τm := by
  obtain ⟨⟨_, h1⟩, _, _, h4, h5, h6, h7, h8, h9, h10, h10', h11⟩ := H
  have hp' : ∀ k, kX k → P k = false := fun k hk => hp k (.inl hk)
  have hq' : ∀ k, kM k → Q k = false := fun k hk => hq k (.inl hk)
  have i : ∀ k, 141 ≤ k → k ≤ 178 → ∀ m, sI τm k m = sI μ k m := fun k a b m => mf_I frm (hq' k ⟨a, b⟩)
  have f : ∀ k, 141 ≤ k → k ≤ 178 → sF τm k = sF μ k := fun k a b => mf_F frm (hq' k ⟨a, b⟩)
  have fa : fAll w' xf = fAll w xf := by simp only [fAll, cX, hw]
  have ks : kSum w' τm = kSum w μ := by
    simp only [kSum, hw]
    congr 1
    apply List.map_congr_left
    intro p _
    rw [i 166 (by omega) (by omega)]
  refine ⟨⟨by rw [fQ_e (f 171 (by omega) (by omega)) (i 157 (by omega) (by omega) _)]; exact R, h1⟩, Z, HH, XF_fr h4 hw fr hp', CO_fr h5 wl hw hc fr frm hp' hq', BC_fr wl hc fr frm hp' hq' h6, ?_, h8, ?_, ?_, ?_, ?_⟩
  · rw [mf_F fr (hp' 339 (.inl ⟨by omega, by omega⟩)), f 172 (by omega) (by omega), mf_I fr (hp' 323 (.inl ⟨by omega, by omega⟩)), i 156 (by omega) (by omega)]; exact h7
  · rw [mf_F fr (hp' 358 (.inr ⟨by omega, by omega⟩)), f 155 (by omega) (by omega), f 154 (by omega) (by omega), fa, ks]; exact h9
  · rw [mf_F fr (hp 396 (.inr rfl)), mf_F frm (hq 180 (.inr rfl))]; exact h10
  · rw [mf_F fr (hp 396 (.inr rfl))]; exact h10'
  · rw [f 178 (by omega) (by omega)]; exact h11
/-- the line at hand on both sides -/
theorem ME_c {S : SR} {K : Int32 → Int32 → Int32 → Prop} {q : Int} {w : WD} {xf : Int32 → List Int32} {c d : Int32} {rest : PL2} {σ μ : mS} (H : ME S K q w xf c d rest σ μ) : c ∈ cX w ∧ 0 ≤ c ∧ c < 121 ∧ 0 ≤ d ∧ d < 121 ∧ (d = 120 ↔ rest = []) ∧ (d = 120 ↔ c = 0) := by
  obtain ⟨⟨⟨W, _⟩, _⟩, _, _, _, h5, h6, _⟩ := H
  cases rest with
  | nil =>
    obtain ⟨b1, b2, _⟩ := h6
    subst b1; subst b2
    exact ⟨List.mem_cons_self, by decide, by decide, by decide, by decide, by simp, by simp⟩
  | cons e rest =>
    obtain ⟨b1, _⟩ := h6
    have w6 := W.2.2.2.2.2 c d b1
    have := (h5.1 c d b1).1
    exact ⟨List.mem_cons_of_mem _ (List.mem_map.mpr ⟨(c, d), b1, rfl⟩), by lia, by lia, by lia, by lia, ⟨fun q => by lia, fun q => by simp at q⟩, ⟨fun q => by lia, fun q => by lia⟩⟩
theorem fl_sub {c : Int32} {xf : Int32 → List Int32} : ∀ {l : List Int32}, c ∈ l → (xf c).length ≤ ((l.map xf).flatten).length
  | [], h => absurd h (by simp)
  | a :: l, h => by
    simp only [List.map_cons, List.flatten_cons, List.length_append]
    rcases List.mem_cons.mp h with q | q
    · subst q; omega
    · have := fl_sub (xf := xf) q; omega
theorem lah_2 {N : Nat} (hN : BIG ≤ N) {S : SR} {K : Int32 → Int32 → Int32 → Prop} {q : Int} {w : WD} {xf : Int32 → List Int32} {c d : Int32} {rest : PL2} {σ μ : mS} (H : ME S K q w xf c d rest σ μ) (hl : LK σ (mff μ) (sI μ 162 d) (xf c) (sF μ 154)) (h1 : sF μ 154 ≤ 255) : xx6_lineAtHand N σ = some (lnH σ (xf c), σ) ∧ mm_lineAtHand N μ = some (lnH σ (xf c), μ) := by
  obtain ⟨c0, c1, c2, c3, c4, _⟩ := ME_c H
  obtain ⟨_, _, _, ⟨fc, bl, _, x2, _, _, x5, _⟩, _, h6, ⟨e1, e2, _⟩, _⟩ := H
  have kb' := BC_kb h6
  have len : (xf c).length ≤ 202 := by
    have := fl_sub (xf := xf) c0
    rw [List.length_append] at x5
    simp only [fAll] at x5
    omega
  have sg := x2 c c0
  subst e1; subst e2
  exact ⟨lah_x hN c1 c2 hl sg len, lah_m hN hl kb'.1 h1 c3 c4 len⟩
theorem lnH_nn {σ : mS} {ff : Int32 → Nat → Int32} {k0 : Int32} : ∀ {fl : List Int32} {n : Int32}, LK σ ff k0 fl n → 0 ≤ lnH σ fl
  | [], _, _ => by simp only [lnH]; decide
  | f :: fl, n, h => by
    obtain ⟨_, _, h3, h4⟩ := h
    simp only [lnH]
    rcases h3 with ⟨a, _⟩ | ⟨a, _, b1, b2, b3, b4⟩
    · rw [if_neg (by lia)]; exact lnH_nn h4
    · rw [if_pos a, b3]; exact b4
