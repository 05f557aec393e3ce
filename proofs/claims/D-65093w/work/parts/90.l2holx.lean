/-! LAYER 2: the system's tables: merged, unhole -/
theorem merged_x {N : Nat} (hN : BIG ≤ N) {σ : mS} {a b : Int32} {la lb : List Int32} {n m : Nat} (ha : hp (sI σ 205) (sI σ 206) (sI σ 204) n a la) (hb : hp (sI σ 205) (sI σ 206) (sI σ 204) m b lb) (nd : (la ++ lb).Nodup) (rg : ∀ x, x ∈ la ++ lb → 0 ≤ x ∧ x < 24000) : ∃ r τ n', xx3_merged N σ a b = some (r, τ) ∧ hp (sI τ 205) (sI τ 206) (sI τ 204) n' r (la ++ lb) ∧ (∀ x, 0 ≤ x → x ∉ la ++ lb → sI τ 205 x = sI σ 205 x ∧ sI τ 206 x = sI σ 206 x) ∧ m_fr hR σ τ := by
  have len := nd_len (M := 24000) _ nd (fun x hx => ⟨(rg x hx).1, by have := (rg x hx).2; rw [tI_lt] at this; exact this⟩)
  rw [List.length_append] at len
  simp only [BIG] at hN
  by_cases na : a = -1
  · subst na
    have := hp_nil ha
    subst this
    exact ⟨b, σ, m, by simp (disch := lia) only [xx3_merged, xx3_merged_b10, xx3_merged_b20, lt, gd_in, if_pos, if_neg, ↓reduceIte, gd_z0, gd_z1, gd_tt, sF_fold, sG_fold, sI_fold, sJ_fold], hb, fun x _ _ => ⟨rfl, rfl⟩, mf_rfl⟩
  by_cases nb : b = -1
  · subst nb
    have := hp_nil hb
    subst this
    exact ⟨a, σ, n, by simp (disch := lia) only [xx3_merged, xx3_merged_b10, xx3_merged_b20, lt, gd_in, if_pos, if_neg, ↓reduceIte, gd_z0, gd_z1, gd_tt, sF_fold, sG_fold, sI_fold, sJ_fold], by rw [List.append_nil]; exact ha, fun x _ _ => ⟨rfl, rfl⟩, mf_rfl⟩
  have ma := hp_min ha na
  have mb := hp_min hb nb
  obtain ⟨ra1, ra2⟩ := rg a (List.mem_append_left _ ma.1)
  obtain ⟨rb1, rb2⟩ := rg b (List.mem_append_right _ mb.1)
  have ab : b ≠ a := fun q => (List.nodup_append.mp nd).2.2 a ma.1 b mb.1 q.symm
  by_cases c : sI σ 204 b < sI σ 204 a
  · have pc : (lb ++ la).Perm (la ++ lb) := List.perm_append_comm
    obtain ⟨τ, n', e1, e2, e3, e4⟩ := mrg_lp (N := N) N σ b a b lb la m n hb ha nb na (by lia) (pc.nodup_iff.mpr nd) (fun x hx => rg x (pc.mem_iff.mp hx)) (by omega)
    refine ⟨b, τ, n', ?_, hp_perm e2 pc, fun x x0 x1 => e3 x x0 (fun q => x1 (pc.mem_iff.mp q)), e4⟩
    clear rg
    simp (disch := lia) only [xx3_merged, xx3_merged_b41, xx3_merged_b52, lt, gd_in, if_pos, if_neg, ↓reduceIte, gd_z0, gd_z1, gd_tt, sF_fold, sG_fold, sI_fold, sJ_fold]
    exact e1
  · obtain ⟨τ, n', e1, e2, e3, e4⟩ := mrg_lp (N := N) N σ a b a la lb n m ha hb na nb (by lia) nd rg (by omega)
    refine ⟨a, τ, n', ?_, e2, e3, e4⟩
    clear rg
    simp (disch := lia) only [xx3_merged, xx3_merged_b41, xx3_merged_b52, lt, gd_in, if_pos, if_neg, ↓reduceIte, gd_z0, gd_z1, gd_tt, sF_fold, sG_fold, sI_fold, sJ_fold]
    exact e1
/-- a table's heap h of holes; l are its entries -/
def HS1 (σ : mS) (l h : List Int32) (t : Int32) : Prop := (∃ n, hp (sI σ 205) (sI σ 206) (sI σ 204) n (sI σ 202 t) h) ∧ (sI σ 203 t).toInt = h.length ∧ h.Nodup ∧ (∀ x, x ∈ h → 0 ≤ x ∧ x < 24000 ∧ 1 ≤ sI σ 204 x) ∧ (∀ e, e ∈ l → sI σ 208 e ≠ 0 → sI σ 212 e = 3 ∧ ∃ x, x ∈ h ∧ sJ σ 213 e = Int32.toInt64 (sI σ 204 x))
def HS (σ : mS) (ts : List Int32) (es hs : Int32 → List Int32) (fh : List Int32) : Prop := (∀ t, t ∈ ts → 0 ≤ t ∧ t < 3000 ∧ HS1 σ (es t) (hs t) t) ∧ seg (sI σ 205) (sF σ 207) fh (-1) ∧ fh.Nodup ∧ (∀ x, x ∈ fh → 0 ≤ x ∧ x < 24000) ∧ (∀ t, t ∈ ts → ∀ x, x ∈ hs t → x ∉ fh) ∧ (∀ t, t ∈ ts → ∀ t', t' ∈ ts → t ≠ t' → ∀ x, x ∈ hs t → x ∉ hs t')
def fU {α : Type} (f : Int32 → α) (t : Int32) (v : α) : Int32 → α := fun s => if s = t then v else f s
theorem fU_s {α : Type} {f : Int32 → α} {t : Int32} {v : α} : fU f t v t = v := if_pos rfl
theorem fU_o {α : Type} {f : Int32 → α} {t s : Int32} {v : α} (h : s ≠ t) : fU f t v s = f s := if_neg h
def hU (k : Nat) : Bool := [202, 203, 205, 206, 207, 208].contains k
theorem mf_FX {P : Nat → Bool} {σ τ : mS} (fr : m_fr P σ τ) (h2 : P 128 = false ∧ P 129 = false ∧ P 130 = false ∧ P 131 = false ∧ P 132 = false ∧ P 134 = false) : (∀ h, gs τ h ↔ gs σ h) ∧ (∀ a b, x_eq τ a b ↔ x_eq σ a b) ∧ (dst σ → dst τ) := by
  obtain ⟨p1, p2, p3, p4, p5, p6⟩ := h2
  have i1 : ∀ m, sI τ 128 m = sI σ 128 m := fun m => mf_I fr p1
  have i2 : ∀ m, sI τ 129 m = sI σ 129 m := fun m => mf_I fr p2
  have i3 : ∀ m, sI τ 130 m = sI σ 130 m := fun m => mf_I fr p3
  have i4 : ∀ m, sI τ 131 m = sI σ 131 m := fun m => mf_I fr p4
  have i5 : ∀ m, sI τ 132 m = sI σ 132 m := fun m => mf_I fr p5
  have by' : ∀ h, x_by τ h = x_by σ h := fun h => by funext k; simp only [x_by, i1, i4, i5]
  have a1 : ∀ h, gs τ h ↔ gs σ h := fun h => by simp only [gs, x_sv, x_hs, x_sz, i1, i2, i3, by', mf_F fr p6]
  have a2 : ∀ a b, x_eq τ a b ↔ x_eq σ a b := fun a b => by simp only [x_eq, x_sz, i2, by']
  exact ⟨a1, a2, fun h a b a0 b0 ga gb e => h a b a0 b0 ((a1 a).mp ga) ((a1 b).mp gb) ((a2 a b).mp e)⟩
theorem mf_FX2 {P : Nat → Bool} {σ τ : mS} {ts : List Int32} {es ps : Int32 → List Int32} (fr : m_fr P σ τ) (h2 : P 128 = false ∧ P 129 = false ∧ P 130 = false ∧ P 131 = false ∧ P 132 = false ∧ P 134 = false) (h3 : P 212 = false ∧ P 213 = false ∧ P 216 = false ∧ P 218 = false ∧ P 221 = false) (H : FX σ ts es ps) : FX τ ts es ps := by
  obtain ⟨a1, a2, _⟩ := mf_FX fr h2
  obtain ⟨q1, q2, q3, q4, q5⟩ := h3
  have i1 : ∀ m, sI τ 212 m = sI σ 212 m := fun m => mf_I fr q1
  have i2 : ∀ m, sJ τ 213 m = sJ σ 213 m := fun m => mf_J fr q2
  have i3 : ∀ m, sI τ 216 m = sI σ 216 m := fun m => mf_I fr q3
  have i4 : sI τ 218 = sI σ 218 := by funext m; exact mf_I fr q4
  have i5 : ∀ m, sI τ 221 m = sI σ 221 m := fun m => mf_I fr q5
  have i6 : ∀ m, sI τ 130 m = sI σ 130 m := fun m => mf_I fr h2.2.2.1
  simp only [FX, k_ok, k_eq, pilf, a1, a2, i1, i2, i3, i4, i5, i6] at H ⊢
  exact H
theorem k3 {σ : mS} {k : Int32} : k_ok σ 3 (Int32.toInt64 k) := ⟨by decide, by decide, fun q => absurd q (by decide), fun q => absurd q (by decide)⟩
theorem keq3 {σ : mS} {t : Int32} {k : Int64} {k' : Int64} : k_eq σ t k 3 k' ↔ t = 3 ∧ k = k' := by
  constructor
  · rintro ⟨rfl, h⟩
    rw [if_neg (by decide)] at h
    exact ⟨rfl, h⟩
  · rintro ⟨rfl, rfl⟩
    exact keq_rfl
theorem unhole_a {N : Nat} (hN : BIG ≤ N) {σ : mS} (hd : dst σ) {ts : List Int32} {es ps : Int32 → List Int32} {t x : Int32} (F : FX σ ts es ps) (ht : t ∈ ts) (t0 : 0 ≤ t) (t1 : t < 3000) (hx : sI σ 202 t = x) (x0 : 0 ≤ x) (x1 : x < 24000) : ∃ σ8, xx3_unhole N σ t = xx3_unhole_b43 N t x σ8 ∧ m_fr (fun k => [203, 208].contains k) σ σ8 ∧ (∀ s, 0 ≤ s → sI σ8 203 s = if s = t then sI σ 203 t - 1 else sI σ 203 s) ∧ (∀ y, y ∈ es t → sI σ 212 y = 3 → sJ σ 213 y = Int32.toInt64 (sI σ 204 x) → sI σ8 208 y = 0) ∧ (∀ y, 0 ≤ y → sI σ8 208 y = 0 ∨ sI σ8 208 y = sI σ 208 y) := by
  have fr0 : m_fr hU σ (md_ai σ 203 t.toNatClampNeg (sI σ 203 t - 1)) := mf_ai mf_rfl rfl
  obtain ⟨e, f1, f2⟩ := find_x hN ((mf_FX fr0 ⟨rfl, rfl, rfl, rfl, rfl, rfl⟩).2.2 hd) (mf_FX2 fr0 ⟨rfl, rfl, rfl, rfl, rfl, rfl⟩ ⟨rfl, rfl, rfl, rfl, rfl⟩ F) ht (k3 (k := sI σ 204 x))
  clear fr0 hd
  have s203 : ∀ s, 0 ≤ s → sI (md_ai σ 203 t.toNatClampNeg (sI σ 203 t - 1)) 203 s = if s = t then sI σ 203 t - 1 else sI σ 203 s := fun s s0 => by
    simp (disch := lia) only [sI_ai, true_and]
  rcases f2 with ⟨a, b⟩ | ⟨a, b⟩
  · obtain ⟨e0, e1, _, _⟩ := F.1 t ht e a
    have en : e ≠ -1 := by lia
    refine ⟨md_ai (md_ai σ 203 t.toNatClampNeg (sI σ 203 t - 1)) 208 e.toNatClampNeg (vp_nar .boolean 0), ?_, mf_ai (mf_ai mf_rfl rfl) rfl, fun s s0 => ?_, fun y hy y1 y2 => ?_, fun y y0 => ?_⟩
    · clear F
      simp (disch := lia) only [xx3_unhole, lt, gd_in, if_pos, if_neg, ↓reduceIte, gd_z0, gd_z1, gd_tt, sF_fold, sG_fold, sI_fold, sJ_fold, hx, sI_ai1]
      rw [f1]
      simp (disch := lia) only [bd, if_neg en, gd_in]
    · rw [sI_ai1 (by decide)]; exact s203 s s0
    · have : y = e := F.2.2 t ht y e hy a (by
        have b' := b
        rw [keq3] at b'
        rw [sI_ai1 (by decide), sJ_ai] at b'
        rw [y1, y2, b'.1, b'.2]
        exact keq_rfl)
      rw [this, sI_ai2]; rfl
    · rw [sI_ai e0 y0]
      by_cases c : y = e
      · left; rw [if_pos ⟨rfl, c⟩]; rfl
      · right; rw [if_neg (fun q => c q.2), sI_ai1 (by decide)]
  · refine ⟨md_ai σ 203 t.toNatClampNeg (sI σ 203 t - 1), ?_, mf_ai mf_rfl rfl, s203, fun y hy y1 y2 => ?_, fun y y0 => .inr (by rw [sI_ai1 (by decide)])⟩
    · clear b F
      simp (disch := lia) only [xx3_unhole, lt, gd_in, if_pos, if_neg, ↓reduceIte, gd_z0, gd_z1, gd_tt, sF_fold, sG_fold, sI_fold, sJ_fold, hx, sI_ai1]
      rw [f1]
      simp only [bd, if_pos a]
    · exact absurd (by rw [keq3, sI_ai1 (by decide), sJ_ai]; exact ⟨y1, y2⟩) (b y hy)
theorem unhole_p {σ τ : mS} {ts fh : List Int32} {es ps hs : Int32 → List Int32} {t x r : Int32} {la lb : List Int32} {n' : Nat} (F : FX σ ts es ps) (H : HS σ ts es hs fh) (ht : t ∈ ts) (hx : sI σ 202 t = x) (pm : (hs t).Perm (x :: (la ++ lb))) (m2 : hp (sI τ 205) (sI τ 206) (sI τ 204) n' r (la ++ lb)) (k204 : ∀ y, sI τ 204 y = sI σ 204 y) (k202 : ∀ s, 0 ≤ s → sI τ 202 s = if s = t then r else sI σ 202 s) (k203 : ∀ s, 0 ≤ s → sI τ 203 s = if s = t then sI σ 203 t - 1 else sI σ 203 s) (g4 : ∀ y, y ∈ es t → sI σ 212 y = 3 → sJ σ 213 y = Int32.toInt64 (sI σ 204 x) → sI τ 208 y = 0) (g5 : ∀ y, 0 ≤ y → sI τ 208 y = 0 ∨ sI τ 208 y = sI σ 208 y) (k212 : ∀ y, sI τ 212 y = sI σ 212 y) (k213 : ∀ y, sJ τ 213 y = sJ σ 213 y) (out : ∀ y, 0 ≤ y → y ∉ hs t → sI τ 205 y = sI σ 205 y ∧ sI τ 206 y = sI σ 206 y) (f207 : sF τ 207 = x) (c205 : sI τ 205 x = sF σ 207) : HS τ ts es (fU hs t (la ++ lb)) (x :: fh) := by
  obtain ⟨H1, H2, H3, H4, H5, H6⟩ := H
  obtain ⟨t0, t1, ⟨n, hpn⟩, cnt, nd, rg, ih⟩ := H1 t ht
  have ndl := pm.nodup_iff.mp nd
  obtain ⟨nx, nab⟩ := List.nodup_cons.mp ndl
  have mem : ∀ y, y ∈ la ++ lb → y ∈ hs t := fun y hy => pm.mem_iff.mpr (List.mem_cons_of_mem _ hy)
  have mx : x ∈ hs t := pm.mem_iff.mpr List.mem_cons_self
  obtain ⟨x0, x1, x2⟩ := rg x mx
  have hlen := pm.length_eq
  rw [List.length_cons] at hlen
  refine ⟨fun s hs' => ?_, ?_, ?_, ?_, ?_, ?_⟩
  · by_cases c : s = t
    · subst c
      rw [fU_s]
      refine ⟨t0, t1, ⟨n', ?_⟩, ?_, nab, fun y hy => ?_, fun e he hne => ?_⟩
      · rw [k202 s t0, if_pos rfl]
        exact m2
      · rw [k203 s t0, if_pos rfl]
        have := tI_rng (sI σ 203 s)
        rw [tI_sub] <;> simp only [show (1 : Int32).toInt = 1 from rfl] <;> omega
      · have yr := rg y (mem y hy)
        exact ⟨yr.1, yr.2.1, by rw [k204]; exact yr.2.2⟩
      · skip
        rw [k212, k213]
        have e0 := (F.1 s ht e he).1
        have : sI σ 208 e ≠ 0 := by
          rcases g5 e e0 with q | q
          · exact absurd q hne
          · rw [← q]; exact hne
        obtain ⟨w1, y, w2, w3⟩ := ih e he this
        refine ⟨w1, y, ?_, by rw [k204]; exact w3⟩
        rcases List.mem_cons.mp (pm.mem_iff.mp w2) with q | q
        · subst q; exact absurd (g4 e he w1 w3) hne
        · exact q
    · rw [fU_o c]
      obtain ⟨s0, s1, ⟨ns, hps⟩, cs, nds, rgs, ihs⟩ := H1 s hs'
      have dj := H6 s hs' t ht c
      refine ⟨s0, s1, ⟨ns, ?_⟩, ?_, nds, fun y hy => ?_, fun e he hne => ?_⟩
      · rw [k202 s s0, if_neg c]
        refine hp_congr hps (fun y hy => ?_)
        have w := out y (rgs y hy).1 (dj y hy)
        exact ⟨w.1, w.2, k204 y⟩
      · rw [k203 s s0, if_neg c]; exact cs
      · rw [k204]; exact rgs y hy
      · skip
        rw [k212, k213]
        have e0 := (F.1 s hs' e he).1
        have : sI σ 208 e ≠ 0 := by
          rcases g5 e e0 with q | q
          · exact absurd q hne
          · rw [← q]; exact hne
        obtain ⟨w1, y, w2, w3⟩ := ihs e he this
        exact ⟨w1, y, w2, by rw [k204]; exact w3⟩
  · refine ⟨f207, ?_⟩
    rw [c205]
    refine seg_congr H2 (fun y hy => ?_)
    have yn : y ∉ hs t := fun q => H5 t ht y q hy
    exact (out y (H4 y hy).1 yn).1
  · exact List.nodup_cons.mpr ⟨H5 t ht x mx, H3⟩
  · intro y hy
    rcases List.mem_cons.mp hy with q | q
    · subst q; exact ⟨x0, x1⟩
    · exact H4 y q
  · intro s hs' y hy q
    by_cases c : s = t
    · subst c
      rw [fU_s] at hy
      rcases List.mem_cons.mp q with w | w
      · subst w; exact nx hy
      · exact H5 s ht y (mem y hy) w
    · rw [fU_o c] at hy
      rcases List.mem_cons.mp q with w | w
      · subst w; exact H6 s hs' t ht c y hy mx
      · exact H5 s hs' y hy w
  · intro s hs' s' hs'' c y hy q
    by_cases d : s = t
    · subst d
      rw [fU_s] at hy
      rw [fU_o (fun w => c w.symm)] at q
      exact H6 s ht s' hs'' c y (mem y hy) q
    · rw [fU_o d] at hy
      by_cases d' : s' = t
      · subst d'
        rw [fU_s] at q
        exact H6 s hs' s' ht c y hy (mem y q)
      · rw [fU_o d'] at q
        exact H6 s hs' s' hs'' c y hy q
theorem unhole_x {N : Nat} (hN : BIG ≤ N) {σ : mS} (hd : dst σ) {ts fh : List Int32} {es ps hs : Int32 → List Int32} {t : Int32} (F : FX σ ts es ps) (H : HS σ ts es hs fh) (ht : t ∈ ts) (hr : sI σ 202 t ≠ -1) : ∃ τ h', xx3_unhole N σ t = some τ ∧ (hs t).Perm (sI σ 202 t :: h') ∧ HS τ ts es (fU hs t h') (sI σ 202 t :: fh) ∧ m_fr hU σ τ := by
  obtain ⟨t0, t1, ⟨n, hpn⟩, cnt, nd, rg, ih⟩ := H.1 t ht
  obtain ⟨la, lb, m, r0, pm, ha, hb, _⟩ := hp_out hpn hr
  generalize hx : sI σ 202 t = x at *
  have mem : ∀ y, y ∈ la ++ lb → y ∈ hs t := fun y hy => pm.mem_iff.mpr (List.mem_cons_of_mem _ hy)
  have mx : x ∈ hs t := pm.mem_iff.mpr List.mem_cons_self
  obtain ⟨x0, x1, x2⟩ := rg x mx
  obtain ⟨nx, nab⟩ := List.nodup_cons.mp (pm.nodup_iff.mp nd)
  obtain ⟨σ8, g1, g2, g3, g4, g5⟩ := unhole_a hN hd F ht t0 t1 hx x0 x1
  have i205 : sI σ8 205 = sI σ 205 := by funext y; exact mf_I g2 rfl
  have i206 : sI σ8 206 = sI σ 206 := by funext y; exact mf_I g2 rfl
  have i204 : sI σ8 204 = sI σ 204 := by funext y; exact mf_I g2 rfl
  obtain ⟨r, τ, n', m1, m2, m3, m4⟩ := merged_x hN (σ := σ8) (a := sI σ8 205 x) (b := sI σ8 206 x) (la := la) (lb := lb) (n := m) (m := m) (by rw [i205, i206, i204]; exact ha) (by rw [i205, i206, i204]; exact hb) nab (fun y hy => ⟨(rg y (mem y hy)).1, (rg y (mem y hy)).2.1⟩)
  have j204 : ∀ y, sI τ 204 y = sI σ 204 y := fun y => by rw [mf_I m4 rfl, mf_I g2 rfl]
  have j207 : sF τ 207 = sF σ 207 := by rw [mf_F m4 rfl, mf_F g2 rfl]
  have k205 : ∀ y, 0 ≤ y → y ≠ x → sI (md_pi (md_ai (md_ai τ 202 t.toNatClampNeg r) 205 x.toNatClampNeg (sF σ 207)) 207 x) 205 y = sI τ 205 y := fun y y0 y1 => by
    rw [sI_pi, sI_ai x0 y0, if_neg (fun q => y1 q.2), sI_ai1 (by decide)]
  have k206 : ∀ y, sI (md_pi (md_ai (md_ai τ 202 t.toNatClampNeg r) 205 x.toNatClampNeg (sF σ 207)) 207 x) 206 y = sI τ 206 y := fun y => by
    rw [sI_pi, sI_ai1 (by decide), sI_ai1 (by decide)]
  refine ⟨md_pi (md_ai (md_ai τ 202 t.toNatClampNeg r) 205 x.toNatClampNeg (sF σ 207)) 207 x, la ++ lb, ?_, pm, unhole_p (n' := n') (r := r) F H ht hx pm ?_ ?_ ?_ ?_ ?_ ?_ ?_ ?_ ?_ ?_ ?_, ?_⟩
  · rw [g1]
    clear H rg ih g3 g4 g5 F mem pm
    simp (disch := lia) only [xx3_unhole_b43, gd_in, sI_fold]
    rw [m1]
    simp (disch := lia) only [bd, lt, gd_in, if_pos, if_neg, ↓reduceIte, gd_z0, gd_z1, gd_tt, sF_fold, sG_fold, sI_fold, sJ_fold, sF_pi, sF_pl, sF_ai, sF_al, sG_pi, sG_pl, sG_ai, sG_al, sI_pi, sI_pl, sI_al, sI_ai1, sI_ai2, sJ_pi, sJ_pl, sJ_ai, sJ_al1, sJ_al2, Nat.reduceEqDiff, if_true, if_false, ne_eq, not_false_eq_true, ite_true, ite_false, j207]
  · refine hp_congr m2 (fun y hy => ⟨k205 y (rg y (mem y hy)).1 (fun q => nx (by rw [← q]; exact hy)), k206 y, by rw [sI_pi, sI_ai1 (by decide), sI_ai1 (by decide)]⟩)
  · intro y
    rw [sI_pi, sI_ai1 (by decide), sI_ai1 (by decide), j204]
  · intro s s0
    rw [sI_pi, sI_ai1 (by decide), sI_ai t0 s0, mf_I m4 rfl, mf_I g2 rfl]
    simp only [true_and]
  · intro s s0
    rw [sI_pi, sI_ai1 (by decide), sI_ai1 (by decide), mf_I m4 rfl, g3 s s0]
  · intro y hy y1 y2
    rw [sI_pi, sI_ai1 (by decide), sI_ai1 (by decide), mf_I m4 rfl]
    exact g4 y hy y1 y2
  · intro y y0
    rw [sI_pi, sI_ai1 (by decide), sI_ai1 (by decide), mf_I m4 rfl]
    exact g5 y y0
  · intro y
    rw [sI_pi, sI_ai1 (by decide), sI_ai1 (by decide), mf_I m4 rfl, mf_I g2 rfl]
  · intro y
    rw [sJ_pi, sJ_ai, sJ_ai, mf_J m4 rfl, mf_J g2 rfl]
  · intro y y0 y1
    have w := m3 y y0 (fun q => y1 (mem y q))
    rw [k205 y y0 (fun q => y1 (by rw [q]; exact mx)), k206, w.1, w.2, i205, i206]
    exact ⟨rfl, rfl⟩
  · rw [sF_pi, if_pos rfl]
  · rw [sI_pi, sI_ai2]
  · refine mf_pi (mf_ai (mf_ai (mf_tr (mf_mono g2 (fun k hk => ?_)) (mf_mono m4 (fun k hk => ?_))) rfl) rfl) rfl
    · simp only [hU, List.contains_cons, List.contains_nil, Bool.or_eq_false_iff] at hk ⊢
      exact ⟨hk.2.1, hk.2.2.2.2.2.1, trivial⟩
    · simp only [hU, List.contains_cons, List.contains_nil, Bool.or_eq_false_iff] at hk
      simp only [hR, Bool.or_eq_false_iff]
      exact ⟨hk.2.2.1, hk.2.2.2.1⟩
