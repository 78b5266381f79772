section
/-- no thread waits -/
def pl_W (a : Nat → Int32) : Prop := ∀ j, j < 6 → a j = -1
/-- no lock is held -/
def pl_N (a : Nat → Int32) : Prop := ∀ j, j < 5 → a j = -1
theorem pl_b : ∀ v, v < 100 → (nI v).toInt8.toInt32 = nI v := by decide +kernel
theorem pl_ne : ∀ t, t < 6 → ¬ (-1 : Int32) = nI t := by decide +kernel
theorem pl_fill {s : Nat → Int32} {i k : Nat} (hk : k = i) (h : ∀ j, j < i → s j = -1) : ∀ j, j < i + 1 → upd s k (-1) j = -1 := by
  intro j hj
  rw [hk]
  by_cases e : j = i
  · rw [e, pk_us]
  · rw [pk_un e]
    exact h j (by omega)
theorem pl_66 {post : St2 → Prop} {mc ms kc ks : Nat} {f : Int32} {b1 b2 b3 b4 b5 : Nat → Int32} (H : ∀ a, pl_N a → post (f, b1, b2, b3, b4, a)) : ∃ n, wX_init_66 post mc ms kc ks f n 0 b1 b2 b3 b4 b5 :=
  pk_loop (fun n i s => wX_init_66 post mc ms kc ks f n (nI i) b1 b2 b3 b4 s) (fun i s => ∀ j, j < i → s j = -1) 5 0 b5 (by omega) (fun j hj => absurd hj (by omega))
    (fun n s h => pk_le 5 5 (fun _ => H s h) (fun z => absurd z (by omega)))
    (fun n i s hi h hw => pk_le 5 i (fun z => absurd z (by omega)) (fun _ => ⟨pk_in i 5 hi, nm_e (nm_r (nI_1 i) (hw _ (pl_fill (nI_clamp (by omega)) h)))⟩))
theorem pl_45 {post : St2 → Prop} {mc ms kc ks : Nat} {f : Int32} {b1 b2 b3 b4 b5 : Nat → Int32} (H : ∀ c a, pl_W c → pl_N a → post (f, b1, b2, c, b4, a)) : ∃ n, wX_init_45 post mc ms kc ks f n 0 b1 b2 b3 b4 b5 :=
  pk_loop (fun n i s => wX_init_45 post mc ms kc ks f n (nI i) b1 b2 s b4 b5) (fun i s => ∀ j, j < i → s j = -1) 6 0 b3 (by omega) (fun j hj => absurd hj (by omega))
    (fun n s h => pk_le 6 6 (fun _ => pl_66 (fun a ha => H s a h ha)) (fun z => absurd z (by omega)))
    (fun n i s hi h hw => pk_le 6 i (fun z => absurd z (by omega)) (fun _ => ⟨pk_in i 6 hi, nm_e (nm_r (nI_1 i) (hw _ (pl_fill (nI_clamp (by omega)) h)))⟩))
/-- the constructor: nothing waits, nothing is held, all else is zero -/
theorem pl_init {post : St2 → Prop} {mc ms : Nat} {f : Int32} (hc : 5 ≤ mc) (hs : 29 ≤ ms) (H : ∀ c a, pl_W c → pl_N a → post (f, fun _ => 0, fun _ => 0, c, fun _ => 0, a)) : wpX_init post mc ms f :=
  ⟨by omega, by omega, by omega, by omega, by omega, by omega, by omega, by omega, by omega, by omega, pl_45 H⟩
theorem pl_thr {post : Int32 → Prop} {u : St0} {t : Nat} (ht : t < 6) (hp : post 1) : wpX_isThread post u (nI t) :=
  br_f (nI_pos (by omega)) (br_f (nI_ge (b := 6) ht (by decide)) hp)
theorem pl_nthr {post : Int32 → Prop} {u : St0} {p : Int32} (h : p < 0 ∨ nI 6 ≤ p) (hp : post 0) : wpX_isThread post u p :=
  br_c (fun _ => hp) (fun a => br_t (h.resolve_left a) hp)
theorem pl_lck {post : Int32 → Prop} {u : St0} {l : Nat} (hl : l < 5) (hp : post 1) : wpX_isLock post u (nI l) :=
  br_f (nI_pos (by omega)) (br_f (nI_ge (b := 5) hl (by decide)) hp)
theorem pl_nlck {post : Int32 → Prop} {u : St0} {p : Int32} (h : p < 0 ∨ nI 5 ≤ p) (hp : post 0) : wpX_isLock post u p :=
  br_c (fun _ => hp) (fun a => br_t (h.resolve_left a) hp)
/-- lent, where no thread waits: the base -/
theorem pl_lent {post : Int32 → Prop} {f : Int32} {a1 a2 a3 a4 a5 : Nat → Int32} {t : Nat} (ht : t < 6) (hw : pl_W a3) (hp : post (a1 t)) : wpX_lent post (f, a1, a2, a3, a4, a5) (nI t) :=
  ⟨pk_in t 6 ht, nm_r (e' := a1 t) (by rw [nI_clamp (by omega)]) (pk_loop (σ := Unit) (fun n i _ => wX_lent_9 post (nI t) f a1 a2 a3 a4 a5 n (a1 t) (nI i)) (fun _ _ => True) 6 0 () (by omega) trivial
    (fun n _ _ => pk_le 6 6 (fun _ => hp) (fun z => absurd z (by omega)))
    (fun n i _ hi _ hn => pk_le 6 i (fun z => absurd z (by omega)) (fun _ => ⟨pk_in i 6 hi, br_t (by rw [nI_clamp (by omega), hw i hi]; decide) (br_t rfl (nm_r (nI_1 i) (hn () trivial)))⟩)))⟩
/-- refresh, where no thread waits: the urgency becomes the base, and the chain ends -/
theorem pl_refresh {post : St2 → Prop} {f : Int32} {a1 a2 a3 a4 a5 : Nat → Int32} {t : Nat} (ht : t < 6) (hw : pl_W a3) (hp : post (f, a1, upd a2 t (a1 t).toInt8.toInt32, a3, a4, a5)) : wpX_refresh post (f, a1, a2, a3, a4, a5) (nI t) := by
  have hc : (nI t).toNatClampNeg = t := nI_clamp (by omega)
  have h1 : wX_refresh_4 post f 1 (-1) (0 + 1) a1 (upd a2 (nI t).toNatClampNeg (a1 t).toInt8.toInt32) a3 a4 a5 := by
    rw [hc]
    exact br_f (by decide) (br_t (by decide) hp)
  refine ⟨2, br_f (by decide) (br_f (nI_pos (by omega)) (pl_lent ht hw ⟨pk_in t 6 ht, br_c (fun _ => ?_) (fun _ => ?_)⟩))⟩
  · exact ⟨pk_in t 6 ht, nm_e (br_f (by decide) (nm_e h1))⟩
  · exact ⟨pk_in t 6 ht, nm_e (br_t rfl ⟨pk_in t 6 ht, br_f (by rw [hc, hw t ht]; decide) (nm_e h1)⟩)⟩
theorem pl_set {post : Int32 → St2 → Prop} {f : Int32} {a1 a2 a3 a4 a5 : Nat → Int32} {t v : Nat} (ht : t < 6) (hv : v < 10) (hw : pl_W a3) (hp : post 1 (f, upd a1 t (nI v), upd a2 t (nI v), a3, a4, a5)) : wpX_setBase post (f, a1, a2, a3, a4, a5) (nI t) (nI v) := by
  unfold wpX_setBase
  refine pl_thr ht (br_f (by decide) (br_f (nI_pos (by omega)) (br_t (nI_le (b := 9) (by omega) (by decide)) ⟨pk_in t 6 ht, nm_r (e' := upd a1 t (nI v)) ?_ (pl_refresh ht hw ?_)⟩)))
  · rw [nI_clamp (by omega), pl_b v (by omega)]
  · show post 1 (f, upd a1 t (nI v), upd a2 t (upd a1 t (nI v) t).toInt8.toInt32, a3, a4, a5)
    rw [pk_us, pl_b v (by omega)]
    exact hp
theorem pl_set0 {post : Int32 → St2 → Prop} {f : Int32} {a1 a2 a3 a4 a5 : Nat → Int32} {p q : Int32} (h : p < 0 ∨ nI 6 ≤ p ∨ q < 0 ∨ ¬ q ≤ 9) (hp : post 0 (f, a1, a2, a3, a4, a5)) : wpX_setBase post (f, a1, a2, a3, a4, a5) p q :=
  br_c (fun _ => br_t rfl hp) (fun a => br_c (fun _ => br_t rfl hp) (fun b => br_f (by decide) (br_c (fun _ => hp) (fun c => br_f (fun d => h.elim a (fun h => h.elim b (fun h => h.elim c (fun h => h d)))) hp))))
theorem pl_take {post : Int32 → St2 → Prop} {f : Int32} {a1 a2 a3 a4 a5 : Nat → Int32} {t l : Nat} (ht : t < 6) (hl : l < 5) (hw : pl_W a3) (h5 : a5 l = -1) (hp : post 0 (f, a1, a2, a3, a4, upd a5 l (nI t))) : wpX_take post (f, a1, a2, a3, a4, a5) (nI t) (nI l) := by
  have hc : (nI t).toNatClampNeg = t := nI_clamp (by omega)
  have hd : (nI l).toNatClampNeg = l := nI_clamp (by omega)
  unfold wpX_take
  refine pl_thr ht (br_f (by decide) (pl_lck hl (br_f (by decide) ⟨pk_in t 6 ht, br_f ?_ ⟨pk_in l 5 hl, br_f ?_ ⟨pk_in l 5 hl, nm_r (e' := -1) ?_ (br_f (by decide) ⟨pk_in l 5 hl, nm_r (e' := upd a5 l (nI t)) ?_ hp⟩)⟩⟩⟩)))
  · rw [hc, hw t ht]; decide
  · rw [hd, h5]; exact pl_ne t ht
  · rw [hd, h5]
  · rw [hd, pl_b t (by omega)]
theorem pl_takeB {post : Int32 → St2 → Prop} {f : Int32} {a1 a2 a3 a4 a5 : Nat → Int32} {t l : Nat} (ht : t < 6) (hl : l < 5) (hw : pl_W a3) (h5 : a5 l = nI t) (hp : post (-1) (f, a1, a2, a3, a4, a5)) : wpX_take post (f, a1, a2, a3, a4, a5) (nI t) (nI l) := by
  have hc : (nI t).toNatClampNeg = t := nI_clamp (by omega)
  have hd : (nI l).toNatClampNeg = l := nI_clamp (by omega)
  unfold wpX_take
  refine pl_thr ht (br_f (by decide) (pl_lck hl (br_f (by decide) ⟨pk_in t 6 ht, br_f ?_ ⟨pk_in l 5 hl, br_t ?_ hp⟩⟩)))
  · rw [hc, hw t ht]; decide
  · rw [hd, h5]
theorem pl_take0 {post : Int32 → St2 → Prop} {f : Int32} {a1 a2 a3 a4 a5 : Nat → Int32} {p q : Int32} (h : (p < 0 ∨ nI 6 ≤ p) ∨ (q < 0 ∨ nI 5 ≤ q)) (hp : post (-1) (f, a1, a2, a3, a4, a5)) : wpX_take post (f, a1, a2, a3, a4, a5) p q :=
  br_c (fun _ => br_t rfl hp) (fun a => br_c (fun _ => br_t rfl hp) (fun b => br_f (by decide) (pl_nlck (h.resolve_left (fun h => h.elim a b)) (br_t rfl hp))))
theorem pl_held0 {post : Int32 → Prop} {f : Int32} {a1 a2 a3 a4 a5 : Nat → Int32} {p : Int32} (h : p < 0 ∨ nI 6 ≤ p) (hp : post 0) : wpX_held post (f, a1, a2, a3, a4, a5) p :=
  ⟨1, br_f (by decide) (pl_nthr h (br_t rfl hp))⟩
/-- held, by a pure picture K of what is gathered below i -/
theorem pl_held {post : Int32 → Prop} {f : Int32} {a1 a2 a3 a4 a5 : Nat → Int32} {t : Nat} (K : Nat → Int32) (ht : t < 6) (k0 : K 0 = 0) (k1 : ∀ i, i < 5 → a5 i = nI t → K i ||| ((1 : Int32) <<< (nI i &&& 31)) = K (i + 1)) (k2 : ∀ i, i < 5 → ¬ a5 i = nI t → K i ||| 0 = K (i + 1)) (hp : post (K 5)) : wpX_held post (f, a1, a2, a3, a4, a5) (nI t) := by
  have H : ∃ n, wX_held_4 post (nI t) f a1 a2 a3 a4 a5 n (K 0) (nI 0) := by
    refine pk_loop (σ := Unit) (fun n i _ => wX_held_4 post (nI t) f a1 a2 a3 a4 a5 n (K i) (nI i)) (fun _ _ => True) 5 0 () (by omega) trivial
      (fun n _ _ => pk_le 5 5 (fun _ => hp) (fun z => absurd z (by omega)))
      (fun n i _ hi _ hn => pk_le 5 i (fun z => absurd z (by omega)) (fun _ => pl_thr ht (br_f (by decide) ⟨pk_in i 5 hi, br_c (fun g => ?_) (fun g => ?_)⟩)))
    · rw [nI_clamp (by omega)] at g
      exact nm_r (k1 i hi g) (nm_r (nI_1 i) (hn () trivial))
    · rw [nI_clamp (by omega)] at g
      exact nm_r (k2 i hi g) (nm_r (nI_1 i) (hn () trivial))
  rw [k0] at H
  exact H
/-- running, where no thread waits, by a pure picture B of the best below i -/
theorem pl_run {post : Int32 → Prop} {f : Int32} {a1 a2 a3 a4 a5 : Nat → Int32} (V B : Nat → Nat) (hw : pl_W a3) (h2 : ∀ j, j < 6 → a2 j = nI (V j)) (hV : ∀ j, j < 6 → V j < 10) (hb1 : B 1 = 0) (hB : ∀ i, 1 ≤ i → i < 6 → B i < 6) (hle : ∀ i, 1 ≤ i → i < 6 → V i ≤ V (B i) → B (i + 1) = B i) (hgt : ∀ i, 1 ≤ i → i < 6 → V (B i) < V i → B (i + 1) = i) (hp : post (nI (B 6))) : wpX_running post (f, a1, a2, a3, a4, a5) := by
  have H : ∃ n, wX_running_4 post f a1 a2 a3 a4 a5 n (nI (B 1)) (nI 1) := by
    refine pk_loop (σ := Unit) (fun n i _ => wX_running_4 post f a1 a2 a3 a4 a5 n (nI (B i)) (nI i)) (fun i _ => 1 ≤ i) 6 1 () (by omega) (Nat.le_refl 1)
      (fun n _ _ => pk_le 6 6 (fun _ => hp) (fun z => absurd z (by omega))) (fun n i _ hi h1 hn => ?_)
    have h1' : 1 ≤ i := h1
    have hb := hB i h1' hi
    have v1 := hV i hi
    have v2 := hV (B i) hb
    have hn' : wX_running_4 post f a1 a2 a3 a4 a5 n (nI (B (i + 1))) (nI (i + 1)) := hn () (Nat.le_succ_of_le h1')
    refine pk_le 6 i (fun z => absurd z (by omega)) (fun _ => ⟨pk_in i 6 hi, br_f ?_ (br_f (nI_pos (by omega)) ⟨pk_in i 6 hi, pk_in (B i) 6 hb, ?_⟩)⟩)
    · rw [nI_clamp (by omega), hw i hi]; decide
    · rw [nI_clamp (show i < 2 ^ 31 by omega), nI_clamp (show B i < 2 ^ 31 by omega), h2 i hi, h2 (B i) hb]
      refine pk_le (V i) (V (B i)) (fun z => nm_r (nI_1 i) ?_) (fun z => nm_r (nI_1 i) ?_)
      · rw [hle i h1' hi z] at hn'
        exact hn'
      · rw [hgt i h1' hi z] at hn'
        exact hn'
  obtain ⟨n, hn⟩ := H
  rw [hb1] at hn
  refine ⟨n + 1, br_f (by decide) ⟨pk_in 0 6 (by omega), br_f ?_ (br_t (by decide) (nm_r (nI_1 0) hn))⟩⟩
  rw [show (0 : Int32).toNatClampNeg = 0 from rfl, hw 0 (by omega)]; decide
/-- bestWaiting, where no thread waits: none -/
theorem pl_best {post : Int32 → Prop} {f : Int32} {a1 a2 a3 a4 a5 : Nat → Int32} {l : Nat} (hl : l < 5) (hw : pl_W a3) (hp : post (-1)) : wpX_bestWaiting post (f, a1, a2, a3, a4, a5) (nI l) :=
  pk_loop (σ := Unit) (fun n i _ => wX_bestWaiting_4 post (nI l) f a1 a2 a3 a4 a5 n (-1) (nI i)) (fun _ _ => True) 6 0 () (by omega) trivial
    (fun n _ _ => pk_le 6 6 (fun _ => hp) (fun z => absurd z (by omega)))
    (fun n i _ hi _ hn => pk_le 6 i (fun z => absurd z (by omega)) (fun _ => ⟨pk_in i 6 hi, br_f (by rw [nI_clamp (by omega), hw i hi]; exact pl_ne l (by omega)) (nm_r (nI_1 i) (hn () trivial))⟩))
theorem pl_give {post : Int32 → St2 → Prop} {f : Int32} {a1 a2 a3 a4 a5 : Nat → Int32} {s l : Nat} (hs : s < 6) (hl : l < 5) (hw : pl_W a3) (h5 : a5 l = nI s) (hp : ∀ u, post (-1) u) : wpX_give post (f, a1, a2, a3, a4, a5) (nI s) (nI l) := by
  have hc : (nI s).toNatClampNeg = s := nI_clamp (by omega)
  have hd : (nI l).toNatClampNeg = l := nI_clamp (by omega)
  unfold wpX_give
  refine pl_thr hs (br_f (by decide) (pl_lck hl (br_f (by decide) ⟨pk_in s 6 hs, br_f ?_ ⟨pk_in l 5 hl, br_t ?_ (pl_best hl hw ⟨pk_in l 5 hl, nm_e (br_t (by decide) (pl_refresh hs hw (hp _)))⟩)⟩⟩)))
  · rw [hc, hw s hs]; decide
  · rw [hd, h5]
theorem pl_giveN {post : Int32 → St2 → Prop} {f : Int32} {a1 a2 a3 a4 a5 : Nat → Int32} {s l : Nat} (hs : s < 6) (hl : l < 5) (hw : pl_W a3) (h5 : ¬ a5 l = nI s) (hp : ∀ u, post (-2) u) : wpX_give post (f, a1, a2, a3, a4, a5) (nI s) (nI l) := by
  have hc : (nI s).toNatClampNeg = s := nI_clamp (by omega)
  have hd : (nI l).toNatClampNeg = l := nI_clamp (by omega)
  unfold wpX_give
  refine pl_thr hs (br_f (by decide) (pl_lck hl (br_f (by decide) ⟨pk_in s 6 hs, br_f ?_ ⟨pk_in l 5 hl, br_f ?_ (hp _)⟩⟩)))
  · rw [hc, hw s hs]; decide
  · rw [hd]; exact h5
theorem pl_give0 {post : Int32 → St2 → Prop} {f : Int32} {a1 a2 a3 a4 a5 : Nat → Int32} {p q : Int32} (h : (p < 0 ∨ nI 6 ≤ p) ∨ (q < 0 ∨ nI 5 ≤ q)) (hp : ∀ u, post (-2) u) : wpX_give post (f, a1, a2, a3, a4, a5) p q :=
  br_c (fun _ => br_t rfl (hp _)) (fun a => br_c (fun _ => br_t rfl (hp _)) (fun b => br_f (by decide) (pl_nlck (h.resolve_left (fun h => h.elim a b)) (br_t rfl (hp _)))))
end
section
/-- b says whether p lies in 0 .. k-1 -/
def pl_D (k : Nat) (p b : Int32) : Prop := (b = 0 ∧ (p < 0 ∨ nI k ≤ p)) ∨ (b = 1 ∧ ∃ t : Nat, t < k ∧ p = nI t)
theorem pl_Dx (k : Nat) (hk : k < 2 ^ 31) (p : Int32) : ∃ b, pl_D k p b := by
  rcases pk_ix p hk with h | h | h
  · exact ⟨0, Or.inl ⟨rfl, Or.inl h⟩⟩
  · exact ⟨0, Or.inl ⟨rfl, Or.inr h⟩⟩
  · exact ⟨1, Or.inr ⟨rfl, h⟩⟩
theorem pl_D0 {k : Nat} {p b c : Int32} (hD : pl_D (k + 1) p b) (hk : k + 1 < 2 ^ 31) (hc : c = nI k) (h : p < 0 ∨ c < p) : b = 0 := by
  rcases hD with ⟨e, _⟩ | ⟨_, t, ht, e⟩
  · exact e
  · subst e hc
    exact absurd h (fun z => z.elim (nI_pos (by omega)) (nI_nlt (by omega) (by omega)))
theorem pl_D1 {k : Nat} {p b c : Int32} (hD : pl_D (k + 1) p b) (hk : k + 1 < 2 ^ 31) (hc : c = nI k) (h : ¬ p < 0) (h2 : ¬ c < p) : b = 1 := by
  rcases hD with ⟨_, z | z⟩ | ⟨e, _⟩
  · exact absurd z h
  · subst hc
    rw [Int32.lt_iff_toInt_lt, nI_toInt (by omega)] at h2
    rw [Int32.le_iff_toInt_le, nI_toInt hk] at z
    exact absurd z (by omega)
  · exact e
theorem pl_185 {post : Int32 → St0 → Prop} {mc ms kc ks : Nat} {x0 x3 x10 x11 x12 z0 z1 : Int32} (e : z1 = z0) (h : x10 = if x11 ≠ 0 ∧ x12 ≠ 0 ∧ x3 = x0 then -1 else -2) (hp : post 1 ()) : wL_lawOf_185 post mc ms x0 x3 x10 x11 x12 z0 z1 kc ks :=
  br_t e (br_c (fun a => br_t (h.trans (if_neg (fun c => c.1 a))) hp) (fun a => br_c (fun b => br_t (h.trans (if_neg (fun c => c.2.1 b))) hp) (fun b => br_c (fun c => br_t (h.trans (if_pos ⟨a, b, c⟩)) hp) (fun c => br_t (h.trans (if_neg (fun d => c d.2.2))) hp))))
theorem pl_166 {post : Int32 → St0 → Prop} {mc ms kc ks : Nat} {x0 x2 x3 x9 x10 x11 x12 x13 z0 z1 : Int32} (e : z1 = z0) (h9 : x9 = if x13 ≠ 0 ∧ ¬ x2 ≤ 0 then x0 else 0) (h : x10 = if x11 ≠ 0 ∧ x12 ≠ 0 ∧ x3 = x0 then -1 else -2) (hp : post 1 ()) : wL_lawOf_166 post mc ms x0 x2 x3 x9 x10 x11 x12 x13 z0 z1 kc ks :=
  br_t e (br_c (fun a => pl_185 (h9.trans (if_neg (fun c => c.1 a))) h hp) (fun a => br_c (fun b => pl_185 (h9.trans (if_neg (fun c => c.2 b))) h hp) (fun b => pl_185 (h9.trans (if_pos ⟨a, b⟩)) h hp)))
theorem pl_138 {post : Int32 → St0 → Prop} {mc ms kc ks : Nat} {x0 x1 x2 x3 x7 x8 x9 x10 x11 x12 x13 z0 z1 : Int32} (e : z1 = z0) (h7 : x7 = -1) (h8 : x8 = if x11 ≠ 0 ∧ x12 ≠ 0 then (1 : Int32) <<< (x1 &&& 31) else 0) (h9 : x9 = if x13 ≠ 0 ∧ ¬ x2 ≤ 0 then x0 else 0) (h : x10 = if x11 ≠ 0 ∧ x12 ≠ 0 ∧ x3 = x0 then -1 else -2) (hp : post 1 ()) : wL_lawOf_138 post mc ms x0 x1 x2 x3 x7 x8 x9 x10 x11 x12 x13 z0 z1 kc ks :=
  br_t e (br_t h7 (br_c (fun a => pl_166 (h8.trans (if_neg (fun c => c.1 a))) h9 h hp) (fun a => br_c (fun b => pl_166 (h8.trans (if_neg (fun c => c.2 b))) h9 h hp) (fun b => pl_166 (h8.trans (if_pos ⟨a, b⟩)) h9 h hp))))
theorem pl_112 {post : Int32 → St0 → Prop} {mc ms kc ks : Nat} {x0 x1 x2 x3 x5 x6 x7 x8 x9 x10 x11 x12 z0 : Int32} (e : x5 = z0) (h6 : x6 = if x11 ≠ 0 ∧ x12 ≠ 0 then 0 else -1) (h7 : x7 = -1) (h8 : x8 = if x11 ≠ 0 ∧ x12 ≠ 0 then (1 : Int32) <<< (x1 &&& 31) else 0) (h9 : x9 = if z0 ≠ 0 ∧ ¬ x2 ≤ 0 then x0 else 0) (h : x10 = if x11 ≠ 0 ∧ x12 ≠ 0 ∧ x3 = x0 then -1 else -2) (hp : post 1 ()) : wL_lawOf_112 post mc ms x0 x1 x2 x3 x5 x6 x7 x8 x9 x10 x11 x12 z0 kc ks :=
  br_t e (br_c (fun a => pl_138 (h6.trans (if_neg (fun c => c.1 a))) h7 h8 h9 h hp) (fun a => br_c (fun b => pl_138 (h6.trans (if_neg (fun c => c.2 b))) h7 h8 h9 h hp) (fun b => pl_138 (h6.trans (if_pos ⟨a, b⟩)) h7 h8 h9 h hp)))
theorem pl_90 {post : Int32 → St0 → Prop} {mc ms kc ks : Nat} {x0 x1 x2 x3 x5 x6 x7 x8 x9 x10 x11 x12 bU bB : Int32} (hU : pl_D 10 x2 bU) (hB : bB = if x11 ≠ 0 ∧ bU ≠ 0 then 1 else 0) (e : x5 = bB) (h6 : x6 = if x11 ≠ 0 ∧ x12 ≠ 0 then 0 else -1) (h7 : x7 = -1) (h8 : x8 = if x11 ≠ 0 ∧ x12 ≠ 0 then (1 : Int32) <<< (x1 &&& 31) else 0) (h9 : x9 = if bB ≠ 0 ∧ ¬ x2 ≤ 0 then x0 else 0) (h : x10 = if x11 ≠ 0 ∧ x12 ≠ 0 ∧ x3 = x0 then -1 else -2) (hp : post 1 ()) : wL_lawOf_90 post mc ms x0 x1 x2 x3 x5 x6 x7 x8 x9 x10 x11 x12 kc ks := by
  refine br_c (fun a => ?_) (fun a => br_c (fun b => ?_) (fun b => br_c (fun c => ?_) (fun c => ?_)))
  · have q : bB = 0 := hB.trans (if_neg (fun c => c.1 a))
    rw [q] at e h9
    exact pl_112 e h6 h7 h8 h9 h hp
  · have q : bB = 0 := hB.trans (if_neg (fun c => c.2 (pl_D0 hU (by decide) rfl (Or.inl b))))
    rw [q] at e h9
    exact pl_112 e h6 h7 h8 h9 h hp
  · have q : bB = 0 := hB.trans (if_neg (fun d => d.2 (pl_D0 (c := 9) hU (by decide) rfl (Or.inr c))))
    rw [q] at e h9
    exact pl_112 e h6 h7 h8 h9 h hp
  · have q : bB = 1 := hB.trans (if_pos ⟨a, by rw [pl_D1 (c := 9) hU (by decide) rfl b c]; decide⟩)
    rw [q] at e h9
    exact pl_112 e h6 h7 h8 h9 h hp
theorem pl_74 {post : Int32 → St0 → Prop} {mc ms kc ks : Nat} {x0 x1 x2 x3 x5 x6 x7 x8 x9 x10 x11 bL bU bB : Int32} (hL : pl_D 5 x1 bL) (hU : pl_D 10 x2 bU) (hB : bB = if x11 ≠ 0 ∧ bU ≠ 0 then 1 else 0) (e : x5 = bB) (h6 : x6 = if x11 ≠ 0 ∧ bL ≠ 0 then 0 else -1) (h7 : x7 = -1) (h8 : x8 = if x11 ≠ 0 ∧ bL ≠ 0 then (1 : Int32) <<< (x1 &&& 31) else 0) (h9 : x9 = if bB ≠ 0 ∧ ¬ x2 ≤ 0 then x0 else 0) (h : x10 = if x11 ≠ 0 ∧ bL ≠ 0 ∧ x3 = x0 then -1 else -2) (hp : post 1 ()) : wL_lawOf_74 post mc ms x0 x1 x2 x3 x5 x6 x7 x8 x9 x10 x11 kc ks := by
  refine br_c (fun a => ?_) (fun a => br_c (fun b => ?_) (fun b => ?_))
  · have q : bL = 0 := pl_D0 (c := 4) hL (by decide) rfl (Or.inl a)
    rw [q] at h6 h8 h
    exact pl_90 hU hB e h6 h7 h8 h9 h hp
  · have q : bL = 0 := pl_D0 (c := 4) hL (by decide) rfl (Or.inr b)
    rw [q] at h6 h8 h
    exact pl_90 hU hB e h6 h7 h8 h9 h hp
  · have q : bL = 1 := pl_D1 (c := 4) hL (by decide) rfl a b
    rw [q] at h6 h8 h
    exact pl_90 hU hB e h6 h7 h8 h9 h hp
/-- the law's own checks, given the answers -/
theorem pl_fin {post : Int32 → St0 → Prop} {mc ms kc ks : Nat} {x0 x1 x2 x3 x5 x6 x7 x8 x9 x10 bT bL bU bB : Int32} (hT : pl_D 6 x0 bT) (hL : pl_D 5 x1 bL) (hU : pl_D 10 x2 bU) (hB : bB = if bT ≠ 0 ∧ bU ≠ 0 then 1 else 0) (e : x5 = bB) (h6 : x6 = if bT ≠ 0 ∧ bL ≠ 0 then 0 else -1) (h7 : x7 = -1) (h8 : x8 = if bT ≠ 0 ∧ bL ≠ 0 then (1 : Int32) <<< (x1 &&& 31) else 0) (h9 : x9 = if bB ≠ 0 ∧ ¬ x2 ≤ 0 then x0 else 0) (h : x10 = if bT ≠ 0 ∧ bL ≠ 0 ∧ x3 = x0 then -1 else -2) (hp : post 1 ()) :
    (x0 < 0 → wL_lawOf_73 post mc ms x0 x1 x2 x3 x5 x6 x7 x8 x9 x10 kc ks) ∧ (¬ x0 < 0 → ((5 < x0 → wL_lawOf_73 post mc ms x0 x1 x2 x3 x5 x6 x7 x8 x9 x10 kc ks) ∧ (¬ 5 < x0 → wL_lawOf_74 post mc ms x0 x1 x2 x3 x5 x6 x7 x8 x9 x10 1 kc ks))) := by
  refine br_c (fun a => ?_) (fun a => br_c (fun b => ?_) (fun b => ?_))
  · have q : bT = 0 := pl_D0 (c := 5) hT (by decide) rfl (Or.inl a)
    rw [q] at hB h6 h8 h
    exact pl_74 hL hU hB e h6 h7 h8 h9 h hp
  · have q : bT = 0 := pl_D0 (c := 5) hT (by decide) rfl (Or.inr b)
    rw [q] at hB h6 h8 h
    exact pl_74 hL hU hB e h6 h7 h8 h9 h hp
  · have q : bT = 1 := pl_D1 (c := 5) hT (by decide) rfl a b
    rw [q] at hB h6 h8 h
    exact pl_74 hL hU hB e h6 h7 h8 h9 h hp
theorem pl_run0 {post : Int32 → Prop} {f : Int32} {a1 a3 a4 a5 : Nat → Int32} (hw : pl_W a3) (hp : post 0) : wpX_running post (f, a1, fun _ => 0, a3, a4, a5) :=
  pl_run (fun _ => 0) (fun _ => 0) hw (fun _ _ => rfl) (fun _ _ => by decide) rfl (fun _ _ _ => by decide) (fun _ _ _ _ => rfl) (fun _ _ _ z => absurd z (by decide)) hp
theorem pl_runV {post : Int32 → Prop} {f : Int32} {a1 a3 a4 a5 : Nat → Int32} {t v : Nat} (ht : t < 6) (hv : v < 10) (hw : pl_W a3) (hp : post (nI (if 0 < v then t else 0))) : wpX_running post (f, a1, upd (fun _ => 0) t (nI v), a3, a4, a5) := by
  refine pl_run (fun j => if j = t then v else 0) (fun i => if 0 < v ∧ t < i then t else 0) hw (fun j _ => ?_) (fun j _ => ?_) ?_ (fun i _ _ => ?_) (fun i h1 h6 z => ?_) (fun i h1 h6 z => ?_) ?_
  · by_cases e : j = t
    · rw [e, pk_us]
      rw [if_pos rfl]
    · rw [pk_un e]
      rw [if_neg e]
      rfl
  · split <;> omega
  · split <;> omega
  · split <;> omega
  · by_cases c1 : 0 < v ∧ t < i
    · rw [if_pos c1, if_pos ⟨c1.1, by omega⟩]
    · rw [if_neg c1] at z
      rw [if_neg c1]
      by_cases c2 : 0 < v ∧ t < i + 1
      · have c3 : i = t := by omega
        rw [if_pos c3, if_neg (show ¬ 0 = t by omega)] at z
        omega
      · rw [if_neg c2]
  · by_cases c1 : 0 < v ∧ t < i
    · rw [if_pos c1, if_pos (rfl : t = t), if_neg (show ¬ i = t by omega)] at z
      omega
    · rw [if_neg c1] at z
      by_cases c3 : i = t
      · rw [if_pos c3] at z
        rw [if_pos ⟨by omega, by omega⟩]
        exact c3.symm
      · rw [if_neg c3] at z
        omega
  · by_cases c : 0 < v
    · rw [if_pos c] at hp
      rw [if_pos ⟨c, ht⟩]
      exact hp
    · rw [if_neg c] at hp
      rw [if_neg (fun d => c d.1)]
      exact hp
/-- setBase on the new object: its answer, and what running then answers -/
theorem pl_setE {p0 p2 bT bU bB f : Int32} {a3 a5 : Nat → Int32} (hT : pl_D 6 p0 bT) (hU : pl_D 10 p2 bU) (hB : bB = if bT ≠ 0 ∧ bU ≠ 0 then 1 else 0) (hw : pl_W a3) :
    ∃ b1 b2 : Nat → Int32, (∀ post : Int32 → St2 → Prop, post bB (f, b1, b2, a3, fun _ => 0, a5) → wpX_setBase post (f, fun _ => 0, fun _ => 0, a3, fun _ => 0, a5) p0 p2)
      ∧ (∀ (post : Int32 → Prop) (c5 : Nat → Int32), post (if bB ≠ 0 ∧ ¬ p2 ≤ 0 then p0 else 0) → wpX_running post (f, b1, b2, a3, fun _ => 0, c5)) := by
  have no : bB = 0 → (p0 < 0 ∨ nI 6 ≤ p0 ∨ p2 < 0 ∨ ¬ p2 ≤ 9) → ∃ b1 b2 : Nat → Int32, (∀ post : Int32 → St2 → Prop, post bB (f, b1, b2, a3, fun _ => 0, a5) → wpX_setBase post (f, fun _ => 0, fun _ => 0, a3, fun _ => 0, a5) p0 p2)
      ∧ (∀ (post : Int32 → Prop) (c5 : Nat → Int32), post (if bB ≠ 0 ∧ ¬ p2 ≤ 0 then p0 else 0) → wpX_running post (f, b1, b2, a3, fun _ => 0, c5)) := by
    intro q hx
    refine ⟨fun _ => 0, fun _ => 0, fun post hp => ?_, fun post c5 hp => ?_⟩
    · rw [q] at hp
      exact pl_set0 hx hp
    · rw [if_neg (fun c => c.1 q)] at hp
      exact pl_run0 hw hp
  rcases hT with ⟨eT, hT⟩ | ⟨eT, t, ht, e0⟩
  · exact no (hB.trans (if_neg (fun c => c.1 eT))) (hT.elim Or.inl (fun z => Or.inr (Or.inl z)))
  rcases hU with ⟨eU, hU⟩ | ⟨eU, v, hv, e2⟩
  · refine no (hB.trans (if_neg (fun c => c.2 eU))) (hU.elim (fun z => Or.inr (Or.inr (Or.inl z))) (fun z => Or.inr (Or.inr (Or.inr (fun y => ?_)))))
    rw [Int32.le_iff_toInt_le, nI_toInt (by decide)] at z
    rw [Int32.le_iff_toInt_le, show (9 : Int32).toInt = 9 from rfl] at y
    omega
  have q : bB = 1 := hB.trans (if_pos ⟨by rw [eT]; decide, by rw [eU]; decide⟩)
  subst e0 e2
  refine ⟨upd (fun _ => 0) t (nI v), upd (fun _ => 0) t (nI v), fun post hp => ?_, fun post c5 hp => ?_⟩
  · rw [q] at hp
    exact pl_set ht hv hw hp
  · refine pl_runV ht hv hw ?_
    by_cases c : 0 < v
    · rw [if_pos ⟨by rw [q]; decide, nI_nle c (by omega)⟩] at hp
      rw [if_pos c]
      exact hp
    · have c0 : v = 0 := by omega
      subst c0
      rw [if_neg (fun d => d.2 (by decide))] at hp
      rw [if_neg c]
      exact hp
/-- take, take again, held and give on an object that holds nothing -/
theorem pl_tk {p0 p1 p3 bT bL f : Int32} {a3 a4 a5 : Nat → Int32} (hT : pl_D 6 p0 bT) (hL : pl_D 5 p1 bL) (hw : pl_W a3) (hn : pl_N a5) :
    ∃ c5 : Nat → Int32, (∀ (post : Int32 → St2 → Prop) (b1 b2 : Nat → Int32), post (if bT ≠ 0 ∧ bL ≠ 0 then 0 else -1) (f, b1, b2, a3, a4, c5) → wpX_take post (f, b1, b2, a3, a4, a5) p0 p1)
      ∧ (∀ (post : Int32 → St2 → Prop) (b1 b2 : Nat → Int32), post (-1) (f, b1, b2, a3, a4, c5) → wpX_take post (f, b1, b2, a3, a4, c5) p0 p1)
      ∧ (∀ (post : Int32 → Prop) (b1 b2 : Nat → Int32), post (if bT ≠ 0 ∧ bL ≠ 0 then (1 : Int32) <<< (p1 &&& 31) else 0) → wpX_held post (f, b1, b2, a3, a4, c5) p0)
      ∧ (∀ (post : Int32 → St2 → Prop) (b1 b2 : Nat → Int32), (∀ u, post (if bT ≠ 0 ∧ bL ≠ 0 ∧ p3 = p0 then -1 else -2) u) → wpX_give post (f, b1, b2, a3, a4, c5) p3 p1) := by
  rcases hT with ⟨eT, hT⟩ | ⟨eT, t, ht, e0⟩
  · refine ⟨a5, fun post b1 b2 hp => ?_, fun post b1 b2 hp => pl_take0 (Or.inl hT) hp, fun post b1 b2 hp => ?_, fun post b1 b2 hp => ?_⟩
    · rw [if_neg (fun c => c.1 eT)] at hp
      exact pl_take0 (Or.inl hT) hp
    · rw [if_neg (fun c => c.1 eT)] at hp
      exact pl_held0 hT hp
    · rw [if_neg (fun c => c.1 eT)] at hp
      rcases pk_ix p3 (n := 6) (by decide) with h | h | ⟨s, hs, h⟩
      · exact pl_give0 (Or.inl (Or.inl h)) hp
      · exact pl_give0 (Or.inl (Or.inr h)) hp
      · rcases hL with ⟨_, hL⟩ | ⟨_, l, hl, e1⟩
        · exact pl_give0 (Or.inr hL) hp
        · subst h e1
          exact pl_giveN hs hl hw (by rw [hn l hl]; exact pl_ne s hs) hp
  subst e0
  rcases hL with ⟨eL, hL⟩ | ⟨eL, l, hl, e1⟩
  · refine ⟨a5, fun post b1 b2 hp => ?_, fun post b1 b2 hp => pl_take0 (Or.inr hL) hp, fun post b1 b2 hp => ?_, fun post b1 b2 hp => ?_⟩
    · rw [if_neg (fun c => c.2 eL)] at hp
      exact pl_take0 (Or.inr hL) hp
    · rw [if_neg (fun c => c.2 eL)] at hp
      exact pl_held (fun _ => 0) ht rfl (fun i hi z => absurd z (by rw [hn i hi]; exact pl_ne t ht)) (fun _ _ _ => by decide) hp
    · rw [if_neg (fun c => c.2.1 eL)] at hp
      exact pl_give0 (Or.inr hL) hp
  subst e1
  have dT : bT ≠ 0 := by rw [eT]; decide
  have dL : bL ≠ 0 := by rw [eL]; decide
  have u1 : upd a5 l (nI t) l = nI t := pk_us
  refine ⟨upd a5 l (nI t), fun post b1 b2 hp => ?_, fun post b1 b2 hp => pl_takeB ht hl hw u1 hp, fun post b1 b2 hp => ?_, fun post b1 b2 hp => ?_⟩
  · rw [if_pos ⟨dT, dL⟩] at hp
    exact pl_take ht hl hw (hn l hl) hp
  · rw [if_pos ⟨dT, dL⟩] at hp
    refine pl_held (fun i => if l < i then (1 : Int32) <<< (nI l &&& 31) else 0) ht (if_neg (Nat.not_lt_zero l)) (fun i hi z => ?_) (fun i hi z => ?_) ?_
    · have e : i = l := by
        by_cases e : i = l
        · exact e
        · rw [pk_un e, hn i hi] at z
          exact absurd z (pl_ne t ht)
      subst e
      rw [if_neg (Nat.lt_irrefl i), if_pos (Nat.lt_succ_self i), Int32.zero_or]
    · have e : i ≠ l := fun e => z (by rw [e]; exact u1)
      rw [Int32.or_zero]
      by_cases c : l < i
      · rw [if_pos c, if_pos (by omega)]
      · rw [if_neg c, if_neg (by omega)]
    · rw [if_pos hl]
      exact hp
  · rcases pk_ix p3 (n := 6) (by decide) with h | h | ⟨s, hs, h⟩
    · have d : ¬ p3 = nI t := fun e => by rw [e] at h; exact nI_pos (by omega) h
      rw [if_neg (fun c => d c.2.2)] at hp
      exact pl_give0 (Or.inl (Or.inl h)) hp
    · have d : ¬ p3 = nI t := fun e => by rw [e] at h; exact nI_ge ht (by decide) h
      rw [if_neg (fun c => d c.2.2)] at hp
      exact pl_give0 (Or.inl (Or.inr h)) hp
    · subst h
      by_cases c : nI s = nI t
      · rw [if_pos ⟨dT, dL, c⟩] at hp
        exact pl_give hs hl hw (u1.trans c.symm) hp
      · rw [if_neg (fun d => c d.2.2)] at hp
        exact pl_giveN hs hl hw (fun z => c (z.symm.trans u1)) hp
theorem pl_lawOf (p0 p1 p2 p3 : Int32) : wpL_lawOf (fun r _ => r = 1) 6 35 () p0 p1 p2 p3 := by
  obtain ⟨bT, hT⟩ := pl_Dx 6 (by decide) p0
  obtain ⟨bL, hL⟩ := pl_Dx 5 (by decide) p1
  obtain ⟨bU, hU⟩ := pl_Dx 10 (by decide) p2
  refine ⟨by omega, by omega, 5, 29, by omega, by omega, pl_init (by omega) (by omega) (fun a3 a5 hw hn => ?_)⟩
  obtain ⟨b1, b2, hs, hr⟩ := pl_setE (f := 0) (a5 := a5) hT hU rfl hw
  obtain ⟨c5, k1, k2, k3, k4⟩ := pl_tk (f := 0) (p3 := p3) (a4 := fun _ => 0) hT hL hw hn
  refine hs _ (k1 _ b1 b2 (k2 _ b1 b2 (k3 _ b1 b2 (hr _ c5 (k4 _ b1 b2 (fun u => ?_))))))
  exact pl_fin hT hL hU rfl rfl rfl rfl rfl rfl rfl rfl
end
section
theorem pl_cell {post : Int32 → Prop} {L : Nat} {xs : Nat → Int32} {u : St0} (k : Nat) (hL : L ≤ 4) (hk : k < 4) (h : ∀ x, post x) : wpL_cellAt post L xs u (nI k) :=
  pk_le L k (fun _ => h _) (fun z => ⟨pk_in k L z, h _⟩)
theorem i_vc (xs : Nat → Int32) (L : Nat) (hL : L ≤ 4) : wpL_law (fun r => r = 1) L xs :=
  pl_cell 0 hL (by decide) (fun r1 => pl_cell 1 hL (by decide) (fun r2 => pl_cell 2 hL (by decide) (fun r3 => pl_cell 3 hL (by decide) (fun r4 => ⟨6, 35, by decide, by decide, pl_lawOf r1 r2 r3 r4⟩))))
end
