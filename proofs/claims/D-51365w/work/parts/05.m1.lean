/-! THE MODEL, extracted: functions and walks (printed by gen/emit_model.py) -/
set_option maxRecDepth 100000
theorem m_get0 {p : Program} {l : Launch} {e : Env} {s : State} {m : MethodId} {args : Array Value} {below : List Frame} {meth : Method} {c : Code} {R : Room} {H : Heap} {locs : List Loc} {cells slots pc nL : Nat} {Q : State → Prop} {ls : Array Slot} {rest : List Value} {cc : ByteArray} {E : mEnv} {g : mS} (F : CallFix p m c cc nL s args lw_all RX9) (hK : mK E s) (S : gS (mA E) s.heap (mP E g) H locs) (hdg : decode cc pc = .ok (.getfield 83, 3)) (kk : W p l e R s m args below meth c H locs cells slots Q (F0 m (pc + 3) ls (.int (g 0 0) :: rest))) : W p l e R s m args below meth c H locs cells slots Q (F0 m pc ls (.ref (mad E 0) :: rest)) :=
  m_get F hK S (k := 0) (by decide) q1904 rfl rfl hdg kk
theorem m_put0 {p : Program} {l : Launch} {e : Env} {s : State} {m : MethodId} {args : Array Value} {below : List Frame} {meth : Method} {c : Code} {R : Room} {H : Heap} {locs : List Loc} {cells slots pc nL : Nat} {Q : State → Prop} {ls : Array Slot} {rest : List Value} {cc : ByteArray} {E : mEnv} (hE : mInj E) {g gZ : mS} {v : Int32} (F : CallFix p m c cc nL s args lw_all RX9) (hK : mK E s) (S : gS (mA E) s.heap (mP E g) H locs) (h : wrF g 0 v = some gZ) (hdg : decode cc pc = .ok (.putfield 83, 3)) (kk : ∀ (H1 : Heap) (locs1 : List Loc), gS (mA E) s.heap (mP E gZ) H1 locs1 → W p l e R s m args below meth c H1 locs1 cells slots Q (F0 m (pc + 3) ls rest)) : W p l e R s m args below meth c H locs cells slots Q (F0 m pc ls (.int v :: .ref (mad E 0) :: rest)) :=
  m_put hE F hK S (k := 0) h (by decide) q1904 rfl rfl (by decide +kernel) rfl hdg kk
theorem m_get1 {p : Program} {l : Launch} {e : Env} {s : State} {m : MethodId} {args : Array Value} {below : List Frame} {meth : Method} {c : Code} {R : Room} {H : Heap} {locs : List Loc} {cells slots pc nL : Nat} {Q : State → Prop} {ls : Array Slot} {rest : List Value} {cc : ByteArray} {E : mEnv} {g : mS} (F : CallFix p m c cc nL s args lw_all RX9) (hK : mK E s) (S : gS (mA E) s.heap (mP E g) H locs) (hdg : decode cc pc = .ok (.getfield 9, 3)) (kk : W p l e R s m args below meth c H locs cells slots Q (F0 m (pc + 3) ls (.ref (mad E 1) :: rest))) : W p l e R s m args below meth c H locs cells slots Q (F0 m pc ls (.ref (mad E 0) :: rest)) :=
  m_get F hK S (k := 1) (by decide) q1905 rfl rfl hdg kk
theorem m_get2 {p : Program} {l : Launch} {e : Env} {s : State} {m : MethodId} {args : Array Value} {below : List Frame} {meth : Method} {c : Code} {R : Room} {H : Heap} {locs : List Loc} {cells slots pc nL : Nat} {Q : State → Prop} {ls : Array Slot} {rest : List Value} {cc : ByteArray} {E : mEnv} {g : mS} (F : CallFix p m c cc nL s args lw_all RX9) (hK : mK E s) (S : gS (mA E) s.heap (mP E g) H locs) (hdg : decode cc pc = .ok (.getfield 15, 3)) (kk : W p l e R s m args below meth c H locs cells slots Q (F0 m (pc + 3) ls (.ref (mad E 2) :: rest))) : W p l e R s m args below meth c H locs cells slots Q (F0 m pc ls (.ref (mad E 0) :: rest)) :=
  m_get F hK S (k := 2) (by decide) q1906 rfl rfl hdg kk
theorem m_get3 {p : Program} {l : Launch} {e : Env} {s : State} {m : MethodId} {args : Array Value} {below : List Frame} {meth : Method} {c : Code} {R : Room} {H : Heap} {locs : List Loc} {cells slots pc nL : Nat} {Q : State → Prop} {ls : Array Slot} {rest : List Value} {cc : ByteArray} {E : mEnv} {g : mS} (F : CallFix p m c cc nL s args lw_all RX9) (hK : mK E s) (S : gS (mA E) s.heap (mP E g) H locs) (hdg : decode cc pc = .ok (.getfield 91, 3)) (kk : W p l e R s m args below meth c H locs cells slots Q (F0 m (pc + 3) ls (.int (g 0 3) :: rest))) : W p l e R s m args below meth c H locs cells slots Q (F0 m pc ls (.ref (mad E 0) :: rest)) :=
  m_get F hK S (k := 3) (by decide) q1907 rfl rfl hdg kk
theorem m_put3 {p : Program} {l : Launch} {e : Env} {s : State} {m : MethodId} {args : Array Value} {below : List Frame} {meth : Method} {c : Code} {R : Room} {H : Heap} {locs : List Loc} {cells slots pc nL : Nat} {Q : State → Prop} {ls : Array Slot} {rest : List Value} {cc : ByteArray} {E : mEnv} (hE : mInj E) {g gZ : mS} {v : Int32} (F : CallFix p m c cc nL s args lw_all RX9) (hK : mK E s) (S : gS (mA E) s.heap (mP E g) H locs) (h : wrF g 3 v = some gZ) (hdg : decode cc pc = .ok (.putfield 91, 3)) (kk : ∀ (H1 : Heap) (locs1 : List Loc), gS (mA E) s.heap (mP E gZ) H1 locs1 → W p l e R s m args below meth c H1 locs1 cells slots Q (F0 m (pc + 3) ls rest)) : W p l e R s m args below meth c H locs cells slots Q (F0 m pc ls (.int v :: .ref (mad E 0) :: rest)) :=
  m_put hE F hK S (k := 3) h (by decide) q1907 rfl rfl (by decide +kernel) rfl hdg kk
theorem m_get4 {p : Program} {l : Launch} {e : Env} {s : State} {m : MethodId} {args : Array Value} {below : List Frame} {meth : Method} {c : Code} {R : Room} {H : Heap} {locs : List Loc} {cells slots pc nL : Nat} {Q : State → Prop} {ls : Array Slot} {rest : List Value} {cc : ByteArray} {E : mEnv} {g : mS} (F : CallFix p m c cc nL s args lw_all RX9) (hK : mK E s) (S : gS (mA E) s.heap (mP E g) H locs) (hdg : decode cc pc = .ok (.getfield 18, 3)) (kk : W p l e R s m args below meth c H locs cells slots Q (F0 m (pc + 3) ls (.ref (mad E 3) :: rest))) : W p l e R s m args below meth c H locs cells slots Q (F0 m pc ls (.ref (mad E 0) :: rest)) :=
  m_get F hK S (k := 4) (by decide) q1908 rfl rfl hdg kk
theorem m_get5 {p : Program} {l : Launch} {e : Env} {s : State} {m : MethodId} {args : Array Value} {below : List Frame} {meth : Method} {c : Code} {R : Room} {H : Heap} {locs : List Loc} {cells slots pc nL : Nat} {Q : State → Prop} {ls : Array Slot} {rest : List Value} {cc : ByteArray} {E : mEnv} {g : mS} (F : CallFix p m c cc nL s args lw_all RX9) (hK : mK E s) (S : gS (mA E) s.heap (mP E g) H locs) (hdg : decode cc pc = .ok (.getfield 21, 3)) (kk : W p l e R s m args below meth c H locs cells slots Q (F0 m (pc + 3) ls (.ref (mad E 4) :: rest))) : W p l e R s m args below meth c H locs cells slots Q (F0 m pc ls (.ref (mad E 0) :: rest)) :=
  m_get F hK S (k := 5) (by decide) q1909 rfl rfl hdg kk
theorem m_get7 {p : Program} {l : Launch} {e : Env} {s : State} {m : MethodId} {args : Array Value} {below : List Frame} {meth : Method} {c : Code} {R : Room} {H : Heap} {locs : List Loc} {cells slots pc nL : Nat} {Q : State → Prop} {ls : Array Slot} {rest : List Value} {cc : ByteArray} {E : mEnv} {g : mS} (F : CallFix p m c cc nL s args lw_all RX9) (hK : mK E s) (S : gS (mA E) s.heap (mP E g) H locs) (hdg : decode cc pc = .ok (.getfield 28, 3)) (kk : W p l e R s m args below meth c H locs cells slots Q (F0 m (pc + 3) ls (.ref (mad E 6) :: rest))) : W p l e R s m args below meth c H locs cells slots Q (F0 m pc ls (.ref (mad E 0) :: rest)) :=
  m_get F hK S (k := 7) (by decide) q1911 rfl rfl hdg kk
theorem m_get8 {p : Program} {l : Launch} {e : Env} {s : State} {m : MethodId} {args : Array Value} {below : List Frame} {meth : Method} {c : Code} {R : Room} {H : Heap} {locs : List Loc} {cells slots pc nL : Nat} {Q : State → Prop} {ls : Array Slot} {rest : List Value} {cc : ByteArray} {E : mEnv} {g : mS} (F : CallFix p m c cc nL s args lw_all RX9) (hK : mK E s) (S : gS (mA E) s.heap (mP E g) H locs) (hdg : decode cc pc = .ok (.getfield 31, 3)) (kk : W p l e R s m args below meth c H locs cells slots Q (F0 m (pc + 3) ls (.ref (mad E 7) :: rest))) : W p l e R s m args below meth c H locs cells slots Q (F0 m pc ls (.ref (mad E 0) :: rest)) :=
  m_get F hK S (k := 8) (by decide) q1912 rfl rfl hdg kk
theorem m_get9 {p : Program} {l : Launch} {e : Env} {s : State} {m : MethodId} {args : Array Value} {below : List Frame} {meth : Method} {c : Code} {R : Room} {H : Heap} {locs : List Loc} {cells slots pc nL : Nat} {Q : State → Prop} {ls : Array Slot} {rest : List Value} {cc : ByteArray} {E : mEnv} {g : mS} (F : CallFix p m c cc nL s args lw_all RX9) (hK : mK E s) (S : gS (mA E) s.heap (mP E g) H locs) (hdg : decode cc pc = .ok (.getfield 34, 3)) (kk : W p l e R s m args below meth c H locs cells slots Q (F0 m (pc + 3) ls (.ref (mad E 8) :: rest))) : W p l e R s m args below meth c H locs cells slots Q (F0 m pc ls (.ref (mad E 0) :: rest)) :=
  m_get F hK S (k := 9) (by decide) q1913 rfl rfl hdg kk
theorem m_get10 {p : Program} {l : Launch} {e : Env} {s : State} {m : MethodId} {args : Array Value} {below : List Frame} {meth : Method} {c : Code} {R : Room} {H : Heap} {locs : List Loc} {cells slots pc nL : Nat} {Q : State → Prop} {ls : Array Slot} {rest : List Value} {cc : ByteArray} {E : mEnv} {g : mS} (F : CallFix p m c cc nL s args lw_all RX9) (hK : mK E s) (S : gS (mA E) s.heap (mP E g) H locs) (hdg : decode cc pc = .ok (.getfield 37, 3)) (kk : W p l e R s m args below meth c H locs cells slots Q (F0 m (pc + 3) ls (.ref (mad E 9) :: rest))) : W p l e R s m args below meth c H locs cells slots Q (F0 m pc ls (.ref (mad E 0) :: rest)) :=
  m_get F hK S (k := 10) (by decide) q1914 rfl rfl hdg kk
theorem m_get11 {p : Program} {l : Launch} {e : Env} {s : State} {m : MethodId} {args : Array Value} {below : List Frame} {meth : Method} {c : Code} {R : Room} {H : Heap} {locs : List Loc} {cells slots pc nL : Nat} {Q : State → Prop} {ls : Array Slot} {rest : List Value} {cc : ByteArray} {E : mEnv} {g : mS} (F : CallFix p m c cc nL s args lw_all RX9) (hK : mK E s) (S : gS (mA E) s.heap (mP E g) H locs) (hdg : decode cc pc = .ok (.getfield 40, 3)) (kk : W p l e R s m args below meth c H locs cells slots Q (F0 m (pc + 3) ls (.ref (mad E 10) :: rest))) : W p l e R s m args below meth c H locs cells slots Q (F0 m pc ls (.ref (mad E 0) :: rest)) :=
  m_get F hK S (k := 11) (by decide) q1915 rfl rfl hdg kk
theorem m_get12 {p : Program} {l : Launch} {e : Env} {s : State} {m : MethodId} {args : Array Value} {below : List Frame} {meth : Method} {c : Code} {R : Room} {H : Heap} {locs : List Loc} {cells slots pc nL : Nat} {Q : State → Prop} {ls : Array Slot} {rest : List Value} {cc : ByteArray} {E : mEnv} {g : mS} (F : CallFix p m c cc nL s args lw_all RX9) (hK : mK E s) (S : gS (mA E) s.heap (mP E g) H locs) (hdg : decode cc pc = .ok (.getfield 43, 3)) (kk : W p l e R s m args below meth c H locs cells slots Q (F0 m (pc + 3) ls (.ref (mad E 11) :: rest))) : W p l e R s m args below meth c H locs cells slots Q (F0 m pc ls (.ref (mad E 0) :: rest)) :=
  m_get F hK S (k := 12) (by decide) q1916 rfl rfl hdg kk
theorem m_get13 {p : Program} {l : Launch} {e : Env} {s : State} {m : MethodId} {args : Array Value} {below : List Frame} {meth : Method} {c : Code} {R : Room} {H : Heap} {locs : List Loc} {cells slots pc nL : Nat} {Q : State → Prop} {ls : Array Slot} {rest : List Value} {cc : ByteArray} {E : mEnv} {g : mS} (F : CallFix p m c cc nL s args lw_all RX9) (hK : mK E s) (S : gS (mA E) s.heap (mP E g) H locs) (hdg : decode cc pc = .ok (.getfield 218, 3)) (kk : W p l e R s m args below meth c H locs cells slots Q (F0 m (pc + 3) ls (.int (g 0 13) :: rest))) : W p l e R s m args below meth c H locs cells slots Q (F0 m pc ls (.ref (mad E 0) :: rest)) :=
  m_get F hK S (k := 13) (by decide) q1917 rfl rfl hdg kk
theorem m_put13 {p : Program} {l : Launch} {e : Env} {s : State} {m : MethodId} {args : Array Value} {below : List Frame} {meth : Method} {c : Code} {R : Room} {H : Heap} {locs : List Loc} {cells slots pc nL : Nat} {Q : State → Prop} {ls : Array Slot} {rest : List Value} {cc : ByteArray} {E : mEnv} (hE : mInj E) {g gZ : mS} {v : Int32} (F : CallFix p m c cc nL s args lw_all RX9) (hK : mK E s) (S : gS (mA E) s.heap (mP E g) H locs) (h : wrF g 13 v = some gZ) (hdg : decode cc pc = .ok (.putfield 218, 3)) (kk : ∀ (H1 : Heap) (locs1 : List Loc), gS (mA E) s.heap (mP E gZ) H1 locs1 → W p l e R s m args below meth c H1 locs1 cells slots Q (F0 m (pc + 3) ls rest)) : W p l e R s m args below meth c H locs cells slots Q (F0 m pc ls (.int v :: .ref (mad E 0) :: rest)) :=
  m_put hE F hK S (k := 13) h (by decide) q1917 rfl rfl (by decide +kernel) rfl hdg kk
theorem m_get14 {p : Program} {l : Launch} {e : Env} {s : State} {m : MethodId} {args : Array Value} {below : List Frame} {meth : Method} {c : Code} {R : Room} {H : Heap} {locs : List Loc} {cells slots pc nL : Nat} {Q : State → Prop} {ls : Array Slot} {rest : List Value} {cc : ByteArray} {E : mEnv} {g : mS} (F : CallFix p m c cc nL s args lw_all RX9) (hK : mK E s) (S : gS (mA E) s.heap (mP E g) H locs) (hdg : decode cc pc = .ok (.getfield 46, 3)) (kk : W p l e R s m args below meth c H locs cells slots Q (F0 m (pc + 3) ls (.ref (mad E 12) :: rest))) : W p l e R s m args below meth c H locs cells slots Q (F0 m pc ls (.ref (mad E 0) :: rest)) :=
  m_get F hK S (k := 14) (by decide) q1918 rfl rfl hdg kk
theorem m_get15 {p : Program} {l : Launch} {e : Env} {s : State} {m : MethodId} {args : Array Value} {below : List Frame} {meth : Method} {c : Code} {R : Room} {H : Heap} {locs : List Loc} {cells slots pc nL : Nat} {Q : State → Prop} {ls : Array Slot} {rest : List Value} {cc : ByteArray} {E : mEnv} {g : mS} (F : CallFix p m c cc nL s args lw_all RX9) (hK : mK E s) (S : gS (mA E) s.heap (mP E g) H locs) (hdg : decode cc pc = .ok (.getfield 378, 3)) (kk : W p l e R s m args below meth c H locs cells slots Q (F0 m (pc + 3) ls (.int (g 0 15) :: rest))) : W p l e R s m args below meth c H locs cells slots Q (F0 m pc ls (.ref (mad E 0) :: rest)) :=
  m_get F hK S (k := 15) (by decide) q1919 rfl rfl hdg kk
theorem m_put15 {p : Program} {l : Launch} {e : Env} {s : State} {m : MethodId} {args : Array Value} {below : List Frame} {meth : Method} {c : Code} {R : Room} {H : Heap} {locs : List Loc} {cells slots pc nL : Nat} {Q : State → Prop} {ls : Array Slot} {rest : List Value} {cc : ByteArray} {E : mEnv} (hE : mInj E) {g gZ : mS} {v : Int32} (F : CallFix p m c cc nL s args lw_all RX9) (hK : mK E s) (S : gS (mA E) s.heap (mP E g) H locs) (h : wrF g 15 v = some gZ) (hdg : decode cc pc = .ok (.putfield 378, 3)) (kk : ∀ (H1 : Heap) (locs1 : List Loc), gS (mA E) s.heap (mP E gZ) H1 locs1 → W p l e R s m args below meth c H1 locs1 cells slots Q (F0 m (pc + 3) ls rest)) : W p l e R s m args below meth c H locs cells slots Q (F0 m pc ls (.int v :: .ref (mad E 0) :: rest)) :=
  m_put hE F hK S (k := 15) h (by decide) q1919 rfl rfl (by decide +kernel) rfl hdg kk
theorem m_get16 {p : Program} {l : Launch} {e : Env} {s : State} {m : MethodId} {args : Array Value} {below : List Frame} {meth : Method} {c : Code} {R : Room} {H : Heap} {locs : List Loc} {cells slots pc nL : Nat} {Q : State → Prop} {ls : Array Slot} {rest : List Value} {cc : ByteArray} {E : mEnv} {g : mS} (F : CallFix p m c cc nL s args lw_all RX9) (hK : mK E s) (S : gS (mA E) s.heap (mP E g) H locs) (hdg : decode cc pc = .ok (.getfield 50, 3)) (kk : W p l e R s m args below meth c H locs cells slots Q (F0 m (pc + 3) ls (.ref (mad E 13) :: rest))) : W p l e R s m args below meth c H locs cells slots Q (F0 m pc ls (.ref (mad E 0) :: rest)) :=
  m_get F hK S (k := 16) (by decide) q1920 rfl rfl hdg kk
theorem m_get17 {p : Program} {l : Launch} {e : Env} {s : State} {m : MethodId} {args : Array Value} {below : List Frame} {meth : Method} {c : Code} {R : Room} {H : Heap} {locs : List Loc} {cells slots pc nL : Nat} {Q : State → Prop} {ls : Array Slot} {rest : List Value} {cc : ByteArray} {E : mEnv} {g : mS} (F : CallFix p m c cc nL s args lw_all RX9) (hK : mK E s) (S : gS (mA E) s.heap (mP E g) H locs) (hdg : decode cc pc = .ok (.getfield 53, 3)) (kk : W p l e R s m args below meth c H locs cells slots Q (F0 m (pc + 3) ls (.ref (mad E 14) :: rest))) : W p l e R s m args below meth c H locs cells slots Q (F0 m pc ls (.ref (mad E 0) :: rest)) :=
  m_get F hK S (k := 17) (by decide) q1921 rfl rfl hdg kk
theorem m_get18 {p : Program} {l : Launch} {e : Env} {s : State} {m : MethodId} {args : Array Value} {below : List Frame} {meth : Method} {c : Code} {R : Room} {H : Heap} {locs : List Loc} {cells slots pc nL : Nat} {Q : State → Prop} {ls : Array Slot} {rest : List Value} {cc : ByteArray} {E : mEnv} {g : mS} (F : CallFix p m c cc nL s args lw_all RX9) (hK : mK E s) (S : gS (mA E) s.heap (mP E g) H locs) (hdg : decode cc pc = .ok (.getfield 56, 3)) (kk : W p l e R s m args below meth c H locs cells slots Q (F0 m (pc + 3) ls (.ref (mad E 15) :: rest))) : W p l e R s m args below meth c H locs cells slots Q (F0 m pc ls (.ref (mad E 0) :: rest)) :=
  m_get F hK S (k := 18) (by decide) q1922 rfl rfl hdg kk
theorem m_get19 {p : Program} {l : Launch} {e : Env} {s : State} {m : MethodId} {args : Array Value} {below : List Frame} {meth : Method} {c : Code} {R : Room} {H : Heap} {locs : List Loc} {cells slots pc nL : Nat} {Q : State → Prop} {ls : Array Slot} {rest : List Value} {cc : ByteArray} {E : mEnv} {g : mS} (F : CallFix p m c cc nL s args lw_all RX9) (hK : mK E s) (S : gS (mA E) s.heap (mP E g) H locs) (hdg : decode cc pc = .ok (.getfield 59, 3)) (kk : W p l e R s m args below meth c H locs cells slots Q (F0 m (pc + 3) ls (.ref (mad E 16) :: rest))) : W p l e R s m args below meth c H locs cells slots Q (F0 m pc ls (.ref (mad E 0) :: rest)) :=
  m_get F hK S (k := 19) (by decide) q1923 rfl rfl hdg kk
theorem m_get20 {p : Program} {l : Launch} {e : Env} {s : State} {m : MethodId} {args : Array Value} {below : List Frame} {meth : Method} {c : Code} {R : Room} {H : Heap} {locs : List Loc} {cells slots pc nL : Nat} {Q : State → Prop} {ls : Array Slot} {rest : List Value} {cc : ByteArray} {E : mEnv} {g : mS} (F : CallFix p m c cc nL s args lw_all RX9) (hK : mK E s) (S : gS (mA E) s.heap (mP E g) H locs) (hdg : decode cc pc = .ok (.getfield 62, 3)) (kk : W p l e R s m args below meth c H locs cells slots Q (F0 m (pc + 3) ls (.ref (mad E 17) :: rest))) : W p l e R s m args below meth c H locs cells slots Q (F0 m pc ls (.ref (mad E 0) :: rest)) :=
  m_get F hK S (k := 20) (by decide) q1924 rfl rfl hdg kk
theorem m_get21 {p : Program} {l : Launch} {e : Env} {s : State} {m : MethodId} {args : Array Value} {below : List Frame} {meth : Method} {c : Code} {R : Room} {H : Heap} {locs : List Loc} {cells slots pc nL : Nat} {Q : State → Prop} {ls : Array Slot} {rest : List Value} {cc : ByteArray} {E : mEnv} {g : mS} (F : CallFix p m c cc nL s args lw_all RX9) (hK : mK E s) (S : gS (mA E) s.heap (mP E g) H locs) (hdg : decode cc pc = .ok (.getfield 65, 3)) (kk : W p l e R s m args below meth c H locs cells slots Q (F0 m (pc + 3) ls (.ref (mad E 18) :: rest))) : W p l e R s m args below meth c H locs cells slots Q (F0 m pc ls (.ref (mad E 0) :: rest)) :=
  m_get F hK S (k := 21) (by decide) q1925 rfl rfl hdg kk
theorem m_get22 {p : Program} {l : Launch} {e : Env} {s : State} {m : MethodId} {args : Array Value} {below : List Frame} {meth : Method} {c : Code} {R : Room} {H : Heap} {locs : List Loc} {cells slots pc nL : Nat} {Q : State → Prop} {ls : Array Slot} {rest : List Value} {cc : ByteArray} {E : mEnv} {g : mS} (F : CallFix p m c cc nL s args lw_all RX9) (hK : mK E s) (S : gS (mA E) s.heap (mP E g) H locs) (hdg : decode cc pc = .ok (.getfield 68, 3)) (kk : W p l e R s m args below meth c H locs cells slots Q (F0 m (pc + 3) ls (.ref (mad E 19) :: rest))) : W p l e R s m args below meth c H locs cells slots Q (F0 m pc ls (.ref (mad E 0) :: rest)) :=
  m_get F hK S (k := 22) (by decide) q1926 rfl rfl hdg kk
theorem m_get23 {p : Program} {l : Launch} {e : Env} {s : State} {m : MethodId} {args : Array Value} {below : List Frame} {meth : Method} {c : Code} {R : Room} {H : Heap} {locs : List Loc} {cells slots pc nL : Nat} {Q : State → Prop} {ls : Array Slot} {rest : List Value} {cc : ByteArray} {E : mEnv} {g : mS} (F : CallFix p m c cc nL s args lw_all RX9) (hK : mK E s) (S : gS (mA E) s.heap (mP E g) H locs) (hdg : decode cc pc = .ok (.getfield 136, 3)) (kk : W p l e R s m args below meth c H locs cells slots Q (F0 m (pc + 3) ls (.int (g 0 23) :: rest))) : W p l e R s m args below meth c H locs cells slots Q (F0 m pc ls (.ref (mad E 0) :: rest)) :=
  m_get F hK S (k := 23) (by decide) q1927 rfl rfl hdg kk
theorem m_put23 {p : Program} {l : Launch} {e : Env} {s : State} {m : MethodId} {args : Array Value} {below : List Frame} {meth : Method} {c : Code} {R : Room} {H : Heap} {locs : List Loc} {cells slots pc nL : Nat} {Q : State → Prop} {ls : Array Slot} {rest : List Value} {cc : ByteArray} {E : mEnv} (hE : mInj E) {g gZ : mS} {v : Int32} (F : CallFix p m c cc nL s args lw_all RX9) (hK : mK E s) (S : gS (mA E) s.heap (mP E g) H locs) (h : wrF g 23 v = some gZ) (hdg : decode cc pc = .ok (.putfield 136, 3)) (kk : ∀ (H1 : Heap) (locs1 : List Loc), gS (mA E) s.heap (mP E gZ) H1 locs1 → W p l e R s m args below meth c H1 locs1 cells slots Q (F0 m (pc + 3) ls rest)) : W p l e R s m args below meth c H locs cells slots Q (F0 m pc ls (.int v :: .ref (mad E 0) :: rest)) :=
  m_put hE F hK S (k := 23) h (by decide) q1927 rfl rfl (by decide +kernel) rfl hdg kk
theorem m_get24 {p : Program} {l : Launch} {e : Env} {s : State} {m : MethodId} {args : Array Value} {below : List Frame} {meth : Method} {c : Code} {R : Room} {H : Heap} {locs : List Loc} {cells slots pc nL : Nat} {Q : State → Prop} {ls : Array Slot} {rest : List Value} {cc : ByteArray} {E : mEnv} {g : mS} (F : CallFix p m c cc nL s args lw_all RX9) (hK : mK E s) (S : gS (mA E) s.heap (mP E g) H locs) (hdg : decode cc pc = .ok (.getfield 152, 3)) (kk : W p l e R s m args below meth c H locs cells slots Q (F0 m (pc + 3) ls (.int (g 0 24) :: rest))) : W p l e R s m args below meth c H locs cells slots Q (F0 m pc ls (.ref (mad E 0) :: rest)) :=
  m_get F hK S (k := 24) (by decide) q1928 rfl rfl hdg kk
theorem m_put24 {p : Program} {l : Launch} {e : Env} {s : State} {m : MethodId} {args : Array Value} {below : List Frame} {meth : Method} {c : Code} {R : Room} {H : Heap} {locs : List Loc} {cells slots pc nL : Nat} {Q : State → Prop} {ls : Array Slot} {rest : List Value} {cc : ByteArray} {E : mEnv} (hE : mInj E) {g gZ : mS} {v : Int32} (F : CallFix p m c cc nL s args lw_all RX9) (hK : mK E s) (S : gS (mA E) s.heap (mP E g) H locs) (h : wrF g 24 v = some gZ) (hdg : decode cc pc = .ok (.putfield 152, 3)) (kk : ∀ (H1 : Heap) (locs1 : List Loc), gS (mA E) s.heap (mP E gZ) H1 locs1 → W p l e R s m args below meth c H1 locs1 cells slots Q (F0 m (pc + 3) ls rest)) : W p l e R s m args below meth c H locs cells slots Q (F0 m pc ls (.int v :: .ref (mad E 0) :: rest)) :=
  m_put hE F hK S (k := 24) h (by decide) q1928 rfl rfl (by decide +kernel) rfl hdg kk
theorem m_get25 {p : Program} {l : Launch} {e : Env} {s : State} {m : MethodId} {args : Array Value} {below : List Frame} {meth : Method} {c : Code} {R : Room} {H : Heap} {locs : List Loc} {cells slots pc nL : Nat} {Q : State → Prop} {ls : Array Slot} {rest : List Value} {cc : ByteArray} {E : mEnv} {g : mS} (F : CallFix p m c cc nL s args lw_all RX9) (hK : mK E s) (S : gS (mA E) s.heap (mP E g) H locs) (hdg : decode cc pc = .ok (.getfield 155, 3)) (kk : W p l e R s m args below meth c H locs cells slots Q (F0 m (pc + 3) ls (.int (g 0 25) :: rest))) : W p l e R s m args below meth c H locs cells slots Q (F0 m pc ls (.ref (mad E 0) :: rest)) :=
  m_get F hK S (k := 25) (by decide) q1929 rfl rfl hdg kk
theorem m_put25 {p : Program} {l : Launch} {e : Env} {s : State} {m : MethodId} {args : Array Value} {below : List Frame} {meth : Method} {c : Code} {R : Room} {H : Heap} {locs : List Loc} {cells slots pc nL : Nat} {Q : State → Prop} {ls : Array Slot} {rest : List Value} {cc : ByteArray} {E : mEnv} (hE : mInj E) {g gZ : mS} {v : Int32} (F : CallFix p m c cc nL s args lw_all RX9) (hK : mK E s) (S : gS (mA E) s.heap (mP E g) H locs) (h : wrF g 25 v = some gZ) (hdg : decode cc pc = .ok (.putfield 155, 3)) (kk : ∀ (H1 : Heap) (locs1 : List Loc), gS (mA E) s.heap (mP E gZ) H1 locs1 → W p l e R s m args below meth c H1 locs1 cells slots Q (F0 m (pc + 3) ls rest)) : W p l e R s m args below meth c H locs cells slots Q (F0 m pc ls (.int v :: .ref (mad E 0) :: rest)) :=
  m_put hE F hK S (k := 25) h (by decide) q1929 rfl rfl (by decide +kernel) rfl hdg kk
theorem m_get26 {p : Program} {l : Launch} {e : Env} {s : State} {m : MethodId} {args : Array Value} {below : List Frame} {meth : Method} {c : Code} {R : Room} {H : Heap} {locs : List Loc} {cells slots pc nL : Nat} {Q : State → Prop} {ls : Array Slot} {rest : List Value} {cc : ByteArray} {E : mEnv} {g : mS} (F : CallFix p m c cc nL s args lw_all RX9) (hK : mK E s) (S : gS (mA E) s.heap (mP E g) H locs) (hdg : decode cc pc = .ok (.getfield 221, 3)) (kk : W p l e R s m args below meth c H locs cells slots Q (F0 m (pc + 3) ls (.int (g 0 26) :: rest))) : W p l e R s m args below meth c H locs cells slots Q (F0 m pc ls (.ref (mad E 0) :: rest)) :=
  m_get F hK S (k := 26) (by decide) q1930 rfl rfl hdg kk
theorem m_put26 {p : Program} {l : Launch} {e : Env} {s : State} {m : MethodId} {args : Array Value} {below : List Frame} {meth : Method} {c : Code} {R : Room} {H : Heap} {locs : List Loc} {cells slots pc nL : Nat} {Q : State → Prop} {ls : Array Slot} {rest : List Value} {cc : ByteArray} {E : mEnv} (hE : mInj E) {g gZ : mS} {v : Int32} (F : CallFix p m c cc nL s args lw_all RX9) (hK : mK E s) (S : gS (mA E) s.heap (mP E g) H locs) (h : wrF g 26 v = some gZ) (hdg : decode cc pc = .ok (.putfield 221, 3)) (kk : ∀ (H1 : Heap) (locs1 : List Loc), gS (mA E) s.heap (mP E gZ) H1 locs1 → W p l e R s m args below meth c H1 locs1 cells slots Q (F0 m (pc + 3) ls rest)) : W p l e R s m args below meth c H locs cells slots Q (F0 m pc ls (.int v :: .ref (mad E 0) :: rest)) :=
  m_put hE F hK S (k := 26) h (by decide) q1930 rfl rfl (by decide +kernel) rfl hdg kk
theorem m_get27 {p : Program} {l : Launch} {e : Env} {s : State} {m : MethodId} {args : Array Value} {below : List Frame} {meth : Method} {c : Code} {R : Room} {H : Heap} {locs : List Loc} {cells slots pc nL : Nat} {Q : State → Prop} {ls : Array Slot} {rest : List Value} {cc : ByteArray} {E : mEnv} {g : mS} (F : CallFix p m c cc nL s args lw_all RX9) (hK : mK E s) (S : gS (mA E) s.heap (mP E g) H locs) (hdg : decode cc pc = .ok (.getfield 224, 3)) (kk : W p l e R s m args below meth c H locs cells slots Q (F0 m (pc + 3) ls (.int (g 0 27) :: rest))) : W p l e R s m args below meth c H locs cells slots Q (F0 m pc ls (.ref (mad E 0) :: rest)) :=
  m_get F hK S (k := 27) (by decide) q1931 rfl rfl hdg kk
theorem m_put27 {p : Program} {l : Launch} {e : Env} {s : State} {m : MethodId} {args : Array Value} {below : List Frame} {meth : Method} {c : Code} {R : Room} {H : Heap} {locs : List Loc} {cells slots pc nL : Nat} {Q : State → Prop} {ls : Array Slot} {rest : List Value} {cc : ByteArray} {E : mEnv} (hE : mInj E) {g gZ : mS} {v : Int32} (F : CallFix p m c cc nL s args lw_all RX9) (hK : mK E s) (S : gS (mA E) s.heap (mP E g) H locs) (h : wrF g 27 v = some gZ) (hdg : decode cc pc = .ok (.putfield 224, 3)) (kk : ∀ (H1 : Heap) (locs1 : List Loc), gS (mA E) s.heap (mP E gZ) H1 locs1 → W p l e R s m args below meth c H1 locs1 cells slots Q (F0 m (pc + 3) ls rest)) : W p l e R s m args below meth c H locs cells slots Q (F0 m pc ls (.int v :: .ref (mad E 0) :: rest)) :=
  m_put hE F hK S (k := 27) h (by decide) q1931 rfl rfl (by decide +kernel) rfl hdg kk
theorem m_get28 {p : Program} {l : Launch} {e : Env} {s : State} {m : MethodId} {args : Array Value} {below : List Frame} {meth : Method} {c : Code} {R : Room} {H : Heap} {locs : List Loc} {cells slots pc nL : Nat} {Q : State → Prop} {ls : Array Slot} {rest : List Value} {cc : ByteArray} {E : mEnv} {g : mS} (F : CallFix p m c cc nL s args lw_all RX9) (hK : mK E s) (S : gS (mA E) s.heap (mP E g) H locs) (hdg : decode cc pc = .ok (.getfield 227, 3)) (kk : W p l e R s m args below meth c H locs cells slots Q (F0 m (pc + 3) ls (.int (g 0 28) :: rest))) : W p l e R s m args below meth c H locs cells slots Q (F0 m pc ls (.ref (mad E 0) :: rest)) :=
  m_get F hK S (k := 28) (by decide) q1932 rfl rfl hdg kk
theorem m_put28 {p : Program} {l : Launch} {e : Env} {s : State} {m : MethodId} {args : Array Value} {below : List Frame} {meth : Method} {c : Code} {R : Room} {H : Heap} {locs : List Loc} {cells slots pc nL : Nat} {Q : State → Prop} {ls : Array Slot} {rest : List Value} {cc : ByteArray} {E : mEnv} (hE : mInj E) {g gZ : mS} {v : Int32} (F : CallFix p m c cc nL s args lw_all RX9) (hK : mK E s) (S : gS (mA E) s.heap (mP E g) H locs) (h : wrF g 28 v = some gZ) (hdg : decode cc pc = .ok (.putfield 227, 3)) (kk : ∀ (H1 : Heap) (locs1 : List Loc), gS (mA E) s.heap (mP E gZ) H1 locs1 → W p l e R s m args below meth c H1 locs1 cells slots Q (F0 m (pc + 3) ls rest)) : W p l e R s m args below meth c H locs cells slots Q (F0 m pc ls (.int v :: .ref (mad E 0) :: rest)) :=
  m_put hE F hK S (k := 28) h (by decide) q1932 rfl rfl (by decide +kernel) rfl hdg kk
theorem m_get29 {p : Program} {l : Launch} {e : Env} {s : State} {m : MethodId} {args : Array Value} {below : List Frame} {meth : Method} {c : Code} {R : Room} {H : Heap} {locs : List Loc} {cells slots pc nL : Nat} {Q : State → Prop} {ls : Array Slot} {rest : List Value} {cc : ByteArray} {E : mEnv} {g : mS} (F : CallFix p m c cc nL s args lw_all RX9) (hK : mK E s) (S : gS (mA E) s.heap (mP E g) H locs) (hdg : decode cc pc = .ok (.getfield 236, 3)) (kk : W p l e R s m args below meth c H locs cells slots Q (F0 m (pc + 3) ls (.int (g 0 29) :: rest))) : W p l e R s m args below meth c H locs cells slots Q (F0 m pc ls (.ref (mad E 0) :: rest)) :=
  m_get F hK S (k := 29) (by decide) q1933 rfl rfl hdg kk
theorem m_put29 {p : Program} {l : Launch} {e : Env} {s : State} {m : MethodId} {args : Array Value} {below : List Frame} {meth : Method} {c : Code} {R : Room} {H : Heap} {locs : List Loc} {cells slots pc nL : Nat} {Q : State → Prop} {ls : Array Slot} {rest : List Value} {cc : ByteArray} {E : mEnv} (hE : mInj E) {g gZ : mS} {v : Int32} (F : CallFix p m c cc nL s args lw_all RX9) (hK : mK E s) (S : gS (mA E) s.heap (mP E g) H locs) (h : wrF g 29 v = some gZ) (hdg : decode cc pc = .ok (.putfield 236, 3)) (kk : ∀ (H1 : Heap) (locs1 : List Loc), gS (mA E) s.heap (mP E gZ) H1 locs1 → W p l e R s m args below meth c H1 locs1 cells slots Q (F0 m (pc + 3) ls rest)) : W p l e R s m args below meth c H locs cells slots Q (F0 m pc ls (.int v :: .ref (mad E 0) :: rest)) :=
  m_put hE F hK S (k := 29) h (by decide) q1933 rfl rfl (by decide +kernel) rfl hdg kk
theorem m_get30 {p : Program} {l : Launch} {e : Env} {s : State} {m : MethodId} {args : Array Value} {below : List Frame} {meth : Method} {c : Code} {R : Room} {H : Heap} {locs : List Loc} {cells slots pc nL : Nat} {Q : State → Prop} {ls : Array Slot} {rest : List Value} {cc : ByteArray} {E : mEnv} {g : mS} (F : CallFix p m c cc nL s args lw_all RX9) (hK : mK E s) (S : gS (mA E) s.heap (mP E g) H locs) (hdg : decode cc pc = .ok (.getfield 248, 3)) (kk : W p l e R s m args below meth c H locs cells slots Q (F0 m (pc + 3) ls (.int (g 0 30) :: rest))) : W p l e R s m args below meth c H locs cells slots Q (F0 m pc ls (.ref (mad E 0) :: rest)) :=
  m_get F hK S (k := 30) (by decide) q1934 rfl rfl hdg kk
theorem m_put30 {p : Program} {l : Launch} {e : Env} {s : State} {m : MethodId} {args : Array Value} {below : List Frame} {meth : Method} {c : Code} {R : Room} {H : Heap} {locs : List Loc} {cells slots pc nL : Nat} {Q : State → Prop} {ls : Array Slot} {rest : List Value} {cc : ByteArray} {E : mEnv} (hE : mInj E) {g gZ : mS} {v : Int32} (F : CallFix p m c cc nL s args lw_all RX9) (hK : mK E s) (S : gS (mA E) s.heap (mP E g) H locs) (h : wrF g 30 v = some gZ) (hdg : decode cc pc = .ok (.putfield 248, 3)) (kk : ∀ (H1 : Heap) (locs1 : List Loc), gS (mA E) s.heap (mP E gZ) H1 locs1 → W p l e R s m args below meth c H1 locs1 cells slots Q (F0 m (pc + 3) ls rest)) : W p l e R s m args below meth c H locs cells slots Q (F0 m pc ls (.int v :: .ref (mad E 0) :: rest)) :=
  m_put hE F hK S (k := 30) h (by decide) q1934 rfl rfl (by decide +kernel) rfl hdg kk
abbrev rm_m_put : Room := { frames := 0, cells := 0, slots := 0, locals := 0 }
def fm_put (g : mS) (x1 : Int32) (x2 : Int32) (x3 : Int32) : Option (mS) :=
  bd1 (wrI g 1 ((6 + (x1 * 6)) + x2) x3) fun g1 =>
  some g1
set_option maxHeartbeats 4000000 in
set_option maxRecDepth 100000 in
theorem met_m_put (l : Launch) (E : mEnv) (hE : mInj E) (g : mS) (x1 : Int32) (x2 : Int32) (x3 : Int32) (gZ : mS) (h : fm_put g x1 x2 x3 = some gZ) : Met l yX9_put (ws_ yX9_put cX9_put 4 (none)) rm_m_put (va_Pc [.ref (mad E 0), .int x1, .int x2, .int x3] (gPre (mK E) (mP E g))) (gQv (mP E gZ) (mA E)) 0 0 (mA E) := by
  refine g_met (own := RX9) (by decide) rfl (Nat.le_of_ble_eq_true rfl) ?_
  intro p e s m args below meth c ls F hr hlk hK S hl
  have hx := F.1
  have hb := F.2.1
  have hl : lv_has ls 4 [(0, .ref (mad E 0)), (1, .int x1), (2, .int x2), (3, .int x3)] := hl
  unfold fm_put at h
  refine lv_aload_n hx hb dX9_put_0 rfl (lv_at hl 0 rfl) ?_
  refine m_get1 F hK S dX9_put_1 ?_
  refine lv_bipush (v := 6) hx hb dX9_put_4 (by decide) ?_
  refine lv_iload_n hx hb dX9_put_6 rfl (lv_at hl 1 rfl) ?_
  refine lv_bipush (v := 6) hx hb dX9_put_7 (by decide) ?_
  refine lv_imul hx hb dX9_put_9 ?_
  refine lv_iadd hx hb dX9_put_10 ?_
  refine lv_iload_n hx hb dX9_put_11 rfl (lv_at hl 2 rfl) ?_
  refine lv_iadd hx hb dX9_put_12 ?_
  refine lv_iload_n hx hb dX9_put_13 rfl (lv_at hl 3 rfl) ?_
  obtain ⟨g1, e2, h⟩ := bd1_inv h
  refine m_iast hE F hK S e2 dX9_put_14 (fun H locs S => ?_)
  cases h
  exact g_vret F hr hlk S dX9_put_15
theorem call_m_put {p : Program} {l : Launch} {e : Env} {s : State} {m : MethodId} {args : Array Value} {below : List Frame} {meth : Method} {c : Code} {R : Room} {H : Heap} {locs : List Loc} {cells slots pc nL : Nat} {Q : State → Prop} {ls : Array Slot} {rest : List Value} {cc : ByteArray} {E : mEnv} (hE : mInj E) {g : mS} {x1 : Int32} {x2 : Int32} {x3 : Int32} {gZ : mS} (F : CallFix p m c cc nL s args lw_all RX9) (hK : mK E s) (S : gS (mA E) s.heap (mP E g) H locs) (h : fm_put g x1 x2 x3 = some gZ) (hls : ls.size = nL) (hW : (rest.map fun v => v.category).sum ≤ 8) (hR : rm_m_put.frames + 1 ≤ R.frames ∧ 8 + (4 + 11) + rm_m_put.locals ≤ R.locals) (hf : cells ≤ R.cells ∧ slots ≤ R.slots) (hdg : decode cc pc = .ok (.invokevirtual 98, 3))
    (kk : ∀ (H1 : Heap) (locs1 : List Loc), gS (mA E) s.heap (mP E gZ) H1 locs1 → W p l e R s m args below meth c H1 locs1 cells slots Q (F0 m (pc + 3) ls (rest))) : W p l e R s m args below meth c H locs cells slots Q (F0 m pc ls (.int x3 :: .int x2 :: .int x1 :: .ref (mad E 0) :: rest)) :=
  g_kv (g_runV F hK (mKm E) S (met_m_put l E hE g x1 x2 x3 gZ h) (cwV 3 F.2.2.2.2 (lw_V q1825 q1827 qs42 q121 q1828) rfl rfl rfl (by decide +kernel) hR) (m_recv hK S) rfl hls rfl hW hdg hf) S kk
abbrev rm_m_empty : Room := { frames := 1, cells := 0, slots := 0, locals := 23 }
def fm_empty (g : mS) (x1 : Int32) : Option (mS) :=
  bd1 (fm_put g x1 0 0) fun g2 =>
  bd1 (fm_put g2 x1 1 (-1)) fun g4 =>
  bd1 (fm_put g4 x1 2 0) fun g6 =>
  bd1 (fm_put g6 x1 3 0) fun g8 =>
  bd1 (fm_put g8 x1 4 0) fun g10 =>
  bd1 (fm_put g10 x1 5 (-1)) fun g12 =>
  some g12
set_option maxHeartbeats 4000000 in
set_option maxRecDepth 100000 in
theorem met_m_empty (l : Launch) (E : mEnv) (hE : mInj E) (g : mS) (x1 : Int32) (gZ : mS) (h : fm_empty g x1 = some gZ) : Met l yX9_empty (ws_ yX9_empty cX9_empty 2 (none)) rm_m_empty (va_Pc [.ref (mad E 0), .int x1] (gPre (mK E) (mP E g))) (gQv (mP E gZ) (mA E)) 0 0 (mA E) := by
  refine g_met (own := RX9) (by decide) rfl (Nat.le_of_ble_eq_true rfl) ?_
  intro p e s m args below meth c ls F hr hlk hK S hl
  have hx := F.1
  have hb := F.2.1
  have hl : lv_has ls 2 [(0, .ref (mad E 0)), (1, .int x1)] := hl
  unfold fm_empty at h
  refine lv_aload_n hx hb dX9_empty_0 rfl (lv_at hl 0 rfl) ?_
  refine lv_iload_n hx hb dX9_empty_1 rfl (lv_at hl 1 rfl) ?_
  refine lv_iconst (v := 0) hx hb dX9_empty_2 (by decide) ?_
  refine lv_iconst (v := 0) hx hb dX9_empty_3 (by decide) ?_
  obtain ⟨g2, e1, h⟩ := bd1_inv h
  refine call_m_put hE F hK S e1 hl.1 (Nat.le_of_ble_eq_true rfl) ⟨Nat.le_of_ble_eq_true rfl, Nat.le_of_ble_eq_true rfl⟩ ⟨Nat.zero_le _, Nat.zero_le _⟩ dX9_empty_4 (fun H locs S => ?_)
  refine lv_aload_n hx hb dX9_empty_7 rfl (lv_at hl 0 rfl) ?_
  refine lv_iload_n hx hb dX9_empty_8 rfl (lv_at hl 1 rfl) ?_
  refine lv_iconst (v := 1) hx hb dX9_empty_9 (by decide) ?_
  refine lv_iconst (v := (-1)) hx hb dX9_empty_10 (by decide) ?_
  obtain ⟨g4, e3, h⟩ := bd1_inv h
  refine call_m_put hE F hK S e3 hl.1 (Nat.le_of_ble_eq_true rfl) ⟨Nat.le_of_ble_eq_true rfl, Nat.le_of_ble_eq_true rfl⟩ ⟨Nat.zero_le _, Nat.zero_le _⟩ dX9_empty_11 (fun H locs S => ?_)
  refine lv_aload_n hx hb dX9_empty_14 rfl (lv_at hl 0 rfl) ?_
  refine lv_iload_n hx hb dX9_empty_15 rfl (lv_at hl 1 rfl) ?_
  refine lv_iconst (v := 2) hx hb dX9_empty_16 (by decide) ?_
  refine lv_iconst (v := 0) hx hb dX9_empty_17 (by decide) ?_
  obtain ⟨g6, e5, h⟩ := bd1_inv h
  refine call_m_put hE F hK S e5 hl.1 (Nat.le_of_ble_eq_true rfl) ⟨Nat.le_of_ble_eq_true rfl, Nat.le_of_ble_eq_true rfl⟩ ⟨Nat.zero_le _, Nat.zero_le _⟩ dX9_empty_18 (fun H locs S => ?_)
  refine lv_aload_n hx hb dX9_empty_21 rfl (lv_at hl 0 rfl) ?_
  refine lv_iload_n hx hb dX9_empty_22 rfl (lv_at hl 1 rfl) ?_
  refine lv_iconst (v := 3) hx hb dX9_empty_23 (by decide) ?_
  refine lv_iconst (v := 0) hx hb dX9_empty_24 (by decide) ?_
  obtain ⟨g8, e7, h⟩ := bd1_inv h
  refine call_m_put hE F hK S e7 hl.1 (Nat.le_of_ble_eq_true rfl) ⟨Nat.le_of_ble_eq_true rfl, Nat.le_of_ble_eq_true rfl⟩ ⟨Nat.zero_le _, Nat.zero_le _⟩ dX9_empty_25 (fun H locs S => ?_)
  refine lv_aload_n hx hb dX9_empty_28 rfl (lv_at hl 0 rfl) ?_
  refine lv_iload_n hx hb dX9_empty_29 rfl (lv_at hl 1 rfl) ?_
  refine lv_iconst (v := 4) hx hb dX9_empty_30 (by decide) ?_
  refine lv_iconst (v := 0) hx hb dX9_empty_31 (by decide) ?_
  obtain ⟨g10, e9, h⟩ := bd1_inv h
  refine call_m_put hE F hK S e9 hl.1 (Nat.le_of_ble_eq_true rfl) ⟨Nat.le_of_ble_eq_true rfl, Nat.le_of_ble_eq_true rfl⟩ ⟨Nat.zero_le _, Nat.zero_le _⟩ dX9_empty_32 (fun H locs S => ?_)
  refine lv_aload_n hx hb dX9_empty_35 rfl (lv_at hl 0 rfl) ?_
  refine lv_iload_n hx hb dX9_empty_36 rfl (lv_at hl 1 rfl) ?_
  refine lv_iconst (v := 5) hx hb dX9_empty_37 (by decide) ?_
  refine lv_iconst (v := (-1)) hx hb dX9_empty_38 (by decide) ?_
  obtain ⟨g12, e11, h⟩ := bd1_inv h
  refine call_m_put hE F hK S e11 hl.1 (Nat.le_of_ble_eq_true rfl) ⟨Nat.le_of_ble_eq_true rfl, Nat.le_of_ble_eq_true rfl⟩ ⟨Nat.zero_le _, Nat.zero_le _⟩ dX9_empty_39 (fun H locs S => ?_)
  cases h
  exact g_vret F hr hlk S dX9_empty_42
theorem call_m_empty {p : Program} {l : Launch} {e : Env} {s : State} {m : MethodId} {args : Array Value} {below : List Frame} {meth : Method} {c : Code} {R : Room} {H : Heap} {locs : List Loc} {cells slots pc nL : Nat} {Q : State → Prop} {ls : Array Slot} {rest : List Value} {cc : ByteArray} {E : mEnv} (hE : mInj E) {g : mS} {x1 : Int32} {gZ : mS} (F : CallFix p m c cc nL s args lw_all RX9) (hK : mK E s) (S : gS (mA E) s.heap (mP E g) H locs) (h : fm_empty g x1 = some gZ) (hls : ls.size = nL) (hW : (rest.map fun v => v.category).sum ≤ 8) (hR : rm_m_empty.frames + 1 ≤ R.frames ∧ 8 + (2 + 11) + rm_m_empty.locals ≤ R.locals) (hf : cells ≤ R.cells ∧ slots ≤ R.slots) (hdg : decode cc pc = .ok (.invokevirtual 87, 3))
    (kk : ∀ (H1 : Heap) (locs1 : List Loc), gS (mA E) s.heap (mP E gZ) H1 locs1 → W p l e R s m args below meth c H1 locs1 cells slots Q (F0 m (pc + 3) ls (rest))) : W p l e R s m args below meth c H locs cells slots Q (F0 m pc ls (.int x1 :: .ref (mad E 0) :: rest)) :=
  g_kv (g_runV F hK (mKm E) S (met_m_empty l E hE g x1 gZ h) (cwV 1 F.2.2.2.2 (lw_V q1821 q1823 qs41 q121 q1824) rfl rfl rfl (by decide +kernel) hR) (m_recv hK S) rfl hls rfl hW hdg hf) S kk
abbrev rm_m_begin : Room := { frames := 2, cells := 0, slots := 0, locals := 44 }
def Lm_begin_1 : Nat → mS → Int32 → Int32 → Int32 → Option (mS)
  | 0, _, _, _, _ => none
  | n + 1, g, y1, y2, y3 =>
    if 606 ≤ y3 then
      some g
    else
      bd1 (wrI g 1 y3 0) fun g2 =>
      Lm_begin_1 n g2 y1 y2 (y3 + 1)
def Lm_begin_2 : Nat → mS → Int32 → Option (mS)
  | 0, _, _ => none
  | n + 1, g, y3 =>
    if 100 ≤ y3 then
      some g
    else
      bd1 (fm_empty g y3) fun g16 =>
      Lm_begin_2 n g16 (y3 + 1)
def fm_begin (g : mS) (x1 : Int32) (x2 : Int32) : Option (mS) :=
  bd1 (Lm_begin_1 FUEL g x1 x2 0) fun g5 =>
  bd1 (wrI g5 1 0 x1) fun g6 =>
  bd1 (wrI g6 1 1 x2) fun g8 =>
  bd1 (wrI g8 1 3 20) fun g10 =>
  bd1 (wrI g10 1 5 1) fun g12 =>
  bd1 (Lm_begin_2 FUEL g12 0) fun g18 =>
  some g18
set_option maxHeartbeats 4000000 in
set_option maxRecDepth 100000 in
theorem loop_m_begin_1 {p : Program} {l : Launch} {e : Env} {s : State} {m : MethodId} {args : Array Value} {below : List Frame} {meth : Method} {c : Code} (E : mEnv) (hE : mInj E) (F : CallFix p m c cX9_begin 4 s args lw_all RX9) (hr : meth.sig.returnType = none) (hlk : meth.locks = false) (hK : mK E s) {Q : State → Prop} : ∀ (n : Nat) (g : mS) (y1 : Int32) (y2 : Int32) (y3 : Int32) (o : mS), Lm_begin_1 n g y1 y2 y3 = some o → ∀ (H : Heap) (locs : List Loc) (ls : Array Slot), gS (mA E) s.heap (mP E g) H locs → lv_has ls 4 [(0, .ref (mad E 0)), (1, .int y1), (2, .int y2), (3, .int y3)] → (∀  (gx : mS) (H : Heap) (locs : List Loc) (ls : Array Slot), o = gx → gS (mA E) s.heap (mP E gx) H locs → lv_has ls 4 [(0, .ref (mad E 0)), (1, .int y1), (2, .int y2)] → W p l e rm_m_begin s m args below meth c H locs 0 0 Q (F0 m 22 ls [])) → W p l e rm_m_begin s m args below meth c H locs 0 0 Q (F0 m 2 ls []) := by
  have hx := F.1
  have hb := F.2.1
  intro n
  induction n with
  | zero =>
    intro g y1 y2 y3 o h
    rw [Lm_begin_1] at h
    cases h
  | succ n ih =>
    intro g y1 y2 y3 o h H locs ls S hl kx
    rw [Lm_begin_1] at h
    refine lv_iload_n hx hb dX9_begin_2 rfl (lv_at hl 3 rfl) ?_
    refine lv_sipush (v := 606) hx hb dX9_begin_3 (by decide) ?_
    refine lv_icmp_ge (tgt := 22) hx hb dX9_begin_6 (by decide) (fun c1 => ?_) (fun c1 => ?_)
    · rw [if_pos c1] at h
      cases h
      exact kx _ _ _ _ rfl S (lv_sub hl [0, 1, 2] rfl)
    · rw [if_neg c1] at h
      refine lv_aload_n hx hb dX9_begin_9 rfl (lv_at hl 0 rfl) ?_
      refine m_get1 F hK S dX9_begin_10 ?_
      refine lv_iload_n hx hb dX9_begin_13 rfl (lv_at hl 3 rfl) ?_
      refine lv_iconst (v := 0) hx hb dX9_begin_14 (by decide) ?_
      obtain ⟨g2, e3, h⟩ := bd1_inv h
      refine m_iast hE F hK S e3 dX9_begin_15 (fun H locs S => ?_)
      refine lv_iinc (v := (y3 + 1)) (lv' := [(3, .int (y3 + 1)), (0, .ref (mad E 0)), (1, .int y1), (2, .int y2)]) hx hb dX9_begin_16 hl (k := 3) rfl rfl (by decide) rfl (fun ls hl => ?_)
      refine lv_goto (tgt := 2) hx hb dX9_begin_19 (by decide) ?_
      exact ih _ _ _ _ _ h _ _ _ S (lv_sub hl [1, 2, 3, 0] rfl) kx
set_option maxHeartbeats 4000000 in
set_option maxRecDepth 100000 in
theorem loop_m_begin_2 {p : Program} {l : Launch} {e : Env} {s : State} {m : MethodId} {args : Array Value} {below : List Frame} {meth : Method} {c : Code} (E : mEnv) (hE : mInj E) (F : CallFix p m c cX9_begin 4 s args lw_all RX9) (hr : meth.sig.returnType = none) (hlk : meth.locks = false) (hK : mK E s) {Q : State → Prop} : ∀ (n : Nat) (g : mS) (y3 : Int32) (o : mS), Lm_begin_2 n g y3 = some o → ∀ (H : Heap) (locs : List Loc) (ls : Array Slot), gS (mA E) s.heap (mP E g) H locs → lv_has ls 4 [(0, .ref (mad E 0)), (3, .int y3)] → (∀  (gx : mS) (H : Heap) (locs : List Loc) (ls : Array Slot), o = gx → gS (mA E) s.heap (mP E gx) H locs → lv_has ls 4 [] → W p l e rm_m_begin s m args below meth c H locs 0 0 Q (F0 m 70 ls [])) → W p l e rm_m_begin s m args below meth c H locs 0 0 Q (F0 m 53 ls []) := by
  have hx := F.1
  have hb := F.2.1
  intro n
  induction n with
  | zero =>
    intro g y3 o h
    rw [Lm_begin_2] at h
    cases h
  | succ n ih =>
    intro g y3 o h H locs ls S hl kx
    rw [Lm_begin_2] at h
    refine lv_iload_n hx hb dX9_begin_53 rfl (lv_at hl 1 rfl) ?_
    refine lv_bipush (v := 100) hx hb dX9_begin_54 (by decide) ?_
    refine lv_icmp_ge (tgt := 70) hx hb dX9_begin_56 (by decide) (fun c14 => ?_) (fun c14 => ?_)
    · rw [if_pos c14] at h
      cases h
      exact kx _ _ _ _ rfl S (lv_sub hl [] rfl)
    · rw [if_neg c14] at h
      refine lv_aload_n hx hb dX9_begin_59 rfl (lv_at hl 0 rfl) ?_
      refine lv_iload_n hx hb dX9_begin_60 rfl (lv_at hl 1 rfl) ?_
      obtain ⟨g16, e15, h⟩ := bd1_inv h
      refine call_m_empty hE F hK S e15 hl.1 (Nat.le_of_ble_eq_true rfl) ⟨Nat.le_of_ble_eq_true rfl, Nat.le_of_ble_eq_true rfl⟩ ⟨Nat.zero_le _, Nat.zero_le _⟩ dX9_begin_61 (fun H locs S => ?_)
      refine lv_iinc (v := (y3 + 1)) (lv' := [(3, .int (y3 + 1)), (0, .ref (mad E 0))]) hx hb dX9_begin_64 hl (k := 1) rfl rfl (by decide) rfl (fun ls hl => ?_)
      refine lv_goto (tgt := 53) hx hb dX9_begin_67 (by decide) ?_
      exact ih _ _ _ h _ _ _ S (lv_sub hl [1, 0] rfl) kx
set_option maxHeartbeats 4000000 in
set_option maxRecDepth 100000 in
theorem met_m_begin (l : Launch) (E : mEnv) (hE : mInj E) (g : mS) (x1 : Int32) (x2 : Int32) (gZ : mS) (h : fm_begin g x1 x2 = some gZ) : Met l yX9_begin (ws_ yX9_begin cX9_begin 4 (none)) rm_m_begin (va_Pc [.ref (mad E 0), .int x1, .int x2] (gPre (mK E) (mP E g))) (gQv (mP E gZ) (mA E)) 0 0 (mA E) := by
  refine g_met (own := RX9) (by decide) rfl (Nat.le_of_ble_eq_true rfl) ?_
  intro p e s m args below meth c ls F hr hlk hK S hl
  have hx := F.1
  have hb := F.2.1
  have hl : lv_has ls 4 [(0, .ref (mad E 0)), (1, .int x1), (2, .int x2)] := hl
  unfold fm_begin at h
  refine lv_iconst (v := 0) hx hb dX9_begin_0 (by decide) ?_
  refine lv_istore_n (lv' := [(3, .int 0), (0, .ref (mad E 0)), (1, .int x1), (2, .int x2)]) hx hb dX9_begin_1 rfl hl (by decide) rfl (fun ls hl => ?_)
  obtain ⟨g5, e4, h⟩ := bd1_inv h
  refine loop_m_begin_1 E hE F hr hlk hK _ _ _ _ _ _ e4 _ _ _ S (lv_sub hl [1, 2, 3, 0] rfl) (fun g5z H locs ls o S hl => ?_)
  cases o
  refine lv_aload_n hx hb dX9_begin_22 rfl (lv_at hl 0 rfl) ?_
  refine m_get1 F hK S dX9_begin_23 ?_
  refine lv_iconst (v := 0) hx hb dX9_begin_26 (by decide) ?_
  refine lv_iload_n hx hb dX9_begin_27 rfl (lv_at hl 1 rfl) ?_
  obtain ⟨g6, e7, h⟩ := bd1_inv h
  refine m_iast hE F hK S e7 dX9_begin_28 (fun H locs S => ?_)
  refine lv_aload_n hx hb dX9_begin_29 rfl (lv_at hl 0 rfl) ?_
  refine m_get1 F hK S dX9_begin_30 ?_
  refine lv_iconst (v := 1) hx hb dX9_begin_33 (by decide) ?_
  refine lv_iload_n hx hb dX9_begin_34 rfl (lv_at hl 2 rfl) ?_
  obtain ⟨g8, e9, h⟩ := bd1_inv h
  refine m_iast hE F hK S e9 dX9_begin_35 (fun H locs S => ?_)
  refine lv_aload_n hx hb dX9_begin_36 rfl (lv_at hl 0 rfl) ?_
  refine m_get1 F hK S dX9_begin_37 ?_
  refine lv_iconst (v := 3) hx hb dX9_begin_40 (by decide) ?_
  refine lv_bipush (v := 20) hx hb dX9_begin_41 (by decide) ?_
  obtain ⟨g10, e11, h⟩ := bd1_inv h
  refine m_iast hE F hK S e11 dX9_begin_43 (fun H locs S => ?_)
  refine lv_aload_n hx hb dX9_begin_44 rfl (lv_at hl 0 rfl) ?_
  refine m_get1 F hK S dX9_begin_45 ?_
  refine lv_iconst (v := 5) hx hb dX9_begin_48 (by decide) ?_
  refine lv_iconst (v := 1) hx hb dX9_begin_49 (by decide) ?_
  obtain ⟨g12, e13, h⟩ := bd1_inv h
  refine m_iast hE F hK S e13 dX9_begin_50 (fun H locs S => ?_)
  refine lv_iconst (v := 0) hx hb dX9_begin_51 (by decide) ?_
  refine lv_istore_n (lv' := [(3, .int 0), (0, .ref (mad E 0)), (1, .int x1), (2, .int x2)]) hx hb dX9_begin_52 rfl hl (by decide) rfl (fun ls hl => ?_)
  obtain ⟨g18, e17, h⟩ := bd1_inv h
  refine loop_m_begin_2 E hE F hr hlk hK _ _ _ _ e17 _ _ _ S (lv_sub hl [1, 0] rfl) (fun g18z H locs ls o S hl => ?_)
  cases o
  cases h
  exact g_vret F hr hlk S dX9_begin_70
theorem call_m_begin {p : Program} {l : Launch} {e : Env} {s : State} {m : MethodId} {args : Array Value} {below : List Frame} {meth : Method} {c : Code} {R : Room} {H : Heap} {locs : List Loc} {cells slots pc nL : Nat} {Q : State → Prop} {ls : Array Slot} {rest : List Value} {cc : ByteArray} {E : mEnv} (hE : mInj E) {g : mS} {x1 : Int32} {x2 : Int32} {gZ : mS} (F : CallFix p m c cc nL s args lw_all RX9) (hK : mK E s) (S : gS (mA E) s.heap (mP E g) H locs) (h : fm_begin g x1 x2 = some gZ) (hls : ls.size = nL) (hW : (rest.map fun v => v.category).sum ≤ 8) (hR : rm_m_begin.frames + 1 ≤ R.frames ∧ 8 + (4 + 11) + rm_m_begin.locals ≤ R.locals) (hf : cells ≤ R.cells ∧ slots ≤ R.slots) (hdg : decode cc pc = .ok (.invokevirtual 71, 3))
    (kk : ∀ (H1 : Heap) (locs1 : List Loc), gS (mA E) s.heap (mP E gZ) H1 locs1 → W p l e R s m args below meth c H1 locs1 cells slots Q (F0 m (pc + 3) ls (rest))) : W p l e R s m args below meth c H locs cells slots Q (F0 m pc ls (.int x2 :: .int x1 :: .ref (mad E 0) :: rest)) :=
  g_kv (g_runV F hK (mKm E) S (met_m_begin l E hE g x1 x2 gZ h) (cwV 2 F.2.2.2.2 (lw_V q1817 q1819 qs40 q121 q1820) rfl rfl rfl (by decide +kernel) hR) (m_recv hK S) rfl hls rfl hW hdg hf) S kk
abbrev rm_m_cellAt : Room := { frames := 0, cells := 0, slots := 0, locals := 0 }
def fm_cellAt (g : mS) (x1 : Int32) (x2 : Int32) : Option (Int32) :=
  some ((10 * x2) + x1)
set_option maxHeartbeats 4000000 in
set_option maxRecDepth 100000 in
theorem met_m_cellAt (l : Launch) (E : mEnv) (hE : mInj E) (g : mS) (x1 : Int32) (x2 : Int32) (r : Int32) (h : fm_cellAt g x1 x2 = some r) : Met l yX9_cellAt (ws_ yX9_cellAt cX9_cellAt 3 (some .int)) rm_m_cellAt (va_Pc [.ref (mad E 0), .int x1, .int x2] (gPre (mK E) (mP E g))) (gQi r (mP E g) (mA E)) 0 0 (mA E) := by
  refine g_met (own := RX9) (by decide) rfl (Nat.le_of_ble_eq_true rfl) ?_
  intro p e s m args below meth c ls F hr hlk hK S hl
  have hx := F.1
  have hb := F.2.1
  have hl : lv_has ls 3 [(0, .ref (mad E 0)), (1, .int x1), (2, .int x2)] := hl
  unfold fm_cellAt at h
  refine lv_bipush (v := 10) hx hb dX9_cellAt_0 (by decide) ?_
  refine lv_iload_n hx hb dX9_cellAt_2 rfl (lv_at hl 2 rfl) ?_
  refine lv_imul hx hb dX9_cellAt_3 ?_
  refine lv_iload_n hx hb dX9_cellAt_4 rfl (lv_at hl 1 rfl) ?_
  refine lv_iadd hx hb dX9_cellAt_5 ?_
  cases h
  exact g_iret F hr hlk S rfl dX9_cellAt_6
theorem call_m_cellAt {p : Program} {l : Launch} {e : Env} {s : State} {m : MethodId} {args : Array Value} {below : List Frame} {meth : Method} {c : Code} {R : Room} {H : Heap} {locs : List Loc} {cells slots pc nL : Nat} {Q : State → Prop} {ls : Array Slot} {rest : List Value} {cc : ByteArray} {E : mEnv} (hE : mInj E) {g : mS} {x1 : Int32} {x2 : Int32} {r : Int32} (F : CallFix p m c cc nL s args lw_all RX9) (hK : mK E s) (S : gS (mA E) s.heap (mP E g) H locs) (h : fm_cellAt g x1 x2 = some r) (hls : ls.size = nL) (hW : (rest.map fun v => v.category).sum ≤ 8) (hR : rm_m_cellAt.frames + 1 ≤ R.frames ∧ 8 + (3 + 11) + rm_m_cellAt.locals ≤ R.locals) (hf : cells ≤ R.cells ∧ slots ≤ R.slots) (hdg : decode cc pc = .ok (.invokevirtual 102, 3))
    (kk : ∀ (H1 : Heap) (locs1 : List Loc), gS (mA E) s.heap (mP E g) H1 locs1 → W p l e R s m args below meth c H1 locs1 cells slots Q (F0 m (pc + 3) ls (.int r :: rest))) : W p l e R s m args below meth c H locs cells slots Q (F0 m pc ls (.int x2 :: .int x1 :: .ref (mad E 0) :: rest)) :=
  g_ki (g_runV F hK (mKm E) S (met_m_cellAt l E hE g x1 x2 r h) (cwV 2 F.2.2.2.2 (lw_V q1833 q1835 qs44 q121 q1836) rfl rfl rfl (by decide +kernel) hR) (m_recv hK S) rfl hls rfl hW hdg hf) S kk
abbrev rm_m_lay : Room := { frames := 2, cells := 0, slots := 0, locals := 44 }
def fm_lay (g : mS) (x1 : Int32) (x2 : Int32) (x3 : Int32) (x4 : Int32) (x5 : Int32) : Option (mS) :=
  bd1 (fm_cellAt g x1 x2) fun v2 =>
  bd1 (fm_empty g v2) fun g4 =>
  bd1 (fm_put g4 v2 0 x3) fun g6 =>
  bd1 (fm_put g6 v2 1 x4) fun g8 =>
  bd1 (fm_put g8 v2 2 x5) fun g10 =>
  some g10
set_option maxHeartbeats 4000000 in
set_option maxRecDepth 100000 in
theorem met_m_lay (l : Launch) (E : mEnv) (hE : mInj E) (g : mS) (x1 : Int32) (x2 : Int32) (x3 : Int32) (x4 : Int32) (x5 : Int32) (gZ : mS) (h : fm_lay g x1 x2 x3 x4 x5 = some gZ) : Met l yX9_lay (ws_ yX9_lay cX9_lay 7 (none)) rm_m_lay (va_Pc [.ref (mad E 0), .int x1, .int x2, .int x3, .int x4, .int x5] (gPre (mK E) (mP E g))) (gQv (mP E gZ) (mA E)) 0 0 (mA E) := by
  refine g_met (own := RX9) (by decide) rfl (Nat.le_of_ble_eq_true rfl) ?_
  intro p e s m args below meth c ls F hr hlk hK S hl
  have hx := F.1
  have hb := F.2.1
  have hl : lv_has ls 7 [(0, .ref (mad E 0)), (1, .int x1), (2, .int x2), (3, .int x3), (4, .int x4), (5, .int x5)] := hl
  unfold fm_lay at h
  refine lv_aload_n hx hb dX9_lay_0 rfl (lv_at hl 0 rfl) ?_
  refine lv_iload_n hx hb dX9_lay_1 rfl (lv_at hl 1 rfl) ?_
  refine lv_iload_n hx hb dX9_lay_2 rfl (lv_at hl 2 rfl) ?_
  obtain ⟨v2, e1, h⟩ := bd1_inv h
  refine call_m_cellAt hE F hK S e1 hl.1 (Nat.le_of_ble_eq_true rfl) ⟨Nat.le_of_ble_eq_true rfl, Nat.le_of_ble_eq_true rfl⟩ ⟨Nat.zero_le _, Nat.zero_le _⟩ dX9_lay_3 (fun H locs S => ?_)
  refine lv_istore (lv' := [(6, .int v2), (0, .ref (mad E 0)), (1, .int x1), (2, .int x2), (3, .int x3), (4, .int x4), (5, .int x5)]) hx hb dX9_lay_6 hl (by decide) rfl (fun ls hl => ?_)
  refine lv_aload_n hx hb dX9_lay_8 rfl (lv_at hl 1 rfl) ?_
  refine lv_iload hx hb dX9_lay_9 (lv_at hl 0 rfl) ?_
  obtain ⟨g4, e3, h⟩ := bd1_inv h
  refine call_m_empty hE F hK S e3 hl.1 (Nat.le_of_ble_eq_true rfl) ⟨Nat.le_of_ble_eq_true rfl, Nat.le_of_ble_eq_true rfl⟩ ⟨Nat.zero_le _, Nat.zero_le _⟩ dX9_lay_11 (fun H locs S => ?_)
  refine lv_aload_n hx hb dX9_lay_14 rfl (lv_at hl 1 rfl) ?_
  refine lv_iload hx hb dX9_lay_15 (lv_at hl 0 rfl) ?_
  refine lv_iconst (v := 0) hx hb dX9_lay_17 (by decide) ?_
  refine lv_iload_n hx hb dX9_lay_18 rfl (lv_at hl 4 rfl) ?_
  obtain ⟨g6, e5, h⟩ := bd1_inv h
  refine call_m_put hE F hK S e5 hl.1 (Nat.le_of_ble_eq_true rfl) ⟨Nat.le_of_ble_eq_true rfl, Nat.le_of_ble_eq_true rfl⟩ ⟨Nat.zero_le _, Nat.zero_le _⟩ dX9_lay_19 (fun H locs S => ?_)
  refine lv_aload_n hx hb dX9_lay_22 rfl (lv_at hl 1 rfl) ?_
  refine lv_iload hx hb dX9_lay_23 (lv_at hl 0 rfl) ?_
  refine lv_iconst (v := 1) hx hb dX9_lay_25 (by decide) ?_
  refine lv_iload hx hb dX9_lay_26 (lv_at hl 5 rfl) ?_
  obtain ⟨g8, e7, h⟩ := bd1_inv h
  refine call_m_put hE F hK S e7 hl.1 (Nat.le_of_ble_eq_true rfl) ⟨Nat.le_of_ble_eq_true rfl, Nat.le_of_ble_eq_true rfl⟩ ⟨Nat.zero_le _, Nat.zero_le _⟩ dX9_lay_28 (fun H locs S => ?_)
  refine lv_aload_n hx hb dX9_lay_31 rfl (lv_at hl 1 rfl) ?_
  refine lv_iload hx hb dX9_lay_32 (lv_at hl 0 rfl) ?_
  refine lv_iconst (v := 2) hx hb dX9_lay_34 (by decide) ?_
  refine lv_iload hx hb dX9_lay_35 (lv_at hl 6 rfl) ?_
  obtain ⟨g10, e9, h⟩ := bd1_inv h
  refine call_m_put hE F hK S e9 hl.1 (Nat.le_of_ble_eq_true rfl) ⟨Nat.le_of_ble_eq_true rfl, Nat.le_of_ble_eq_true rfl⟩ ⟨Nat.zero_le _, Nat.zero_le _⟩ dX9_lay_37 (fun H locs S => ?_)
  cases h
  exact g_vret F hr hlk S dX9_lay_40
theorem call_m_lay {p : Program} {l : Launch} {e : Env} {s : State} {m : MethodId} {args : Array Value} {below : List Frame} {meth : Method} {c : Code} {R : Room} {H : Heap} {locs : List Loc} {cells slots pc nL : Nat} {Q : State → Prop} {ls : Array Slot} {rest : List Value} {cc : ByteArray} {E : mEnv} (hE : mInj E) {g : mS} {x1 : Int32} {x2 : Int32} {x3 : Int32} {x4 : Int32} {x5 : Int32} {gZ : mS} (F : CallFix p m c cc nL s args lw_all RX9) (hK : mK E s) (S : gS (mA E) s.heap (mP E g) H locs) (h : fm_lay g x1 x2 x3 x4 x5 = some gZ) (hls : ls.size = nL) (hW : (rest.map fun v => v.category).sum ≤ 8) (hR : rm_m_lay.frames + 1 ≤ R.frames ∧ 8 + (7 + 11) + rm_m_lay.locals ≤ R.locals) (hf : cells ≤ R.cells ∧ slots ≤ R.slots) (hdg : decode cc pc = .ok (.invokevirtual 75, 3))
    (kk : ∀ (H1 : Heap) (locs1 : List Loc), gS (mA E) s.heap (mP E gZ) H1 locs1 → W p l e R s m args below meth c H1 locs1 cells slots Q (F0 m (pc + 3) ls (rest))) : W p l e R s m args below meth c H locs cells slots Q (F0 m pc ls (.int x5 :: .int x4 :: .int x3 :: .int x2 :: .int x1 :: .ref (mad E 0) :: rest)) :=
  g_kv (g_runV F hK (mKm E) S (met_m_lay l E hE g x1 x2 x3 x4 x5 gZ h) (cwV 5 F.2.2.2.2 (lw_V q1829 q1831 qs43 q121 q1832) rfl rfl rfl (by decide +kernel) hR) (m_recv hK S) rfl hls rfl hW hdg hf) S kk
abbrev rm_m_isCell : Room := { frames := 0, cells := 0, slots := 0, locals := 0 }
def fm_isCell (g : mS) (x1 : Int32) : Option (Int32) :=
  bd1 (rdI g 1 0) fun v1 =>
  bd1 ((
    if v1 ≤ (irm x1 10) then
      some 0
    else
      bd1 (rdI g 1 1) fun v4 =>
      if v4 ≤ (x1 / 10) then
        some 0
      else
        some 1) : Option (Int32)) fun v7 =>
  some (zN v7)
set_option maxHeartbeats 4000000 in
set_option maxRecDepth 100000 in
theorem met_m_isCell (l : Launch) (E : mEnv) (hE : mInj E) (g : mS) (x1 : Int32) (r : Int32) (h : fm_isCell g x1 = some r) : Met l yX9_isCell (ws_ yX9_isCell cX9_isCell 2 (some .boolean)) rm_m_isCell (va_Pc [.ref (mad E 0), .int x1] (gPre (mK E) (mP E g))) (gQi r (mP E g) (mA E)) 0 0 (mA E) := by
  refine g_met (own := RX9) (by decide) rfl (Nat.le_of_ble_eq_true rfl) ?_
  intro p e s m args below meth c ls F hr hlk hK S hl
  have hx := F.1
  have hb := F.2.1
  have hl : lv_has ls 2 [(0, .ref (mad E 0)), (1, .int x1)] := hl
  unfold fm_isCell at h
  refine lv_iload_n hx hb dX9_isCell_0 rfl (lv_at hl 1 rfl) ?_
  refine lv_bipush (v := 10) hx hb dX9_isCell_1 (by decide) ?_
  refine lv_irem hx hb dX9_isCell_3 (by decide) ?_
  refine lv_aload_n hx hb dX9_isCell_4 rfl (lv_at hl 0 rfl) ?_
  refine m_get1 F hK S dX9_isCell_5 ?_
  refine lv_iconst (v := 0) hx hb dX9_isCell_8 (by decide) ?_
  obtain ⟨v1, e2, h⟩ := bd1_inv h
  refine m_iald F hK S e2 dX9_isCell_9 ?_
  obtain ⟨v7, hB, h⟩ := bd1_inv h
  have hJ31 : ∀ (H : Heap) (locs : List Loc) (ls : Array Slot), gS (mA E) s.heap (mP E g) H locs → lv_has ls 2 [] → W p l e rm_m_isCell s m args below meth c H locs 0 0 (MQ below (gQi r (mP E g) (mA E)) args s 0 0 (mA E)) (F0 m 31 ls [.int v7]) := by
    intro H locs ls S hl
    cases h
    exact g_zret F hr hlk S rfl dX9_isCell_31
  clear h
  have h := hB
  clear hB
  refine lv_icmp_ge (tgt := 30) hx hb dX9_isCell_10 (by decide) (fun c3 => ?_) (fun c3 => ?_)
  · rw [if_pos c3] at h
    refine lv_iconst (v := 0) hx hb dX9_isCell_30 (by decide) ?_
    cases h
    exact hJ31 _ _ _ S (lv_sub hl [] rfl)
  · rw [if_neg c3] at h
    refine lv_iload_n hx hb dX9_isCell_13 rfl (lv_at hl 1 rfl) ?_
    refine lv_bipush (v := 10) hx hb dX9_isCell_14 (by decide) ?_
    refine lv_idiv hx hb dX9_isCell_16 (by decide) ?_
    refine lv_aload_n hx hb dX9_isCell_17 rfl (lv_at hl 0 rfl) ?_
    refine m_get1 F hK S dX9_isCell_18 ?_
    refine lv_iconst (v := 1) hx hb dX9_isCell_21 (by decide) ?_
    obtain ⟨v4, e5, h⟩ := bd1_inv h
    refine m_iald F hK S e5 dX9_isCell_22 ?_
    refine lv_icmp_ge (tgt := 30) hx hb dX9_isCell_23 (by decide) (fun c6 => ?_) (fun c6 => ?_)
    · rw [if_pos c6] at h
      refine lv_iconst (v := 0) hx hb dX9_isCell_30 (by decide) ?_
      cases h
      exact hJ31 _ _ _ S (lv_sub hl [] rfl)
    · rw [if_neg c6] at h
      refine lv_iconst (v := 1) hx hb dX9_isCell_26 (by decide) ?_
      refine lv_goto (tgt := 31) hx hb dX9_isCell_27 (by decide) ?_
      cases h
      exact hJ31 _ _ _ S (lv_sub hl [] rfl)
theorem call_m_isCell {p : Program} {l : Launch} {e : Env} {s : State} {m : MethodId} {args : Array Value} {below : List Frame} {meth : Method} {c : Code} {R : Room} {H : Heap} {locs : List Loc} {cells slots pc nL : Nat} {Q : State → Prop} {ls : Array Slot} {rest : List Value} {cc : ByteArray} {E : mEnv} (hE : mInj E) {g : mS} {x1 : Int32} {r : Int32} (F : CallFix p m c cc nL s args lw_all RX9) (hK : mK E s) (S : gS (mA E) s.heap (mP E g) H locs) (h : fm_isCell g x1 = some r) (hls : ls.size = nL) (hW : (rest.map fun v => v.category).sum ≤ 8) (hR : rm_m_isCell.frames + 1 ≤ R.frames ∧ 8 + (2 + 11) + rm_m_isCell.locals ≤ R.locals) (hf : cells ≤ R.cells ∧ slots ≤ R.slots) (hdg : decode cc pc = .ok (.invokevirtual 113, 3))
    (kk : ∀ (H1 : Heap) (locs1 : List Loc), gS (mA E) s.heap (mP E g) H1 locs1 → W p l e R s m args below meth c H1 locs1 cells slots Q (F0 m (pc + 3) ls (.int r :: rest))) : W p l e R s m args below meth c H locs cells slots Q (F0 m pc ls (.int x1 :: .ref (mad E 0) :: rest)) :=
  g_ki (g_runV F hK (mKm E) S (met_m_isCell l E hE g x1 r h) (cwV 1 F.2.2.2.2 (lw_V q1861 q1863 qs51 q121 q1864) rfl rfl rfl (by decide +kernel) hR) (m_recv hK S) rfl hls rfl hW hdg hf) S kk
abbrev rm_m_of : Room := { frames := 0, cells := 0, slots := 0, locals := 0 }
def fm_of (g : mS) (x1 : Int32) (x2 : Int32) : Option (Int32) :=
  bd1 (rdI g 1 ((6 + (x1 * 6)) + x2)) fun v1 =>
  some v1
set_option maxHeartbeats 4000000 in
set_option maxRecDepth 100000 in
theorem met_m_of (l : Launch) (E : mEnv) (hE : mInj E) (g : mS) (x1 : Int32) (x2 : Int32) (r : Int32) (h : fm_of g x1 x2 = some r) : Met l yX9_of (ws_ yX9_of cX9_of 3 (some .int)) rm_m_of (va_Pc [.ref (mad E 0), .int x1, .int x2] (gPre (mK E) (mP E g))) (gQi r (mP E g) (mA E)) 0 0 (mA E) := by
  refine g_met (own := RX9) (by decide) rfl (Nat.le_of_ble_eq_true rfl) ?_
  intro p e s m args below meth c ls F hr hlk hK S hl
  have hx := F.1
  have hb := F.2.1
  have hl : lv_has ls 3 [(0, .ref (mad E 0)), (1, .int x1), (2, .int x2)] := hl
  unfold fm_of at h
  refine lv_aload_n hx hb dX9_of_0 rfl (lv_at hl 0 rfl) ?_
  refine m_get1 F hK S dX9_of_1 ?_
  refine lv_bipush (v := 6) hx hb dX9_of_4 (by decide) ?_
  refine lv_iload_n hx hb dX9_of_6 rfl (lv_at hl 1 rfl) ?_
  refine lv_bipush (v := 6) hx hb dX9_of_7 (by decide) ?_
  refine lv_imul hx hb dX9_of_9 ?_
  refine lv_iadd hx hb dX9_of_10 ?_
  refine lv_iload_n hx hb dX9_of_11 rfl (lv_at hl 2 rfl) ?_
  refine lv_iadd hx hb dX9_of_12 ?_
  obtain ⟨v1, e2, h⟩ := bd1_inv h
  refine m_iald F hK S e2 dX9_of_13 ?_
  cases h
  exact g_iret F hr hlk S rfl dX9_of_14
theorem call_m_of {p : Program} {l : Launch} {e : Env} {s : State} {m : MethodId} {args : Array Value} {below : List Frame} {meth : Method} {c : Code} {R : Room} {H : Heap} {locs : List Loc} {cells slots pc nL : Nat} {Q : State → Prop} {ls : Array Slot} {rest : List Value} {cc : ByteArray} {E : mEnv} (hE : mInj E) {g : mS} {x1 : Int32} {x2 : Int32} {r : Int32} (F : CallFix p m c cc nL s args lw_all RX9) (hK : mK E s) (S : gS (mA E) s.heap (mP E g) H locs) (h : fm_of g x1 x2 = some r) (hls : ls.size = nL) (hW : (rest.map fun v => v.category).sum ≤ 8) (hR : rm_m_of.frames + 1 ≤ R.frames ∧ 8 + (3 + 11) + rm_m_of.locals ≤ R.locals) (hf : cells ≤ R.cells ∧ slots ≤ R.slots) (hdg : decode cc pc = .ok (.invokevirtual 106, 3))
    (kk : ∀ (H1 : Heap) (locs1 : List Loc), gS (mA E) s.heap (mP E g) H1 locs1 → W p l e R s m args below meth c H1 locs1 cells slots Q (F0 m (pc + 3) ls (.int r :: rest))) : W p l e R s m args below meth c H locs cells slots Q (F0 m pc ls (.int x2 :: .int x1 :: .ref (mad E 0) :: rest)) :=
  g_ki (g_runV F hK (mKm E) S (met_m_of l E hE g x1 x2 r h) (cwV 2 F.2.2.2.2 (lw_V q1869 q1871 qs53 q121 q1872) rfl rfl rfl (by decide +kernel) hR) (m_recv hK S) rfl hls rfl hW hdg hf) S kk
abbrev rm_m_isMirror : Room := { frames := 1, cells := 0, slots := 0, locals := 22 }
def fm_isMirror (g : mS) (x1 : Int32) : Option (Int32) :=
  bd1 (fm_of g x1 0) fun v2 =>
  bd1 ((
    if v2 = 2 then
      some 1
    else
      bd1 (fm_of g x1 0) fun v5 =>
      if v5 = 3 then
        some 1
      else
        some 0) : Option (Int32)) fun v7 =>
  some (zN v7)
set_option maxHeartbeats 4000000 in
set_option maxRecDepth 100000 in
theorem met_m_isMirror (l : Launch) (E : mEnv) (hE : mInj E) (g : mS) (x1 : Int32) (r : Int32) (h : fm_isMirror g x1 = some r) : Met l yX9_isMirror (ws_ yX9_isMirror cX9_isMirror 2 (some .boolean)) rm_m_isMirror (va_Pc [.ref (mad E 0), .int x1] (gPre (mK E) (mP E g))) (gQi r (mP E g) (mA E)) 0 0 (mA E) := by
  refine g_met (own := RX9) (by decide) rfl (Nat.le_of_ble_eq_true rfl) ?_
  intro p e s m args below meth c ls F hr hlk hK S hl
  have hx := F.1
  have hb := F.2.1
  have hl : lv_has ls 2 [(0, .ref (mad E 0)), (1, .int x1)] := hl
  unfold fm_isMirror at h
  refine lv_aload_n hx hb dX9_isMirror_0 rfl (lv_at hl 0 rfl) ?_
  refine lv_iload_n hx hb dX9_isMirror_1 rfl (lv_at hl 1 rfl) ?_
  refine lv_iconst (v := 0) hx hb dX9_isMirror_2 (by decide) ?_
  obtain ⟨v2, e1, h⟩ := bd1_inv h
  refine call_m_of hE F hK S e1 hl.1 (Nat.le_of_ble_eq_true rfl) ⟨Nat.le_of_ble_eq_true rfl, Nat.le_of_ble_eq_true rfl⟩ ⟨Nat.zero_le _, Nat.zero_le _⟩ dX9_isMirror_3 (fun H locs S => ?_)
  refine lv_iconst (v := 2) hx hb dX9_isMirror_6 (by decide) ?_
  obtain ⟨v7, hB, h⟩ := bd1_inv h
  have hJ25 : ∀ (H : Heap) (locs : List Loc) (ls : Array Slot), gS (mA E) s.heap (mP E g) H locs → lv_has ls 2 [] → W p l e rm_m_isMirror s m args below meth c H locs 0 0 (MQ below (gQi r (mP E g) (mA E)) args s 0 0 (mA E)) (F0 m 25 ls [.int v7]) := by
    intro H locs ls S hl
    cases h
    exact g_zret F hr hlk S rfl dX9_isMirror_25
  clear h
  have h := hB
  clear hB
  refine lv_icmp_eq (tgt := 20) hx hb dX9_isMirror_7 (by decide) (fun c3 => ?_) (fun c3 => ?_)
  · rw [if_pos c3] at h
    refine lv_iconst (v := 1) hx hb dX9_isMirror_20 (by decide) ?_
    refine lv_goto (tgt := 25) hx hb dX9_isMirror_21 (by decide) ?_
    cases h
    exact hJ25 _ _ _ S (lv_sub hl [] rfl)
  · rw [if_neg c3] at h
    refine lv_aload_n hx hb dX9_isMirror_10 rfl (lv_at hl 0 rfl) ?_
    refine lv_iload_n hx hb dX9_isMirror_11 rfl (lv_at hl 1 rfl) ?_
    refine lv_iconst (v := 0) hx hb dX9_isMirror_12 (by decide) ?_
    obtain ⟨v5, e4, h⟩ := bd1_inv h
    refine call_m_of hE F hK S e4 hl.1 (Nat.le_of_ble_eq_true rfl) ⟨Nat.le_of_ble_eq_true rfl, Nat.le_of_ble_eq_true rfl⟩ ⟨Nat.zero_le _, Nat.zero_le _⟩ dX9_isMirror_13 (fun H locs S => ?_)
    refine lv_iconst (v := 3) hx hb dX9_isMirror_16 (by decide) ?_
    refine lv_icmp_ne (tgt := 24) hx hb dX9_isMirror_17 (by decide) (fun c6 => ?_) (fun c6 => ?_)
    · rw [if_neg c6] at h
      refine lv_iconst (v := 0) hx hb dX9_isMirror_24 (by decide) ?_
      cases h
      exact hJ25 _ _ _ S (lv_sub hl [] rfl)
    · rw [if_pos c6] at h
      refine lv_iconst (v := 1) hx hb dX9_isMirror_20 (by decide) ?_
      refine lv_goto (tgt := 25) hx hb dX9_isMirror_21 (by decide) ?_
      cases h
      exact hJ25 _ _ _ S (lv_sub hl [] rfl)
theorem call_m_isMirror {p : Program} {l : Launch} {e : Env} {s : State} {m : MethodId} {args : Array Value} {below : List Frame} {meth : Method} {c : Code} {R : Room} {H : Heap} {locs : List Loc} {cells slots pc nL : Nat} {Q : State → Prop} {ls : Array Slot} {rest : List Value} {cc : ByteArray} {E : mEnv} (hE : mInj E) {g : mS} {x1 : Int32} {r : Int32} (F : CallFix p m c cc nL s args lw_all RX9) (hK : mK E s) (S : gS (mA E) s.heap (mP E g) H locs) (h : fm_isMirror g x1 = some r) (hls : ls.size = nL) (hW : (rest.map fun v => v.category).sum ≤ 8) (hR : rm_m_isMirror.frames + 1 ≤ R.frames ∧ 8 + (2 + 11) + rm_m_isMirror.locals ≤ R.locals) (hf : cells ≤ R.cells ∧ slots ≤ R.slots) (hdg : decode cc pc = .ok (.invokevirtual 109, 3))
    (kk : ∀ (H1 : Heap) (locs1 : List Loc), gS (mA E) s.heap (mP E g) H1 locs1 → W p l e R s m args below meth c H1 locs1 cells slots Q (F0 m (pc + 3) ls (.int r :: rest))) : W p l e R s m args below meth c H locs cells slots Q (F0 m pc ls (.int x1 :: .ref (mad E 0) :: rest)) :=
  g_ki (g_runV F hK (mKm E) S (met_m_isMirror l E hE g x1 r h) (cwV 1 F.2.2.2.2 (lw_V q1865 q1867 qs52 q121 q1868) rfl rfl rfl (by decide +kernel) hR) (m_recv hK S) rfl hls rfl hW hdg hf) S kk
abbrev rm_m_isOf : Room := { frames := 2, cells := 0, slots := 0, locals := 43 }
def fm_isOf (g : mS) (x1 : Int32) (x2 : Int32) : Option (Int32) :=
  bd1 (fm_isCell g x1) fun v2 =>
  bd1 ((
    if v2 = 0 then
      some 0
    else
      if x2 = 2 then
        bd1 (fm_isMirror g x1) fun v9 =>
        if v9 = 0 then
          some 0
        else
          some 1
      else
        bd1 (fm_of g x1 0) fun v6 =>
        if v6 = x2 then
          some 1
        else
          some 0) : Option (Int32)) fun v11 =>
  some (zN v11)
set_option maxHeartbeats 4000000 in
set_option maxRecDepth 100000 in
theorem met_m_isOf (l : Launch) (E : mEnv) (hE : mInj E) (g : mS) (x1 : Int32) (x2 : Int32) (r : Int32) (h : fm_isOf g x1 x2 = some r) : Met l yX9_isOf (ws_ yX9_isOf cX9_isOf 3 (some .boolean)) rm_m_isOf (va_Pc [.ref (mad E 0), .int x1, .int x2] (gPre (mK E) (mP E g))) (gQi r (mP E g) (mA E)) 0 0 (mA E) := by
  refine g_met (own := RX9) (by decide) rfl (Nat.le_of_ble_eq_true rfl) ?_
  intro p e s m args below meth c ls F hr hlk hK S hl
  have hx := F.1
  have hb := F.2.1
  have hl : lv_has ls 3 [(0, .ref (mad E 0)), (1, .int x1), (2, .int x2)] := hl
  unfold fm_isOf at h
  refine lv_aload_n hx hb dX9_isOf_0 rfl (lv_at hl 0 rfl) ?_
  refine lv_iload_n hx hb dX9_isOf_1 rfl (lv_at hl 1 rfl) ?_
  obtain ⟨v2, e1, h⟩ := bd1_inv h
  refine call_m_isCell hE F hK S e1 hl.1 (Nat.le_of_ble_eq_true rfl) ⟨Nat.le_of_ble_eq_true rfl, Nat.le_of_ble_eq_true rfl⟩ ⟨Nat.zero_le _, Nat.zero_le _⟩ dX9_isOf_2 (fun H locs S => ?_)
  obtain ⟨v11, hB, h⟩ := bd1_inv h
  have hJ39 : ∀ (H : Heap) (locs : List Loc) (ls : Array Slot), gS (mA E) s.heap (mP E g) H locs → lv_has ls 3 [] → W p l e rm_m_isOf s m args below meth c H locs 0 0 (MQ below (gQi r (mP E g) (mA E)) args s 0 0 (mA E)) (F0 m 39 ls [.int v11]) := by
    intro H locs ls S hl
    cases h
    exact g_zret F hr hlk S rfl dX9_isOf_39
  clear h
  have h := hB
  clear hB
  refine lv_if_eq (tgt := 38) hx hb dX9_isOf_5 (by decide) (fun c3 => ?_) (fun c3 => ?_)
  · rw [if_pos c3] at h
    refine lv_iconst (v := 0) hx hb dX9_isOf_38 (by decide) ?_
    cases h
    exact hJ39 _ _ _ S (lv_sub hl [] rfl)
  · rw [if_neg c3] at h
    refine lv_iload_n hx hb dX9_isOf_8 rfl (lv_at hl 2 rfl) ?_
    refine lv_iconst (v := 2) hx hb dX9_isOf_9 (by decide) ?_
    refine lv_icmp_ne (tgt := 24) hx hb dX9_isOf_10 (by decide) (fun c4 => ?_) (fun c4 => ?_)
    · rw [if_neg c4] at h
      refine lv_aload_n hx hb dX9_isOf_24 rfl (lv_at hl 0 rfl) ?_
      refine lv_iload_n hx hb dX9_isOf_25 rfl (lv_at hl 1 rfl) ?_
      refine lv_iconst (v := 0) hx hb dX9_isOf_26 (by decide) ?_
      obtain ⟨v6, e5, h⟩ := bd1_inv h
      refine call_m_of hE F hK S e5 hl.1 (Nat.le_of_ble_eq_true rfl) ⟨Nat.le_of_ble_eq_true rfl, Nat.le_of_ble_eq_true rfl⟩ ⟨Nat.zero_le _, Nat.zero_le _⟩ dX9_isOf_27 (fun H locs S => ?_)
      refine lv_iload_n hx hb dX9_isOf_30 rfl (lv_at hl 2 rfl) ?_
      refine lv_icmp_ne (tgt := 38) hx hb dX9_isOf_31 (by decide) (fun c7 => ?_) (fun c7 => ?_)
      · rw [if_neg c7] at h
        refine lv_iconst (v := 0) hx hb dX9_isOf_38 (by decide) ?_
        cases h
        exact hJ39 _ _ _ S (lv_sub hl [] rfl)
      · rw [if_pos c7] at h
        refine lv_iconst (v := 1) hx hb dX9_isOf_34 (by decide) ?_
        refine lv_goto (tgt := 39) hx hb dX9_isOf_35 (by decide) ?_
        cases h
        exact hJ39 _ _ _ S (lv_sub hl [] rfl)
    · rw [if_pos c4] at h
      refine lv_aload_n hx hb dX9_isOf_13 rfl (lv_at hl 0 rfl) ?_
      refine lv_iload_n hx hb dX9_isOf_14 rfl (lv_at hl 1 rfl) ?_
      obtain ⟨v9, e8, h⟩ := bd1_inv h
      refine call_m_isMirror hE F hK S e8 hl.1 (Nat.le_of_ble_eq_true rfl) ⟨Nat.le_of_ble_eq_true rfl, Nat.le_of_ble_eq_true rfl⟩ ⟨Nat.zero_le _, Nat.zero_le _⟩ dX9_isOf_15 (fun H locs S => ?_)
      refine lv_if_eq (tgt := 38) hx hb dX9_isOf_18 (by decide) (fun c10 => ?_) (fun c10 => ?_)
      · rw [if_pos c10] at h
        refine lv_iconst (v := 0) hx hb dX9_isOf_38 (by decide) ?_
        cases h
        exact hJ39 _ _ _ S (lv_sub hl [] rfl)
      · rw [if_neg c10] at h
        refine lv_goto (tgt := 34) hx hb dX9_isOf_21 (by decide) ?_
        refine lv_iconst (v := 1) hx hb dX9_isOf_34 (by decide) ?_
        refine lv_goto (tgt := 39) hx hb dX9_isOf_35 (by decide) ?_
        cases h
        exact hJ39 _ _ _ S (lv_sub hl [] rfl)
theorem call_m_isOf {p : Program} {l : Launch} {e : Env} {s : State} {m : MethodId} {args : Array Value} {below : List Frame} {meth : Method} {c : Code} {R : Room} {H : Heap} {locs : List Loc} {cells slots pc nL : Nat} {Q : State → Prop} {ls : Array Slot} {rest : List Value} {cc : ByteArray} {E : mEnv} (hE : mInj E) {g : mS} {x1 : Int32} {x2 : Int32} {r : Int32} (F : CallFix p m c cc nL s args lw_all RX9) (hK : mK E s) (S : gS (mA E) s.heap (mP E g) H locs) (h : fm_isOf g x1 x2 = some r) (hls : ls.size = nL) (hW : (rest.map fun v => v.category).sum ≤ 8) (hR : rm_m_isOf.frames + 1 ≤ R.frames ∧ 8 + (3 + 11) + rm_m_isOf.locals ≤ R.locals) (hf : cells ≤ R.cells ∧ slots ≤ R.slots) (hdg : decode cc pc = .ok (.invokevirtual 116, 3))
    (kk : ∀ (H1 : Heap) (locs1 : List Loc), gS (mA E) s.heap (mP E g) H1 locs1 → W p l e R s m args below meth c H1 locs1 cells slots Q (F0 m (pc + 3) ls (.int r :: rest))) : W p l e R s m args below meth c H locs cells slots Q (F0 m pc ls (.int x2 :: .int x1 :: .ref (mad E 0) :: rest)) :=
  g_ki (g_runV F hK (mKm E) S (met_m_isOf l E hE g x1 x2 r h) (cwV 2 F.2.2.2.2 (lw_V q1857 q1859 qs50 q121 q1860) rfl rfl rfl (by decide +kernel) hR) (m_recv hK S) rfl hls rfl hW hdg hf) S kk
abbrev rm_m_cellOf : Room := { frames := 3, cells := 0, slots := 0, locals := 65 }
def Lm_cellOf_1 : Nat → mS → Int32 → Int32 → Int32 → Option (Int32 ⊕ Unit)
  | 0, _, _, _, _ => none
  | n + 1, g, y2, y3, y4 =>
    if 100 ≤ y4 then
      some (.inr ())
    else
      if y3 < 0 then
        some (.inr ())
      else
        bd1 (fm_isOf g y4 y2) fun v4 =>
        if v4 = 0 then
          Lm_cellOf_1 n g y2 y3 (y4 + 1)
        else
          if y3 = 0 then
            some (.inl y4)
          else
            Lm_cellOf_1 n g y2 (y3 + (-1)) (y4 + 1)
def fm_cellOf (g : mS) (x1 : Int32) (x2 : Int32) : Option (Int32) :=
  bs0 (Lm_cellOf_1 FUEL g x2 x1 0) some <|
  some (-1)
set_option maxHeartbeats 4000000 in
set_option maxRecDepth 100000 in
theorem loop_m_cellOf_1 {p : Program} {l : Launch} {e : Env} {s : State} {m : MethodId} {args : Array Value} {below : List Frame} {meth : Method} {c : Code} (E : mEnv) (hE : mInj E) (F : CallFix p m c cX9_cellOf 5 s args lw_all RX9) (hr : meth.sig.returnType = some .int) (hlk : meth.locks = false) (hK : mK E s) {r0 : Int32} {g : mS} : ∀ (n : Nat) (y2 : Int32) (y3 : Int32) (y4 : Int32) (o : Int32 ⊕ Unit), Lm_cellOf_1 n g y2 y3 y4 = some o → ∀ (H : Heap) (locs : List Loc) (ls : Array Slot), gS (mA E) s.heap (mP E g) H locs → lv_has ls 5 [(0, .ref (mad E 0)), (2, .int y2), (3, .int y3), (4, .int y4)] → (∀ rz, o = .inl rz → rz = r0) → (∀ (H : Heap) (locs : List Loc) (ls : Array Slot), o = .inr () → gS (mA E) s.heap (mP E g) H locs → lv_has ls 5 [] → W p l e rm_m_cellOf s m args below meth c H locs 0 0 (MQ below (gQi r0 (mP E g) (mA E)) args s 0 0 (mA E)) (F0 m 42 ls [])) → W p l e rm_m_cellOf s m args below meth c H locs 0 0 (MQ below (gQi r0 (mP E g) (mA E)) args s 0 0 (mA E)) (F0 m 5 ls []) := by
  have hx := F.1
  have hb := F.2.1
  intro n
  induction n with
  | zero =>
    intro y2 y3 y4 o h
    rw [Lm_cellOf_1] at h
    cases h
  | succ n ih =>
    intro y2 y3 y4 o h H locs ls S hl kr kx
    rw [Lm_cellOf_1] at h
    refine lv_iload hx hb dX9_cellOf_5 (lv_at hl 3 rfl) ?_
    refine lv_bipush (v := 100) hx hb dX9_cellOf_7 (by decide) ?_
    refine lv_icmp_ge (tgt := 42) hx hb dX9_cellOf_9 (by decide) (fun c1 => ?_) (fun c1 => ?_)
    · rw [if_pos c1] at h
      cases h
      exact kx  _ _ _ rfl S (lv_sub hl [] rfl)
    · rw [if_neg c1] at h
      refine lv_iload_n hx hb dX9_cellOf_12 rfl (lv_at hl 2 rfl) ?_
      refine lv_if_lt (tgt := 42) hx hb dX9_cellOf_13 (by decide) (fun c2 => ?_) (fun c2 => ?_)
      · rw [if_pos c2] at h
        cases h
        exact kx  _ _ _ rfl S (lv_sub hl [] rfl)
      · rw [if_neg c2] at h
        refine lv_aload_n hx hb dX9_cellOf_16 rfl (lv_at hl 0 rfl) ?_
        refine lv_iload hx hb dX9_cellOf_17 (lv_at hl 3 rfl) ?_
        refine lv_iload_n hx hb dX9_cellOf_19 rfl (lv_at hl 1 rfl) ?_
        obtain ⟨v4, e3, h⟩ := bd1_inv h
        refine call_m_isOf hE F hK S e3 hl.1 (Nat.le_of_ble_eq_true rfl) ⟨Nat.le_of_ble_eq_true rfl, Nat.le_of_ble_eq_true rfl⟩ ⟨Nat.zero_le _, Nat.zero_le _⟩ dX9_cellOf_20 (fun H locs S => ?_)
        refine lv_if_eq (tgt := 36) hx hb dX9_cellOf_23 (by decide) (fun c5 => ?_) (fun c5 => ?_)
        · rw [if_pos c5] at h
          refine lv_iinc (v := (y4 + 1)) (lv' := [(4, .int (y4 + 1)), (0, .ref (mad E 0)), (2, .int y2), (3, .int y3)]) hx hb dX9_cellOf_36 hl (k := 3) rfl rfl (by decide) rfl (fun ls hl => ?_)
          refine lv_goto (tgt := 5) hx hb dX9_cellOf_39 (by decide) ?_
          exact ih _ _ _ _ h _ _ _ S (lv_sub hl [1, 2, 3, 0] rfl) kr kx
        · rw [if_neg c5] at h
          refine lv_iload_n hx hb dX9_cellOf_26 rfl (lv_at hl 2 rfl) ?_
          refine lv_if_ne (tgt := 33) hx hb dX9_cellOf_27 (by decide) (fun c6 => ?_) (fun c6 => ?_)
          · rw [if_neg c6] at h
            refine lv_iinc (v := (y3 + (-1))) (lv' := [(3, .int (y3 + (-1))), (0, .ref (mad E 0)), (2, .int y2), (4, .int y4)]) hx hb dX9_cellOf_33 hl (k := 2) rfl rfl (by decide) rfl (fun ls hl => ?_)
            refine lv_iinc (v := (y4 + 1)) (lv' := [(4, .int (y4 + 1)), (3, .int (y3 + (-1))), (0, .ref (mad E 0)), (2, .int y2)]) hx hb dX9_cellOf_36 hl (k := 3) rfl rfl (by decide) rfl (fun ls hl => ?_)
            refine lv_goto (tgt := 5) hx hb dX9_cellOf_39 (by decide) ?_
            exact ih _ _ _ _ h _ _ _ S (lv_sub hl [2, 3, 1, 0] rfl) kr kx
          · rw [if_pos c6] at h
            refine lv_iload hx hb dX9_cellOf_30 (lv_at hl 3 rfl) ?_
            have hq := kr _ (Option.some.inj h).symm
            subst hq
            exact g_iret F hr hlk S rfl dX9_cellOf_32
set_option maxHeartbeats 4000000 in
set_option maxRecDepth 100000 in
theorem met_m_cellOf (l : Launch) (E : mEnv) (hE : mInj E) (g : mS) (x1 : Int32) (x2 : Int32) (r : Int32) (h : fm_cellOf g x1 x2 = some r) : Met l yX9_cellOf (ws_ yX9_cellOf cX9_cellOf 5 (some .int)) rm_m_cellOf (va_Pc [.ref (mad E 0), .int x1, .int x2] (gPre (mK E) (mP E g))) (gQi r (mP E g) (mA E)) 0 0 (mA E) := by
  refine g_met (own := RX9) (by decide) rfl (Nat.le_of_ble_eq_true rfl) ?_
  intro p e s m args below meth c ls F hr hlk hK S hl
  have hx := F.1
  have hb := F.2.1
  have hl : lv_has ls 5 [(0, .ref (mad E 0)), (1, .int x1), (2, .int x2)] := hl
  unfold fm_cellOf at h
  refine lv_iload_n hx hb dX9_cellOf_0 rfl (lv_at hl 1 rfl) ?_
  refine lv_istore_n (lv' := [(3, .int x1), (0, .ref (mad E 0)), (1, .int x1), (2, .int x2)]) hx hb dX9_cellOf_1 rfl hl (by decide) rfl (fun ls hl => ?_)
  refine lv_iconst (v := 0) hx hb dX9_cellOf_2 (by decide) ?_
  refine lv_istore (lv' := [(4, .int 0), (3, .int x1), (0, .ref (mad E 0)), (1, .int x1), (2, .int x2)]) hx hb dX9_cellOf_3 hl (by decide) rfl (fun ls hl => ?_)
  rcases bs0_inv h with ⟨r8, e7, h⟩ | ⟨e7, h⟩
  · exact loop_m_cellOf_1 E hE F hr hlk hK _ _ _ _ _ e7 _ _ _ S (lv_sub hl [2, 4, 1, 0] rfl) (fun rz o => by cases o; exact Option.some.inj h) (fun  H locs ls o S hl => by cases o)
  · refine loop_m_cellOf_1 E hE F hr hlk hK _ _ _ _ _ e7 _ _ _ S (lv_sub hl [2, 4, 1, 0] rfl) (fun rz o => by cases o) (fun  H locs ls o S hl => ?_)
    cases o
    refine lv_iconst (v := (-1)) hx hb dX9_cellOf_42 (by decide) ?_
    cases h
    exact g_iret F hr hlk S rfl dX9_cellOf_43
theorem call_m_cellOf {p : Program} {l : Launch} {e : Env} {s : State} {m : MethodId} {args : Array Value} {below : List Frame} {meth : Method} {c : Code} {R : Room} {H : Heap} {locs : List Loc} {cells slots pc nL : Nat} {Q : State → Prop} {ls : Array Slot} {rest : List Value} {cc : ByteArray} {E : mEnv} (hE : mInj E) {g : mS} {x1 : Int32} {x2 : Int32} {r : Int32} (F : CallFix p m c cc nL s args lw_all RX9) (hK : mK E s) (S : gS (mA E) s.heap (mP E g) H locs) (h : fm_cellOf g x1 x2 = some r) (hls : ls.size = nL) (hW : (rest.map fun v => v.category).sum ≤ 8) (hR : rm_m_cellOf.frames + 1 ≤ R.frames ∧ 8 + (5 + 11) + rm_m_cellOf.locals ≤ R.locals) (hf : cells ≤ R.cells ∧ slots ≤ R.slots) (hdg : decode cc pc = .ok (.invokevirtual 120, 3))
    (kk : ∀ (H1 : Heap) (locs1 : List Loc), gS (mA E) s.heap (mP E g) H1 locs1 → W p l e R s m args below meth c H1 locs1 cells slots Q (F0 m (pc + 3) ls (.int r :: rest))) : W p l e R s m args below meth c H locs cells slots Q (F0 m pc ls (.int x2 :: .int x1 :: .ref (mad E 0) :: rest)) :=
  g_ki (g_runV F hK (mKm E) S (met_m_cellOf l E hE g x1 x2 r h) (cwV 2 F.2.2.2.2 (lw_V q1853 q1855 qs49 q121 q1856) rfl rfl rfl (by decide +kernel) hR) (m_recv hK S) rfl hls rfl hW hdg hf) S kk
abbrev rm_m_lamp : Room := { frames := 4, cells := 0, slots := 0, locals := 89 }
def fm_lamp (g : mS)  : Option (Int32) :=
  bd1 (fm_cellOf g 0 7) fun v2 =>
  some v2
set_option maxHeartbeats 4000000 in
set_option maxRecDepth 100000 in
theorem met_m_lamp (l : Launch) (E : mEnv) (hE : mInj E) (g : mS)  (r : Int32) (h : fm_lamp g = some r) : Met l yX9_lamp (ws_ yX9_lamp cX9_lamp 1 (some .int)) rm_m_lamp (va_Pc [.ref (mad E 0)] (gPre (mK E) (mP E g))) (gQi r (mP E g) (mA E)) 0 0 (mA E) := by
  refine g_met (own := RX9) (by decide) rfl (Nat.le_of_ble_eq_true rfl) ?_
  intro p e s m args below meth c ls F hr hlk hK S hl
  have hx := F.1
  have hb := F.2.1
  have hl : lv_has ls 1 [(0, .ref (mad E 0))] := hl
  unfold fm_lamp at h
  refine lv_aload_n hx hb dX9_lamp_0 rfl (lv_at hl 0 rfl) ?_
  refine lv_iconst (v := 0) hx hb dX9_lamp_1 (by decide) ?_
  refine lv_bipush (v := 7) hx hb dX9_lamp_2 (by decide) ?_
  obtain ⟨v2, e1, h⟩ := bd1_inv h
  refine call_m_cellOf hE F hK S e1 hl.1 (Nat.le_of_ble_eq_true rfl) ⟨Nat.le_of_ble_eq_true rfl, Nat.le_of_ble_eq_true rfl⟩ ⟨Nat.zero_le _, Nat.zero_le _⟩ dX9_lamp_4 (fun H locs S => ?_)
  cases h
  exact g_iret F hr hlk S rfl dX9_lamp_7
theorem call_m_lamp {p : Program} {l : Launch} {e : Env} {s : State} {m : MethodId} {args : Array Value} {below : List Frame} {meth : Method} {c : Code} {R : Room} {H : Heap} {locs : List Loc} {cells slots pc nL : Nat} {Q : State → Prop} {ls : Array Slot} {rest : List Value} {cc : ByteArray} {E : mEnv} (hE : mInj E) {g : mS} {r : Int32} (F : CallFix p m c cc nL s args lw_all RX9) (hK : mK E s) (S : gS (mA E) s.heap (mP E g) H locs) (h : fm_lamp g = some r) (hls : ls.size = nL) (hW : (rest.map fun v => v.category).sum ≤ 8) (hR : rm_m_lamp.frames + 1 ≤ R.frames ∧ 8 + (1 + 11) + rm_m_lamp.locals ≤ R.locals) (hf : cells ≤ R.cells ∧ slots ≤ R.slots) (hdg : decode cc pc = .ok (.invokevirtual 143, 3))
    (kk : ∀ (H1 : Heap) (locs1 : List Loc), gS (mA E) s.heap (mP E g) H1 locs1 → W p l e R s m args below meth c H1 locs1 cells slots Q (F0 m (pc + 3) ls (.int r :: rest))) : W p l e R s m args below meth c H locs cells slots Q (F0 m pc ls (.ref (mad E 0) :: rest)) :=
  g_ki (g_runV F hK (mKm E) S (met_m_lamp l E hE g  r h) (cwV 0 F.2.2.2.2 (lw_V q1849 q1851 qs48 q121 q1852) rfl rfl rfl (by decide +kernel) hR) (m_recv hK S) rfl hls rfl hW hdg hf) S kk
abbrev rm_m_onBoard : Room := { frames := 0, cells := 0, slots := 0, locals := 0 }
def fm_onBoard (g : mS) (x1 : Int32) (x2 : Int32) : Option (Int32) :=
  bd1 ((
    if x1 < 0 then
      some 0
    else
      bd1 (rdI g 1 0) fun v2 =>
      if v2 ≤ x1 then
        some 0
      else
        if x2 < 0 then
          some 0
        else
          bd1 (rdI g 1 1) fun v6 =>
          if v6 ≤ x2 then
            some 0
          else
            some 1) : Option (Int32)) fun v9 =>
  some (zN v9)
set_option maxHeartbeats 4000000 in
set_option maxRecDepth 100000 in
theorem met_m_onBoard (l : Launch) (E : mEnv) (hE : mInj E) (g : mS) (x1 : Int32) (x2 : Int32) (r : Int32) (h : fm_onBoard g x1 x2 = some r) : Met l yX9_onBoard (ws_ yX9_onBoard cX9_onBoard 3 (some .boolean)) rm_m_onBoard (va_Pc [.ref (mad E 0), .int x1, .int x2] (gPre (mK E) (mP E g))) (gQi r (mP E g) (mA E)) 0 0 (mA E) := by
  refine g_met (own := RX9) (by decide) rfl (Nat.le_of_ble_eq_true rfl) ?_
  intro p e s m args below meth c ls F hr hlk hK S hl
  have hx := F.1
  have hb := F.2.1
  have hl : lv_has ls 3 [(0, .ref (mad E 0)), (1, .int x1), (2, .int x2)] := hl
  unfold fm_onBoard at h
  refine lv_iload_n hx hb dX9_onBoard_0 rfl (lv_at hl 1 rfl) ?_
  obtain ⟨v9, hB, h⟩ := bd1_inv h
  have hJ33 : ∀ (H : Heap) (locs : List Loc) (ls : Array Slot), gS (mA E) s.heap (mP E g) H locs → lv_has ls 3 [] → W p l e rm_m_onBoard s m args below meth c H locs 0 0 (MQ below (gQi r (mP E g) (mA E)) args s 0 0 (mA E)) (F0 m 33 ls [.int v9]) := by
    intro H locs ls S hl
    cases h
    exact g_zret F hr hlk S rfl dX9_onBoard_33
  clear h
  have h := hB
  clear hB
  refine lv_if_lt (tgt := 32) hx hb dX9_onBoard_1 (by decide) (fun c1 => ?_) (fun c1 => ?_)
  · rw [if_pos c1] at h
    refine lv_iconst (v := 0) hx hb dX9_onBoard_32 (by decide) ?_
    cases h
    exact hJ33 _ _ _ S (lv_sub hl [] rfl)
  · rw [if_neg c1] at h
    refine lv_iload_n hx hb dX9_onBoard_4 rfl (lv_at hl 1 rfl) ?_
    refine lv_aload_n hx hb dX9_onBoard_5 rfl (lv_at hl 0 rfl) ?_
    refine m_get1 F hK S dX9_onBoard_6 ?_
    refine lv_iconst (v := 0) hx hb dX9_onBoard_9 (by decide) ?_
    obtain ⟨v2, e3, h⟩ := bd1_inv h
    refine m_iald F hK S e3 dX9_onBoard_10 ?_
    refine lv_icmp_ge (tgt := 32) hx hb dX9_onBoard_11 (by decide) (fun c4 => ?_) (fun c4 => ?_)
    · rw [if_pos c4] at h
      refine lv_iconst (v := 0) hx hb dX9_onBoard_32 (by decide) ?_
      cases h
      exact hJ33 _ _ _ S (lv_sub hl [] rfl)
    · rw [if_neg c4] at h
      refine lv_iload_n hx hb dX9_onBoard_14 rfl (lv_at hl 2 rfl) ?_
      refine lv_if_lt (tgt := 32) hx hb dX9_onBoard_15 (by decide) (fun c5 => ?_) (fun c5 => ?_)
      · rw [if_pos c5] at h
        refine lv_iconst (v := 0) hx hb dX9_onBoard_32 (by decide) ?_
        cases h
        exact hJ33 _ _ _ S (lv_sub hl [] rfl)
      · rw [if_neg c5] at h
        refine lv_iload_n hx hb dX9_onBoard_18 rfl (lv_at hl 2 rfl) ?_
        refine lv_aload_n hx hb dX9_onBoard_19 rfl (lv_at hl 0 rfl) ?_
        refine m_get1 F hK S dX9_onBoard_20 ?_
        refine lv_iconst (v := 1) hx hb dX9_onBoard_23 (by decide) ?_
        obtain ⟨v6, e7, h⟩ := bd1_inv h
        refine m_iald F hK S e7 dX9_onBoard_24 ?_
        refine lv_icmp_ge (tgt := 32) hx hb dX9_onBoard_25 (by decide) (fun c8 => ?_) (fun c8 => ?_)
        · rw [if_pos c8] at h
          refine lv_iconst (v := 0) hx hb dX9_onBoard_32 (by decide) ?_
          cases h
          exact hJ33 _ _ _ S (lv_sub hl [] rfl)
        · rw [if_neg c8] at h
          refine lv_iconst (v := 1) hx hb dX9_onBoard_28 (by decide) ?_
          refine lv_goto (tgt := 33) hx hb dX9_onBoard_29 (by decide) ?_
          cases h
          exact hJ33 _ _ _ S (lv_sub hl [] rfl)
theorem call_m_onBoard {p : Program} {l : Launch} {e : Env} {s : State} {m : MethodId} {args : Array Value} {below : List Frame} {meth : Method} {c : Code} {R : Room} {H : Heap} {locs : List Loc} {cells slots pc nL : Nat} {Q : State → Prop} {ls : Array Slot} {rest : List Value} {cc : ByteArray} {E : mEnv} (hE : mInj E) {g : mS} {x1 : Int32} {x2 : Int32} {r : Int32} (F : CallFix p m c cc nL s args lw_all RX9) (hK : mK E s) (S : gS (mA E) s.heap (mP E g) H locs) (h : fm_onBoard g x1 x2 = some r) (hls : ls.size = nL) (hW : (rest.map fun v => v.category).sum ≤ 8) (hR : rm_m_onBoard.frames + 1 ≤ R.frames ∧ 8 + (3 + 11) + rm_m_onBoard.locals ≤ R.locals) (hf : cells ≤ R.cells ∧ slots ≤ R.slots) (hdg : decode cc pc = .ok (.invokevirtual 123, 3))
    (kk : ∀ (H1 : Heap) (locs1 : List Loc), gS (mA E) s.heap (mP E g) H1 locs1 → W p l e R s m args below meth c H1 locs1 cells slots Q (F0 m (pc + 3) ls (.int r :: rest))) : W p l e R s m args below meth c H locs cells slots Q (F0 m pc ls (.int x2 :: .int x1 :: .ref (mad E 0) :: rest)) :=
  g_ki (g_runV F hK (mKm E) S (met_m_onBoard l E hE g x1 x2 r h) (cwV 2 F.2.2.2.2 (lw_V q1877 q1879 qs55 q121 q1880) rfl rfl rfl (by decide +kernel) hR) (m_recv hK S) rfl hls rfl hW hdg hf) S kk
abbrev rm_m_beside : Room := { frames := 1, cells := 0, slots := 0, locals := 22 }
def fm_beside (g : mS) (x1 : Int32) (x2 : Int32) : Option (Int32) :=
  bd1 ((
    if x2 = 1 then
      some 1
    else
      if x2 = 3 then
        some (-1)
      else
        some 0) : Option (Int32)) fun v3 =>
  bd1 ((
    if x2 = 2 then
      some 1
    else
      if x2 = 0 then
        some (-1)
      else
        some 0) : Option (Int32)) fun v6 =>
  bd1 (fm_onBoard g ((irm x1 10) + v3) ((x1 / 10) + v6)) fun v8 =>
  bd1 ((
    if v8 = 0 then
      some (-1)
    else
      bd1 (fm_cellAt g ((irm x1 10) + v3) ((x1 / 10) + v6)) fun v11 =>
      some ((4 * v11) + x2)) : Option (Int32)) fun v12 =>
  some v12
set_option maxHeartbeats 4000000 in
set_option maxRecDepth 100000 in
theorem met_m_beside (l : Launch) (E : mEnv) (hE : mInj E) (g : mS) (x1 : Int32) (x2 : Int32) (r : Int32) (h : fm_beside g x1 x2 = some r) : Met l yX9_beside (ws_ yX9_beside cX9_beside 5 (some .int)) rm_m_beside (va_Pc [.ref (mad E 0), .int x1, .int x2] (gPre (mK E) (mP E g))) (gQi r (mP E g) (mA E)) 0 0 (mA E) := by
  refine g_met (own := RX9) (by decide) rfl (Nat.le_of_ble_eq_true rfl) ?_
  intro p e s m args below meth c ls F hr hlk hK S hl
  have hx := F.1
  have hb := F.2.1
  have hl : lv_has ls 5 [(0, .ref (mad E 0)), (1, .int x1), (2, .int x2)] := hl
  unfold fm_beside at h
  refine lv_iload_n hx hb dX9_beside_0 rfl (lv_at hl 1 rfl) ?_
  refine lv_bipush (v := 10) hx hb dX9_beside_1 (by decide) ?_
  refine lv_irem hx hb dX9_beside_3 (by decide) ?_
  refine lv_iload_n hx hb dX9_beside_4 rfl (lv_at hl 2 rfl) ?_
  refine lv_iconst (v := 1) hx hb dX9_beside_5 (by decide) ?_
  obtain ⟨v3, hB, h⟩ := bd1_inv h
  have hJ23 : ∀ (H : Heap) (locs : List Loc) (ls : Array Slot), gS (mA E) s.heap (mP E g) H locs → lv_has ls 5 [(0, .ref (mad E 0)), (1, .int x1), (2, .int x2)] → W p l e rm_m_beside s m args below meth c H locs 0 0 (MQ below (gQi r (mP E g) (mA E)) args s 0 0 (mA E)) (F0 m 23 ls [.int v3, .int (irm x1 10)]) := by
    intro H locs ls S hl
    refine lv_iadd hx hb dX9_beside_23 ?_
    refine lv_istore_n (lv' := [(3, .int ((irm x1 10) + v3)), (0, .ref (mad E 0)), (1, .int x1), (2, .int x2)]) hx hb dX9_beside_24 rfl hl (by decide) rfl (fun ls hl => ?_)
    refine lv_iload_n hx hb dX9_beside_25 rfl (lv_at hl 2 rfl) ?_
    refine lv_bipush (v := 10) hx hb dX9_beside_26 (by decide) ?_
    refine lv_idiv hx hb dX9_beside_28 (by decide) ?_
    refine lv_iload_n hx hb dX9_beside_29 rfl (lv_at hl 3 rfl) ?_
    refine lv_iconst (v := 2) hx hb dX9_beside_30 (by decide) ?_
    obtain ⟨v6, hB, h⟩ := bd1_inv h
    have hJ47 : ∀ (H : Heap) (locs : List Loc) (ls : Array Slot), gS (mA E) s.heap (mP E g) H locs → lv_has ls 5 [(0, .ref (mad E 0)), (2, .int x2), (3, .int ((irm x1 10) + v3))] → W p l e rm_m_beside s m args below meth c H locs 0 0 (MQ below (gQi r (mP E g) (mA E)) args s 0 0 (mA E)) (F0 m 47 ls [.int v6, .int (x1 / 10)]) := by
      intro H locs ls S hl
      refine lv_iadd hx hb dX9_beside_47 ?_
      refine lv_istore (lv' := [(4, .int ((x1 / 10) + v6)), (0, .ref (mad E 0)), (2, .int x2), (3, .int ((irm x1 10) + v3))]) hx hb dX9_beside_48 hl (by decide) rfl (fun ls hl => ?_)
      refine lv_aload_n hx hb dX9_beside_50 rfl (lv_at hl 1 rfl) ?_
      refine lv_iload_n hx hb dX9_beside_51 rfl (lv_at hl 3 rfl) ?_
      refine lv_iload hx hb dX9_beside_52 (lv_at hl 0 rfl) ?_
      obtain ⟨v8, e7, h⟩ := bd1_inv h
      refine call_m_onBoard hE F hK S e7 hl.1 (Nat.le_of_ble_eq_true rfl) ⟨Nat.le_of_ble_eq_true rfl, Nat.le_of_ble_eq_true rfl⟩ ⟨Nat.zero_le _, Nat.zero_le _⟩ dX9_beside_54 (fun H locs S => ?_)
      obtain ⟨v12, hB, h⟩ := bd1_inv h
      have hJ75 : ∀ (H : Heap) (locs : List Loc) (ls : Array Slot), gS (mA E) s.heap (mP E g) H locs → lv_has ls 5 [] → W p l e rm_m_beside s m args below meth c H locs 0 0 (MQ below (gQi r (mP E g) (mA E)) args s 0 0 (mA E)) (F0 m 75 ls [.int v12]) := by
        intro H locs ls S hl
        cases h
        exact g_iret F hr hlk S rfl dX9_beside_75
      clear h
      have h := hB
      clear hB
      refine lv_if_eq (tgt := 74) hx hb dX9_beside_57 (by decide) (fun c9 => ?_) (fun c9 => ?_)
      · rw [if_pos c9] at h
        refine lv_iconst (v := (-1)) hx hb dX9_beside_74 (by decide) ?_
        cases h
        exact hJ75 _ _ _ S (lv_sub hl [] rfl)
      · rw [if_neg c9] at h
        refine lv_iconst (v := 4) hx hb dX9_beside_60 (by decide) ?_
        refine lv_aload_n hx hb dX9_beside_61 rfl (lv_at hl 1 rfl) ?_
        refine lv_iload_n hx hb dX9_beside_62 rfl (lv_at hl 3 rfl) ?_
        refine lv_iload hx hb dX9_beside_63 (lv_at hl 0 rfl) ?_
        obtain ⟨v11, e10, h⟩ := bd1_inv h
        refine call_m_cellAt hE F hK S e10 hl.1 (Nat.le_of_ble_eq_true rfl) ⟨Nat.le_of_ble_eq_true rfl, Nat.le_of_ble_eq_true rfl⟩ ⟨Nat.zero_le _, Nat.zero_le _⟩ dX9_beside_65 (fun H locs S => ?_)
        refine lv_imul hx hb dX9_beside_68 ?_
        refine lv_iload_n hx hb dX9_beside_69 rfl (lv_at hl 2 rfl) ?_
        refine lv_iadd hx hb dX9_beside_70 ?_
        refine lv_goto (tgt := 75) hx hb dX9_beside_71 (by decide) ?_
        cases h
        exact hJ75 _ _ _ S (lv_sub hl [] rfl)
    clear h
    have h := hB
    clear hB
    refine lv_icmp_ne (tgt := 38) hx hb dX9_beside_31 (by decide) (fun c4 => ?_) (fun c4 => ?_)
    · rw [if_neg c4] at h
      refine lv_iload_n hx hb dX9_beside_38 rfl (lv_at hl 3 rfl) ?_
      refine lv_if_ne (tgt := 46) hx hb dX9_beside_39 (by decide) (fun c5 => ?_) (fun c5 => ?_)
      · rw [if_neg c5] at h
        refine lv_iconst (v := 0) hx hb dX9_beside_46 (by decide) ?_
        cases h
        exact hJ47 _ _ _ S (lv_sub hl [1, 3, 0] rfl)
      · rw [if_pos c5] at h
        refine lv_iconst (v := (-1)) hx hb dX9_beside_42 (by decide) ?_
        refine lv_goto (tgt := 47) hx hb dX9_beside_43 (by decide) ?_
        cases h
        exact hJ47 _ _ _ S (lv_sub hl [1, 3, 0] rfl)
    · rw [if_pos c4] at h
      refine lv_iconst (v := 1) hx hb dX9_beside_34 (by decide) ?_
      refine lv_goto (tgt := 47) hx hb dX9_beside_35 (by decide) ?_
      cases h
      exact hJ47 _ _ _ S (lv_sub hl [1, 3, 0] rfl)
  clear h
  have h := hB
  clear hB
  refine lv_icmp_ne (tgt := 13) hx hb dX9_beside_6 (by decide) (fun c1 => ?_) (fun c1 => ?_)
  · rw [if_neg c1] at h
    refine lv_iload_n hx hb dX9_beside_13 rfl (lv_at hl 2 rfl) ?_
    refine lv_iconst (v := 3) hx hb dX9_beside_14 (by decide) ?_
    refine lv_icmp_ne (tgt := 22) hx hb dX9_beside_15 (by decide) (fun c2 => ?_) (fun c2 => ?_)
    · rw [if_neg c2] at h
      refine lv_iconst (v := 0) hx hb dX9_beside_22 (by decide) ?_
      cases h
      exact hJ23 _ _ _ S (lv_sub hl [0, 1, 2] rfl)
    · rw [if_pos c2] at h
      refine lv_iconst (v := (-1)) hx hb dX9_beside_18 (by decide) ?_
      refine lv_goto (tgt := 23) hx hb dX9_beside_19 (by decide) ?_
      cases h
      exact hJ23 _ _ _ S (lv_sub hl [0, 1, 2] rfl)
  · rw [if_pos c1] at h
    refine lv_iconst (v := 1) hx hb dX9_beside_9 (by decide) ?_
    refine lv_goto (tgt := 23) hx hb dX9_beside_10 (by decide) ?_
    cases h
    exact hJ23 _ _ _ S (lv_sub hl [0, 1, 2] rfl)
theorem call_m_beside {p : Program} {l : Launch} {e : Env} {s : State} {m : MethodId} {args : Array Value} {below : List Frame} {meth : Method} {c : Code} {R : Room} {H : Heap} {locs : List Loc} {cells slots pc nL : Nat} {Q : State → Prop} {ls : Array Slot} {rest : List Value} {cc : ByteArray} {E : mEnv} (hE : mInj E) {g : mS} {x1 : Int32} {x2 : Int32} {r : Int32} (F : CallFix p m c cc nL s args lw_all RX9) (hK : mK E s) (S : gS (mA E) s.heap (mP E g) H locs) (h : fm_beside g x1 x2 = some r) (hls : ls.size = nL) (hW : (rest.map fun v => v.category).sum ≤ 8) (hR : rm_m_beside.frames + 1 ≤ R.frames ∧ 8 + (5 + 11) + rm_m_beside.locals ≤ R.locals) (hf : cells ≤ R.cells ∧ slots ≤ R.slots) (hdg : decode cc pc = .ok (.invokevirtual 126, 3))
    (kk : ∀ (H1 : Heap) (locs1 : List Loc), gS (mA E) s.heap (mP E g) H1 locs1 → W p l e R s m args below meth c H1 locs1 cells slots Q (F0 m (pc + 3) ls (.int r :: rest))) : W p l e R s m args below meth c H locs cells slots Q (F0 m pc ls (.int x2 :: .int x1 :: .ref (mad E 0) :: rest)) :=
  g_ki (g_runV F hK (mKm E) S (met_m_beside l E hE g x1 x2 r h) (cwV 2 F.2.2.2.2 (lw_V q1873 q1875 qs54 q121 q1876) rfl rfl rfl (by decide +kernel) hR) (m_recv hK S) rfl hls rfl hW hdg hf) S kk
abbrev rm_m_turned : Room := { frames := 0, cells := 0, slots := 0, locals := 0 }
def fm_turned (g : mS) (x1 : Int32) (x2 : Int32) : Option (Int32) :=
  bd1 ((
    if x2 = 0 then
      some (x1 ^^^ 1)
    else
      some (3 - x1)) : Option (Int32)) fun v2 =>
  some v2
set_option maxHeartbeats 4000000 in
set_option maxRecDepth 100000 in
theorem met_m_turned (l : Launch) (E : mEnv) (hE : mInj E) (g : mS) (x1 : Int32) (x2 : Int32) (r : Int32) (h : fm_turned g x1 x2 = some r) : Met l yX9_turned (ws_ yX9_turned cX9_turned 2 (some .int)) rm_m_turned (va_Pc [.int x1, .int x2] (gPre (mK E) (mP E g))) (gQi r (mP E g) (mA E)) 0 0 (mA E) := by
  refine g_met (own := RX9) (by decide) rfl (Nat.le_of_ble_eq_true rfl) ?_
  intro p e s m args below meth c ls F hr hlk hK S hl
  have hx := F.1
  have hb := F.2.1
  have hl : lv_has ls 2 [(0, .int x1), (1, .int x2)] := hl
  unfold fm_turned at h
  refine lv_iload_n hx hb dX9_turned_0 rfl (lv_at hl 1 rfl) ?_
  obtain ⟨v2, hB, h⟩ := bd1_inv h
  have hJ13 : ∀ (H : Heap) (locs : List Loc) (ls : Array Slot), gS (mA E) s.heap (mP E g) H locs → lv_has ls 2 [] → W p l e rm_m_turned s m args below meth c H locs 0 0 (MQ below (gQi r (mP E g) (mA E)) args s 0 0 (mA E)) (F0 m 13 ls [.int v2]) := by
    intro H locs ls S hl
    cases h
    exact g_iret F hr hlk S rfl dX9_turned_13
  clear h
  have h := hB
  clear hB
  refine lv_if_ne (tgt := 10) hx hb dX9_turned_1 (by decide) (fun c1 => ?_) (fun c1 => ?_)
  · rw [if_neg c1] at h
    refine lv_iconst (v := 3) hx hb dX9_turned_10 (by decide) ?_
    refine lv_iload_n hx hb dX9_turned_11 rfl (lv_at hl 0 rfl) ?_
    refine lv_isub hx hb dX9_turned_12 ?_
    cases h
    exact hJ13 _ _ _ S (lv_sub hl [] rfl)
  · rw [if_pos c1] at h
    refine lv_iload_n hx hb dX9_turned_4 rfl (lv_at hl 0 rfl) ?_
    refine lv_iconst (v := 1) hx hb dX9_turned_5 (by decide) ?_
    refine lv_ixor hx hb dX9_turned_6 ?_
    refine lv_goto (tgt := 13) hx hb dX9_turned_7 (by decide) ?_
    cases h
    exact hJ13 _ _ _ S (lv_sub hl [] rfl)
theorem call_m_turned {p : Program} {l : Launch} {e : Env} {s : State} {m : MethodId} {args : Array Value} {below : List Frame} {meth : Method} {c : Code} {R : Room} {H : Heap} {locs : List Loc} {cells slots pc nL : Nat} {Q : State → Prop} {ls : Array Slot} {rest : List Value} {cc : ByteArray} {E : mEnv} (hE : mInj E) {g : mS} {x1 : Int32} {x2 : Int32} {r : Int32} (F : CallFix p m c cc nL s args lw_all RX9) (hK : mK E s) (S : gS (mA E) s.heap (mP E g) H locs) (h : fm_turned g x1 x2 = some r) (hls : ls.size = nL) (hW : (rest.map fun v => v.category).sum ≤ 8) (hR : rm_m_turned.frames + 1 ≤ R.frames ∧ 8 + (2 + 11) + rm_m_turned.locals ≤ R.locals) (hf : cells ≤ R.cells ∧ slots ≤ R.slots) (hdg : decode cc pc = .ok (.invokestatic 129, 3))
    (kk : ∀ (H1 : Heap) (locs1 : List Loc), gS (mA E) s.heap (mP E g) H1 locs1 → W p l e R s m args below meth c H1 locs1 cells slots Q (F0 m (pc + 3) ls (.int r :: rest))) : W p l e R s m args below meth c H locs cells slots Q (F0 m pc ls (.int x2 :: .int x1 :: rest)) :=
  g_ki (g_runS F hK (mKm E) S (met_m_turned l E hE g x1 x2 r h) (va_cwS 2 F.2.2.2.2 (lw_S q1893 q1894 q121 q1895) rfl rfl rfl (by decide +kernel) hR) rfl hls rfl hW hdg hf) S kk
abbrev rm_m_tries : Room := { frames := 2, cells := 0, slots := 0, locals := 46 }
def fm_tries (g : mS) (x1 : Int32) : Option (Int32 × mS) :=
  bd1 (fm_of g (x1 / 4) 0) fun v2 =>
  if v2 = 0 then
    bd1 (fm_beside g (x1 / 4) (irm x1 4)) fun v5 =>
    bd1 (wrI g 18 0 v5) fun g6 =>
    some (1, g6)
  else
  if v2 = 1 then
    some (0, g)
  else
  if v2 = 2 then
    bd1 (fm_of g (x1 / 4) 1) fun v11 =>
    bd1 (fm_turned g (irm x1 4) v11) fun v13 =>
    bd1 (fm_beside g (x1 / 4) v13) fun v15 =>
    bd1 (wrI g 18 0 v15) fun g16 =>
    some (1, g16)
  else
  if v2 = 3 then
    bd1 (fm_beside g (x1 / 4) (irm x1 4)) fun v20 =>
    bd1 (wrI g 18 0 v20) fun g21 =>
    bd1 (fm_of g21 (x1 / 4) 1) fun v24 =>
    bd1 (fm_turned g21 (irm x1 4) v24) fun v26 =>
    bd1 (fm_beside g21 (x1 / 4) v26) fun v28 =>
    bd1 (wrI g21 18 1 v28) fun g29 =>
    some (2, g29)
  else
  if v2 = 4 then
    some (0, g)
  else
  if v2 = 5 then
    bd1 (fm_beside g (x1 / 4) (irm x1 4)) fun v34 =>
    bd1 (wrI g 18 0 v34) fun g35 =>
    bd1 (fm_of g35 (x1 / 4) 1) fun v38 =>
    bd1 ((
      if (irm x1 4) = v38 then
        some 1
      else
        some 0) : Option (Int32)) fun v40 =>
    some (v40, g35)
  else
  if v2 = 6 then
    bd1 (fm_of g (x1 / 4) 1) fun v44 =>
    bd1 (fm_beside g v44 (irm x1 4)) fun v46 =>
    bd1 (wrI g 18 0 v46) fun g47 =>
    some (1, g47)
  else
    some (0, g)
set_option maxHeartbeats 4000000 in
set_option maxRecDepth 100000 in
theorem met_m_tries (l : Launch) (E : mEnv) (hE : mInj E) (g : mS) (x1 : Int32) (r : Int32) (gZ : mS) (h : fm_tries g x1 = some (r, gZ)) : Met l yX9_tries (ws_ yX9_tries cX9_tries 4 (some .int)) rm_m_tries (va_Pc [.ref (mad E 0), .int x1] (gPre (mK E) (mP E g))) (gQi r (mP E gZ) (mA E)) 0 0 (mA E) := by
  refine g_met (own := RX9) (by decide) rfl (Nat.le_of_ble_eq_true rfl) ?_
  intro p e s m args below meth c ls F hr hlk hK S hl
  have hx := F.1
  have hb := F.2.1
  have hl : lv_has ls 4 [(0, .ref (mad E 0)), (1, .int x1)] := hl
  unfold fm_tries at h
  refine lv_iload_n hx hb dX9_tries_0 rfl (lv_at hl 1 rfl) ?_
  refine lv_iconst (v := 4) hx hb dX9_tries_1 (by decide) ?_
  refine lv_idiv hx hb dX9_tries_2 (by decide) ?_
  refine lv_istore_n (lv' := [(2, .int (x1 / 4)), (0, .ref (mad E 0)), (1, .int x1)]) hx hb dX9_tries_3 rfl hl (by decide) rfl (fun ls hl => ?_)
  refine lv_iload_n hx hb dX9_tries_4 rfl (lv_at hl 2 rfl) ?_
  refine lv_iconst (v := 4) hx hb dX9_tries_5 (by decide) ?_
  refine lv_irem hx hb dX9_tries_6 (by decide) ?_
  refine lv_istore_n (lv' := [(3, .int (irm x1 4)), (2, .int (x1 / 4)), (0, .ref (mad E 0)), (1, .int x1)]) hx hb dX9_tries_7 rfl hl (by decide) rfl (fun ls hl => ?_)
  refine lv_aload_n hx hb dX9_tries_8 rfl (lv_at hl 2 rfl) ?_
  refine lv_iload_n hx hb dX9_tries_9 rfl (lv_at hl 1 rfl) ?_
  refine lv_iconst (v := 0) hx hb dX9_tries_10 (by decide) ?_
  obtain ⟨v2, e1, h⟩ := bd1_inv h
  refine call_m_of hE F hK S e1 hl.1 (Nat.le_of_ble_eq_true rfl) ⟨Nat.le_of_ble_eq_true rfl, Nat.le_of_ble_eq_true rfl⟩ ⟨Nat.zero_le _, Nat.zero_le _⟩ dX9_tries_11 (fun H locs S => ?_)
  by_cases c3 : v2 = 0
  · rw [if_pos c3] at h
    refine lv_tableIn (tgt := 56) (off := 42) hx hb dX9_tries_14 (by rw [c3]; decide) (by rw [c3]; decide) (by rw [c3]; rfl) (by decide) ?_
    refine lv_aload_n hx hb dX9_tries_56 rfl (lv_at hl 2 rfl) ?_
    refine m_get21 F hK S dX9_tries_57 ?_
    refine lv_iconst (v := 0) hx hb dX9_tries_60 (by decide) ?_
    refine lv_aload_n hx hb dX9_tries_61 rfl (lv_at hl 2 rfl) ?_
    refine lv_iload_n hx hb dX9_tries_62 rfl (lv_at hl 1 rfl) ?_
    refine lv_iload_n hx hb dX9_tries_63 rfl (lv_at hl 0 rfl) ?_
    obtain ⟨v5, e4, h⟩ := bd1_inv h
    refine call_m_beside hE F hK S e4 hl.1 (Nat.le_of_ble_eq_true rfl) ⟨Nat.le_of_ble_eq_true rfl, Nat.le_of_ble_eq_true rfl⟩ ⟨Nat.zero_le _, Nat.zero_le _⟩ dX9_tries_64 (fun H locs S => ?_)
    obtain ⟨g6, e7, h⟩ := bd1_inv h
    refine m_iast hE F hK S e7 dX9_tries_67 (fun H locs S => ?_)
    refine lv_iconst (v := 1) hx hb dX9_tries_68 (by decide) ?_
    cases h
    exact g_iret F hr hlk S rfl dX9_tries_69
  rw [if_neg c3] at h
  by_cases c8 : v2 = 1
  · rw [if_pos c8] at h
    refine lv_tableIn (tgt := 175) (off := 161) hx hb dX9_tries_14 (by rw [c8]; decide) (by rw [c8]; decide) (by rw [c8]; rfl) (by decide) ?_
    refine lv_iconst (v := 0) hx hb dX9_tries_175 (by decide) ?_
    cases h
    exact g_iret F hr hlk S rfl dX9_tries_176
  rw [if_neg c8] at h
  by_cases c9 : v2 = 2
  · rw [if_pos c9] at h
    refine lv_tableIn (tgt := 70) (off := 56) hx hb dX9_tries_14 (by rw [c9]; decide) (by rw [c9]; decide) (by rw [c9]; rfl) (by decide) ?_
    refine lv_aload_n hx hb dX9_tries_70 rfl (lv_at hl 2 rfl) ?_
    refine m_get21 F hK S dX9_tries_71 ?_
    refine lv_iconst (v := 0) hx hb dX9_tries_74 (by decide) ?_
    refine lv_aload_n hx hb dX9_tries_75 rfl (lv_at hl 2 rfl) ?_
    refine lv_iload_n hx hb dX9_tries_76 rfl (lv_at hl 1 rfl) ?_
    refine lv_iload_n hx hb dX9_tries_77 rfl (lv_at hl 0 rfl) ?_
    refine lv_aload_n hx hb dX9_tries_78 rfl (lv_at hl 2 rfl) ?_
    refine lv_iload_n hx hb dX9_tries_79 rfl (lv_at hl 1 rfl) ?_
    refine lv_iconst (v := 1) hx hb dX9_tries_80 (by decide) ?_
    obtain ⟨v11, e10, h⟩ := bd1_inv h
    refine call_m_of hE F hK S e10 hl.1 (Nat.le_of_ble_eq_true rfl) ⟨Nat.le_of_ble_eq_true rfl, Nat.le_of_ble_eq_true rfl⟩ ⟨Nat.zero_le _, Nat.zero_le _⟩ dX9_tries_81 (fun H locs S => ?_)
    obtain ⟨v13, e12, h⟩ := bd1_inv h
    refine call_m_turned hE F hK S e12 hl.1 (Nat.le_of_ble_eq_true rfl) ⟨Nat.le_of_ble_eq_true rfl, Nat.le_of_ble_eq_true rfl⟩ ⟨Nat.zero_le _, Nat.zero_le _⟩ dX9_tries_84 (fun H locs S => ?_)
    obtain ⟨v15, e14, h⟩ := bd1_inv h
    refine call_m_beside hE F hK S e14 hl.1 (Nat.le_of_ble_eq_true rfl) ⟨Nat.le_of_ble_eq_true rfl, Nat.le_of_ble_eq_true rfl⟩ ⟨Nat.zero_le _, Nat.zero_le _⟩ dX9_tries_87 (fun H locs S => ?_)
    obtain ⟨g16, e17, h⟩ := bd1_inv h
    refine m_iast hE F hK S e17 dX9_tries_90 (fun H locs S => ?_)
    refine lv_iconst (v := 1) hx hb dX9_tries_91 (by decide) ?_
    cases h
    exact g_iret F hr hlk S rfl dX9_tries_92
  rw [if_neg c9] at h
  by_cases c18 : v2 = 3
  · rw [if_pos c18] at h
    refine lv_tableIn (tgt := 93) (off := 79) hx hb dX9_tries_14 (by rw [c18]; decide) (by rw [c18]; decide) (by rw [c18]; rfl) (by decide) ?_
    refine lv_aload_n hx hb dX9_tries_93 rfl (lv_at hl 2 rfl) ?_
    refine m_get21 F hK S dX9_tries_94 ?_
    refine lv_iconst (v := 0) hx hb dX9_tries_97 (by decide) ?_
    refine lv_aload_n hx hb dX9_tries_98 rfl (lv_at hl 2 rfl) ?_
    refine lv_iload_n hx hb dX9_tries_99 rfl (lv_at hl 1 rfl) ?_
    refine lv_iload_n hx hb dX9_tries_100 rfl (lv_at hl 0 rfl) ?_
    obtain ⟨v20, e19, h⟩ := bd1_inv h
    refine call_m_beside hE F hK S e19 hl.1 (Nat.le_of_ble_eq_true rfl) ⟨Nat.le_of_ble_eq_true rfl, Nat.le_of_ble_eq_true rfl⟩ ⟨Nat.zero_le _, Nat.zero_le _⟩ dX9_tries_101 (fun H locs S => ?_)
    obtain ⟨g21, e22, h⟩ := bd1_inv h
    refine m_iast hE F hK S e22 dX9_tries_104 (fun H locs S => ?_)
    refine lv_aload_n hx hb dX9_tries_105 rfl (lv_at hl 2 rfl) ?_
    refine m_get21 F hK S dX9_tries_106 ?_
    refine lv_iconst (v := 1) hx hb dX9_tries_109 (by decide) ?_
    refine lv_aload_n hx hb dX9_tries_110 rfl (lv_at hl 2 rfl) ?_
    refine lv_iload_n hx hb dX9_tries_111 rfl (lv_at hl 1 rfl) ?_
    refine lv_iload_n hx hb dX9_tries_112 rfl (lv_at hl 0 rfl) ?_
    refine lv_aload_n hx hb dX9_tries_113 rfl (lv_at hl 2 rfl) ?_
    refine lv_iload_n hx hb dX9_tries_114 rfl (lv_at hl 1 rfl) ?_
    refine lv_iconst (v := 1) hx hb dX9_tries_115 (by decide) ?_
    obtain ⟨v24, e23, h⟩ := bd1_inv h
    refine call_m_of hE F hK S e23 hl.1 (Nat.le_of_ble_eq_true rfl) ⟨Nat.le_of_ble_eq_true rfl, Nat.le_of_ble_eq_true rfl⟩ ⟨Nat.zero_le _, Nat.zero_le _⟩ dX9_tries_116 (fun H locs S => ?_)
    obtain ⟨v26, e25, h⟩ := bd1_inv h
    refine call_m_turned hE F hK S e25 hl.1 (Nat.le_of_ble_eq_true rfl) ⟨Nat.le_of_ble_eq_true rfl, Nat.le_of_ble_eq_true rfl⟩ ⟨Nat.zero_le _, Nat.zero_le _⟩ dX9_tries_119 (fun H locs S => ?_)
    obtain ⟨v28, e27, h⟩ := bd1_inv h
    refine call_m_beside hE F hK S e27 hl.1 (Nat.le_of_ble_eq_true rfl) ⟨Nat.le_of_ble_eq_true rfl, Nat.le_of_ble_eq_true rfl⟩ ⟨Nat.zero_le _, Nat.zero_le _⟩ dX9_tries_122 (fun H locs S => ?_)
    obtain ⟨g29, e30, h⟩ := bd1_inv h
    refine m_iast hE F hK S e30 dX9_tries_125 (fun H locs S => ?_)
    refine lv_iconst (v := 2) hx hb dX9_tries_126 (by decide) ?_
    cases h
    exact g_iret F hr hlk S rfl dX9_tries_127
  rw [if_neg c18] at h
  by_cases c31 : v2 = 4
  · rw [if_pos c31] at h
    refine lv_tableIn (tgt := 175) (off := 161) hx hb dX9_tries_14 (by rw [c31]; decide) (by rw [c31]; decide) (by rw [c31]; rfl) (by decide) ?_
    refine lv_iconst (v := 0) hx hb dX9_tries_175 (by decide) ?_
    cases h
    exact g_iret F hr hlk S rfl dX9_tries_176
  rw [if_neg c31] at h
  by_cases c32 : v2 = 5
  · rw [if_pos c32] at h
    refine lv_tableIn (tgt := 128) (off := 114) hx hb dX9_tries_14 (by rw [c32]; decide) (by rw [c32]; decide) (by rw [c32]; rfl) (by decide) ?_
    refine lv_aload_n hx hb dX9_tries_128 rfl (lv_at hl 2 rfl) ?_
    refine m_get21 F hK S dX9_tries_129 ?_
    refine lv_iconst (v := 0) hx hb dX9_tries_132 (by decide) ?_
    refine lv_aload_n hx hb dX9_tries_133 rfl (lv_at hl 2 rfl) ?_
    refine lv_iload_n hx hb dX9_tries_134 rfl (lv_at hl 1 rfl) ?_
    refine lv_iload_n hx hb dX9_tries_135 rfl (lv_at hl 0 rfl) ?_
    obtain ⟨v34, e33, h⟩ := bd1_inv h
    refine call_m_beside hE F hK S e33 hl.1 (Nat.le_of_ble_eq_true rfl) ⟨Nat.le_of_ble_eq_true rfl, Nat.le_of_ble_eq_true rfl⟩ ⟨Nat.zero_le _, Nat.zero_le _⟩ dX9_tries_136 (fun H locs S => ?_)
    obtain ⟨g35, e36, h⟩ := bd1_inv h
    refine m_iast hE F hK S e36 dX9_tries_139 (fun H locs S => ?_)
    refine lv_iload_n hx hb dX9_tries_140 rfl (lv_at hl 0 rfl) ?_
    refine lv_aload_n hx hb dX9_tries_141 rfl (lv_at hl 2 rfl) ?_
    refine lv_iload_n hx hb dX9_tries_142 rfl (lv_at hl 1 rfl) ?_
    refine lv_iconst (v := 1) hx hb dX9_tries_143 (by decide) ?_
    obtain ⟨v38, e37, h⟩ := bd1_inv h
    refine call_m_of hE F hK S e37 hl.1 (Nat.le_of_ble_eq_true rfl) ⟨Nat.le_of_ble_eq_true rfl, Nat.le_of_ble_eq_true rfl⟩ ⟨Nat.zero_le _, Nat.zero_le _⟩ dX9_tries_144 (fun H locs S => ?_)
    obtain ⟨v40, hB, h⟩ := bd1_inv h
    have hJ155 : ∀ (H : Heap) (locs : List Loc) (ls : Array Slot), gS (mA E) s.heap (mP E g35) H locs → lv_has ls 4 [] → W p l e rm_m_tries s m args below meth c H locs 0 0 (MQ below (gQi r (mP E gZ) (mA E)) args s 0 0 (mA E)) (F0 m 155 ls [.int v40]) := by
      intro H locs ls S hl
      cases h
      exact g_iret F hr hlk S rfl dX9_tries_155
    clear h
    have h := hB
    clear hB
    refine lv_icmp_ne (tgt := 154) hx hb dX9_tries_147 (by decide) (fun c39 => ?_) (fun c39 => ?_)
    · rw [if_neg c39] at h
      refine lv_iconst (v := 0) hx hb dX9_tries_154 (by decide) ?_
      cases h
      exact hJ155 _ _ _ S (lv_sub hl [] rfl)
    · rw [if_pos c39] at h
      refine lv_iconst (v := 1) hx hb dX9_tries_150 (by decide) ?_
      refine lv_goto (tgt := 155) hx hb dX9_tries_151 (by decide) ?_
      cases h
      exact hJ155 _ _ _ S (lv_sub hl [] rfl)
  rw [if_neg c32] at h
  by_cases c42 : v2 = 6
  · rw [if_pos c42] at h
    refine lv_tableIn (tgt := 156) (off := 142) hx hb dX9_tries_14 (by rw [c42]; decide) (by rw [c42]; decide) (by rw [c42]; rfl) (by decide) ?_
    refine lv_aload_n hx hb dX9_tries_156 rfl (lv_at hl 2 rfl) ?_
    refine m_get21 F hK S dX9_tries_157 ?_
    refine lv_iconst (v := 0) hx hb dX9_tries_160 (by decide) ?_
    refine lv_aload_n hx hb dX9_tries_161 rfl (lv_at hl 2 rfl) ?_
    refine lv_aload_n hx hb dX9_tries_162 rfl (lv_at hl 2 rfl) ?_
    refine lv_iload_n hx hb dX9_tries_163 rfl (lv_at hl 1 rfl) ?_
    refine lv_iconst (v := 1) hx hb dX9_tries_164 (by decide) ?_
    obtain ⟨v44, e43, h⟩ := bd1_inv h
    refine call_m_of hE F hK S e43 hl.1 (Nat.le_of_ble_eq_true rfl) ⟨Nat.le_of_ble_eq_true rfl, Nat.le_of_ble_eq_true rfl⟩ ⟨Nat.zero_le _, Nat.zero_le _⟩ dX9_tries_165 (fun H locs S => ?_)
    refine lv_iload_n hx hb dX9_tries_168 rfl (lv_at hl 0 rfl) ?_
    obtain ⟨v46, e45, h⟩ := bd1_inv h
    refine call_m_beside hE F hK S e45 hl.1 (Nat.le_of_ble_eq_true rfl) ⟨Nat.le_of_ble_eq_true rfl, Nat.le_of_ble_eq_true rfl⟩ ⟨Nat.zero_le _, Nat.zero_le _⟩ dX9_tries_169 (fun H locs S => ?_)
    obtain ⟨g47, e48, h⟩ := bd1_inv h
    refine m_iast hE F hK S e48 dX9_tries_172 (fun H locs S => ?_)
    refine lv_iconst (v := 1) hx hb dX9_tries_173 (by decide) ?_
    cases h
    exact g_iret F hr hlk S rfl dX9_tries_174
  rw [if_neg c42] at h
  refine lv_tableOut (tgt := 175) hx hb dX9_tries_14 (by have t0 := lv_neT (a := 0) c3 (by decide); have t1 := lv_neT (a := 1) c8 (by decide); have t2 := lv_neT (a := 2) c9 (by decide); have t3 := lv_neT (a := 3) c18 (by decide); have t4 := lv_neT (a := 4) c31 (by decide); have t5 := lv_neT (a := 5) c32 (by decide); have t6 := lv_neT (a := 6) c42 (by decide); omega) (by decide) ?_
  refine lv_iconst (v := 0) hx hb dX9_tries_175 (by decide) ?_
  cases h
  exact g_iret F hr hlk S rfl dX9_tries_176
theorem call_m_tries {p : Program} {l : Launch} {e : Env} {s : State} {m : MethodId} {args : Array Value} {below : List Frame} {meth : Method} {c : Code} {R : Room} {H : Heap} {locs : List Loc} {cells slots pc nL : Nat} {Q : State → Prop} {ls : Array Slot} {rest : List Value} {cc : ByteArray} {E : mEnv} (hE : mInj E) {g : mS} {x1 : Int32} {r : Int32} {gZ : mS} (F : CallFix p m c cc nL s args lw_all RX9) (hK : mK E s) (S : gS (mA E) s.heap (mP E g) H locs) (h : fm_tries g x1 = some (r, gZ)) (hls : ls.size = nL) (hW : (rest.map fun v => v.category).sum ≤ 8) (hR : rm_m_tries.frames + 1 ≤ R.frames ∧ 8 + (4 + 11) + rm_m_tries.locals ≤ R.locals) (hf : cells ≤ R.cells ∧ slots ≤ R.slots) (hdg : decode cc pc = .ok (.invokevirtual 132, 3))
    (kk : ∀ (H1 : Heap) (locs1 : List Loc), gS (mA E) s.heap (mP E gZ) H1 locs1 → W p l e R s m args below meth c H1 locs1 cells slots Q (F0 m (pc + 3) ls (.int r :: rest))) : W p l e R s m args below meth c H locs cells slots Q (F0 m pc ls (.int x1 :: .ref (mad E 0) :: rest)) :=
  g_ki (g_runV F hK (mKm E) S (met_m_tries l E hE g x1 r gZ h) (cwV 1 F.2.2.2.2 (lw_V q1889 q1891 qs58 q121 q1892) rfl rfl rfl (by decide +kernel) hR) (m_recv hK S) rfl hls rfl hW hdg hf) S kk
abbrev rm_m_markBehind : Room := { frames := 3, cells := 0, slots := 0, locals := 69 }
def Lm_markBehind_1 : Nat → mS → Nat → Int32 → Int32 → Option (mS)
  | 0, _, _, _, _ => none
  | n + 1, g, y2, y3, y4 =>
    if y3 ≤ y4 then
      some g
    else
      bd1 (rdI g 18 y4) fun v5 =>
      bd1 ((
        if v5 = (-1) then
          some g
        else
          bd1 (rdI g 18 y4) fun v8 =>
          bd1 (rdZ g y2 v8) fun v10 =>
          if v10 = 0 then
            bd1 (rdI g 18 y4) fun v13 =>
            bd1 (wrZ g y2 v13 1) fun g15 =>
            bd1 (rdI g15 18 y4) fun v17 =>
            bd1 (wrI g15 19 (g15 0 23) v17) fun g19 =>
            bd1 (wrF g19 23 ((g19 0 23) + 1)) fun g21 =>
            some g21
          else
            some g) : Option (mS)) fun g23 =>
      Lm_markBehind_1 n g23 y2 y3 (y4 + 1)
def fm_markBehind (g : mS) (x1 : Int32) (x2 : Nat) : Option (mS) :=
  bd2 (fm_tries g x1) fun v2 g3 =>
  bd1 (Lm_markBehind_1 FUEL g3 x2 v2 0) fun g26 =>
  some g26
set_option maxHeartbeats 4000000 in
set_option maxRecDepth 100000 in
theorem loop_m_markBehind_1 {p : Program} {l : Launch} {e : Env} {s : State} {m : MethodId} {args : Array Value} {below : List Frame} {meth : Method} {c : Code} (E : mEnv) (hE : mInj E) (F : CallFix p m c cX9_markBehind 5 s args lw_all RX9) (hr : meth.sig.returnType = none) (hlk : meth.locks = false) (hK : mK E s) {Q : State → Prop} : ∀ (n : Nat) (g : mS) (y2 : Nat) (y3 : Int32) (y4 : Int32) (o : mS), Lm_markBehind_1 n g y2 y3 y4 = some o → ∀ (H : Heap) (locs : List Loc) (ls : Array Slot), gS (mA E) s.heap (mP E g) H locs → lv_has ls 5 [(0, .ref (mad E 0)), (2, .ref (mad E y2)), (3, .int y3), (4, .int y4)] → (∀  (gx : mS) (H : Heap) (locs : List Loc) (ls : Array Slot), o = gx → gS (mA E) s.heap (mP E gx) H locs → lv_has ls 5 [] → W p l e rm_m_markBehind s m args below meth c H locs 0 0 Q (F0 m 80 ls [])) → W p l e rm_m_markBehind s m args below meth c H locs 0 0 Q (F0 m 9 ls []) := by
  have hx := F.1
  have hb := F.2.1
  intro n
  induction n with
  | zero =>
    intro g y2 y3 y4 o h
    rw [Lm_markBehind_1] at h
    cases h
  | succ n ih =>
    intro g y2 y3 y4 o h H locs ls S hl kx
    rw [Lm_markBehind_1] at h
    refine lv_iload hx hb dX9_markBehind_9 (lv_at hl 3 rfl) ?_
    refine lv_iload_n hx hb dX9_markBehind_11 rfl (lv_at hl 2 rfl) ?_
    refine lv_icmp_ge (tgt := 80) hx hb dX9_markBehind_12 (by decide) (fun c4 => ?_) (fun c4 => ?_)
    · rw [if_pos c4] at h
      cases h
      exact kx _ _ _ _ rfl S (lv_sub hl [] rfl)
    · rw [if_neg c4] at h
      refine lv_aload_n hx hb dX9_markBehind_15 rfl (lv_at hl 0 rfl) ?_
      refine m_get21 F hK S dX9_markBehind_16 ?_
      refine lv_iload hx hb dX9_markBehind_19 (lv_at hl 3 rfl) ?_
      obtain ⟨v5, e6, h⟩ := bd1_inv h
      refine m_iald F hK S e6 dX9_markBehind_21 ?_
      refine lv_iconst (v := (-1)) hx hb dX9_markBehind_22 (by decide) ?_
      obtain ⟨g23, hB, h⟩ := bd1_inv h
      have hJ74 : ∀ (H : Heap) (locs : List Loc) (ls : Array Slot), gS (mA E) s.heap (mP E g23) H locs → lv_has ls 5 [(0, .ref (mad E 0)), (2, .ref (mad E y2)), (3, .int y3), (4, .int y4)] → W p l e rm_m_markBehind s m args below meth c H locs 0 0 Q (F0 m 74 ls []) := by
        intro H locs ls S hl
        refine lv_iinc (v := (y4 + 1)) (lv' := [(4, .int (y4 + 1)), (0, .ref (mad E 0)), (2, .ref (mad E y2)), (3, .int y3)]) hx hb dX9_markBehind_74 hl (k := 3) rfl rfl (by decide) rfl (fun ls hl => ?_)
        refine lv_goto (tgt := 9) hx hb dX9_markBehind_77 (by decide) ?_
        exact ih _ _ _ _ _ h _ _ _ S (lv_sub hl [1, 2, 3, 0] rfl) kx
      clear h
      have h := hB
      clear hB
      refine lv_icmp_eq (tgt := 74) hx hb dX9_markBehind_23 (by decide) (fun c7 => ?_) (fun c7 => ?_)
      · rw [if_pos c7] at h
        cases h
        exact hJ74 _ _ _ S (lv_sub hl [0, 1, 2, 3] rfl)
      · rw [if_neg c7] at h
        refine lv_aload_n hx hb dX9_markBehind_26 rfl (lv_at hl 1 rfl) ?_
        refine lv_aload_n hx hb dX9_markBehind_27 rfl (lv_at hl 0 rfl) ?_
        refine m_get21 F hK S dX9_markBehind_28 ?_
        refine lv_iload hx hb dX9_markBehind_31 (lv_at hl 3 rfl) ?_
        obtain ⟨v8, e9, h⟩ := bd1_inv h
        refine m_iald F hK S e9 dX9_markBehind_33 ?_
        obtain ⟨v10, e11, h⟩ := bd1_inv h
        refine m_zald F hK S e11 dX9_markBehind_34 ?_
        refine lv_if_ne (tgt := 74) hx hb dX9_markBehind_35 (by decide) (fun c12 => ?_) (fun c12 => ?_)
        · rw [if_neg c12] at h
          cases h
          exact hJ74 _ _ _ S (lv_sub hl [0, 1, 2, 3] rfl)
        · rw [if_pos c12] at h
          refine lv_aload_n hx hb dX9_markBehind_38 rfl (lv_at hl 1 rfl) ?_
          refine lv_aload_n hx hb dX9_markBehind_39 rfl (lv_at hl 0 rfl) ?_
          refine m_get21 F hK S dX9_markBehind_40 ?_
          refine lv_iload hx hb dX9_markBehind_43 (lv_at hl 3 rfl) ?_
          obtain ⟨v13, e14, h⟩ := bd1_inv h
          refine m_iald F hK S e14 dX9_markBehind_45 ?_
          refine lv_iconst (v := 1) hx hb dX9_markBehind_46 (by decide) ?_
          obtain ⟨g15, e16, h⟩ := bd1_inv h
          refine m_zast hE F hK S e16 dX9_markBehind_47 (fun H locs S => ?_)
          refine lv_aload_n hx hb dX9_markBehind_48 rfl (lv_at hl 0 rfl) ?_
          refine m_get22 F hK S dX9_markBehind_49 ?_
          refine lv_aload_n hx hb dX9_markBehind_52 rfl (lv_at hl 0 rfl) ?_
          refine m_get23 F hK S dX9_markBehind_53 ?_
          refine lv_aload_n hx hb dX9_markBehind_56 rfl (lv_at hl 0 rfl) ?_
          refine m_get21 F hK S dX9_markBehind_57 ?_
          refine lv_iload hx hb dX9_markBehind_60 (lv_at hl 3 rfl) ?_
          obtain ⟨v17, e18, h⟩ := bd1_inv h
          refine m_iald F hK S e18 dX9_markBehind_62 ?_
          obtain ⟨g19, e20, h⟩ := bd1_inv h
          refine m_iast hE F hK S e20 dX9_markBehind_63 (fun H locs S => ?_)
          refine lv_aload_n hx hb dX9_markBehind_64 rfl (lv_at hl 0 rfl) ?_
          refine lv_dup hx hb dX9_markBehind_65 rfl ?_
          refine m_get23 F hK S dX9_markBehind_66 ?_
          refine lv_iconst (v := 1) hx hb dX9_markBehind_69 (by decide) ?_
          refine lv_iadd hx hb dX9_markBehind_70 ?_
          obtain ⟨g21, e22, h⟩ := bd1_inv h
          refine m_put23 hE F hK S e22 dX9_markBehind_71 (fun H locs S => ?_)
          cases h
          exact hJ74 _ _ _ S (lv_sub hl [0, 1, 2, 3] rfl)
set_option maxHeartbeats 4000000 in
set_option maxRecDepth 100000 in
theorem met_m_markBehind (l : Launch) (E : mEnv) (hE : mInj E) (g : mS) (x1 : Int32) (x2 : Nat) (gZ : mS) (h : fm_markBehind g x1 x2 = some gZ) : Met l yX9_markBehind (ws_ yX9_markBehind cX9_markBehind 5 (none)) rm_m_markBehind (va_Pc [.ref (mad E 0), .int x1, .ref (mad E x2)] (gPre (mK E) (mP E g))) (gQv (mP E gZ) (mA E)) 0 0 (mA E) := by
  refine g_met (own := RX9) (by decide) rfl (Nat.le_of_ble_eq_true rfl) ?_
  intro p e s m args below meth c ls F hr hlk hK S hl
  have hx := F.1
  have hb := F.2.1
  have hl : lv_has ls 5 [(0, .ref (mad E 0)), (1, .int x1), (2, .ref (mad E x2))] := hl
  unfold fm_markBehind at h
  refine lv_aload_n hx hb dX9_markBehind_0 rfl (lv_at hl 0 rfl) ?_
  refine lv_iload_n hx hb dX9_markBehind_1 rfl (lv_at hl 1 rfl) ?_
  obtain ⟨v2, g3, e1, h⟩ := bd2_inv h
  refine call_m_tries hE F hK S e1 hl.1 (Nat.le_of_ble_eq_true rfl) ⟨Nat.le_of_ble_eq_true rfl, Nat.le_of_ble_eq_true rfl⟩ ⟨Nat.zero_le _, Nat.zero_le _⟩ dX9_markBehind_2 (fun H locs S => ?_)
  refine lv_istore_n (lv' := [(3, .int v2), (0, .ref (mad E 0)), (1, .int x1), (2, .ref (mad E x2))]) hx hb dX9_markBehind_5 rfl hl (by decide) rfl (fun ls hl => ?_)
  refine lv_iconst (v := 0) hx hb dX9_markBehind_6 (by decide) ?_
  refine lv_istore (lv' := [(4, .int 0), (3, .int v2), (0, .ref (mad E 0)), (1, .int x1), (2, .ref (mad E x2))]) hx hb dX9_markBehind_7 hl (by decide) rfl (fun ls hl => ?_)
  obtain ⟨g26, e25, h⟩ := bd1_inv h
  refine loop_m_markBehind_1 E hE F hr hlk hK _ _ _ _ _ _ e25 _ _ _ S (lv_sub hl [2, 4, 1, 0] rfl) (fun g26z H locs ls o S hl => ?_)
  cases o
  cases h
  exact g_vret F hr hlk S dX9_markBehind_80
theorem call_m_markBehind {p : Program} {l : Launch} {e : Env} {s : State} {m : MethodId} {args : Array Value} {below : List Frame} {meth : Method} {c : Code} {R : Room} {H : Heap} {locs : List Loc} {cells slots pc nL : Nat} {Q : State → Prop} {ls : Array Slot} {rest : List Value} {cc : ByteArray} {E : mEnv} (hE : mInj E) {g : mS} {x1 : Int32} {x2 : Nat} {gZ : mS} (F : CallFix p m c cc nL s args lw_all RX9) (hK : mK E s) (S : gS (mA E) s.heap (mP E g) H locs) (h : fm_markBehind g x1 x2 = some gZ) (hls : ls.size = nL) (hW : (rest.map fun v => v.category).sum ≤ 8) (hR : rm_m_markBehind.frames + 1 ≤ R.frames ∧ 8 + (5 + 11) + rm_m_markBehind.locals ≤ R.locals) (hf : cells ≤ R.cells ∧ slots ≤ R.slots) (hdg : decode cc pc = .ok (.invokevirtual 139, 3))
    (kk : ∀ (H1 : Heap) (locs1 : List Loc), gS (mA E) s.heap (mP E gZ) H1 locs1 → W p l e R s m args below meth c H1 locs1 cells slots Q (F0 m (pc + 3) ls (rest))) : W p l e R s m args below meth c H locs cells slots Q (F0 m pc ls (.ref (mad E x2) :: .int x1 :: .ref (mad E 0) :: rest)) :=
  g_kv (g_runV F hK (mKm E) S (met_m_markBehind l E hE g x1 x2 gZ h) (cwV 2 F.2.2.2.2 (lw_V q1885 q1887 qs57 q121 q1888) rfl rfl rfl (by decide +kernel) hR) (m_recv hK S) rfl hls rfl hW hdg hf) S kk
abbrev rm_m_spread : Room := { frames := 4, cells := 0, slots := 0, locals := 93 }
def Lm_spread_1 : Nat → mS → Nat → Option (mS)
  | 0, _, _ => none
  | n + 1, g, y2 =>
    if (g 0 23) ≤ 0 then
      some g
    else
      bd1 (wrF g 23 ((g 0 23) - 1)) fun g6 =>
      bd1 (rdI g6 19 (g6 0 23)) fun v8 =>
      bd1 (fm_markBehind g6 v8 y2) fun g11 =>
      Lm_spread_1 n g11 y2
def fm_spread (g : mS) (x1 : Int32) (x2 : Nat) : Option (mS) :=
  bd1 (wrF g 23 0) fun g1 =>
  bd1 (fm_markBehind g1 x1 x2) fun g4 =>
  bd1 (Lm_spread_1 FUEL g4 x2) fun g13 =>
  some g13
set_option maxHeartbeats 4000000 in
set_option maxRecDepth 100000 in
theorem loop_m_spread_1 {p : Program} {l : Launch} {e : Env} {s : State} {m : MethodId} {args : Array Value} {below : List Frame} {meth : Method} {c : Code} (E : mEnv) (hE : mInj E) (F : CallFix p m c cX9_spread 3 s args lw_all RX9) (hr : meth.sig.returnType = none) (hlk : meth.locks = false) (hK : mK E s) {Q : State → Prop} : ∀ (n : Nat) (g : mS) (y2 : Nat) (o : mS), Lm_spread_1 n g y2 = some o → ∀ (H : Heap) (locs : List Loc) (ls : Array Slot), gS (mA E) s.heap (mP E g) H locs → lv_has ls 3 [(0, .ref (mad E 0)), (2, .ref (mad E y2))] → (∀  (gx : mS) (H : Heap) (locs : List Loc) (ls : Array Slot), o = gx → gS (mA E) s.heap (mP E gx) H locs → lv_has ls 3 [] → W p l e rm_m_spread s m args below meth c H locs 0 0 Q (F0 m 45 ls [])) → W p l e rm_m_spread s m args below meth c H locs 0 0 Q (F0 m 11 ls []) := by
  have hx := F.1
  have hb := F.2.1
  intro n
  induction n with
  | zero =>
    intro g y2 o h
    rw [Lm_spread_1] at h
    cases h
  | succ n ih =>
    intro g y2 o h H locs ls S hl kx
    rw [Lm_spread_1] at h
    refine lv_aload_n hx hb dX9_spread_11 rfl (lv_at hl 0 rfl) ?_
    refine m_get23 F hK S dX9_spread_12 ?_
    refine lv_if_le (tgt := 45) hx hb dX9_spread_15 (by decide) (fun c5 => ?_) (fun c5 => ?_)
    · rw [if_pos c5] at h
      cases h
      exact kx _ _ _ _ rfl S (lv_sub hl [] rfl)
    · rw [if_neg c5] at h
      refine lv_aload_n hx hb dX9_spread_18 rfl (lv_at hl 0 rfl) ?_
      refine lv_dup hx hb dX9_spread_19 rfl ?_
      refine m_get23 F hK S dX9_spread_20 ?_
      refine lv_iconst (v := 1) hx hb dX9_spread_23 (by decide) ?_
      refine lv_isub hx hb dX9_spread_24 ?_
      obtain ⟨g6, e7, h⟩ := bd1_inv h
      refine m_put23 hE F hK S e7 dX9_spread_25 (fun H locs S => ?_)
      refine lv_aload_n hx hb dX9_spread_28 rfl (lv_at hl 0 rfl) ?_
      refine lv_aload_n hx hb dX9_spread_29 rfl (lv_at hl 0 rfl) ?_
      refine m_get22 F hK S dX9_spread_30 ?_
      refine lv_aload_n hx hb dX9_spread_33 rfl (lv_at hl 0 rfl) ?_
      refine m_get23 F hK S dX9_spread_34 ?_
      obtain ⟨v8, e9, h⟩ := bd1_inv h
      refine m_iald F hK S e9 dX9_spread_37 ?_
      refine lv_aload_n hx hb dX9_spread_38 rfl (lv_at hl 1 rfl) ?_
      obtain ⟨g11, e10, h⟩ := bd1_inv h
      refine call_m_markBehind hE F hK S e10 hl.1 (Nat.le_of_ble_eq_true rfl) ⟨Nat.le_of_ble_eq_true rfl, Nat.le_of_ble_eq_true rfl⟩ ⟨Nat.zero_le _, Nat.zero_le _⟩ dX9_spread_39 (fun H locs S => ?_)
      refine lv_goto (tgt := 11) hx hb dX9_spread_42 (by decide) ?_
      exact ih _ _ _ h _ _ _ S (lv_sub hl [0, 1] rfl) kx
set_option maxHeartbeats 4000000 in
set_option maxRecDepth 100000 in
theorem met_m_spread (l : Launch) (E : mEnv) (hE : mInj E) (g : mS) (x1 : Int32) (x2 : Nat) (gZ : mS) (h : fm_spread g x1 x2 = some gZ) : Met l yX9_spread (ws_ yX9_spread cX9_spread 3 (none)) rm_m_spread (va_Pc [.ref (mad E 0), .int x1, .ref (mad E x2)] (gPre (mK E) (mP E g))) (gQv (mP E gZ) (mA E)) 0 0 (mA E) := by
  refine g_met (own := RX9) (by decide) rfl (Nat.le_of_ble_eq_true rfl) ?_
  intro p e s m args below meth c ls F hr hlk hK S hl
  have hx := F.1
  have hb := F.2.1
  have hl : lv_has ls 3 [(0, .ref (mad E 0)), (1, .int x1), (2, .ref (mad E x2))] := hl
  unfold fm_spread at h
  refine lv_aload_n hx hb dX9_spread_0 rfl (lv_at hl 0 rfl) ?_
  refine lv_iconst (v := 0) hx hb dX9_spread_1 (by decide) ?_
  obtain ⟨g1, e2, h⟩ := bd1_inv h
  refine m_put23 hE F hK S e2 dX9_spread_2 (fun H locs S => ?_)
  refine lv_aload_n hx hb dX9_spread_5 rfl (lv_at hl 0 rfl) ?_
  refine lv_iload_n hx hb dX9_spread_6 rfl (lv_at hl 1 rfl) ?_
  refine lv_aload_n hx hb dX9_spread_7 rfl (lv_at hl 2 rfl) ?_
  obtain ⟨g4, e3, h⟩ := bd1_inv h
  refine call_m_markBehind hE F hK S e3 hl.1 (Nat.le_of_ble_eq_true rfl) ⟨Nat.le_of_ble_eq_true rfl, Nat.le_of_ble_eq_true rfl⟩ ⟨Nat.zero_le _, Nat.zero_le _⟩ dX9_spread_8 (fun H locs S => ?_)
  obtain ⟨g13, e12, h⟩ := bd1_inv h
  refine loop_m_spread_1 E hE F hr hlk hK _ _ _ _ e12 _ _ _ S (lv_sub hl [0, 2] rfl) (fun g13z H locs ls o S hl => ?_)
  cases o
  cases h
  exact g_vret F hr hlk S dX9_spread_45
theorem call_m_spread {p : Program} {l : Launch} {e : Env} {s : State} {m : MethodId} {args : Array Value} {below : List Frame} {meth : Method} {c : Code} {R : Room} {H : Heap} {locs : List Loc} {cells slots pc nL : Nat} {Q : State → Prop} {ls : Array Slot} {rest : List Value} {cc : ByteArray} {E : mEnv} (hE : mInj E) {g : mS} {x1 : Int32} {x2 : Nat} {gZ : mS} (F : CallFix p m c cc nL s args lw_all RX9) (hK : mK E s) (S : gS (mA E) s.heap (mP E g) H locs) (h : fm_spread g x1 x2 = some gZ) (hls : ls.size = nL) (hW : (rest.map fun v => v.category).sum ≤ 8) (hR : rm_m_spread.frames + 1 ≤ R.frames ∧ 8 + (3 + 11) + rm_m_spread.locals ≤ R.locals) (hf : cells ≤ R.cells ∧ slots ≤ R.slots) (hdg : decode cc pc = .ok (.invokevirtual 146, 3))
    (kk : ∀ (H1 : Heap) (locs1 : List Loc), gS (mA E) s.heap (mP E gZ) H1 locs1 → W p l e R s m args below meth c H1 locs1 cells slots Q (F0 m (pc + 3) ls (rest))) : W p l e R s m args below meth c H locs cells slots Q (F0 m pc ls (.ref (mad E x2) :: .int x1 :: .ref (mad E 0) :: rest)) :=
  g_kv (g_runV F hK (mKm E) S (met_m_spread l E hE g x1 x2 gZ h) (cwV 2 F.2.2.2.2 (lw_V q1881 q1883 qs56 q121 q1884) rfl rfl rfl (by decide +kernel) hR) (m_recv hK S) rfl hls rfl hW hdg hf) S kk
abbrev rm_m_shine : Room := { frames := 5, cells := 0, slots := 0, locals := 115 }
def Lm_shine_1 : Nat → mS → Int32 → Option (mS)
  | 0, _, _ => none
  | n + 1, g, y1 =>
    if 400 ≤ y1 then
      some g
    else
      bd1 (wrZ g 13 y1 0) fun g2 =>
      Lm_shine_1 n g2 (y1 + 1)
def fm_shine (g : mS)  : Option (mS) :=
  bd1 (Lm_shine_1 FUEL g 0) fun g5 =>
  bd1 (fm_lamp g5) fun v7 =>
  bd1 (fm_of g5 v7 1) fun v9 =>
  bd1 (fm_beside g5 v7 v9) fun v11 =>
  if v11 = (-1) then
    some g5
  else
    bd1 (wrZ g5 13 v11 1) fun g13 =>
    bd1 (fm_spread g13 v11 13) fun g16 =>
    some g16
set_option maxHeartbeats 4000000 in
set_option maxRecDepth 100000 in
theorem loop_m_shine_1 {p : Program} {l : Launch} {e : Env} {s : State} {m : MethodId} {args : Array Value} {below : List Frame} {meth : Method} {c : Code} (E : mEnv) (hE : mInj E) (F : CallFix p m c cX9_shine 3 s args lw_all RX9) (hr : meth.sig.returnType = none) (hlk : meth.locks = false) (hK : mK E s) {Q : State → Prop} : ∀ (n : Nat) (g : mS) (y1 : Int32) (o : mS), Lm_shine_1 n g y1 = some o → ∀ (H : Heap) (locs : List Loc) (ls : Array Slot), gS (mA E) s.heap (mP E g) H locs → lv_has ls 3 [(0, .ref (mad E 0)), (1, .int y1)] → (∀  (gx : mS) (H : Heap) (locs : List Loc) (ls : Array Slot), o = gx → gS (mA E) s.heap (mP E gx) H locs → lv_has ls 3 [(0, .ref (mad E 0))] → W p l e rm_m_shine s m args below meth c H locs 0 0 Q (F0 m 22 ls [])) → W p l e rm_m_shine s m args below meth c H locs 0 0 Q (F0 m 2 ls []) := by
  have hx := F.1
  have hb := F.2.1
  intro n
  induction n with
  | zero =>
    intro g y1 o h
    rw [Lm_shine_1] at h
    cases h
  | succ n ih =>
    intro g y1 o h H locs ls S hl kx
    rw [Lm_shine_1] at h
    refine lv_iload_n hx hb dX9_shine_2 rfl (lv_at hl 1 rfl) ?_
    refine lv_sipush (v := 400) hx hb dX9_shine_3 (by decide) ?_
    refine lv_icmp_ge (tgt := 22) hx hb dX9_shine_6 (by decide) (fun c1 => ?_) (fun c1 => ?_)
    · rw [if_pos c1] at h
      cases h
      exact kx _ _ _ _ rfl S (lv_sub hl [0] rfl)
    · rw [if_neg c1] at h
      refine lv_aload_n hx hb dX9_shine_9 rfl (lv_at hl 0 rfl) ?_
      refine m_get16 F hK S dX9_shine_10 ?_
      refine lv_iload_n hx hb dX9_shine_13 rfl (lv_at hl 1 rfl) ?_
      refine lv_iconst (v := 0) hx hb dX9_shine_14 (by decide) ?_
      obtain ⟨g2, e3, h⟩ := bd1_inv h
      refine m_zast hE F hK S e3 dX9_shine_15 (fun H locs S => ?_)
      refine lv_iinc (v := (y1 + 1)) (lv' := [(1, .int (y1 + 1)), (0, .ref (mad E 0))]) hx hb dX9_shine_16 hl (k := 1) rfl rfl (by decide) rfl (fun ls hl => ?_)
      refine lv_goto (tgt := 2) hx hb dX9_shine_19 (by decide) ?_
      exact ih _ _ _ h _ _ _ S (lv_sub hl [1, 0] rfl) kx
set_option maxHeartbeats 4000000 in
set_option maxRecDepth 100000 in
theorem met_m_shine (l : Launch) (E : mEnv) (hE : mInj E) (g : mS)  (gZ : mS) (h : fm_shine g = some gZ) : Met l yX9_shine (ws_ yX9_shine cX9_shine 3 (none)) rm_m_shine (va_Pc [.ref (mad E 0)] (gPre (mK E) (mP E g))) (gQv (mP E gZ) (mA E)) 0 0 (mA E) := by
  refine g_met (own := RX9) (by decide) rfl (Nat.le_of_ble_eq_true rfl) ?_
  intro p e s m args below meth c ls F hr hlk hK S hl
  have hx := F.1
  have hb := F.2.1
  have hl : lv_has ls 3 [(0, .ref (mad E 0))] := hl
  unfold fm_shine at h
  refine lv_iconst (v := 0) hx hb dX9_shine_0 (by decide) ?_
  refine lv_istore_n (lv' := [(1, .int 0), (0, .ref (mad E 0))]) hx hb dX9_shine_1 rfl hl (by decide) rfl (fun ls hl => ?_)
  obtain ⟨g5, e4, h⟩ := bd1_inv h
  refine loop_m_shine_1 E hE F hr hlk hK _ _ _ _ e4 _ _ _ S (lv_sub hl [1, 0] rfl) (fun g5z H locs ls o S hl => ?_)
  cases o
  refine lv_aload_n hx hb dX9_shine_22 rfl (lv_at hl 0 rfl) ?_
  obtain ⟨v7, e6, h⟩ := bd1_inv h
  refine call_m_lamp hE F hK S e6 hl.1 (Nat.le_of_ble_eq_true rfl) ⟨Nat.le_of_ble_eq_true rfl, Nat.le_of_ble_eq_true rfl⟩ ⟨Nat.zero_le _, Nat.zero_le _⟩ dX9_shine_23 (fun H locs S => ?_)
  refine lv_istore_n (lv' := [(1, .int v7), (0, .ref (mad E 0))]) hx hb dX9_shine_26 rfl hl (by decide) rfl (fun ls hl => ?_)
  refine lv_aload_n hx hb dX9_shine_27 rfl (lv_at hl 1 rfl) ?_
  refine lv_iload_n hx hb dX9_shine_28 rfl (lv_at hl 0 rfl) ?_
  refine lv_aload_n hx hb dX9_shine_29 rfl (lv_at hl 1 rfl) ?_
  refine lv_iload_n hx hb dX9_shine_30 rfl (lv_at hl 0 rfl) ?_
  refine lv_iconst (v := 1) hx hb dX9_shine_31 (by decide) ?_
  obtain ⟨v9, e8, h⟩ := bd1_inv h
  refine call_m_of hE F hK S e8 hl.1 (Nat.le_of_ble_eq_true rfl) ⟨Nat.le_of_ble_eq_true rfl, Nat.le_of_ble_eq_true rfl⟩ ⟨Nat.zero_le _, Nat.zero_le _⟩ dX9_shine_32 (fun H locs S => ?_)
  obtain ⟨v11, e10, h⟩ := bd1_inv h
  refine call_m_beside hE F hK S e10 hl.1 (Nat.le_of_ble_eq_true rfl) ⟨Nat.le_of_ble_eq_true rfl, Nat.le_of_ble_eq_true rfl⟩ ⟨Nat.zero_le _, Nat.zero_le _⟩ dX9_shine_35 (fun H locs S => ?_)
  refine lv_istore_n (lv' := [(2, .int v11), (1, .int v7), (0, .ref (mad E 0))]) hx hb dX9_shine_38 rfl hl (by decide) rfl (fun ls hl => ?_)
  refine lv_iload_n hx hb dX9_shine_39 rfl (lv_at hl 0 rfl) ?_
  refine lv_iconst (v := (-1)) hx hb dX9_shine_40 (by decide) ?_
  refine lv_icmp_eq (tgt := 60) hx hb dX9_shine_41 (by decide) (fun c12 => ?_) (fun c12 => ?_)
  · rw [if_pos c12] at h
    cases h
    exact g_vret F hr hlk S dX9_shine_60
  · rw [if_neg c12] at h
    refine lv_aload_n hx hb dX9_shine_44 rfl (lv_at hl 2 rfl) ?_
    refine m_get16 F hK S dX9_shine_45 ?_
    refine lv_iload_n hx hb dX9_shine_48 rfl (lv_at hl 0 rfl) ?_
    refine lv_iconst (v := 1) hx hb dX9_shine_49 (by decide) ?_
    obtain ⟨g13, e14, h⟩ := bd1_inv h
    refine m_zast hE F hK S e14 dX9_shine_50 (fun H locs S => ?_)
    refine lv_aload_n hx hb dX9_shine_51 rfl (lv_at hl 2 rfl) ?_
    refine lv_iload_n hx hb dX9_shine_52 rfl (lv_at hl 0 rfl) ?_
    refine lv_aload_n hx hb dX9_shine_53 rfl (lv_at hl 2 rfl) ?_
    refine m_get16 F hK S dX9_shine_54 ?_
    obtain ⟨g16, e15, h⟩ := bd1_inv h
    refine call_m_spread hE F hK S e15 hl.1 (Nat.le_of_ble_eq_true rfl) ⟨Nat.le_of_ble_eq_true rfl, Nat.le_of_ble_eq_true rfl⟩ ⟨Nat.zero_le _, Nat.zero_le _⟩ dX9_shine_57 (fun H locs S => ?_)
    cases h
    exact g_vret F hr hlk S dX9_shine_60
theorem call_m_shine {p : Program} {l : Launch} {e : Env} {s : State} {m : MethodId} {args : Array Value} {below : List Frame} {meth : Method} {c : Code} {R : Room} {H : Heap} {locs : List Loc} {cells slots pc nL : Nat} {Q : State → Prop} {ls : Array Slot} {rest : List Value} {cc : ByteArray} {E : mEnv} (hE : mInj E) {g : mS} {gZ : mS} (F : CallFix p m c cc nL s args lw_all RX9) (hK : mK E s) (S : gS (mA E) s.heap (mP E g) H locs) (h : fm_shine g = some gZ) (hls : ls.size = nL) (hW : (rest.map fun v => v.category).sum ≤ 8) (hR : rm_m_shine.frames + 1 ≤ R.frames ∧ 8 + (3 + 11) + rm_m_shine.locals ≤ R.locals) (hf : cells ≤ R.cells ∧ slots ≤ R.slots) (hdg : decode cc pc = .ok (.invokevirtual 149, 3))
    (kk : ∀ (H1 : Heap) (locs1 : List Loc), gS (mA E) s.heap (mP E gZ) H1 locs1 → W p l e R s m args below meth c H1 locs1 cells slots Q (F0 m (pc + 3) ls (rest))) : W p l e R s m args below meth c H locs cells slots Q (F0 m pc ls (.ref (mad E 0) :: rest)) :=
  g_kv (g_runV F hK (mKm E) S (met_m_shine l E hE g  gZ h) (cwV 0 F.2.2.2.2 (lw_V q1845 q1847 qs47 q121 q1848) rfl rfl rfl (by decide +kernel) hR) (m_recv hK S) rfl hls rfl hW hdg hf) S kk
abbrev rm_m_count : Room := { frames := 2, cells := 0, slots := 0, locals := 43 }
def Lm_count_1 : Nat → mS → Int32 → Int32 → Int32 → Option (Int32)
  | 0, _, _, _, _ => none
  | n + 1, g, y1, y2, y3 =>
    if 100 ≤ y3 then
      some y2
    else
      bd1 ((
        if y1 = 2 then
          bd1 (fm_isMirror g y3) fun v7 =>
          some v7
        else
          bd1 (fm_of g y3 0) fun v4 =>
          if v4 = y1 then
            some 1
          else
            some 0) : Option (Int32)) fun v8 =>
      bd1 (fm_isCell g y3) fun v10 =>
      bd1 ((
        if v10 = 0 then
          some 0
        else
          if v8 = 0 then
            some 0
          else
            some 1) : Option (Int32)) fun v13 =>
      Lm_count_1 n g y1 (y2 + v13) (y3 + 1)
def fm_count (g : mS) (x1 : Int32) : Option (Int32) :=
  bd1 (Lm_count_1 FUEL g x1 0 0) fun v17 =>
  some v17
set_option maxHeartbeats 4000000 in
set_option maxRecDepth 100000 in
theorem loop_m_count_1 {p : Program} {l : Launch} {e : Env} {s : State} {m : MethodId} {args : Array Value} {below : List Frame} {meth : Method} {c : Code} (E : mEnv) (hE : mInj E) (F : CallFix p m c cX9_count 5 s args lw_all RX9) (hr : meth.sig.returnType = some .int) (hlk : meth.locks = false) (hK : mK E s) {Q : State → Prop} {g : mS} : ∀ (n : Nat) (y1 : Int32) (y2 : Int32) (y3 : Int32) (o : Int32), Lm_count_1 n g y1 y2 y3 = some o → ∀ (H : Heap) (locs : List Loc) (ls : Array Slot), gS (mA E) s.heap (mP E g) H locs → lv_has ls 5 [(0, .ref (mad E 0)), (1, .int y1), (2, .int y2), (3, .int y3)] → (∀ (w2 : Int32) (H : Heap) (locs : List Loc) (ls : Array Slot), o = w2 → gS (mA E) s.heap (mP E g) H locs → lv_has ls 5 [(2, .int w2)] → W p l e rm_m_count s m args below meth c H locs 0 0 Q (F0 m 67 ls [])) → W p l e rm_m_count s m args below meth c H locs 0 0 Q (F0 m 4 ls []) := by
  have hx := F.1
  have hb := F.2.1
  intro n
  induction n with
  | zero =>
    intro y1 y2 y3 o h
    rw [Lm_count_1] at h
    cases h
  | succ n ih =>
    intro y1 y2 y3 o h H locs ls S hl kx
    rw [Lm_count_1] at h
    refine lv_iload_n hx hb dX9_count_4 rfl (lv_at hl 3 rfl) ?_
    refine lv_bipush (v := 100) hx hb dX9_count_5 (by decide) ?_
    refine lv_icmp_ge (tgt := 67) hx hb dX9_count_7 (by decide) (fun c1 => ?_) (fun c1 => ?_)
    · rw [if_pos c1] at h
      cases h
      exact kx _ _ _ _ rfl S (lv_sub hl [2] rfl)
    · rw [if_neg c1] at h
      refine lv_iload_n hx hb dX9_count_10 rfl (lv_at hl 1 rfl) ?_
      refine lv_iconst (v := 2) hx hb dX9_count_11 (by decide) ?_
      obtain ⟨v8, hB, h⟩ := bd1_inv h
      have hJ38 : ∀ (H : Heap) (locs : List Loc) (ls : Array Slot), gS (mA E) s.heap (mP E g) H locs → lv_has ls 5 [(0, .ref (mad E 0)), (1, .int y1), (2, .int y2), (3, .int y3)] → W p l e rm_m_count s m args below meth c H locs 0 0 Q (F0 m 38 ls [.int v8]) := by
        intro H locs ls S hl
        refine lv_istore (lv' := [(4, .int v8), (0, .ref (mad E 0)), (1, .int y1), (2, .int y2), (3, .int y3)]) hx hb dX9_count_38 hl (by decide) rfl (fun ls hl => ?_)
        refine lv_iload_n hx hb dX9_count_40 rfl (lv_at hl 3 rfl) ?_
        refine lv_aload_n hx hb dX9_count_41 rfl (lv_at hl 1 rfl) ?_
        refine lv_iload_n hx hb dX9_count_42 rfl (lv_at hl 4 rfl) ?_
        obtain ⟨v10, e9, h⟩ := bd1_inv h
        refine call_m_isCell hE F hK S e9 hl.1 (Nat.le_of_ble_eq_true rfl) ⟨Nat.le_of_ble_eq_true rfl, Nat.le_of_ble_eq_true rfl⟩ ⟨Nat.zero_le _, Nat.zero_le _⟩ dX9_count_43 (fun H locs S => ?_)
        obtain ⟨v13, hB, h⟩ := bd1_inv h
        have hJ59 : ∀ (H : Heap) (locs : List Loc) (ls : Array Slot), gS (mA E) s.heap (mP E g) H locs → lv_has ls 5 [(0, .ref (mad E 0)), (1, .int y1), (3, .int y3)] → W p l e rm_m_count s m args below meth c H locs 0 0 Q (F0 m 59 ls [.int v13, .int y2]) := by
          intro H locs ls S hl
          refine lv_iadd hx hb dX9_count_59 ?_
          refine lv_istore_n (lv' := [(2, .int (y2 + v13)), (0, .ref (mad E 0)), (1, .int y1), (3, .int y3)]) hx hb dX9_count_60 rfl hl (by decide) rfl (fun ls hl => ?_)
          refine lv_iinc (v := (y3 + 1)) (lv' := [(3, .int (y3 + 1)), (2, .int (y2 + v13)), (0, .ref (mad E 0)), (1, .int y1)]) hx hb dX9_count_61 hl (k := 3) rfl rfl (by decide) rfl (fun ls hl => ?_)
          refine lv_goto (tgt := 4) hx hb dX9_count_64 (by decide) ?_
          exact ih _ _ _ _ h _ _ _ S (lv_sub hl [2, 3, 1, 0] rfl) kx
        clear h
        have h := hB
        clear hB
        refine lv_if_eq (tgt := 58) hx hb dX9_count_46 (by decide) (fun c11 => ?_) (fun c11 => ?_)
        · rw [if_pos c11] at h
          refine lv_iconst (v := 0) hx hb dX9_count_58 (by decide) ?_
          cases h
          exact hJ59 _ _ _ S (lv_sub hl [1, 2, 4] rfl)
        · rw [if_neg c11] at h
          refine lv_iload hx hb dX9_count_49 (lv_at hl 0 rfl) ?_
          refine lv_if_eq (tgt := 58) hx hb dX9_count_51 (by decide) (fun c12 => ?_) (fun c12 => ?_)
          · rw [if_pos c12] at h
            refine lv_iconst (v := 0) hx hb dX9_count_58 (by decide) ?_
            cases h
            exact hJ59 _ _ _ S (lv_sub hl [1, 2, 4] rfl)
          · rw [if_neg c12] at h
            refine lv_iconst (v := 1) hx hb dX9_count_54 (by decide) ?_
            refine lv_goto (tgt := 59) hx hb dX9_count_55 (by decide) ?_
            cases h
            exact hJ59 _ _ _ S (lv_sub hl [1, 2, 4] rfl)
      clear h
      have h := hB
      clear hB
      refine lv_icmp_ne (tgt := 23) hx hb dX9_count_12 (by decide) (fun c2 => ?_) (fun c2 => ?_)
      · rw [if_neg c2] at h
        refine lv_aload_n hx hb dX9_count_23 rfl (lv_at hl 0 rfl) ?_
        refine lv_iload_n hx hb dX9_count_24 rfl (lv_at hl 3 rfl) ?_
        refine lv_iconst (v := 0) hx hb dX9_count_25 (by decide) ?_
        obtain ⟨v4, e3, h⟩ := bd1_inv h
        refine call_m_of hE F hK S e3 hl.1 (Nat.le_of_ble_eq_true rfl) ⟨Nat.le_of_ble_eq_true rfl, Nat.le_of_ble_eq_true rfl⟩ ⟨Nat.zero_le _, Nat.zero_le _⟩ dX9_count_26 (fun H locs S => ?_)
        refine lv_iload_n hx hb dX9_count_29 rfl (lv_at hl 1 rfl) ?_
        refine lv_icmp_ne (tgt := 37) hx hb dX9_count_30 (by decide) (fun c5 => ?_) (fun c5 => ?_)
        · rw [if_neg c5] at h
          refine lv_iconst (v := 0) hx hb dX9_count_37 (by decide) ?_
          cases h
          exact hJ38 _ _ _ S (lv_sub hl [0, 1, 2, 3] rfl)
        · rw [if_pos c5] at h
          refine lv_iconst (v := 1) hx hb dX9_count_33 (by decide) ?_
          refine lv_goto (tgt := 38) hx hb dX9_count_34 (by decide) ?_
          cases h
          exact hJ38 _ _ _ S (lv_sub hl [0, 1, 2, 3] rfl)
      · rw [if_pos c2] at h
        refine lv_aload_n hx hb dX9_count_15 rfl (lv_at hl 0 rfl) ?_
        refine lv_iload_n hx hb dX9_count_16 rfl (lv_at hl 3 rfl) ?_
        obtain ⟨v7, e6, h⟩ := bd1_inv h
        refine call_m_isMirror hE F hK S e6 hl.1 (Nat.le_of_ble_eq_true rfl) ⟨Nat.le_of_ble_eq_true rfl, Nat.le_of_ble_eq_true rfl⟩ ⟨Nat.zero_le _, Nat.zero_le _⟩ dX9_count_17 (fun H locs S => ?_)
        refine lv_goto (tgt := 38) hx hb dX9_count_20 (by decide) ?_
        cases h
        exact hJ38 _ _ _ S (lv_sub hl [0, 1, 2, 3] rfl)
set_option maxHeartbeats 4000000 in
set_option maxRecDepth 100000 in
theorem met_m_count (l : Launch) (E : mEnv) (hE : mInj E) (g : mS) (x1 : Int32) (r : Int32) (h : fm_count g x1 = some r) : Met l yX9_count (ws_ yX9_count cX9_count 5 (some .int)) rm_m_count (va_Pc [.ref (mad E 0), .int x1] (gPre (mK E) (mP E g))) (gQi r (mP E g) (mA E)) 0 0 (mA E) := by
  refine g_met (own := RX9) (by decide) rfl (Nat.le_of_ble_eq_true rfl) ?_
  intro p e s m args below meth c ls F hr hlk hK S hl
  have hx := F.1
  have hb := F.2.1
  have hl : lv_has ls 5 [(0, .ref (mad E 0)), (1, .int x1)] := hl
  unfold fm_count at h
  refine lv_iconst (v := 0) hx hb dX9_count_0 (by decide) ?_
  refine lv_istore_n (lv' := [(2, .int 0), (0, .ref (mad E 0)), (1, .int x1)]) hx hb dX9_count_1 rfl hl (by decide) rfl (fun ls hl => ?_)
  refine lv_iconst (v := 0) hx hb dX9_count_2 (by decide) ?_
  refine lv_istore_n (lv' := [(3, .int 0), (2, .int 0), (0, .ref (mad E 0)), (1, .int x1)]) hx hb dX9_count_3 rfl hl (by decide) rfl (fun ls hl => ?_)
  obtain ⟨v17, e16, h⟩ := bd1_inv h
  refine loop_m_count_1 E hE F hr hlk hK _ _ _ _ _ e16 _ _ _ S (lv_sub hl [2, 3, 1, 0] rfl) (fun v17z H locs ls o S hl => ?_)
  cases o
  refine lv_iload_n hx hb dX9_count_67 rfl (lv_at hl 0 rfl) ?_
  cases h
  exact g_iret F hr hlk S rfl dX9_count_68
theorem call_m_count {p : Program} {l : Launch} {e : Env} {s : State} {m : MethodId} {args : Array Value} {below : List Frame} {meth : Method} {c : Code} {R : Room} {H : Heap} {locs : List Loc} {cells slots pc nL : Nat} {Q : State → Prop} {ls : Array Slot} {rest : List Value} {cc : ByteArray} {E : mEnv} (hE : mInj E) {g : mS} {x1 : Int32} {r : Int32} (F : CallFix p m c cc nL s args lw_all RX9) (hK : mK E s) (S : gS (mA E) s.heap (mP E g) H locs) (h : fm_count g x1 = some r) (hls : ls.size = nL) (hW : (rest.map fun v => v.category).sum ≤ 8) (hR : rm_m_count.frames + 1 ≤ R.frames ∧ 8 + (5 + 11) + rm_m_count.locals ≤ R.locals) (hf : cells ≤ R.cells ∧ slots ≤ R.slots) (hdg : decode cc pc = .ok (.invokevirtual 161, 3))
    (kk : ∀ (H1 : Heap) (locs1 : List Loc), gS (mA E) s.heap (mP E g) H1 locs1 → W p l e R s m args below meth c H1 locs1 cells slots Q (F0 m (pc + 3) ls (.int r :: rest))) : W p l e R s m args below meth c H locs cells slots Q (F0 m pc ls (.int x1 :: .ref (mad E 0) :: rest)) :=
  g_ki (g_runV F hK (mKm E) S (met_m_count l E hE g x1 r h) (cwV 1 F.2.2.2.2 (lw_V q1896 q1898 qs59 q121 q1899) rfl rfl rfl (by decide +kernel) hR) (m_recv hK S) rfl hls rfl hW hdg hf) S kk
abbrev rm_m_litIn : Room := { frames := 0, cells := 0, slots := 0, locals := 0 }
def Lm_litIn_1 : Nat → mS → Int32 → Int32 → Int32 → Option (Int32)
  | 0, _, _, _, _ => none
  | n + 1, g, y1, y2, y3 =>
    if 4 ≤ y3 then
      some y2
    else
      bd1 (rdZ g 13 ((4 * y1) + y3)) fun v2 =>
      bd1 ((
        if v2 = 0 then
          some 0
        else
          some (1 <<< (y3 &&& 31))) : Option (Int32)) fun v5 =>
      Lm_litIn_1 n g y1 (y2 + v5) (y3 + 1)
def fm_litIn (g : mS) (x1 : Int32) : Option (Int32) :=
  bd1 (Lm_litIn_1 FUEL g x1 0 0) fun v8 =>
  some v8
set_option maxHeartbeats 4000000 in
set_option maxRecDepth 100000 in
theorem loop_m_litIn_1 {p : Program} {l : Launch} {e : Env} {s : State} {m : MethodId} {args : Array Value} {below : List Frame} {meth : Method} {c : Code} (E : mEnv) (hE : mInj E) (F : CallFix p m c cX9_litIn 4 s args lw_all RX9) (hr : meth.sig.returnType = some .int) (hlk : meth.locks = false) (hK : mK E s) {Q : State → Prop} {g : mS} : ∀ (n : Nat) (y1 : Int32) (y2 : Int32) (y3 : Int32) (o : Int32), Lm_litIn_1 n g y1 y2 y3 = some o → ∀ (H : Heap) (locs : List Loc) (ls : Array Slot), gS (mA E) s.heap (mP E g) H locs → lv_has ls 4 [(0, .ref (mad E 0)), (1, .int y1), (2, .int y2), (3, .int y3)] → (∀ (w2 : Int32) (H : Heap) (locs : List Loc) (ls : Array Slot), o = w2 → gS (mA E) s.heap (mP E g) H locs → lv_has ls 4 [(2, .int w2)] → W p l e rm_m_litIn s m args below meth c H locs 0 0 Q (F0 m 38 ls [])) → W p l e rm_m_litIn s m args below meth c H locs 0 0 Q (F0 m 4 ls []) := by
  have hx := F.1
  have hb := F.2.1
  intro n
  induction n with
  | zero =>
    intro y1 y2 y3 o h
    rw [Lm_litIn_1] at h
    cases h
  | succ n ih =>
    intro y1 y2 y3 o h H locs ls S hl kx
    rw [Lm_litIn_1] at h
    refine lv_iload_n hx hb dX9_litIn_4 rfl (lv_at hl 3 rfl) ?_
    refine lv_iconst (v := 4) hx hb dX9_litIn_5 (by decide) ?_
    refine lv_icmp_ge (tgt := 38) hx hb dX9_litIn_6 (by decide) (fun c1 => ?_) (fun c1 => ?_)
    · rw [if_pos c1] at h
      cases h
      exact kx _ _ _ _ rfl S (lv_sub hl [2] rfl)
    · rw [if_neg c1] at h
      refine lv_iload_n hx hb dX9_litIn_9 rfl (lv_at hl 2 rfl) ?_
      refine lv_aload_n hx hb dX9_litIn_10 rfl (lv_at hl 0 rfl) ?_
      refine m_get16 F hK S dX9_litIn_11 ?_
      refine lv_iconst (v := 4) hx hb dX9_litIn_14 (by decide) ?_
      refine lv_iload_n hx hb dX9_litIn_15 rfl (lv_at hl 1 rfl) ?_
      refine lv_imul hx hb dX9_litIn_16 ?_
      refine lv_iload_n hx hb dX9_litIn_17 rfl (lv_at hl 3 rfl) ?_
      refine lv_iadd hx hb dX9_litIn_18 ?_
      obtain ⟨v2, e3, h⟩ := bd1_inv h
      refine m_zald F hK S e3 dX9_litIn_19 ?_
      obtain ⟨v5, hB, h⟩ := bd1_inv h
      have hJ30 : ∀ (H : Heap) (locs : List Loc) (ls : Array Slot), gS (mA E) s.heap (mP E g) H locs → lv_has ls 4 [(0, .ref (mad E 0)), (1, .int y1), (3, .int y3)] → W p l e rm_m_litIn s m args below meth c H locs 0 0 Q (F0 m 30 ls [.int v5, .int y2]) := by
        intro H locs ls S hl
        refine lv_iadd hx hb dX9_litIn_30 ?_
        refine lv_istore_n (lv' := [(2, .int (y2 + v5)), (0, .ref (mad E 0)), (1, .int y1), (3, .int y3)]) hx hb dX9_litIn_31 rfl hl (by decide) rfl (fun ls hl => ?_)
        refine lv_iinc (v := (y3 + 1)) (lv' := [(3, .int (y3 + 1)), (2, .int (y2 + v5)), (0, .ref (mad E 0)), (1, .int y1)]) hx hb dX9_litIn_32 hl (k := 3) rfl rfl (by decide) rfl (fun ls hl => ?_)
        refine lv_goto (tgt := 4) hx hb dX9_litIn_35 (by decide) ?_
        exact ih _ _ _ _ h _ _ _ S (lv_sub hl [2, 3, 1, 0] rfl) kx
      clear h
      have h := hB
      clear hB
      refine lv_if_eq (tgt := 29) hx hb dX9_litIn_20 (by decide) (fun c4 => ?_) (fun c4 => ?_)
      · rw [if_pos c4] at h
        refine lv_iconst (v := 0) hx hb dX9_litIn_29 (by decide) ?_
        cases h
        exact hJ30 _ _ _ S (lv_sub hl [0, 1, 3] rfl)
      · rw [if_neg c4] at h
        refine lv_iconst (v := 1) hx hb dX9_litIn_23 (by decide) ?_
        refine lv_iload_n hx hb dX9_litIn_24 rfl (lv_at hl 3 rfl) ?_
        refine lv_ishl hx hb dX9_litIn_25 ?_
        refine lv_goto (tgt := 30) hx hb dX9_litIn_26 (by decide) ?_
        cases h
        exact hJ30 _ _ _ S (lv_sub hl [0, 1, 3] rfl)
set_option maxHeartbeats 4000000 in
set_option maxRecDepth 100000 in
theorem met_m_litIn (l : Launch) (E : mEnv) (hE : mInj E) (g : mS) (x1 : Int32) (r : Int32) (h : fm_litIn g x1 = some r) : Met l yX9_litIn (ws_ yX9_litIn cX9_litIn 4 (some .int)) rm_m_litIn (va_Pc [.ref (mad E 0), .int x1] (gPre (mK E) (mP E g))) (gQi r (mP E g) (mA E)) 0 0 (mA E) := by
  refine g_met (own := RX9) (by decide) rfl (Nat.le_of_ble_eq_true rfl) ?_
  intro p e s m args below meth c ls F hr hlk hK S hl
  have hx := F.1
  have hb := F.2.1
  have hl : lv_has ls 4 [(0, .ref (mad E 0)), (1, .int x1)] := hl
  unfold fm_litIn at h
  refine lv_iconst (v := 0) hx hb dX9_litIn_0 (by decide) ?_
  refine lv_istore_n (lv' := [(2, .int 0), (0, .ref (mad E 0)), (1, .int x1)]) hx hb dX9_litIn_1 rfl hl (by decide) rfl (fun ls hl => ?_)
  refine lv_iconst (v := 0) hx hb dX9_litIn_2 (by decide) ?_
  refine lv_istore_n (lv' := [(3, .int 0), (2, .int 0), (0, .ref (mad E 0)), (1, .int x1)]) hx hb dX9_litIn_3 rfl hl (by decide) rfl (fun ls hl => ?_)
  obtain ⟨v8, e7, h⟩ := bd1_inv h
  refine loop_m_litIn_1 E hE F hr hlk hK _ _ _ _ _ e7 _ _ _ S (lv_sub hl [2, 3, 1, 0] rfl) (fun v8z H locs ls o S hl => ?_)
  cases o
  refine lv_iload_n hx hb dX9_litIn_38 rfl (lv_at hl 0 rfl) ?_
  cases h
  exact g_iret F hr hlk S rfl dX9_litIn_39
theorem call_m_litIn {p : Program} {l : Launch} {e : Env} {s : State} {m : MethodId} {args : Array Value} {below : List Frame} {meth : Method} {c : Code} {R : Room} {H : Heap} {locs : List Loc} {cells slots pc nL : Nat} {Q : State → Prop} {ls : Array Slot} {rest : List Value} {cc : ByteArray} {E : mEnv} (hE : mInj E) {g : mS} {x1 : Int32} {r : Int32} (F : CallFix p m c cc nL s args lw_all RX9) (hK : mK E s) (S : gS (mA E) s.heap (mP E g) H locs) (h : fm_litIn g x1 = some r) (hls : ls.size = nL) (hW : (rest.map fun v => v.category).sum ≤ 8) (hR : rm_m_litIn.frames + 1 ≤ R.frames ∧ 8 + (4 + 11) + rm_m_litIn.locals ≤ R.locals) (hf : cells ≤ R.cells ∧ slots ≤ R.slots) (hdg : decode cc pc = .ok (.invokevirtual 164, 3))
    (kk : ∀ (H1 : Heap) (locs1 : List Loc), gS (mA E) s.heap (mP E g) H1 locs1 → W p l e R s m args below meth c H1 locs1 cells slots Q (F0 m (pc + 3) ls (.int r :: rest))) : W p l e R s m args below meth c H locs cells slots Q (F0 m pc ls (.int x1 :: .ref (mad E 0) :: rest)) :=
  g_ki (g_runV F hK (mKm E) S (met_m_litIn l E hE g x1 r h) (cwV 1 F.2.2.2.2 (lw_V q1900 q1902 qs60 q121 q1903) rfl rfl rfl (by decide +kernel) hR) (m_recv hK S) rfl hls rfl hW hdg hf) S kk
abbrev rm_m_hits : Room := { frames := 6, cells := 0, slots := 0, locals := 137 }
def Lm_hits_1 : Nat → mS → Int32 → Int32 → Int32 → Option (Int32)
  | 0, _, _, _, _ => none
  | n + 1, g, y1, y2, y3 =>
    if y2 ≤ y3 then
      some y1
    else
      bd1 (fm_cellOf g y3 4) fun v7 =>
      bd1 (fm_litIn g v7) fun v9 =>
      bd1 ((
        if v9 = 0 then
          some 0
        else
          some (1 <<< (y3 &&& 31))) : Option (Int32)) fun v11 =>
      Lm_hits_1 n g (y1 ||| v11) y2 (y3 + 1)
def fm_hits (g : mS)  : Option (Int32 × mS) :=
  bd1 (fm_shine g) fun g2 =>
  bd1 (fm_count g2 4) fun v4 =>
  bd1 (Lm_hits_1 FUEL g2 0 v4 0) fun v14 =>
  some (v14, g2)
set_option maxHeartbeats 4000000 in
set_option maxRecDepth 100000 in
theorem loop_m_hits_1 {p : Program} {l : Launch} {e : Env} {s : State} {m : MethodId} {args : Array Value} {below : List Frame} {meth : Method} {c : Code} (E : mEnv) (hE : mInj E) (F : CallFix p m c cX9_hits 4 s args lw_all RX9) (hr : meth.sig.returnType = some .int) (hlk : meth.locks = false) (hK : mK E s) {Q : State → Prop} : ∀ (n : Nat) (g : mS) (y1 : Int32) (y2 : Int32) (y3 : Int32) (o : Int32), Lm_hits_1 n g y1 y2 y3 = some o → ∀ (H : Heap) (locs : List Loc) (ls : Array Slot), gS (mA E) s.heap (mP E g) H locs → lv_has ls 4 [(0, .ref (mad E 0)), (1, .int y1), (2, .int y2), (3, .int y3)] → (∀ (w1 : Int32) (H : Heap) (locs : List Loc) (ls : Array Slot), o = w1 → gS (mA E) s.heap (mP E g) H locs → lv_has ls 4 [(1, .int w1)] → W p l e rm_m_hits s m args below meth c H locs 0 0 Q (F0 m 48 ls [])) → W p l e rm_m_hits s m args below meth c H locs 0 0 Q (F0 m 14 ls []) := by
  have hx := F.1
  have hb := F.2.1
  intro n
  induction n with
  | zero =>
    intro g y1 y2 y3 o h
    rw [Lm_hits_1] at h
    cases h
  | succ n ih =>
    intro g y1 y2 y3 o h H locs ls S hl kx
    rw [Lm_hits_1] at h
    refine lv_iload_n hx hb dX9_hits_14 rfl (lv_at hl 3 rfl) ?_
    refine lv_iload_n hx hb dX9_hits_15 rfl (lv_at hl 2 rfl) ?_
    refine lv_icmp_ge (tgt := 48) hx hb dX9_hits_16 (by decide) (fun c5 => ?_) (fun c5 => ?_)
    · rw [if_pos c5] at h
      cases h
      exact kx _ _ _ _ rfl S (lv_sub hl [1] rfl)
    · rw [if_neg c5] at h
      refine lv_iload_n hx hb dX9_hits_19 rfl (lv_at hl 1 rfl) ?_
      refine lv_aload_n hx hb dX9_hits_20 rfl (lv_at hl 0 rfl) ?_
      refine lv_aload_n hx hb dX9_hits_21 rfl (lv_at hl 0 rfl) ?_
      refine lv_iload_n hx hb dX9_hits_22 rfl (lv_at hl 3 rfl) ?_
      refine lv_iconst (v := 4) hx hb dX9_hits_23 (by decide) ?_
      obtain ⟨v7, e6, h⟩ := bd1_inv h
      refine call_m_cellOf hE F hK S e6 hl.1 (Nat.le_of_ble_eq_true rfl) ⟨Nat.le_of_ble_eq_true rfl, Nat.le_of_ble_eq_true rfl⟩ ⟨Nat.zero_le _, Nat.zero_le _⟩ dX9_hits_24 (fun H locs S => ?_)
      obtain ⟨v9, e8, h⟩ := bd1_inv h
      refine call_m_litIn hE F hK S e8 hl.1 (Nat.le_of_ble_eq_true rfl) ⟨Nat.le_of_ble_eq_true rfl, Nat.le_of_ble_eq_true rfl⟩ ⟨Nat.zero_le _, Nat.zero_le _⟩ dX9_hits_27 (fun H locs S => ?_)
      obtain ⟨v11, hB, h⟩ := bd1_inv h
      have hJ40 : ∀ (H : Heap) (locs : List Loc) (ls : Array Slot), gS (mA E) s.heap (mP E g) H locs → lv_has ls 4 [(0, .ref (mad E 0)), (2, .int y2), (3, .int y3)] → W p l e rm_m_hits s m args below meth c H locs 0 0 Q (F0 m 40 ls [.int v11, .int y1]) := by
        intro H locs ls S hl
        refine lv_ior hx hb dX9_hits_40 ?_
        refine lv_istore_n (lv' := [(1, .int (y1 ||| v11)), (0, .ref (mad E 0)), (2, .int y2), (3, .int y3)]) hx hb dX9_hits_41 rfl hl (by decide) rfl (fun ls hl => ?_)
        refine lv_iinc (v := (y3 + 1)) (lv' := [(3, .int (y3 + 1)), (1, .int (y1 ||| v11)), (0, .ref (mad E 0)), (2, .int y2)]) hx hb dX9_hits_42 hl (k := 3) rfl rfl (by decide) rfl (fun ls hl => ?_)
        refine lv_goto (tgt := 14) hx hb dX9_hits_45 (by decide) ?_
        exact ih _ _ _ _ _ h _ _ _ S (lv_sub hl [2, 1, 3, 0] rfl) kx
      clear h
      have h := hB
      clear hB
      refine lv_if_eq (tgt := 39) hx hb dX9_hits_30 (by decide) (fun c10 => ?_) (fun c10 => ?_)
      · rw [if_pos c10] at h
        refine lv_iconst (v := 0) hx hb dX9_hits_39 (by decide) ?_
        cases h
        exact hJ40 _ _ _ S (lv_sub hl [0, 2, 3] rfl)
      · rw [if_neg c10] at h
        refine lv_iconst (v := 1) hx hb dX9_hits_33 (by decide) ?_
        refine lv_iload_n hx hb dX9_hits_34 rfl (lv_at hl 3 rfl) ?_
        refine lv_ishl hx hb dX9_hits_35 ?_
        refine lv_goto (tgt := 40) hx hb dX9_hits_36 (by decide) ?_
        cases h
        exact hJ40 _ _ _ S (lv_sub hl [0, 2, 3] rfl)
set_option maxHeartbeats 4000000 in
set_option maxRecDepth 100000 in
theorem met_m_hits (l : Launch) (E : mEnv) (hE : mInj E) (g : mS)  (r : Int32) (gZ : mS) (h : fm_hits g = some (r, gZ)) : Met l yX9_hits (ws_ yX9_hits cX9_hits 4 (some .int)) rm_m_hits (va_Pc [.ref (mad E 0)] (gPre (mK E) (mP E g))) (gQi r (mP E gZ) (mA E)) 0 0 (mA E) := by
  refine g_met (own := RX9) (by decide) rfl (Nat.le_of_ble_eq_true rfl) ?_
  intro p e s m args below meth c ls F hr hlk hK S hl
  have hx := F.1
  have hb := F.2.1
  have hl : lv_has ls 4 [(0, .ref (mad E 0))] := hl
  unfold fm_hits at h
  refine lv_aload_n hx hb dX9_hits_0 rfl (lv_at hl 0 rfl) ?_
  obtain ⟨g2, e1, h⟩ := bd1_inv h
  refine call_m_shine hE F hK S e1 hl.1 (Nat.le_of_ble_eq_true rfl) ⟨Nat.le_of_ble_eq_true rfl, Nat.le_of_ble_eq_true rfl⟩ ⟨Nat.zero_le _, Nat.zero_le _⟩ dX9_hits_1 (fun H locs S => ?_)
  refine lv_iconst (v := 0) hx hb dX9_hits_4 (by decide) ?_
  refine lv_istore_n (lv' := [(1, .int 0), (0, .ref (mad E 0))]) hx hb dX9_hits_5 rfl hl (by decide) rfl (fun ls hl => ?_)
  refine lv_aload_n hx hb dX9_hits_6 rfl (lv_at hl 1 rfl) ?_
  refine lv_iconst (v := 4) hx hb dX9_hits_7 (by decide) ?_
  obtain ⟨v4, e3, h⟩ := bd1_inv h
  refine call_m_count hE F hK S e3 hl.1 (Nat.le_of_ble_eq_true rfl) ⟨Nat.le_of_ble_eq_true rfl, Nat.le_of_ble_eq_true rfl⟩ ⟨Nat.zero_le _, Nat.zero_le _⟩ dX9_hits_8 (fun H locs S => ?_)
  refine lv_istore_n (lv' := [(2, .int v4), (1, .int 0), (0, .ref (mad E 0))]) hx hb dX9_hits_11 rfl hl (by decide) rfl (fun ls hl => ?_)
  refine lv_iconst (v := 0) hx hb dX9_hits_12 (by decide) ?_
  refine lv_istore_n (lv' := [(3, .int 0), (2, .int v4), (1, .int 0), (0, .ref (mad E 0))]) hx hb dX9_hits_13 rfl hl (by decide) rfl (fun ls hl => ?_)
  obtain ⟨v14, e13, h⟩ := bd1_inv h
  refine loop_m_hits_1 E hE F hr hlk hK _ _ _ _ _ _ e13 _ _ _ S (lv_sub hl [3, 2, 1, 0] rfl) (fun v14z H locs ls o S hl => ?_)
  cases o
  refine lv_iload_n hx hb dX9_hits_48 rfl (lv_at hl 0 rfl) ?_
  cases h
  exact g_iret F hr hlk S rfl dX9_hits_49
theorem call_m_hits {p : Program} {l : Launch} {e : Env} {s : State} {m : MethodId} {args : Array Value} {below : List Frame} {meth : Method} {c : Code} {R : Room} {H : Heap} {locs : List Loc} {cells slots pc nL : Nat} {Q : State → Prop} {ls : Array Slot} {rest : List Value} {cc : ByteArray} {E : mEnv} (hE : mInj E) {g : mS} {r : Int32} {gZ : mS} (F : CallFix p m c cc nL s args lw_all RX9) (hK : mK E s) (S : gS (mA E) s.heap (mP E g) H locs) (h : fm_hits g = some (r, gZ)) (hls : ls.size = nL) (hW : (rest.map fun v => v.category).sum ≤ 8) (hR : rm_m_hits.frames + 1 ≤ R.frames ∧ 8 + (4 + 11) + rm_m_hits.locals ≤ R.locals) (hf : cells ≤ R.cells ∧ slots ≤ R.slots) (hdg : decode cc pc = .ok (.invokevirtual 167, 3))
    (kk : ∀ (H1 : Heap) (locs1 : List Loc), gS (mA E) s.heap (mP E gZ) H1 locs1 → W p l e R s m args below meth c H1 locs1 cells slots Q (F0 m (pc + 3) ls (.int r :: rest))) : W p l e R s m args below meth c H locs cells slots Q (F0 m pc ls (.ref (mad E 0) :: rest)) :=
  g_ki (g_runV F hK (mKm E) S (met_m_hits l E hE g  r gZ h) (cwV 0 F.2.2.2.2 (lw_V q1841 q1843 qs46 q121 q1844) rfl rfl rfl (by decide +kernel) hR) (m_recv hK S) rfl hls rfl hW hdg hf) S kk
abbrev rm_m_openAll : Room := { frames := 7, cells := 0, slots := 0, locals := 160 }
def Lm_openAll_1 : Nat → mS → Int32 → Int32 → Int32 → Int32 → Option (Int32 × mS)
  | 0, _, _, _, _, _ => none
  | n + 1, g, y1, y2, y3, y4 =>
    if y3 ≤ y4 then
      some (y2, g)
    else
      bd1 (fm_cellOf g y4 4) fun v8 =>
      bd1 ((
        if ((y1 >>> (y4 &&& 31)) &&& 1) = 1 then
          some 1
        else
          some 0) : Option (Int32)) fun v10 =>
      bd2 ((
        if v10 = 0 then
          if v10 = 0 then
            bd1 (rdI g 1 4) fun v13 =>
            if v13 = 0 then
              bd1 (fm_put g v8 5 (-1)) fun g17 =>
              some (y2, g17)
            else
              some (y2, g)
          else
            some (y2, g)
        else
          bd1 (fm_of g v8 5) fun v19 =>
          if v19 = (-1) then
            bd1 (rdI g 1 4) fun v27 =>
            bd1 (fm_put g v8 5 v27) fun g30 =>
            some ((y2 + 1), g30)
          else
            if v10 = 0 then
              bd1 (rdI g 1 4) fun v22 =>
              if v22 = 0 then
                bd1 (fm_put g v8 5 (-1)) fun g26 =>
                some (y2, g26)
              else
                some (y2, g)
            else
              some (y2, g)) : Option (Int32 × mS)) fun v31 g32 =>
      Lm_openAll_1 n g32 y1 v31 y3 (y4 + 1)
def fm_openAll (g : mS)  : Option (Int32 × mS) :=
  bd2 (fm_hits g) fun v2 g3 =>
  bd1 (fm_count g3 4) fun v5 =>
  bd2 (Lm_openAll_1 FUEL g3 v2 0 v5 0) fun v36 g37 =>
  some (v36, g37)
set_option maxHeartbeats 4000000 in
set_option maxRecDepth 100000 in
theorem loop_m_openAll_1 {p : Program} {l : Launch} {e : Env} {s : State} {m : MethodId} {args : Array Value} {below : List Frame} {meth : Method} {c : Code} (E : mEnv) (hE : mInj E) (F : CallFix p m c cX9_openAll 7 s args lw_all RX9) (hr : meth.sig.returnType = some .int) (hlk : meth.locks = false) (hK : mK E s) {Q : State → Prop} : ∀ (n : Nat) (g : mS) (y1 : Int32) (y2 : Int32) (y3 : Int32) (y4 : Int32) (o : Int32 × mS), Lm_openAll_1 n g y1 y2 y3 y4 = some o → ∀ (H : Heap) (locs : List Loc) (ls : Array Slot), gS (mA E) s.heap (mP E g) H locs → lv_has ls 7 [(0, .ref (mad E 0)), (1, .int y1), (2, .int y2), (3, .int y3), (4, .int y4)] → (∀ (w2 : Int32) (gx : mS) (H : Heap) (locs : List Loc) (ls : Array Slot), o = (w2, gx) → gS (mA E) s.heap (mP E gx) H locs → lv_has ls 7 [(2, .int w2)] → W p l e rm_m_openAll s m args below meth c H locs 0 0 Q (F0 m 111 ls [])) → W p l e rm_m_openAll s m args below meth c H locs 0 0 Q (F0 m 16 ls []) := by
  have hx := F.1
  have hb := F.2.1
  intro n
  induction n with
  | zero =>
    intro g y1 y2 y3 y4 o h
    rw [Lm_openAll_1] at h
    cases h
  | succ n ih =>
    intro g y1 y2 y3 y4 o h H locs ls S hl kx
    rw [Lm_openAll_1] at h
    refine lv_iload hx hb dX9_openAll_16 (lv_at hl 4 rfl) ?_
    refine lv_iload_n hx hb dX9_openAll_18 rfl (lv_at hl 3 rfl) ?_
    refine lv_icmp_ge (tgt := 111) hx hb dX9_openAll_19 (by decide) (fun c6 => ?_) (fun c6 => ?_)
    · rw [if_pos c6] at h
      cases h
      exact kx _ _ _ _ _ rfl S (lv_sub hl [2] rfl)
    · rw [if_neg c6] at h
      refine lv_aload_n hx hb dX9_openAll_22 rfl (lv_at hl 0 rfl) ?_
      refine lv_iload hx hb dX9_openAll_23 (lv_at hl 4 rfl) ?_
      refine lv_iconst (v := 4) hx hb dX9_openAll_25 (by decide) ?_
      obtain ⟨v8, e7, h⟩ := bd1_inv h
      refine call_m_cellOf hE F hK S e7 hl.1 (Nat.le_of_ble_eq_true rfl) ⟨Nat.le_of_ble_eq_true rfl, Nat.le_of_ble_eq_true rfl⟩ ⟨Nat.zero_le _, Nat.zero_le _⟩ dX9_openAll_26 (fun H locs S => ?_)
      refine lv_istore (lv' := [(5, .int v8), (0, .ref (mad E 0)), (1, .int y1), (2, .int y2), (3, .int y3), (4, .int y4)]) hx hb dX9_openAll_29 hl (by decide) rfl (fun ls hl => ?_)
      refine lv_iload_n hx hb dX9_openAll_31 rfl (lv_at hl 2 rfl) ?_
      refine lv_iload hx hb dX9_openAll_32 (lv_at hl 5 rfl) ?_
      refine lv_ishr hx hb dX9_openAll_34 ?_
      refine lv_iconst (v := 1) hx hb dX9_openAll_35 (by decide) ?_
      refine lv_iand hx hb dX9_openAll_36 ?_
      refine lv_iconst (v := 1) hx hb dX9_openAll_37 (by decide) ?_
      obtain ⟨v10, hB, h⟩ := bd1_inv h
      have hJ46 : ∀ (H : Heap) (locs : List Loc) (ls : Array Slot), gS (mA E) s.heap (mP E g) H locs → lv_has ls 7 [(0, .ref (mad E 0)), (1, .int y1), (2, .int y2), (3, .int y3), (4, .int y4), (5, .int v8)] → W p l e rm_m_openAll s m args below meth c H locs 0 0 Q (F0 m 46 ls [.int v10]) := by
        intro H locs ls S hl
        refine lv_istore (lv' := [(6, .int v10), (0, .ref (mad E 0)), (1, .int y1), (2, .int y2), (3, .int y3), (4, .int y4), (5, .int v8)]) hx hb dX9_openAll_46 hl (by decide) rfl (fun ls hl => ?_)
        refine lv_iload hx hb dX9_openAll_48 (lv_at hl 0 rfl) ?_
        obtain ⟨v31, g32, hB, h⟩ := bd2_inv h
        have hJ105 : ∀ (H : Heap) (locs : List Loc) (ls : Array Slot), gS (mA E) s.heap (mP E g32) H locs → lv_has ls 7 [(0, .ref (mad E 0)), (1, .int y1), (2, .int v31), (3, .int y3), (4, .int y4)] → W p l e rm_m_openAll s m args below meth c H locs 0 0 Q (F0 m 105 ls []) := by
          intro H locs ls S hl
          refine lv_iinc (v := (y4 + 1)) (lv' := [(4, .int (y4 + 1)), (0, .ref (mad E 0)), (1, .int y1), (2, .int v31), (3, .int y3)]) hx hb dX9_openAll_105 hl (k := 4) rfl rfl (by decide) rfl (fun ls hl => ?_)
          refine lv_goto (tgt := 16) hx hb dX9_openAll_108 (by decide) ?_
          exact ih _ _ _ _ _ _ h _ _ _ S (lv_sub hl [1, 2, 3, 4, 0] rfl) kx
        clear h
        have h := hB
        clear hB
        refine lv_if_eq (tgt := 83) hx hb dX9_openAll_50 (by decide) (fun c11 => ?_) (fun c11 => ?_)
        · rw [if_pos c11] at h
          refine lv_iload hx hb dX9_openAll_83 (lv_at hl 0 rfl) ?_
          refine lv_if_ne (tgt := 105) hx hb dX9_openAll_85 (by decide) (fun c12 => ?_) (fun c12 => ?_)
          · rw [if_neg c12] at h
            cases h
            exact hJ105 _ _ _ S (lv_sub hl [1, 2, 3, 4, 5] rfl)
          · rw [if_pos c12] at h
            refine lv_aload_n hx hb dX9_openAll_88 rfl (lv_at hl 1 rfl) ?_
            refine m_get1 F hK S dX9_openAll_89 ?_
            refine lv_iconst (v := 4) hx hb dX9_openAll_92 (by decide) ?_
            obtain ⟨v13, e14, h⟩ := bd1_inv h
            refine m_iald F hK S e14 dX9_openAll_93 ?_
            refine lv_if_ne (tgt := 105) hx hb dX9_openAll_94 (by decide) (fun c15 => ?_) (fun c15 => ?_)
            · rw [if_neg c15] at h
              cases h
              exact hJ105 _ _ _ S (lv_sub hl [1, 2, 3, 4, 5] rfl)
            · rw [if_pos c15] at h
              refine lv_aload_n hx hb dX9_openAll_97 rfl (lv_at hl 1 rfl) ?_
              refine lv_iload hx hb dX9_openAll_98 (lv_at hl 6 rfl) ?_
              refine lv_iconst (v := 5) hx hb dX9_openAll_100 (by decide) ?_
              refine lv_iconst (v := (-1)) hx hb dX9_openAll_101 (by decide) ?_
              obtain ⟨g17, e16, h⟩ := bd1_inv h
              refine call_m_put hE F hK S e16 hl.1 (Nat.le_of_ble_eq_true rfl) ⟨Nat.le_of_ble_eq_true rfl, Nat.le_of_ble_eq_true rfl⟩ ⟨Nat.zero_le _, Nat.zero_le _⟩ dX9_openAll_102 (fun H locs S => ?_)
              cases h
              exact hJ105 _ _ _ S (lv_sub hl [1, 2, 3, 4, 5] rfl)
        · rw [if_neg c11] at h
          refine lv_aload_n hx hb dX9_openAll_53 rfl (lv_at hl 1 rfl) ?_
          refine lv_iload hx hb dX9_openAll_54 (lv_at hl 6 rfl) ?_
          refine lv_iconst (v := 5) hx hb dX9_openAll_56 (by decide) ?_
          obtain ⟨v19, e18, h⟩ := bd1_inv h
          refine call_m_of hE F hK S e18 hl.1 (Nat.le_of_ble_eq_true rfl) ⟨Nat.le_of_ble_eq_true rfl, Nat.le_of_ble_eq_true rfl⟩ ⟨Nat.zero_le _, Nat.zero_le _⟩ dX9_openAll_57 (fun H locs S => ?_)
          refine lv_iconst (v := (-1)) hx hb dX9_openAll_60 (by decide) ?_
          refine lv_icmp_ne (tgt := 83) hx hb dX9_openAll_61 (by decide) (fun c20 => ?_) (fun c20 => ?_)
          · rw [if_neg c20] at h
            refine lv_iload hx hb dX9_openAll_83 (lv_at hl 0 rfl) ?_
            refine lv_if_ne (tgt := 105) hx hb dX9_openAll_85 (by decide) (fun c21 => ?_) (fun c21 => ?_)
            · rw [if_neg c21] at h
              cases h
              exact hJ105 _ _ _ S (lv_sub hl [1, 2, 3, 4, 5] rfl)
            · rw [if_pos c21] at h
              refine lv_aload_n hx hb dX9_openAll_88 rfl (lv_at hl 1 rfl) ?_
              refine m_get1 F hK S dX9_openAll_89 ?_
              refine lv_iconst (v := 4) hx hb dX9_openAll_92 (by decide) ?_
              obtain ⟨v22, e23, h⟩ := bd1_inv h
              refine m_iald F hK S e23 dX9_openAll_93 ?_
              refine lv_if_ne (tgt := 105) hx hb dX9_openAll_94 (by decide) (fun c24 => ?_) (fun c24 => ?_)
              · rw [if_neg c24] at h
                cases h
                exact hJ105 _ _ _ S (lv_sub hl [1, 2, 3, 4, 5] rfl)
              · rw [if_pos c24] at h
                refine lv_aload_n hx hb dX9_openAll_97 rfl (lv_at hl 1 rfl) ?_
                refine lv_iload hx hb dX9_openAll_98 (lv_at hl 6 rfl) ?_
                refine lv_iconst (v := 5) hx hb dX9_openAll_100 (by decide) ?_
                refine lv_iconst (v := (-1)) hx hb dX9_openAll_101 (by decide) ?_
                obtain ⟨g26, e25, h⟩ := bd1_inv h
                refine call_m_put hE F hK S e25 hl.1 (Nat.le_of_ble_eq_true rfl) ⟨Nat.le_of_ble_eq_true rfl, Nat.le_of_ble_eq_true rfl⟩ ⟨Nat.zero_le _, Nat.zero_le _⟩ dX9_openAll_102 (fun H locs S => ?_)
                cases h
                exact hJ105 _ _ _ S (lv_sub hl [1, 2, 3, 4, 5] rfl)
          · rw [if_pos c20] at h
            refine lv_aload_n hx hb dX9_openAll_64 rfl (lv_at hl 1 rfl) ?_
            refine lv_iload hx hb dX9_openAll_65 (lv_at hl 6 rfl) ?_
            refine lv_iconst (v := 5) hx hb dX9_openAll_67 (by decide) ?_
            refine lv_aload_n hx hb dX9_openAll_68 rfl (lv_at hl 1 rfl) ?_
            refine m_get1 F hK S dX9_openAll_69 ?_
            refine lv_iconst (v := 4) hx hb dX9_openAll_72 (by decide) ?_
            obtain ⟨v27, e28, h⟩ := bd1_inv h
            refine m_iald F hK S e28 dX9_openAll_73 ?_
            obtain ⟨g30, e29, h⟩ := bd1_inv h
            refine call_m_put hE F hK S e29 hl.1 (Nat.le_of_ble_eq_true rfl) ⟨Nat.le_of_ble_eq_true rfl, Nat.le_of_ble_eq_true rfl⟩ ⟨Nat.zero_le _, Nat.zero_le _⟩ dX9_openAll_74 (fun H locs S => ?_)
            refine lv_iinc (v := (y2 + 1)) (lv' := [(2, .int (y2 + 1)), (6, .int v10), (0, .ref (mad E 0)), (1, .int y1), (3, .int y3), (4, .int y4), (5, .int v8)]) hx hb dX9_openAll_77 hl (k := 3) rfl rfl (by decide) rfl (fun ls hl => ?_)
            refine lv_goto (tgt := 105) hx hb dX9_openAll_80 (by decide) ?_
            cases h
            exact hJ105 _ _ _ S (lv_sub hl [2, 3, 0, 4, 5] rfl)
      clear h
      have h := hB
      clear hB
      refine lv_icmp_ne (tgt := 45) hx hb dX9_openAll_38 (by decide) (fun c9 => ?_) (fun c9 => ?_)
      · rw [if_neg c9] at h
        refine lv_iconst (v := 0) hx hb dX9_openAll_45 (by decide) ?_
        cases h
        exact hJ46 _ _ _ S (lv_sub hl [1, 2, 3, 4, 5, 0] rfl)
      · rw [if_pos c9] at h
        refine lv_iconst (v := 1) hx hb dX9_openAll_41 (by decide) ?_
        refine lv_goto (tgt := 46) hx hb dX9_openAll_42 (by decide) ?_
        cases h
        exact hJ46 _ _ _ S (lv_sub hl [1, 2, 3, 4, 5, 0] rfl)
set_option maxHeartbeats 4000000 in
set_option maxRecDepth 100000 in
theorem met_m_openAll (l : Launch) (E : mEnv) (hE : mInj E) (g : mS)  (r : Int32) (gZ : mS) (h : fm_openAll g = some (r, gZ)) : Met l yX9_openAll (ws_ yX9_openAll cX9_openAll 7 (some .int)) rm_m_openAll (va_Pc [.ref (mad E 0)] (gPre (mK E) (mP E g))) (gQi r (mP E gZ) (mA E)) 0 0 (mA E) := by
  refine g_met (own := RX9) (by decide) rfl (Nat.le_of_ble_eq_true rfl) ?_
  intro p e s m args below meth c ls F hr hlk hK S hl
  have hx := F.1
  have hb := F.2.1
  have hl : lv_has ls 7 [(0, .ref (mad E 0))] := hl
  unfold fm_openAll at h
  refine lv_aload_n hx hb dX9_openAll_0 rfl (lv_at hl 0 rfl) ?_
  obtain ⟨v2, g3, e1, h⟩ := bd2_inv h
  refine call_m_hits hE F hK S e1 hl.1 (Nat.le_of_ble_eq_true rfl) ⟨Nat.le_of_ble_eq_true rfl, Nat.le_of_ble_eq_true rfl⟩ ⟨Nat.zero_le _, Nat.zero_le _⟩ dX9_openAll_1 (fun H locs S => ?_)
  refine lv_istore_n (lv' := [(1, .int v2), (0, .ref (mad E 0))]) hx hb dX9_openAll_4 rfl hl (by decide) rfl (fun ls hl => ?_)
  refine lv_iconst (v := 0) hx hb dX9_openAll_5 (by decide) ?_
  refine lv_istore_n (lv' := [(2, .int 0), (1, .int v2), (0, .ref (mad E 0))]) hx hb dX9_openAll_6 rfl hl (by decide) rfl (fun ls hl => ?_)
  refine lv_aload_n hx hb dX9_openAll_7 rfl (lv_at hl 2 rfl) ?_
  refine lv_iconst (v := 4) hx hb dX9_openAll_8 (by decide) ?_
  obtain ⟨v5, e4, h⟩ := bd1_inv h
  refine call_m_count hE F hK S e4 hl.1 (Nat.le_of_ble_eq_true rfl) ⟨Nat.le_of_ble_eq_true rfl, Nat.le_of_ble_eq_true rfl⟩ ⟨Nat.zero_le _, Nat.zero_le _⟩ dX9_openAll_9 (fun H locs S => ?_)
  refine lv_istore_n (lv' := [(3, .int v5), (2, .int 0), (1, .int v2), (0, .ref (mad E 0))]) hx hb dX9_openAll_12 rfl hl (by decide) rfl (fun ls hl => ?_)
  refine lv_iconst (v := 0) hx hb dX9_openAll_13 (by decide) ?_
  refine lv_istore (lv' := [(4, .int 0), (3, .int v5), (2, .int 0), (1, .int v2), (0, .ref (mad E 0))]) hx hb dX9_openAll_14 hl (by decide) rfl (fun ls hl => ?_)
  obtain ⟨v36, g37, e35, h⟩ := bd2_inv h
  refine loop_m_openAll_1 E hE F hr hlk hK _ _ _ _ _ _ _ e35 _ _ _ S (lv_sub hl [4, 3, 2, 1, 0] rfl) (fun v36z g37z H locs ls o S hl => ?_)
  cases o
  refine lv_iload_n hx hb dX9_openAll_111 rfl (lv_at hl 0 rfl) ?_
  cases h
  exact g_iret F hr hlk S rfl dX9_openAll_112
theorem call_m_openAll {p : Program} {l : Launch} {e : Env} {s : State} {m : MethodId} {args : Array Value} {below : List Frame} {meth : Method} {c : Code} {R : Room} {H : Heap} {locs : List Loc} {cells slots pc nL : Nat} {Q : State → Prop} {ls : Array Slot} {rest : List Value} {cc : ByteArray} {E : mEnv} (hE : mInj E) {g : mS} {r : Int32} {gZ : mS} (F : CallFix p m c cc nL s args lw_all RX9) (hK : mK E s) (S : gS (mA E) s.heap (mP E g) H locs) (h : fm_openAll g = some (r, gZ)) (hls : ls.size = nL) (hW : (rest.map fun v => v.category).sum ≤ 8) (hR : rm_m_openAll.frames + 1 ≤ R.frames ∧ 8 + (7 + 11) + rm_m_openAll.locals ≤ R.locals) (hf : cells ≤ R.cells ∧ slots ≤ R.slots) (hdg : decode cc pc = .ok (.invokevirtual 79, 3))
    (kk : ∀ (H1 : Heap) (locs1 : List Loc), gS (mA E) s.heap (mP E gZ) H1 locs1 → W p l e R s m args below meth c H1 locs1 cells slots Q (F0 m (pc + 3) ls (.int r :: rest))) : W p l e R s m args below meth c H locs cells slots Q (F0 m pc ls (.ref (mad E 0) :: rest)) :=
  g_ki (g_runV F hK (mKm E) S (met_m_openAll l E hE g  r gZ h) (cwV 0 F.2.2.2.2 (lw_V q1837 q1839 qs45 q121 q1840) rfl rfl rfl (by decide +kernel) hR) (m_recv hK S) rfl hls rfl hW hdg hf) S kk
abbrev rm_m_thrown : Room := { frames := 0, cells := 0, slots := 0, locals := 0 }
def fm_thrown (g : mS)  : Option (Int32) :=
  some (g 0 0)
set_option maxHeartbeats 4000000 in
set_option maxRecDepth 100000 in
theorem met_m_thrown (l : Launch) (E : mEnv) (hE : mInj E) (g : mS)  (r : Int32) (h : fm_thrown g = some r) : Met l yX9_thrown (ws_ yX9_thrown cX9_thrown 1 (some .int)) rm_m_thrown (va_Pc [.ref (mad E 0)] (gPre (mK E) (mP E g))) (gQi r (mP E g) (mA E)) 0 0 (mA E) := by
  refine g_met (own := RX9) (by decide) rfl (Nat.le_of_ble_eq_true rfl) ?_
  intro p e s m args below meth c ls F hr hlk hK S hl
  have hx := F.1
  have hb := F.2.1
  have hl : lv_has ls 1 [(0, .ref (mad E 0))] := hl
  unfold fm_thrown at h
  refine lv_aload_n hx hb dX9_thrown_0 rfl (lv_at hl 0 rfl) ?_
  refine m_get0 F hK S dX9_thrown_1 ?_
  cases h
  exact g_iret F hr hlk S rfl dX9_thrown_4
abbrev rm_m_noCell : Room := { frames := 1, cells := 0, slots := 0, locals := 22 }
def fm_noCell (g : mS) (x1 : Int32) (x2 : Int32) : Option (Int32 × mS) :=
  bd1 (fm_onBoard g x1 x2) fun v2 =>
  if v2 = 0 then
    bd1 (wrF g 0 1) fun g4 =>
    some (1, g4)
  else
    some (0, g)
set_option maxHeartbeats 4000000 in
set_option maxRecDepth 100000 in
theorem met_m_noCell (l : Launch) (E : mEnv) (hE : mInj E) (g : mS) (x1 : Int32) (x2 : Int32) (r : Int32) (gZ : mS) (h : fm_noCell g x1 x2 = some (r, gZ)) : Met l yX9_noCell (ws_ yX9_noCell cX9_noCell 3 (some .boolean)) rm_m_noCell (va_Pc [.ref (mad E 0), .int x1, .int x2] (gPre (mK E) (mP E g))) (gQi r (mP E gZ) (mA E)) 0 0 (mA E) := by
  refine g_met (own := RX9) (by decide) rfl (Nat.le_of_ble_eq_true rfl) ?_
  intro p e s m args below meth c ls F hr hlk hK S hl
  have hx := F.1
  have hb := F.2.1
  have hl : lv_has ls 3 [(0, .ref (mad E 0)), (1, .int x1), (2, .int x2)] := hl
  unfold fm_noCell at h
  refine lv_aload_n hx hb dX9_noCell_0 rfl (lv_at hl 0 rfl) ?_
  refine lv_iload_n hx hb dX9_noCell_1 rfl (lv_at hl 1 rfl) ?_
  refine lv_iload_n hx hb dX9_noCell_2 rfl (lv_at hl 2 rfl) ?_
  obtain ⟨v2, e1, h⟩ := bd1_inv h
  refine call_m_onBoard hE F hK S e1 hl.1 (Nat.le_of_ble_eq_true rfl) ⟨Nat.le_of_ble_eq_true rfl, Nat.le_of_ble_eq_true rfl⟩ ⟨Nat.zero_le _, Nat.zero_le _⟩ dX9_noCell_3 (fun H locs S => ?_)
  refine lv_if_ne (tgt := 16) hx hb dX9_noCell_6 (by decide) (fun c3 => ?_) (fun c3 => ?_)
  · rw [if_neg c3] at h
    refine lv_iconst (v := 0) hx hb dX9_noCell_16 (by decide) ?_
    cases h
    exact g_zret F hr hlk S zN_0 dX9_noCell_17
  · rw [if_pos c3] at h
    refine lv_aload_n hx hb dX9_noCell_9 rfl (lv_at hl 0 rfl) ?_
    refine lv_iconst (v := 1) hx hb dX9_noCell_10 (by decide) ?_
    obtain ⟨g4, e5, h⟩ := bd1_inv h
    refine m_put0 hE F hK S e5 dX9_noCell_11 (fun H locs S => ?_)
    refine lv_iconst (v := 1) hx hb dX9_noCell_14 (by decide) ?_
    cases h
    exact g_zret F hr hlk S zN_1 dX9_noCell_15
theorem call_m_noCell {p : Program} {l : Launch} {e : Env} {s : State} {m : MethodId} {args : Array Value} {below : List Frame} {meth : Method} {c : Code} {R : Room} {H : Heap} {locs : List Loc} {cells slots pc nL : Nat} {Q : State → Prop} {ls : Array Slot} {rest : List Value} {cc : ByteArray} {E : mEnv} (hE : mInj E) {g : mS} {x1 : Int32} {x2 : Int32} {r : Int32} {gZ : mS} (F : CallFix p m c cc nL s args lw_all RX9) (hK : mK E s) (S : gS (mA E) s.heap (mP E g) H locs) (h : fm_noCell g x1 x2 = some (r, gZ)) (hls : ls.size = nL) (hW : (rest.map fun v => v.category).sum ≤ 8) (hR : rm_m_noCell.frames + 1 ≤ R.frames ∧ 8 + (3 + 11) + rm_m_noCell.locals ≤ R.locals) (hf : cells ≤ R.cells ∧ slots ≤ R.slots) (hdg : decode cc pc = .ok (.invokevirtual 191, 3))
    (kk : ∀ (H1 : Heap) (locs1 : List Loc), gS (mA E) s.heap (mP E gZ) H1 locs1 → W p l e R s m args below meth c H1 locs1 cells slots Q (F0 m (pc + 3) ls (.int r :: rest))) : W p l e R s m args below meth c H locs cells slots Q (F0 m pc ls (.int x2 :: .int x1 :: .ref (mad E 0) :: rest)) :=
  g_ki (g_runV F hK (mKm E) S (met_m_noCell l E hE g x1 x2 r gZ h) (cwV 2 F.2.2.2.2 (lw_V q2007 q2009 qs61 q121 q2010) rfl rfl rfl (by decide +kernel) hR) (m_recv hK S) rfl hls rfl hW hdg hf) S kk
abbrev rm_m_noLay : Room := { frames := 1, cells := 0, slots := 0, locals := 22 }
def fm_noLay (g : mS) (x1 : Int32) (x2 : Int32) : Option (Int32) :=
  bd1 (rdI g 1 4) fun v1 =>
  bd1 ((
    if v1 ≤ 0 then
      bd1 (fm_cellAt g x1 x2) fun v5 =>
      bd1 (fm_of g v5 0) fun v7 =>
      if v7 = 0 then
        some 0
      else
        some 3
    else
      some 2) : Option (Int32)) fun v9 =>
  some v9
set_option maxHeartbeats 4000000 in
set_option maxRecDepth 100000 in
theorem met_m_noLay (l : Launch) (E : mEnv) (hE : mInj E) (g : mS) (x1 : Int32) (x2 : Int32) (r : Int32) (h : fm_noLay g x1 x2 = some r) : Met l yX9_noLay (ws_ yX9_noLay cX9_noLay 3 (some .int)) rm_m_noLay (va_Pc [.ref (mad E 0), .int x1, .int x2] (gPre (mK E) (mP E g))) (gQi r (mP E g) (mA E)) 0 0 (mA E) := by
  refine g_met (own := RX9) (by decide) rfl (Nat.le_of_ble_eq_true rfl) ?_
  intro p e s m args below meth c ls F hr hlk hK S hl
  have hx := F.1
  have hb := F.2.1
  have hl : lv_has ls 3 [(0, .ref (mad E 0)), (1, .int x1), (2, .int x2)] := hl
  unfold fm_noLay at h
  refine lv_aload_n hx hb dX9_noLay_0 rfl (lv_at hl 0 rfl) ?_
  refine m_get1 F hK S dX9_noLay_1 ?_
  refine lv_iconst (v := 4) hx hb dX9_noLay_4 (by decide) ?_
  obtain ⟨v1, e2, h⟩ := bd1_inv h
  refine m_iald F hK S e2 dX9_noLay_5 ?_
  obtain ⟨v9, hB, h⟩ := bd1_inv h
  have hJ32 : ∀ (H : Heap) (locs : List Loc) (ls : Array Slot), gS (mA E) s.heap (mP E g) H locs → lv_has ls 3 [] → W p l e rm_m_noLay s m args below meth c H locs 0 0 (MQ below (gQi r (mP E g) (mA E)) args s 0 0 (mA E)) (F0 m 32 ls [.int v9]) := by
    intro H locs ls S hl
    cases h
    exact g_iret F hr hlk S rfl dX9_noLay_32
  clear h
  have h := hB
  clear hB
  refine lv_if_le (tgt := 13) hx hb dX9_noLay_6 (by decide) (fun c3 => ?_) (fun c3 => ?_)
  · rw [if_pos c3] at h
    refine lv_aload_n hx hb dX9_noLay_13 rfl (lv_at hl 0 rfl) ?_
    refine lv_aload_n hx hb dX9_noLay_14 rfl (lv_at hl 0 rfl) ?_
    refine lv_iload_n hx hb dX9_noLay_15 rfl (lv_at hl 1 rfl) ?_
    refine lv_iload_n hx hb dX9_noLay_16 rfl (lv_at hl 2 rfl) ?_
    obtain ⟨v5, e4, h⟩ := bd1_inv h
    refine call_m_cellAt hE F hK S e4 hl.1 (Nat.le_of_ble_eq_true rfl) ⟨Nat.le_of_ble_eq_true rfl, Nat.le_of_ble_eq_true rfl⟩ ⟨Nat.zero_le _, Nat.zero_le _⟩ dX9_noLay_17 (fun H locs S => ?_)
    refine lv_iconst (v := 0) hx hb dX9_noLay_20 (by decide) ?_
    obtain ⟨v7, e6, h⟩ := bd1_inv h
    refine call_m_of hE F hK S e6 hl.1 (Nat.le_of_ble_eq_true rfl) ⟨Nat.le_of_ble_eq_true rfl, Nat.le_of_ble_eq_true rfl⟩ ⟨Nat.zero_le _, Nat.zero_le _⟩ dX9_noLay_21 (fun H locs S => ?_)
    refine lv_if_eq (tgt := 31) hx hb dX9_noLay_24 (by decide) (fun c8 => ?_) (fun c8 => ?_)
    · rw [if_pos c8] at h
      refine lv_iconst (v := 0) hx hb dX9_noLay_31 (by decide) ?_
      cases h
      exact hJ32 _ _ _ S (lv_sub hl [] rfl)
    · rw [if_neg c8] at h
      refine lv_iconst (v := 3) hx hb dX9_noLay_27 (by decide) ?_
      refine lv_goto (tgt := 32) hx hb dX9_noLay_28 (by decide) ?_
      cases h
      exact hJ32 _ _ _ S (lv_sub hl [] rfl)
  · rw [if_neg c3] at h
    refine lv_iconst (v := 2) hx hb dX9_noLay_9 (by decide) ?_
    refine lv_goto (tgt := 32) hx hb dX9_noLay_10 (by decide) ?_
    cases h
    exact hJ32 _ _ _ S (lv_sub hl [] rfl)
theorem call_m_noLay {p : Program} {l : Launch} {e : Env} {s : State} {m : MethodId} {args : Array Value} {below : List Frame} {meth : Method} {c : Code} {R : Room} {H : Heap} {locs : List Loc} {cells slots pc nL : Nat} {Q : State → Prop} {ls : Array Slot} {rest : List Value} {cc : ByteArray} {E : mEnv} (hE : mInj E) {g : mS} {x1 : Int32} {x2 : Int32} {r : Int32} (F : CallFix p m c cc nL s args lw_all RX9) (hK : mK E s) (S : gS (mA E) s.heap (mP E g) H locs) (h : fm_noLay g x1 x2 = some r) (hls : ls.size = nL) (hW : (rest.map fun v => v.category).sum ≤ 8) (hR : rm_m_noLay.frames + 1 ≤ R.frames ∧ 8 + (3 + 11) + rm_m_noLay.locals ≤ R.locals) (hf : cells ≤ R.cells ∧ slots ≤ R.slots) (hdg : decode cc pc = .ok (.invokevirtual 194, 3))
    (kk : ∀ (H1 : Heap) (locs1 : List Loc), gS (mA E) s.heap (mP E g) H1 locs1 → W p l e R s m args below meth c H1 locs1 cells slots Q (F0 m (pc + 3) ls (.int r :: rest))) : W p l e R s m args below meth c H locs cells slots Q (F0 m pc ls (.int x2 :: .int x1 :: .ref (mad E 0) :: rest)) :=
  g_ki (g_runV F hK (mKm E) S (met_m_noLay l E hE g x1 x2 r h) (cwV 2 F.2.2.2.2 (lw_V q2011 q2013 qs62 q121 q2014) rfl rfl rfl (by decide +kernel) hR) (m_recv hK S) rfl hls rfl hW hdg hf) S kk
abbrev rm_m_copy : Room := { frames := 0, cells := 0, slots := 0, locals := 0 }
def Lm_copy_1 : Nat → mS → Nat → Nat → Int32 → Option (mS)
  | 0, _, _, _, _ => none
  | n + 1, g, y0, y1, y2 =>
    if 606 ≤ y2 then
      some g
    else
      bd1 (rdI g y0 y2) fun v2 =>
      bd1 (wrI g y1 y2 v2) fun g4 =>
      Lm_copy_1 n g4 y0 y1 (y2 + 1)
def fm_copy (g : mS) (x1 : Nat) (x2 : Nat) : Option (mS) :=
  bd1 (Lm_copy_1 FUEL g x1 x2 0) fun g7 =>
  some g7
set_option maxHeartbeats 4000000 in
set_option maxRecDepth 100000 in
theorem loop_m_copy_1 {p : Program} {l : Launch} {e : Env} {s : State} {m : MethodId} {args : Array Value} {below : List Frame} {meth : Method} {c : Code} (E : mEnv) (hE : mInj E) (F : CallFix p m c cX9_copy 3 s args lw_all RX9) (hr : meth.sig.returnType = none) (hlk : meth.locks = false) (hK : mK E s) {Q : State → Prop} : ∀ (n : Nat) (g : mS) (y0 : Nat) (y1 : Nat) (y2 : Int32) (o : mS), Lm_copy_1 n g y0 y1 y2 = some o → ∀ (H : Heap) (locs : List Loc) (ls : Array Slot), gS (mA E) s.heap (mP E g) H locs → lv_has ls 3 [(0, .ref (mad E y0)), (1, .ref (mad E y1)), (2, .int y2)] → (∀  (gx : mS) (H : Heap) (locs : List Loc) (ls : Array Slot), o = gx → gS (mA E) s.heap (mP E gx) H locs → lv_has ls 3 [] → W p l e rm_m_copy s m args below meth c H locs 0 0 Q (F0 m 21 ls [])) → W p l e rm_m_copy s m args below meth c H locs 0 0 Q (F0 m 2 ls []) := by
  have hx := F.1
  have hb := F.2.1
  intro n
  induction n with
  | zero =>
    intro g y0 y1 y2 o h
    rw [Lm_copy_1] at h
    cases h
  | succ n ih =>
    intro g y0 y1 y2 o h H locs ls S hl kx
    rw [Lm_copy_1] at h
    refine lv_iload_n hx hb dX9_copy_2 rfl (lv_at hl 2 rfl) ?_
    refine lv_sipush (v := 606) hx hb dX9_copy_3 (by decide) ?_
    refine lv_icmp_ge (tgt := 21) hx hb dX9_copy_6 (by decide) (fun c1 => ?_) (fun c1 => ?_)
    · rw [if_pos c1] at h
      cases h
      exact kx _ _ _ _ rfl S (lv_sub hl [] rfl)
    · rw [if_neg c1] at h
      refine lv_aload_n hx hb dX9_copy_9 rfl (lv_at hl 1 rfl) ?_
      refine lv_iload_n hx hb dX9_copy_10 rfl (lv_at hl 2 rfl) ?_
      refine lv_aload_n hx hb dX9_copy_11 rfl (lv_at hl 0 rfl) ?_
      refine lv_iload_n hx hb dX9_copy_12 rfl (lv_at hl 2 rfl) ?_
      obtain ⟨v2, e3, h⟩ := bd1_inv h
      refine m_iald F hK S e3 dX9_copy_13 ?_
      obtain ⟨g4, e5, h⟩ := bd1_inv h
      refine m_iast hE F hK S e5 dX9_copy_14 (fun H locs S => ?_)
      refine lv_iinc (v := (y2 + 1)) (lv' := [(2, .int (y2 + 1)), (0, .ref (mad E y0)), (1, .ref (mad E y1))]) hx hb dX9_copy_15 hl (k := 2) rfl rfl (by decide) rfl (fun ls hl => ?_)
      refine lv_goto (tgt := 2) hx hb dX9_copy_18 (by decide) ?_
      exact ih _ _ _ _ _ h _ _ _ S (lv_sub hl [1, 2, 0] rfl) kx
set_option maxHeartbeats 4000000 in
set_option maxRecDepth 100000 in
theorem met_m_copy (l : Launch) (E : mEnv) (hE : mInj E) (g : mS) (x1 : Nat) (x2 : Nat) (gZ : mS) (h : fm_copy g x1 x2 = some gZ) : Met l yX9_copy (ws_ yX9_copy cX9_copy 3 (none)) rm_m_copy (va_Pc [.ref (mad E x1), .ref (mad E x2)] (gPre (mK E) (mP E g))) (gQv (mP E gZ) (mA E)) 0 0 (mA E) := by
  refine g_met (own := RX9) (by decide) rfl (Nat.le_of_ble_eq_true rfl) ?_
  intro p e s m args below meth c ls F hr hlk hK S hl
  have hx := F.1
  have hb := F.2.1
  have hl : lv_has ls 3 [(0, .ref (mad E x1)), (1, .ref (mad E x2))] := hl
  unfold fm_copy at h
  refine lv_iconst (v := 0) hx hb dX9_copy_0 (by decide) ?_
  refine lv_istore_n (lv' := [(2, .int 0), (0, .ref (mad E x1)), (1, .ref (mad E x2))]) hx hb dX9_copy_1 rfl hl (by decide) rfl (fun ls hl => ?_)
  obtain ⟨g7, e6, h⟩ := bd1_inv h
  refine loop_m_copy_1 E hE F hr hlk hK _ _ _ _ _ _ e6 _ _ _ S (lv_sub hl [1, 2, 0] rfl) (fun g7z H locs ls o S hl => ?_)
  cases o
  cases h
  exact g_vret F hr hlk S dX9_copy_21
theorem call_m_copy {p : Program} {l : Launch} {e : Env} {s : State} {m : MethodId} {args : Array Value} {below : List Frame} {meth : Method} {c : Code} {R : Room} {H : Heap} {locs : List Loc} {cells slots pc nL : Nat} {Q : State → Prop} {ls : Array Slot} {rest : List Value} {cc : ByteArray} {E : mEnv} (hE : mInj E) {g : mS} {x1 : Nat} {x2 : Nat} {gZ : mS} (F : CallFix p m c cc nL s args lw_all RX9) (hK : mK E s) (S : gS (mA E) s.heap (mP E g) H locs) (h : fm_copy g x1 x2 = some gZ) (hls : ls.size = nL) (hW : (rest.map fun v => v.category).sum ≤ 8) (hR : rm_m_copy.frames + 1 ≤ R.frames ∧ 8 + (3 + 11) + rm_m_copy.locals ≤ R.locals) (hf : cells ≤ R.cells ∧ slots ≤ R.slots) (hdg : decode cc pc = .ok (.invokestatic 94, 3))
    (kk : ∀ (H1 : Heap) (locs1 : List Loc), gS (mA E) s.heap (mP E gZ) H1 locs1 → W p l e R s m args below meth c H1 locs1 cells slots Q (F0 m (pc + 3) ls (rest))) : W p l e R s m args below meth c H locs cells slots Q (F0 m pc ls (.ref (mad E x2) :: .ref (mad E x1) :: rest)) :=
  g_kv (g_runS F hK (mKm E) S (met_m_copy l E hE g x1 x2 gZ h) (va_cwS 2 F.2.2.2.2 (lw_S q2023 q2024 q121 q2025) rfl rfl rfl (by decide +kernel) hR) rfl hls rfl hW hdg hf) S kk
abbrev rm_m_keepPast : Room := { frames := 1, cells := 0, slots := 0, locals := 22 }
def Lm_keepPast_1 : Nat → mS → Nat → Nat → Int32 → Option (mS)
  | 0, _, _, _, _ => none
  | n + 1, g, y1, y2, y3 =>
    if 10 ≤ y3 then
      some g
    else
      bd1 (rdR g 2 y3) fun v11 =>
      bd1 (wrR g 2 (y3 - 1) v11) fun g13 =>
      Lm_keepPast_1 n g13 y1 y2 (y3 + 1)
def fm_keepPast (g : mS) (x1 : Nat) : Option (mS) :=
  if (g 0 3) = 10 then
    bd1 (rdR g 2 0) fun v8 =>
    bd1 (Lm_keepPast_1 FUEL g x1 v8 1) fun g16 =>
    bd1 (wrR g16 2 9 v8) fun g17 =>
    bd1 (wrF g17 3 ((g17 0 3) - 1)) fun g19 =>
    bd1 (rdR g19 2 (g19 0 3)) fun v21 =>
    bd1 (fm_copy g19 x1 v21) fun g24 =>
    bd1 (wrF g24 3 ((g24 0 3) + 1)) fun g25 =>
    some g25
  else
    bd1 (rdR g 2 (g 0 3)) fun v2 =>
    bd1 (fm_copy g x1 v2) fun g5 =>
    bd1 (wrF g5 3 ((g5 0 3) + 1)) fun g6 =>
    some g6
set_option maxHeartbeats 4000000 in
set_option maxRecDepth 100000 in
theorem loop_m_keepPast_1 {p : Program} {l : Launch} {e : Env} {s : State} {m : MethodId} {args : Array Value} {below : List Frame} {meth : Method} {c : Code} (E : mEnv) (hE : mInj E) (F : CallFix p m c cX9_keepPast 4 s args lw_all RX9) (hr : meth.sig.returnType = none) (hlk : meth.locks = false) (hK : mK E s) {Q : State → Prop} : ∀ (n : Nat) (g : mS) (y1 : Nat) (y2 : Nat) (y3 : Int32) (o : mS), Lm_keepPast_1 n g y1 y2 y3 = some o → ∀ (H : Heap) (locs : List Loc) (ls : Array Slot), gS (mA E) s.heap (mP E g) H locs → lv_has ls 4 [(0, .ref (mad E 0)), (1, .ref (mad E y1)), (2, .ref (mad E y2)), (3, .int y3)] → (∀  (gx : mS) (H : Heap) (locs : List Loc) (ls : Array Slot), o = gx → gS (mA E) s.heap (mP E gx) H locs → lv_has ls 4 [(0, .ref (mad E 0)), (1, .ref (mad E y1)), (2, .ref (mad E y2))] → W p l e rm_m_keepPast s m args below meth c H locs 0 0 Q (F0 m 44 ls [])) → W p l e rm_m_keepPast s m args below meth c H locs 0 0 Q (F0 m 18 ls []) := by
  have hx := F.1
  have hb := F.2.1
  intro n
  induction n with
  | zero =>
    intro g y1 y2 y3 o h
    rw [Lm_keepPast_1] at h
    cases h
  | succ n ih =>
    intro g y1 y2 y3 o h H locs ls S hl kx
    rw [Lm_keepPast_1] at h
    refine lv_iload_n hx hb dX9_keepPast_18 rfl (lv_at hl 3 rfl) ?_
    refine lv_bipush (v := 10) hx hb dX9_keepPast_19 (by decide) ?_
    refine lv_icmp_ge (tgt := 44) hx hb dX9_keepPast_21 (by decide) (fun c10 => ?_) (fun c10 => ?_)
    · rw [if_pos c10] at h
      cases h
      exact kx _ _ _ _ rfl S (lv_sub hl [0, 1, 2] rfl)
    · rw [if_neg c10] at h
      refine lv_aload_n hx hb dX9_keepPast_24 rfl (lv_at hl 0 rfl) ?_
      refine m_get2 F hK S dX9_keepPast_25 ?_
      refine lv_iload_n hx hb dX9_keepPast_28 rfl (lv_at hl 3 rfl) ?_
      refine lv_iconst (v := 1) hx hb dX9_keepPast_29 (by decide) ?_
      refine lv_isub hx hb dX9_keepPast_30 ?_
      refine lv_aload_n hx hb dX9_keepPast_31 rfl (lv_at hl 0 rfl) ?_
      refine m_get2 F hK S dX9_keepPast_32 ?_
      refine lv_iload_n hx hb dX9_keepPast_35 rfl (lv_at hl 3 rfl) ?_
      obtain ⟨v11, e12, h⟩ := bd1_inv h
      refine m_aald F hK S e12 dX9_keepPast_36 ?_
      obtain ⟨g13, e14, h⟩ := bd1_inv h
      refine m_aast hE F hK S e14 dX9_keepPast_37 (fun H locs S => ?_)
      refine lv_iinc (v := (y3 + 1)) (lv' := [(3, .int (y3 + 1)), (0, .ref (mad E 0)), (1, .ref (mad E y1)), (2, .ref (mad E y2))]) hx hb dX9_keepPast_38 hl (k := 3) rfl rfl (by decide) rfl (fun ls hl => ?_)
      refine lv_goto (tgt := 18) hx hb dX9_keepPast_41 (by decide) ?_
      exact ih _ _ _ _ _ h _ _ _ S (lv_sub hl [1, 2, 3, 0] rfl) kx
set_option maxHeartbeats 4000000 in
set_option maxRecDepth 100000 in
theorem met_m_keepPast (l : Launch) (E : mEnv) (hE : mInj E) (g : mS) (x1 : Nat) (gZ : mS) (h : fm_keepPast g x1 = some gZ) : Met l yX9_keepPast (ws_ yX9_keepPast cX9_keepPast 4 (none)) rm_m_keepPast (va_Pc [.ref (mad E 0), .ref (mad E x1)] (gPre (mK E) (mP E g))) (gQv (mP E gZ) (mA E)) 0 0 (mA E) := by
  refine g_met (own := RX9) (by decide) rfl (Nat.le_of_ble_eq_true rfl) ?_
  intro p e s m args below meth c ls F hr hlk hK S hl
  have hx := F.1
  have hb := F.2.1
  have hl : lv_has ls 4 [(0, .ref (mad E 0)), (1, .ref (mad E x1))] := hl
  unfold fm_keepPast at h
  refine lv_aload_n hx hb dX9_keepPast_0 rfl (lv_at hl 0 rfl) ?_
  refine m_get3 F hK S dX9_keepPast_1 ?_
  refine lv_bipush (v := 10) hx hb dX9_keepPast_4 (by decide) ?_
  refine lv_icmp_ne (tgt := 62) hx hb dX9_keepPast_6 (by decide) (fun c1 => ?_) (fun c1 => ?_)
  · rw [if_neg c1] at h
    refine lv_aload_n hx hb dX9_keepPast_62 rfl (lv_at hl 1 rfl) ?_
    refine lv_aload_n hx hb dX9_keepPast_63 rfl (lv_at hl 0 rfl) ?_
    refine m_get2 F hK S dX9_keepPast_64 ?_
    refine lv_aload_n hx hb dX9_keepPast_67 rfl (lv_at hl 0 rfl) ?_
    refine m_get3 F hK S dX9_keepPast_68 ?_
    obtain ⟨v2, e3, h⟩ := bd1_inv h
    refine m_aald F hK S e3 dX9_keepPast_71 ?_
    obtain ⟨g5, e4, h⟩ := bd1_inv h
    refine call_m_copy hE F hK S e4 hl.1 (Nat.le_of_ble_eq_true rfl) ⟨Nat.le_of_ble_eq_true rfl, Nat.le_of_ble_eq_true rfl⟩ ⟨Nat.zero_le _, Nat.zero_le _⟩ dX9_keepPast_72 (fun H locs S => ?_)
    refine lv_aload_n hx hb dX9_keepPast_75 rfl (lv_at hl 0 rfl) ?_
    refine lv_dup hx hb dX9_keepPast_76 rfl ?_
    refine m_get3 F hK S dX9_keepPast_77 ?_
    refine lv_iconst (v := 1) hx hb dX9_keepPast_80 (by decide) ?_
    refine lv_iadd hx hb dX9_keepPast_81 ?_
    obtain ⟨g6, e7, h⟩ := bd1_inv h
    refine m_put3 hE F hK S e7 dX9_keepPast_82 (fun H locs S => ?_)
    cases h
    exact g_vret F hr hlk S dX9_keepPast_85
  · rw [if_pos c1] at h
    refine lv_aload_n hx hb dX9_keepPast_9 rfl (lv_at hl 0 rfl) ?_
    refine m_get2 F hK S dX9_keepPast_10 ?_
    refine lv_iconst (v := 0) hx hb dX9_keepPast_13 (by decide) ?_
    obtain ⟨v8, e9, h⟩ := bd1_inv h
    refine m_aald F hK S e9 dX9_keepPast_14 ?_
    refine lv_astore_n (lv' := [(2, .ref (mad E v8)), (0, .ref (mad E 0)), (1, .ref (mad E x1))]) hx hb dX9_keepPast_15 rfl hl (by decide) rfl (fun ls hl => ?_)
    refine lv_iconst (v := 1) hx hb dX9_keepPast_16 (by decide) ?_
    refine lv_istore_n (lv' := [(3, .int 1), (2, .ref (mad E v8)), (0, .ref (mad E 0)), (1, .ref (mad E x1))]) hx hb dX9_keepPast_17 rfl hl (by decide) rfl (fun ls hl => ?_)
    obtain ⟨g16, e15, h⟩ := bd1_inv h
    refine loop_m_keepPast_1 E hE F hr hlk hK _ _ _ _ _ _ e15 _ _ _ S (lv_sub hl [2, 3, 1, 0] rfl) (fun g16z H locs ls o S hl => ?_)
    cases o
    refine lv_aload_n hx hb dX9_keepPast_44 rfl (lv_at hl 0 rfl) ?_
    refine m_get2 F hK S dX9_keepPast_45 ?_
    refine lv_bipush (v := 9) hx hb dX9_keepPast_48 (by decide) ?_
    refine lv_aload_n hx hb dX9_keepPast_50 rfl (lv_at hl 2 rfl) ?_
    obtain ⟨g17, e18, h⟩ := bd1_inv h
    refine m_aast hE F hK S e18 dX9_keepPast_51 (fun H locs S => ?_)
    refine lv_aload_n hx hb dX9_keepPast_52 rfl (lv_at hl 0 rfl) ?_
    refine lv_dup hx hb dX9_keepPast_53 rfl ?_
    refine m_get3 F hK S dX9_keepPast_54 ?_
    refine lv_iconst (v := 1) hx hb dX9_keepPast_57 (by decide) ?_
    refine lv_isub hx hb dX9_keepPast_58 ?_
    obtain ⟨g19, e20, h⟩ := bd1_inv h
    refine m_put3 hE F hK S e20 dX9_keepPast_59 (fun H locs S => ?_)
    refine lv_aload_n hx hb dX9_keepPast_62 rfl (lv_at hl 1 rfl) ?_
    refine lv_aload_n hx hb dX9_keepPast_63 rfl (lv_at hl 0 rfl) ?_
    refine m_get2 F hK S dX9_keepPast_64 ?_
    refine lv_aload_n hx hb dX9_keepPast_67 rfl (lv_at hl 0 rfl) ?_
    refine m_get3 F hK S dX9_keepPast_68 ?_
    obtain ⟨v21, e22, h⟩ := bd1_inv h
    refine m_aald F hK S e22 dX9_keepPast_71 ?_
    obtain ⟨g24, e23, h⟩ := bd1_inv h
    refine call_m_copy hE F hK S e23 hl.1 (Nat.le_of_ble_eq_true rfl) ⟨Nat.le_of_ble_eq_true rfl, Nat.le_of_ble_eq_true rfl⟩ ⟨Nat.zero_le _, Nat.zero_le _⟩ dX9_keepPast_72 (fun H locs S => ?_)
    refine lv_aload_n hx hb dX9_keepPast_75 rfl (lv_at hl 0 rfl) ?_
    refine lv_dup hx hb dX9_keepPast_76 rfl ?_
    refine m_get3 F hK S dX9_keepPast_77 ?_
    refine lv_iconst (v := 1) hx hb dX9_keepPast_80 (by decide) ?_
    refine lv_iadd hx hb dX9_keepPast_81 ?_
    obtain ⟨g25, e26, h⟩ := bd1_inv h
    refine m_put3 hE F hK S e26 dX9_keepPast_82 (fun H locs S => ?_)
    cases h
    exact g_vret F hr hlk S dX9_keepPast_85
theorem call_m_keepPast {p : Program} {l : Launch} {e : Env} {s : State} {m : MethodId} {args : Array Value} {below : List Frame} {meth : Method} {c : Code} {R : Room} {H : Heap} {locs : List Loc} {cells slots pc nL : Nat} {Q : State → Prop} {ls : Array Slot} {rest : List Value} {cc : ByteArray} {E : mEnv} (hE : mInj E) {g : mS} {x1 : Nat} {gZ : mS} (F : CallFix p m c cc nL s args lw_all RX9) (hK : mK E s) (S : gS (mA E) s.heap (mP E g) H locs) (h : fm_keepPast g x1 = some gZ) (hls : ls.size = nL) (hW : (rest.map fun v => v.category).sum ≤ 8) (hR : rm_m_keepPast.frames + 1 ≤ R.frames ∧ 8 + (4 + 11) + rm_m_keepPast.locals ≤ R.locals) (hf : cells ≤ R.cells ∧ slots ≤ R.slots) (hdg : decode cc pc = .ok (.invokevirtual 187, 3))
    (kk : ∀ (H1 : Heap) (locs1 : List Loc), gS (mA E) s.heap (mP E gZ) H1 locs1 → W p l e R s m args below meth c H1 locs1 cells slots Q (F0 m (pc + 3) ls (rest))) : W p l e R s m args below meth c H locs cells slots Q (F0 m pc ls (.ref (mad E x1) :: .ref (mad E 0) :: rest)) :=
  g_kv (g_runV F hK (mKm E) S (met_m_keepPast l E hE g x1 gZ h) (cwV 1 F.2.2.2.2 (lw_V q2019 q2021 qs64 q121 q2022) rfl rfl rfl (by decide +kernel) hR) (m_recv hK S) rfl hls rfl hW hdg hf) S kk
abbrev rm_m_change : Room := { frames := 8, cells := 0, slots := 0, locals := 186 }
def fm_change (g : mS) (x1 : Int32) (x2 : Int32) (x3 : Int32) (x4 : Int32) (x5 : Int32) : Option (Int32 × mS) :=
  bd1 (fm_keepPast g 1) fun g2 =>
  bd1 (fm_lay g2 x1 x2 x3 x4 x5) fun g4 =>
  bd2 (fm_openAll g4) fun v6 g7 =>
  bd1 (fm_count g7 0) fun v9 =>
  some (v9, g7)
set_option maxHeartbeats 4000000 in
set_option maxRecDepth 100000 in
theorem met_m_change (l : Launch) (E : mEnv) (hE : mInj E) (g : mS) (x1 : Int32) (x2 : Int32) (x3 : Int32) (x4 : Int32) (x5 : Int32) (r : Int32) (gZ : mS) (h : fm_change g x1 x2 x3 x4 x5 = some (r, gZ)) : Met l yX9_change (ws_ yX9_change cX9_change 6 (some .int)) rm_m_change (va_Pc [.ref (mad E 0), .int x1, .int x2, .int x3, .int x4, .int x5] (gPre (mK E) (mP E g))) (gQi r (mP E gZ) (mA E)) 0 0 (mA E) := by
  refine g_met (own := RX9) (by decide) rfl (Nat.le_of_ble_eq_true rfl) ?_
  intro p e s m args below meth c ls F hr hlk hK S hl
  have hx := F.1
  have hb := F.2.1
  have hl : lv_has ls 6 [(0, .ref (mad E 0)), (1, .int x1), (2, .int x2), (3, .int x3), (4, .int x4), (5, .int x5)] := hl
  unfold fm_change at h
  refine lv_aload_n hx hb dX9_change_0 rfl (lv_at hl 0 rfl) ?_
  refine lv_aload_n hx hb dX9_change_1 rfl (lv_at hl 0 rfl) ?_
  refine m_get1 F hK S dX9_change_2 ?_
  obtain ⟨g2, e1, h⟩ := bd1_inv h
  refine call_m_keepPast hE F hK S e1 hl.1 (Nat.le_of_ble_eq_true rfl) ⟨Nat.le_of_ble_eq_true rfl, Nat.le_of_ble_eq_true rfl⟩ ⟨Nat.zero_le _, Nat.zero_le _⟩ dX9_change_5 (fun H locs S => ?_)
  refine lv_aload_n hx hb dX9_change_8 rfl (lv_at hl 0 rfl) ?_
  refine lv_iload_n hx hb dX9_change_9 rfl (lv_at hl 1 rfl) ?_
  refine lv_iload_n hx hb dX9_change_10 rfl (lv_at hl 2 rfl) ?_
  refine lv_iload_n hx hb dX9_change_11 rfl (lv_at hl 3 rfl) ?_
  refine lv_iload hx hb dX9_change_12 (lv_at hl 4 rfl) ?_
  refine lv_iload hx hb dX9_change_14 (lv_at hl 5 rfl) ?_
  obtain ⟨g4, e3, h⟩ := bd1_inv h
  refine call_m_lay hE F hK S e3 hl.1 (Nat.le_of_ble_eq_true rfl) ⟨Nat.le_of_ble_eq_true rfl, Nat.le_of_ble_eq_true rfl⟩ ⟨Nat.zero_le _, Nat.zero_le _⟩ dX9_change_16 (fun H locs S => ?_)
  refine lv_aload_n hx hb dX9_change_19 rfl (lv_at hl 0 rfl) ?_
  obtain ⟨v6, g7, e5, h⟩ := bd2_inv h
  refine call_m_openAll hE F hK S e5 hl.1 (Nat.le_of_ble_eq_true rfl) ⟨Nat.le_of_ble_eq_true rfl, Nat.le_of_ble_eq_true rfl⟩ ⟨Nat.zero_le _, Nat.zero_le _⟩ dX9_change_20 (fun H locs S => ?_)
  refine lv_pop hx hb dX9_change_23 rfl ?_
  refine lv_aload_n hx hb dX9_change_24 rfl (lv_at hl 0 rfl) ?_
  refine lv_iconst (v := 0) hx hb dX9_change_25 (by decide) ?_
  obtain ⟨v9, e8, h⟩ := bd1_inv h
  refine call_m_count hE F hK S e8 hl.1 (Nat.le_of_ble_eq_true rfl) ⟨Nat.le_of_ble_eq_true rfl, Nat.le_of_ble_eq_true rfl⟩ ⟨Nat.zero_le _, Nat.zero_le _⟩ dX9_change_26 (fun H locs S => ?_)
  cases h
  exact g_iret F hr hlk S rfl dX9_change_29
theorem call_m_change {p : Program} {l : Launch} {e : Env} {s : State} {m : MethodId} {args : Array Value} {below : List Frame} {meth : Method} {c : Code} {R : Room} {H : Heap} {locs : List Loc} {cells slots pc nL : Nat} {Q : State → Prop} {ls : Array Slot} {rest : List Value} {cc : ByteArray} {E : mEnv} (hE : mInj E) {g : mS} {x1 : Int32} {x2 : Int32} {x3 : Int32} {x4 : Int32} {x5 : Int32} {r : Int32} {gZ : mS} (F : CallFix p m c cc nL s args lw_all RX9) (hK : mK E s) (S : gS (mA E) s.heap (mP E g) H locs) (h : fm_change g x1 x2 x3 x4 x5 = some (r, gZ)) (hls : ls.size = nL) (hW : (rest.map fun v => v.category).sum ≤ 8) (hR : rm_m_change.frames + 1 ≤ R.frames ∧ 8 + (6 + 11) + rm_m_change.locals ≤ R.locals) (hf : cells ≤ R.cells ∧ slots ≤ R.slots) (hdg : decode cc pc = .ok (.invokevirtual 197, 3))
    (kk : ∀ (H1 : Heap) (locs1 : List Loc), gS (mA E) s.heap (mP E gZ) H1 locs1 → W p l e R s m args below meth c H1 locs1 cells slots Q (F0 m (pc + 3) ls (.int r :: rest))) : W p l e R s m args below meth c H locs cells slots Q (F0 m pc ls (.int x5 :: .int x4 :: .int x3 :: .int x2 :: .int x1 :: .ref (mad E 0) :: rest)) :=
  g_ki (g_runV F hK (mKm E) S (met_m_change l E hE g x1 x2 x3 x4 x5 r gZ h) (cwV 5 F.2.2.2.2 (lw_V q2015 q2017 qs63 q121 q2018) rfl rfl rfl (by decide +kernel) hR) (m_recv hK S) rfl hls rfl hW hdg hf) S kk
abbrev rm_m_putWall : Room := { frames := 9, cells := 0, slots := 0, locals := 211 }
def fm_putWall (g : mS) (x1 : Int32) (x2 : Int32) : Option (Int32 × mS) :=
  bd1 (wrF g 0 0) fun g1 =>
  bd2 (fm_noCell g1 x1 x2) fun v4 g5 =>
  if v4 = 0 then
    bd1 (fm_noLay g5 x1 x2) fun v8 =>
    bd2 ((
      if v8 = 0 then
        bd2 (fm_change g5 x1 x2 1 (-1) 0) fun v11 g12 =>
        some (v11, g12)
      else
        some ((-v8), g5)) : Option (Int32 × mS)) fun v13 g14 =>
    some (v13, g14)
  else
    some (0, g5)
set_option maxHeartbeats 4000000 in
set_option maxRecDepth 100000 in
theorem met_m_putWall (l : Launch) (E : mEnv) (hE : mInj E) (g : mS) (x1 : Int32) (x2 : Int32) (r : Int32) (gZ : mS) (h : fm_putWall g x1 x2 = some (r, gZ)) : Met l yX9_putWall (ws_ yX9_putWall cX9_putWall 4 (some .int)) rm_m_putWall (va_Pc [.ref (mad E 0), .int x1, .int x2] (gPre (mK E) (mP E g))) (gQi r (mP E gZ) (mA E)) 0 0 (mA E) := by
  refine g_met (own := RX9) (by decide) rfl (Nat.le_of_ble_eq_true rfl) ?_
  intro p e s m args below meth c ls F hr hlk hK S hl
  have hx := F.1
  have hb := F.2.1
  have hl : lv_has ls 4 [(0, .ref (mad E 0)), (1, .int x1), (2, .int x2)] := hl
  unfold fm_putWall at h
  refine lv_aload_n hx hb dX9_putWall_0 rfl (lv_at hl 0 rfl) ?_
  refine lv_iconst (v := 0) hx hb dX9_putWall_1 (by decide) ?_
  obtain ⟨g1, e2, h⟩ := bd1_inv h
  refine m_put0 hE F hK S e2 dX9_putWall_2 (fun H locs S => ?_)
  refine lv_aload_n hx hb dX9_putWall_5 rfl (lv_at hl 0 rfl) ?_
  refine lv_iload_n hx hb dX9_putWall_6 rfl (lv_at hl 1 rfl) ?_
  refine lv_iload_n hx hb dX9_putWall_7 rfl (lv_at hl 2 rfl) ?_
  obtain ⟨v4, g5, e3, h⟩ := bd2_inv h
  refine call_m_noCell hE F hK S e3 hl.1 (Nat.le_of_ble_eq_true rfl) ⟨Nat.le_of_ble_eq_true rfl, Nat.le_of_ble_eq_true rfl⟩ ⟨Nat.zero_le _, Nat.zero_le _⟩ dX9_putWall_8 (fun H locs S => ?_)
  refine lv_if_eq (tgt := 16) hx hb dX9_putWall_11 (by decide) (fun c6 => ?_) (fun c6 => ?_)
  · rw [if_pos c6] at h
    refine lv_aload_n hx hb dX9_putWall_16 rfl (lv_at hl 0 rfl) ?_
    refine lv_iload_n hx hb dX9_putWall_17 rfl (lv_at hl 1 rfl) ?_
    refine lv_iload_n hx hb dX9_putWall_18 rfl (lv_at hl 2 rfl) ?_
    obtain ⟨v8, e7, h⟩ := bd1_inv h
    refine call_m_noLay hE F hK S e7 hl.1 (Nat.le_of_ble_eq_true rfl) ⟨Nat.le_of_ble_eq_true rfl, Nat.le_of_ble_eq_true rfl⟩ ⟨Nat.zero_le _, Nat.zero_le _⟩ dX9_putWall_19 (fun H locs S => ?_)
    refine lv_istore_n (lv' := [(3, .int v8), (0, .ref (mad E 0)), (1, .int x1), (2, .int x2)]) hx hb dX9_putWall_22 rfl hl (by decide) rfl (fun ls hl => ?_)
    refine lv_iload_n hx hb dX9_putWall_23 rfl (lv_at hl 0 rfl) ?_
    obtain ⟨v13, g14, hB, h⟩ := bd2_inv h
    have hJ41 : ∀ (H : Heap) (locs : List Loc) (ls : Array Slot), gS (mA E) s.heap (mP E g14) H locs → lv_has ls 4 [] → W p l e rm_m_putWall s m args below meth c H locs 0 0 (MQ below (gQi r (mP E gZ) (mA E)) args s 0 0 (mA E)) (F0 m 41 ls [.int v13]) := by
      intro H locs ls S hl
      cases h
      exact g_iret F hr hlk S rfl dX9_putWall_41
    clear h
    have h := hB
    clear hB
    refine lv_if_eq (tgt := 32) hx hb dX9_putWall_24 (by decide) (fun c9 => ?_) (fun c9 => ?_)
    · rw [if_pos c9] at h
      refine lv_aload_n hx hb dX9_putWall_32 rfl (lv_at hl 1 rfl) ?_
      refine lv_iload_n hx hb dX9_putWall_33 rfl (lv_at hl 2 rfl) ?_
      refine lv_iload_n hx hb dX9_putWall_34 rfl (lv_at hl 3 rfl) ?_
      refine lv_iconst (v := 1) hx hb dX9_putWall_35 (by decide) ?_
      refine lv_iconst (v := (-1)) hx hb dX9_putWall_36 (by decide) ?_
      refine lv_iconst (v := 0) hx hb dX9_putWall_37 (by decide) ?_
      obtain ⟨v11, g12, e10, h⟩ := bd2_inv h
      refine call_m_change hE F hK S e10 hl.1 (Nat.le_of_ble_eq_true rfl) ⟨Nat.le_of_ble_eq_true rfl, Nat.le_of_ble_eq_true rfl⟩ ⟨Nat.zero_le _, Nat.zero_le _⟩ dX9_putWall_38 (fun H locs S => ?_)
      cases h
      exact hJ41 _ _ _ S (lv_sub hl [] rfl)
    · rw [if_neg c9] at h
      refine lv_iload_n hx hb dX9_putWall_27 rfl (lv_at hl 0 rfl) ?_
      refine lv_ineg hx hb dX9_putWall_28 ?_
      refine lv_goto (tgt := 41) hx hb dX9_putWall_29 (by decide) ?_
      cases h
      exact hJ41 _ _ _ S (lv_sub hl [] rfl)
  · rw [if_neg c6] at h
    refine lv_iconst (v := 0) hx hb dX9_putWall_14 (by decide) ?_
    cases h
    exact g_iret F hr hlk S rfl dX9_putWall_15
abbrev rm_m_bad : Room := { frames := 0, cells := 0, slots := 0, locals := 0 }
def fm_bad (g : mS) (x1 : Int32) (x2 : Int32) (x3 : Int32) (x4 : Int32) : Option (Int32 × mS) :=
  if x1 < x2 then
    bd1 (wrF g 0 x4) fun g2 =>
    some (1, g2)
  else
    if x1 ≤ x3 then
      some (0, g)
    else
      bd1 (wrF g 0 x4) fun g5 =>
      some (1, g5)
set_option maxHeartbeats 4000000 in
set_option maxRecDepth 100000 in
theorem met_m_bad (l : Launch) (E : mEnv) (hE : mInj E) (g : mS) (x1 : Int32) (x2 : Int32) (x3 : Int32) (x4 : Int32) (r : Int32) (gZ : mS) (h : fm_bad g x1 x2 x3 x4 = some (r, gZ)) : Met l yX9_bad (ws_ yX9_bad cX9_bad 5 (some .boolean)) rm_m_bad (va_Pc [.ref (mad E 0), .int x1, .int x2, .int x3, .int x4] (gPre (mK E) (mP E g))) (gQi r (mP E gZ) (mA E)) 0 0 (mA E) := by
  refine g_met (own := RX9) (by decide) rfl (Nat.le_of_ble_eq_true rfl) ?_
  intro p e s m args below meth c ls F hr hlk hK S hl
  have hx := F.1
  have hb := F.2.1
  have hl : lv_has ls 5 [(0, .ref (mad E 0)), (1, .int x1), (2, .int x2), (3, .int x3), (4, .int x4)] := hl
  unfold fm_bad at h
  refine lv_iload_n hx hb dX9_bad_0 rfl (lv_at hl 1 rfl) ?_
  refine lv_iload_n hx hb dX9_bad_1 rfl (lv_at hl 2 rfl) ?_
  refine lv_icmp_lt (tgt := 10) hx hb dX9_bad_2 (by decide) (fun c1 => ?_) (fun c1 => ?_)
  · rw [if_pos c1] at h
    refine lv_aload_n hx hb dX9_bad_10 rfl (lv_at hl 0 rfl) ?_
    refine lv_iload hx hb dX9_bad_11 (lv_at hl 4 rfl) ?_
    obtain ⟨g2, e3, h⟩ := bd1_inv h
    refine m_put0 hE F hK S e3 dX9_bad_13 (fun H locs S => ?_)
    refine lv_iconst (v := 1) hx hb dX9_bad_16 (by decide) ?_
    cases h
    exact g_zret F hr hlk S zN_1 dX9_bad_17
  · rw [if_neg c1] at h
    refine lv_iload_n hx hb dX9_bad_5 rfl (lv_at hl 1 rfl) ?_
    refine lv_iload_n hx hb dX9_bad_6 rfl (lv_at hl 3 rfl) ?_
    refine lv_icmp_le (tgt := 18) hx hb dX9_bad_7 (by decide) (fun c4 => ?_) (fun c4 => ?_)
    · rw [if_pos c4] at h
      refine lv_iconst (v := 0) hx hb dX9_bad_18 (by decide) ?_
      cases h
      exact g_zret F hr hlk S zN_0 dX9_bad_19
    · rw [if_neg c4] at h
      refine lv_aload_n hx hb dX9_bad_10 rfl (lv_at hl 0 rfl) ?_
      refine lv_iload hx hb dX9_bad_11 (lv_at hl 4 rfl) ?_
      obtain ⟨g5, e6, h⟩ := bd1_inv h
      refine m_put0 hE F hK S e6 dX9_bad_13 (fun H locs S => ?_)
      refine lv_iconst (v := 1) hx hb dX9_bad_16 (by decide) ?_
      cases h
      exact g_zret F hr hlk S zN_1 dX9_bad_17
theorem call_m_bad {p : Program} {l : Launch} {e : Env} {s : State} {m : MethodId} {args : Array Value} {below : List Frame} {meth : Method} {c : Code} {R : Room} {H : Heap} {locs : List Loc} {cells slots pc nL : Nat} {Q : State → Prop} {ls : Array Slot} {rest : List Value} {cc : ByteArray} {E : mEnv} (hE : mInj E) {g : mS} {x1 : Int32} {x2 : Int32} {x3 : Int32} {x4 : Int32} {r : Int32} {gZ : mS} (F : CallFix p m c cc nL s args lw_all RX9) (hK : mK E s) (S : gS (mA E) s.heap (mP E g) H locs) (h : fm_bad g x1 x2 x3 x4 = some (r, gZ)) (hls : ls.size = nL) (hW : (rest.map fun v => v.category).sum ≤ 8) (hR : rm_m_bad.frames + 1 ≤ R.frames ∧ 8 + (5 + 11) + rm_m_bad.locals ≤ R.locals) (hf : cells ≤ R.cells ∧ slots ≤ R.slots) (hdg : decode cc pc = .ok (.invokevirtual 201, 3))
    (kk : ∀ (H1 : Heap) (locs1 : List Loc), gS (mA E) s.heap (mP E gZ) H1 locs1 → W p l e R s m args below meth c H1 locs1 cells slots Q (F0 m (pc + 3) ls (.int r :: rest))) : W p l e R s m args below meth c H locs cells slots Q (F0 m pc ls (.int x4 :: .int x3 :: .int x2 :: .int x1 :: .ref (mad E 0) :: rest)) :=
  g_ki (g_runV F hK (mKm E) S (met_m_bad l E hE g x1 x2 x3 x4 r gZ h) (cwV 4 F.2.2.2.2 (lw_V q2030 q2032 qs65 q121 q2033) rfl rfl rfl (by decide +kernel) hR) (m_recv hK S) rfl hls rfl hW hdg hf) S kk
abbrev rm_m_numberOf : Room := { frames := 3, cells := 0, slots := 0, locals := 65 }
def Lm_numberOf_1 : Nat → mS → Int32 → Int32 → Int32 → Int32 → Option (Int32)
  | 0, _, _, _, _, _ => none
  | n + 1, g, y1, y2, y3, y4 =>
    if y1 ≤ y4 then
      some y3
    else
      bd1 (fm_isOf g y4 y2) fun v3 =>
      bd1 ((
        if v3 = 0 then
          some 0
        else
          some 1) : Option (Int32)) fun v5 =>
      Lm_numberOf_1 n g y1 y2 (y3 + v5) (y4 + 1)
def fm_numberOf (g : mS) (x1 : Int32) (x2 : Int32) : Option (Int32) :=
  bd1 (Lm_numberOf_1 FUEL g x1 x2 0 0) fun v8 =>
  some v8
set_option maxHeartbeats 4000000 in
set_option maxRecDepth 100000 in
theorem loop_m_numberOf_1 {p : Program} {l : Launch} {e : Env} {s : State} {m : MethodId} {args : Array Value} {below : List Frame} {meth : Method} {c : Code} (E : mEnv) (hE : mInj E) (F : CallFix p m c cX9_numberOf 5 s args lw_all RX9) (hr : meth.sig.returnType = some .int) (hlk : meth.locks = false) (hK : mK E s) {Q : State → Prop} {g : mS} : ∀ (n : Nat) (y1 : Int32) (y2 : Int32) (y3 : Int32) (y4 : Int32) (o : Int32), Lm_numberOf_1 n g y1 y2 y3 y4 = some o → ∀ (H : Heap) (locs : List Loc) (ls : Array Slot), gS (mA E) s.heap (mP E g) H locs → lv_has ls 5 [(0, .ref (mad E 0)), (1, .int y1), (2, .int y2), (3, .int y3), (4, .int y4)] → (∀ (w3 : Int32) (H : Heap) (locs : List Loc) (ls : Array Slot), o = w3 → gS (mA E) s.heap (mP E g) H locs → lv_has ls 5 [(3, .int w3)] → W p l e rm_m_numberOf s m args below meth c H locs 0 0 Q (F0 m 35 ls [])) → W p l e rm_m_numberOf s m args below meth c H locs 0 0 Q (F0 m 5 ls []) := by
  have hx := F.1
  have hb := F.2.1
  intro n
  induction n with
  | zero =>
    intro y1 y2 y3 y4 o h
    rw [Lm_numberOf_1] at h
    cases h
  | succ n ih =>
    intro y1 y2 y3 y4 o h H locs ls S hl kx
    rw [Lm_numberOf_1] at h
    refine lv_iload hx hb dX9_numberOf_5 (lv_at hl 4 rfl) ?_
    refine lv_iload_n hx hb dX9_numberOf_7 rfl (lv_at hl 1 rfl) ?_
    refine lv_icmp_ge (tgt := 35) hx hb dX9_numberOf_8 (by decide) (fun c1 => ?_) (fun c1 => ?_)
    · rw [if_pos c1] at h
      cases h
      exact kx _ _ _ _ rfl S (lv_sub hl [3] rfl)
    · rw [if_neg c1] at h
      refine lv_iload_n hx hb dX9_numberOf_11 rfl (lv_at hl 3 rfl) ?_
      refine lv_aload_n hx hb dX9_numberOf_12 rfl (lv_at hl 0 rfl) ?_
      refine lv_iload hx hb dX9_numberOf_13 (lv_at hl 4 rfl) ?_
      refine lv_iload_n hx hb dX9_numberOf_15 rfl (lv_at hl 2 rfl) ?_
      obtain ⟨v3, e2, h⟩ := bd1_inv h
      refine call_m_isOf hE F hK S e2 hl.1 (Nat.le_of_ble_eq_true rfl) ⟨Nat.le_of_ble_eq_true rfl, Nat.le_of_ble_eq_true rfl⟩ ⟨Nat.zero_le _, Nat.zero_le _⟩ dX9_numberOf_16 (fun H locs S => ?_)
      obtain ⟨v5, hB, h⟩ := bd1_inv h
      have hJ27 : ∀ (H : Heap) (locs : List Loc) (ls : Array Slot), gS (mA E) s.heap (mP E g) H locs → lv_has ls 5 [(0, .ref (mad E 0)), (1, .int y1), (2, .int y2), (4, .int y4)] → W p l e rm_m_numberOf s m args below meth c H locs 0 0 Q (F0 m 27 ls [.int v5, .int y3]) := by
        intro H locs ls S hl
        refine lv_iadd hx hb dX9_numberOf_27 ?_
        refine lv_istore_n (lv' := [(3, .int (y3 + v5)), (0, .ref (mad E 0)), (1, .int y1), (2, .int y2), (4, .int y4)]) hx hb dX9_numberOf_28 rfl hl (by decide) rfl (fun ls hl => ?_)
        refine lv_iinc (v := (y4 + 1)) (lv' := [(4, .int (y4 + 1)), (3, .int (y3 + v5)), (0, .ref (mad E 0)), (1, .int y1), (2, .int y2)]) hx hb dX9_numberOf_29 hl (k := 4) rfl rfl (by decide) rfl (fun ls hl => ?_)
        refine lv_goto (tgt := 5) hx hb dX9_numberOf_32 (by decide) ?_
        exact ih _ _ _ _ _ h _ _ _ S (lv_sub hl [2, 3, 4, 1, 0] rfl) kx
      clear h
      have h := hB
      clear hB
      refine lv_if_eq (tgt := 26) hx hb dX9_numberOf_19 (by decide) (fun c4 => ?_) (fun c4 => ?_)
      · rw [if_pos c4] at h
        refine lv_iconst (v := 0) hx hb dX9_numberOf_26 (by decide) ?_
        cases h
        exact hJ27 _ _ _ S (lv_sub hl [0, 1, 2, 4] rfl)
      · rw [if_neg c4] at h
        refine lv_iconst (v := 1) hx hb dX9_numberOf_22 (by decide) ?_
        refine lv_goto (tgt := 27) hx hb dX9_numberOf_23 (by decide) ?_
        cases h
        exact hJ27 _ _ _ S (lv_sub hl [0, 1, 2, 4] rfl)
set_option maxHeartbeats 4000000 in
set_option maxRecDepth 100000 in
theorem met_m_numberOf (l : Launch) (E : mEnv) (hE : mInj E) (g : mS) (x1 : Int32) (x2 : Int32) (r : Int32) (h : fm_numberOf g x1 x2 = some r) : Met l yX9_numberOf (ws_ yX9_numberOf cX9_numberOf 5 (some .int)) rm_m_numberOf (va_Pc [.ref (mad E 0), .int x1, .int x2] (gPre (mK E) (mP E g))) (gQi r (mP E g) (mA E)) 0 0 (mA E) := by
  refine g_met (own := RX9) (by decide) rfl (Nat.le_of_ble_eq_true rfl) ?_
  intro p e s m args below meth c ls F hr hlk hK S hl
  have hx := F.1
  have hb := F.2.1
  have hl : lv_has ls 5 [(0, .ref (mad E 0)), (1, .int x1), (2, .int x2)] := hl
  unfold fm_numberOf at h
  refine lv_iconst (v := 0) hx hb dX9_numberOf_0 (by decide) ?_
  refine lv_istore_n (lv' := [(3, .int 0), (0, .ref (mad E 0)), (1, .int x1), (2, .int x2)]) hx hb dX9_numberOf_1 rfl hl (by decide) rfl (fun ls hl => ?_)
  refine lv_iconst (v := 0) hx hb dX9_numberOf_2 (by decide) ?_
  refine lv_istore (lv' := [(4, .int 0), (3, .int 0), (0, .ref (mad E 0)), (1, .int x1), (2, .int x2)]) hx hb dX9_numberOf_3 hl (by decide) rfl (fun ls hl => ?_)
  obtain ⟨v8, e7, h⟩ := bd1_inv h
  refine loop_m_numberOf_1 E hE F hr hlk hK _ _ _ _ _ _ e7 _ _ _ S (lv_sub hl [2, 3, 4, 1, 0] rfl) (fun v8z H locs ls o S hl => ?_)
  cases o
  refine lv_iload_n hx hb dX9_numberOf_35 rfl (lv_at hl 0 rfl) ?_
  cases h
  exact g_iret F hr hlk S rfl dX9_numberOf_36
theorem call_m_numberOf {p : Program} {l : Launch} {e : Env} {s : State} {m : MethodId} {args : Array Value} {below : List Frame} {meth : Method} {c : Code} {R : Room} {H : Heap} {locs : List Loc} {cells slots pc nL : Nat} {Q : State → Prop} {ls : Array Slot} {rest : List Value} {cc : ByteArray} {E : mEnv} (hE : mInj E) {g : mS} {x1 : Int32} {x2 : Int32} {r : Int32} (F : CallFix p m c cc nL s args lw_all RX9) (hK : mK E s) (S : gS (mA E) s.heap (mP E g) H locs) (h : fm_numberOf g x1 x2 = some r) (hls : ls.size = nL) (hW : (rest.map fun v => v.category).sum ≤ 8) (hR : rm_m_numberOf.frames + 1 ≤ R.frames ∧ 8 + (5 + 11) + rm_m_numberOf.locals ≤ R.locals) (hf : cells ≤ R.cells ∧ slots ≤ R.slots) (hdg : decode cc pc = .ok (.invokevirtual 205, 3))
    (kk : ∀ (H1 : Heap) (locs1 : List Loc), gS (mA E) s.heap (mP E g) H1 locs1 → W p l e R s m args below meth c H1 locs1 cells slots Q (F0 m (pc + 3) ls (.int r :: rest))) : W p l e R s m args below meth c H locs cells slots Q (F0 m pc ls (.int x2 :: .int x1 :: .ref (mad E 0) :: rest)) :=
  g_ki (g_runV F hK (mKm E) S (met_m_numberOf l E hE g x1 x2 r h) (cwV 2 F.2.2.2.2 (lw_V q2034 q2036 qs66 q121 q2037) rfl rfl rfl (by decide +kernel) hR) (m_recv hK S) rfl hls rfl hW hdg hf) S kk
abbrev rm_m_putMirror : Room := { frames := 9, cells := 0, slots := 0, locals := 211 }
def fm_putMirror (g : mS) (x1 : Int32) (x2 : Int32) (x3 : Int32) (x4 : Int32) (x5 : Int32) : Option (Int32 × mS) :=
  bd1 (wrF g 0 0) fun g1 =>
  bd2 (fm_noCell g1 x1 x2) fun v4 g5 =>
  if v4 = 0 then
    bd2 (fm_bad g5 x4 0 1 2) fun v8 g9 =>
    if v8 = 0 then
      bd2 (fm_bad g9 x5 0 2 2) fun v12 g13 =>
      if v12 = 0 then
        bd1 (fm_noLay g13 x1 x2) fun v16 =>
        if v16 = 0 then
          bd1 (fm_count g13 2) fun v19 =>
          if v19 = 12 then
            some ((-4), g13)
          else
            bd1 ((
              if x3 = 0 then
                some 2
              else
                some 3) : Option (Int32)) fun v22 =>
            bd2 (fm_change g13 x1 x2 v22 x4 x5) fun v24 g25 =>
            bd1 (fm_cellAt g25 x1 x2) fun v27 =>
            bd1 (fm_numberOf g25 v27 2) fun v29 =>
            some (v29, g25)
        else
          some ((-v16), g13)
      else
        some (0, g13)
    else
      some (0, g9)
  else
    some (0, g5)
set_option maxHeartbeats 4000000 in
set_option maxRecDepth 100000 in
theorem met_m_putMirror (l : Launch) (E : mEnv) (hE : mInj E) (g : mS) (x1 : Int32) (x2 : Int32) (x3 : Int32) (x4 : Int32) (x5 : Int32) (r : Int32) (gZ : mS) (h : fm_putMirror g x1 x2 x3 x4 x5 = some (r, gZ)) : Met l yX9_putMirror (ws_ yX9_putMirror cX9_putMirror 7 (some .int)) rm_m_putMirror (va_Pc [.ref (mad E 0), .int x1, .int x2, .int x3, .int x4, .int x5] (gPre (mK E) (mP E g))) (gQi r (mP E gZ) (mA E)) 0 0 (mA E) := by
  refine g_met (own := RX9) (by decide) rfl (Nat.le_of_ble_eq_true rfl) ?_
  intro p e s m args below meth c ls F hr hlk hK S hl
  have hx := F.1
  have hb := F.2.1
  have hl : lv_has ls 7 [(0, .ref (mad E 0)), (1, .int x1), (2, .int x2), (3, .int x3), (4, .int x4), (5, .int x5)] := hl
  unfold fm_putMirror at h
  refine lv_aload_n hx hb dX9_putMirror_0 rfl (lv_at hl 0 rfl) ?_
  refine lv_iconst (v := 0) hx hb dX9_putMirror_1 (by decide) ?_
  obtain ⟨g1, e2, h⟩ := bd1_inv h
  refine m_put0 hE F hK S e2 dX9_putMirror_2 (fun H locs S => ?_)
  refine lv_aload_n hx hb dX9_putMirror_5 rfl (lv_at hl 0 rfl) ?_
  refine lv_iload_n hx hb dX9_putMirror_6 rfl (lv_at hl 1 rfl) ?_
  refine lv_iload_n hx hb dX9_putMirror_7 rfl (lv_at hl 2 rfl) ?_
  obtain ⟨v4, g5, e3, h⟩ := bd2_inv h
  refine call_m_noCell hE F hK S e3 hl.1 (Nat.le_of_ble_eq_true rfl) ⟨Nat.le_of_ble_eq_true rfl, Nat.le_of_ble_eq_true rfl⟩ ⟨Nat.zero_le _, Nat.zero_le _⟩ dX9_putMirror_8 (fun H locs S => ?_)
  refine lv_if_ne (tgt := 38) hx hb dX9_putMirror_11 (by decide) (fun c6 => ?_) (fun c6 => ?_)
  · rw [if_neg c6] at h
    refine lv_iconst (v := 0) hx hb dX9_putMirror_38 (by decide) ?_
    cases h
    exact g_iret F hr hlk S rfl dX9_putMirror_39
  · rw [if_pos c6] at h
    refine lv_aload_n hx hb dX9_putMirror_14 rfl (lv_at hl 0 rfl) ?_
    refine lv_iload hx hb dX9_putMirror_15 (lv_at hl 4 rfl) ?_
    refine lv_iconst (v := 0) hx hb dX9_putMirror_17 (by decide) ?_
    refine lv_iconst (v := 1) hx hb dX9_putMirror_18 (by decide) ?_
    refine lv_iconst (v := 2) hx hb dX9_putMirror_19 (by decide) ?_
    obtain ⟨v8, g9, e7, h⟩ := bd2_inv h
    refine call_m_bad hE F hK S e7 hl.1 (Nat.le_of_ble_eq_true rfl) ⟨Nat.le_of_ble_eq_true rfl, Nat.le_of_ble_eq_true rfl⟩ ⟨Nat.zero_le _, Nat.zero_le _⟩ dX9_putMirror_20 (fun H locs S => ?_)
    refine lv_if_ne (tgt := 38) hx hb dX9_putMirror_23 (by decide) (fun c10 => ?_) (fun c10 => ?_)
    · rw [if_neg c10] at h
      refine lv_iconst (v := 0) hx hb dX9_putMirror_38 (by decide) ?_
      cases h
      exact g_iret F hr hlk S rfl dX9_putMirror_39
    · rw [if_pos c10] at h
      refine lv_aload_n hx hb dX9_putMirror_26 rfl (lv_at hl 0 rfl) ?_
      refine lv_iload hx hb dX9_putMirror_27 (lv_at hl 5 rfl) ?_
      refine lv_iconst (v := 0) hx hb dX9_putMirror_29 (by decide) ?_
      refine lv_iconst (v := 2) hx hb dX9_putMirror_30 (by decide) ?_
      refine lv_iconst (v := 2) hx hb dX9_putMirror_31 (by decide) ?_
      obtain ⟨v12, g13, e11, h⟩ := bd2_inv h
      refine call_m_bad hE F hK S e11 hl.1 (Nat.le_of_ble_eq_true rfl) ⟨Nat.le_of_ble_eq_true rfl, Nat.le_of_ble_eq_true rfl⟩ ⟨Nat.zero_le _, Nat.zero_le _⟩ dX9_putMirror_32 (fun H locs S => ?_)
      refine lv_if_eq (tgt := 40) hx hb dX9_putMirror_35 (by decide) (fun c14 => ?_) (fun c14 => ?_)
      · rw [if_pos c14] at h
        refine lv_aload_n hx hb dX9_putMirror_40 rfl (lv_at hl 0 rfl) ?_
        refine lv_iload_n hx hb dX9_putMirror_41 rfl (lv_at hl 1 rfl) ?_
        refine lv_iload_n hx hb dX9_putMirror_42 rfl (lv_at hl 2 rfl) ?_
        obtain ⟨v16, e15, h⟩ := bd1_inv h
        refine call_m_noLay hE F hK S e15 hl.1 (Nat.le_of_ble_eq_true rfl) ⟨Nat.le_of_ble_eq_true rfl, Nat.le_of_ble_eq_true rfl⟩ ⟨Nat.zero_le _, Nat.zero_le _⟩ dX9_putMirror_43 (fun H locs S => ?_)
        refine lv_istore (lv' := [(6, .int v16), (0, .ref (mad E 0)), (1, .int x1), (2, .int x2), (3, .int x3), (4, .int x4), (5, .int x5)]) hx hb dX9_putMirror_46 hl (by decide) rfl (fun ls hl => ?_)
        refine lv_iload hx hb dX9_putMirror_48 (lv_at hl 0 rfl) ?_
        refine lv_if_eq (tgt := 57) hx hb dX9_putMirror_50 (by decide) (fun c17 => ?_) (fun c17 => ?_)
        · rw [if_pos c17] at h
          refine lv_aload_n hx hb dX9_putMirror_57 rfl (lv_at hl 1 rfl) ?_
          refine lv_iconst (v := 2) hx hb dX9_putMirror_58 (by decide) ?_
          obtain ⟨v19, e18, h⟩ := bd1_inv h
          refine call_m_count hE F hK S e18 hl.1 (Nat.le_of_ble_eq_true rfl) ⟨Nat.le_of_ble_eq_true rfl, Nat.le_of_ble_eq_true rfl⟩ ⟨Nat.zero_le _, Nat.zero_le _⟩ dX9_putMirror_59 (fun H locs S => ?_)
          refine lv_bipush (v := 12) hx hb dX9_putMirror_62 (by decide) ?_
          refine lv_icmp_ne (tgt := 70) hx hb dX9_putMirror_64 (by decide) (fun c20 => ?_) (fun c20 => ?_)
          · rw [if_neg c20] at h
            refine lv_aload_n hx hb dX9_putMirror_70 rfl (lv_at hl 1 rfl) ?_
            refine lv_iload_n hx hb dX9_putMirror_71 rfl (lv_at hl 2 rfl) ?_
            refine lv_iload_n hx hb dX9_putMirror_72 rfl (lv_at hl 3 rfl) ?_
            refine lv_iload_n hx hb dX9_putMirror_73 rfl (lv_at hl 4 rfl) ?_
            obtain ⟨v22, hB, h⟩ := bd1_inv h
            have hJ82 : ∀ (H : Heap) (locs : List Loc) (ls : Array Slot), gS (mA E) s.heap (mP E g13) H locs → lv_has ls 7 [(0, .ref (mad E 0)), (1, .int x1), (2, .int x2), (4, .int x4), (5, .int x5)] → W p l e rm_m_putMirror s m args below meth c H locs 0 0 (MQ below (gQi r (mP E gZ) (mA E)) args s 0 0 (mA E)) (F0 m 82 ls [.int v22, .int x2, .int x1, .ref (mad E 0)]) := by
              intro H locs ls S hl
              refine lv_iload hx hb dX9_putMirror_82 (lv_at hl 3 rfl) ?_
              refine lv_iload hx hb dX9_putMirror_84 (lv_at hl 4 rfl) ?_
              obtain ⟨v24, g25, e23, h⟩ := bd2_inv h
              refine call_m_change hE F hK S e23 hl.1 (Nat.le_of_ble_eq_true rfl) ⟨Nat.le_of_ble_eq_true rfl, Nat.le_of_ble_eq_true rfl⟩ ⟨Nat.zero_le _, Nat.zero_le _⟩ dX9_putMirror_86 (fun H locs S => ?_)
              refine lv_pop hx hb dX9_putMirror_89 rfl ?_
              refine lv_aload_n hx hb dX9_putMirror_90 rfl (lv_at hl 0 rfl) ?_
              refine lv_aload_n hx hb dX9_putMirror_91 rfl (lv_at hl 0 rfl) ?_
              refine lv_iload_n hx hb dX9_putMirror_92 rfl (lv_at hl 1 rfl) ?_
              refine lv_iload_n hx hb dX9_putMirror_93 rfl (lv_at hl 2 rfl) ?_
              obtain ⟨v27, e26, h⟩ := bd1_inv h
              refine call_m_cellAt hE F hK S e26 hl.1 (Nat.le_of_ble_eq_true rfl) ⟨Nat.le_of_ble_eq_true rfl, Nat.le_of_ble_eq_true rfl⟩ ⟨Nat.zero_le _, Nat.zero_le _⟩ dX9_putMirror_94 (fun H locs S => ?_)
              refine lv_iconst (v := 2) hx hb dX9_putMirror_97 (by decide) ?_
              obtain ⟨v29, e28, h⟩ := bd1_inv h
              refine call_m_numberOf hE F hK S e28 hl.1 (Nat.le_of_ble_eq_true rfl) ⟨Nat.le_of_ble_eq_true rfl, Nat.le_of_ble_eq_true rfl⟩ ⟨Nat.zero_le _, Nat.zero_le _⟩ dX9_putMirror_98 (fun H locs S => ?_)
              cases h
              exact g_iret F hr hlk S rfl dX9_putMirror_101
            clear h
            have h := hB
            clear hB
            refine lv_if_eq (tgt := 81) hx hb dX9_putMirror_74 (by decide) (fun c21 => ?_) (fun c21 => ?_)
            · rw [if_pos c21] at h
              refine lv_iconst (v := 2) hx hb dX9_putMirror_81 (by decide) ?_
              cases h
              exact hJ82 _ _ _ S (lv_sub hl [1, 2, 3, 5, 6] rfl)
            · rw [if_neg c21] at h
              refine lv_iconst (v := 3) hx hb dX9_putMirror_77 (by decide) ?_
              refine lv_goto (tgt := 82) hx hb dX9_putMirror_78 (by decide) ?_
              cases h
              exact hJ82 _ _ _ S (lv_sub hl [1, 2, 3, 5, 6] rfl)
          · rw [if_pos c20] at h
            refine lv_bipush (v := (-4)) hx hb dX9_putMirror_67 (by decide) ?_
            cases h
            exact g_iret F hr hlk S rfl dX9_putMirror_69
        · rw [if_neg c17] at h
          refine lv_iload hx hb dX9_putMirror_53 (lv_at hl 0 rfl) ?_
          refine lv_ineg hx hb dX9_putMirror_55 ?_
          cases h
          exact g_iret F hr hlk S rfl dX9_putMirror_56
      · rw [if_neg c14] at h
        refine lv_iconst (v := 0) hx hb dX9_putMirror_38 (by decide) ?_
        cases h
        exact g_iret F hr hlk S rfl dX9_putMirror_39
abbrev rm_m_putDoor : Room := { frames := 9, cells := 0, slots := 0, locals := 211 }
def fm_putDoor (g : mS) (x1 : Int32) (x2 : Int32) (x3 : Int32) : Option (Int32 × mS) :=
  bd1 (wrF g 0 0) fun g1 =>
  bd2 (fm_noCell g1 x1 x2) fun v4 g5 =>
  if v4 = 0 then
    bd2 (fm_bad g5 x3 1 2 2) fun v8 g9 =>
    if v8 = 0 then
      bd1 (fm_noLay g9 x1 x2) fun v12 =>
      if v12 = 0 then
        bd1 (fm_count g9 4) fun v15 =>
        if v15 = 8 then
          some ((-4), g9)
        else
          bd2 (fm_change g9 x1 x2 4 (-1) x3) fun v18 g19 =>
          bd1 (fm_cellAt g19 x1 x2) fun v21 =>
          bd1 (fm_numberOf g19 v21 4) fun v23 =>
          some (v23, g19)
      else
        some ((-v12), g9)
    else
      some (0, g9)
  else
    some (0, g5)
set_option maxHeartbeats 4000000 in
set_option maxRecDepth 100000 in
theorem met_m_putDoor (l : Launch) (E : mEnv) (hE : mInj E) (g : mS) (x1 : Int32) (x2 : Int32) (x3 : Int32) (r : Int32) (gZ : mS) (h : fm_putDoor g x1 x2 x3 = some (r, gZ)) : Met l yX9_putDoor (ws_ yX9_putDoor cX9_putDoor 5 (some .int)) rm_m_putDoor (va_Pc [.ref (mad E 0), .int x1, .int x2, .int x3] (gPre (mK E) (mP E g))) (gQi r (mP E gZ) (mA E)) 0 0 (mA E) := by
  refine g_met (own := RX9) (by decide) rfl (Nat.le_of_ble_eq_true rfl) ?_
  intro p e s m args below meth c ls F hr hlk hK S hl
  have hx := F.1
  have hb := F.2.1
  have hl : lv_has ls 5 [(0, .ref (mad E 0)), (1, .int x1), (2, .int x2), (3, .int x3)] := hl
  unfold fm_putDoor at h
  refine lv_aload_n hx hb dX9_putDoor_0 rfl (lv_at hl 0 rfl) ?_
  refine lv_iconst (v := 0) hx hb dX9_putDoor_1 (by decide) ?_
  obtain ⟨g1, e2, h⟩ := bd1_inv h
  refine m_put0 hE F hK S e2 dX9_putDoor_2 (fun H locs S => ?_)
  refine lv_aload_n hx hb dX9_putDoor_5 rfl (lv_at hl 0 rfl) ?_
  refine lv_iload_n hx hb dX9_putDoor_6 rfl (lv_at hl 1 rfl) ?_
  refine lv_iload_n hx hb dX9_putDoor_7 rfl (lv_at hl 2 rfl) ?_
  obtain ⟨v4, g5, e3, h⟩ := bd2_inv h
  refine call_m_noCell hE F hK S e3 hl.1 (Nat.le_of_ble_eq_true rfl) ⟨Nat.le_of_ble_eq_true rfl, Nat.le_of_ble_eq_true rfl⟩ ⟨Nat.zero_le _, Nat.zero_le _⟩ dX9_putDoor_8 (fun H locs S => ?_)
  refine lv_if_ne (tgt := 25) hx hb dX9_putDoor_11 (by decide) (fun c6 => ?_) (fun c6 => ?_)
  · rw [if_neg c6] at h
    refine lv_iconst (v := 0) hx hb dX9_putDoor_25 (by decide) ?_
    cases h
    exact g_iret F hr hlk S rfl dX9_putDoor_26
  · rw [if_pos c6] at h
    refine lv_aload_n hx hb dX9_putDoor_14 rfl (lv_at hl 0 rfl) ?_
    refine lv_iload_n hx hb dX9_putDoor_15 rfl (lv_at hl 3 rfl) ?_
    refine lv_iconst (v := 1) hx hb dX9_putDoor_16 (by decide) ?_
    refine lv_iconst (v := 2) hx hb dX9_putDoor_17 (by decide) ?_
    refine lv_iconst (v := 2) hx hb dX9_putDoor_18 (by decide) ?_
    obtain ⟨v8, g9, e7, h⟩ := bd2_inv h
    refine call_m_bad hE F hK S e7 hl.1 (Nat.le_of_ble_eq_true rfl) ⟨Nat.le_of_ble_eq_true rfl, Nat.le_of_ble_eq_true rfl⟩ ⟨Nat.zero_le _, Nat.zero_le _⟩ dX9_putDoor_19 (fun H locs S => ?_)
    refine lv_if_eq (tgt := 27) hx hb dX9_putDoor_22 (by decide) (fun c10 => ?_) (fun c10 => ?_)
    · rw [if_pos c10] at h
      refine lv_aload_n hx hb dX9_putDoor_27 rfl (lv_at hl 0 rfl) ?_
      refine lv_iload_n hx hb dX9_putDoor_28 rfl (lv_at hl 1 rfl) ?_
      refine lv_iload_n hx hb dX9_putDoor_29 rfl (lv_at hl 2 rfl) ?_
      obtain ⟨v12, e11, h⟩ := bd1_inv h
      refine call_m_noLay hE F hK S e11 hl.1 (Nat.le_of_ble_eq_true rfl) ⟨Nat.le_of_ble_eq_true rfl, Nat.le_of_ble_eq_true rfl⟩ ⟨Nat.zero_le _, Nat.zero_le _⟩ dX9_putDoor_30 (fun H locs S => ?_)
      refine lv_istore (lv' := [(4, .int v12), (0, .ref (mad E 0)), (1, .int x1), (2, .int x2), (3, .int x3)]) hx hb dX9_putDoor_33 hl (by decide) rfl (fun ls hl => ?_)
      refine lv_iload hx hb dX9_putDoor_35 (lv_at hl 0 rfl) ?_
      refine lv_if_eq (tgt := 44) hx hb dX9_putDoor_37 (by decide) (fun c13 => ?_) (fun c13 => ?_)
      · rw [if_pos c13] at h
        refine lv_aload_n hx hb dX9_putDoor_44 rfl (lv_at hl 1 rfl) ?_
        refine lv_iconst (v := 4) hx hb dX9_putDoor_45 (by decide) ?_
        obtain ⟨v15, e14, h⟩ := bd1_inv h
        refine call_m_count hE F hK S e14 hl.1 (Nat.le_of_ble_eq_true rfl) ⟨Nat.le_of_ble_eq_true rfl, Nat.le_of_ble_eq_true rfl⟩ ⟨Nat.zero_le _, Nat.zero_le _⟩ dX9_putDoor_46 (fun H locs S => ?_)
        refine lv_bipush (v := 8) hx hb dX9_putDoor_49 (by decide) ?_
        refine lv_icmp_ne (tgt := 57) hx hb dX9_putDoor_51 (by decide) (fun c16 => ?_) (fun c16 => ?_)
        · rw [if_neg c16] at h
          refine lv_aload_n hx hb dX9_putDoor_57 rfl (lv_at hl 1 rfl) ?_
          refine lv_iload_n hx hb dX9_putDoor_58 rfl (lv_at hl 2 rfl) ?_
          refine lv_iload_n hx hb dX9_putDoor_59 rfl (lv_at hl 3 rfl) ?_
          refine lv_iconst (v := 4) hx hb dX9_putDoor_60 (by decide) ?_
          refine lv_iconst (v := (-1)) hx hb dX9_putDoor_61 (by decide) ?_
          refine lv_iload_n hx hb dX9_putDoor_62 rfl (lv_at hl 4 rfl) ?_
          obtain ⟨v18, g19, e17, h⟩ := bd2_inv h
          refine call_m_change hE F hK S e17 hl.1 (Nat.le_of_ble_eq_true rfl) ⟨Nat.le_of_ble_eq_true rfl, Nat.le_of_ble_eq_true rfl⟩ ⟨Nat.zero_le _, Nat.zero_le _⟩ dX9_putDoor_63 (fun H locs S => ?_)
          refine lv_pop hx hb dX9_putDoor_66 rfl ?_
          refine lv_aload_n hx hb dX9_putDoor_67 rfl (lv_at hl 1 rfl) ?_
          refine lv_aload_n hx hb dX9_putDoor_68 rfl (lv_at hl 1 rfl) ?_
          refine lv_iload_n hx hb dX9_putDoor_69 rfl (lv_at hl 2 rfl) ?_
          refine lv_iload_n hx hb dX9_putDoor_70 rfl (lv_at hl 3 rfl) ?_
          obtain ⟨v21, e20, h⟩ := bd1_inv h
          refine call_m_cellAt hE F hK S e20 hl.1 (Nat.le_of_ble_eq_true rfl) ⟨Nat.le_of_ble_eq_true rfl, Nat.le_of_ble_eq_true rfl⟩ ⟨Nat.zero_le _, Nat.zero_le _⟩ dX9_putDoor_71 (fun H locs S => ?_)
          refine lv_iconst (v := 4) hx hb dX9_putDoor_74 (by decide) ?_
          obtain ⟨v23, e22, h⟩ := bd1_inv h
          refine call_m_numberOf hE F hK S e22 hl.1 (Nat.le_of_ble_eq_true rfl) ⟨Nat.le_of_ble_eq_true rfl, Nat.le_of_ble_eq_true rfl⟩ ⟨Nat.zero_le _, Nat.zero_le _⟩ dX9_putDoor_75 (fun H locs S => ?_)
          cases h
          exact g_iret F hr hlk S rfl dX9_putDoor_78
        · rw [if_pos c16] at h
          refine lv_bipush (v := (-4)) hx hb dX9_putDoor_54 (by decide) ?_
          cases h
          exact g_iret F hr hlk S rfl dX9_putDoor_56
      · rw [if_neg c13] at h
        refine lv_iload hx hb dX9_putDoor_40 (lv_at hl 0 rfl) ?_
        refine lv_ineg hx hb dX9_putDoor_42 ?_
        cases h
        exact g_iret F hr hlk S rfl dX9_putDoor_43
    · rw [if_neg c10] at h
      refine lv_iconst (v := 0) hx hb dX9_putDoor_25 (by decide) ?_
      cases h
      exact g_iret F hr hlk S rfl dX9_putDoor_26
abbrev rm_m_putGate : Room := { frames := 9, cells := 0, slots := 0, locals := 211 }
def fm_putGate (g : mS) (x1 : Int32) (x2 : Int32) (x3 : Int32) : Option (Int32 × mS) :=
  bd1 (wrF g 0 0) fun g1 =>
  bd2 (fm_noCell g1 x1 x2) fun v4 g5 =>
  if v4 = 0 then
    bd2 (fm_bad g5 x3 0 3 2) fun v8 g9 =>
    if v8 = 0 then
      bd1 (fm_noLay g9 x1 x2) fun v12 =>
      bd2 ((
        if v12 = 0 then
          bd2 (fm_change g9 x1 x2 5 x3 0) fun v15 g16 =>
          some (v15, g16)
        else
          some ((-v12), g9)) : Option (Int32 × mS)) fun v17 g18 =>
      some (v17, g18)
    else
      some (0, g9)
  else
    some (0, g5)
set_option maxHeartbeats 4000000 in
set_option maxRecDepth 100000 in
theorem met_m_putGate (l : Launch) (E : mEnv) (hE : mInj E) (g : mS) (x1 : Int32) (x2 : Int32) (x3 : Int32) (r : Int32) (gZ : mS) (h : fm_putGate g x1 x2 x3 = some (r, gZ)) : Met l yX9_putGate (ws_ yX9_putGate cX9_putGate 5 (some .int)) rm_m_putGate (va_Pc [.ref (mad E 0), .int x1, .int x2, .int x3] (gPre (mK E) (mP E g))) (gQi r (mP E gZ) (mA E)) 0 0 (mA E) := by
  refine g_met (own := RX9) (by decide) rfl (Nat.le_of_ble_eq_true rfl) ?_
  intro p e s m args below meth c ls F hr hlk hK S hl
  have hx := F.1
  have hb := F.2.1
  have hl : lv_has ls 5 [(0, .ref (mad E 0)), (1, .int x1), (2, .int x2), (3, .int x3)] := hl
  unfold fm_putGate at h
  refine lv_aload_n hx hb dX9_putGate_0 rfl (lv_at hl 0 rfl) ?_
  refine lv_iconst (v := 0) hx hb dX9_putGate_1 (by decide) ?_
  obtain ⟨g1, e2, h⟩ := bd1_inv h
  refine m_put0 hE F hK S e2 dX9_putGate_2 (fun H locs S => ?_)
  refine lv_aload_n hx hb dX9_putGate_5 rfl (lv_at hl 0 rfl) ?_
  refine lv_iload_n hx hb dX9_putGate_6 rfl (lv_at hl 1 rfl) ?_
  refine lv_iload_n hx hb dX9_putGate_7 rfl (lv_at hl 2 rfl) ?_
  obtain ⟨v4, g5, e3, h⟩ := bd2_inv h
  refine call_m_noCell hE F hK S e3 hl.1 (Nat.le_of_ble_eq_true rfl) ⟨Nat.le_of_ble_eq_true rfl, Nat.le_of_ble_eq_true rfl⟩ ⟨Nat.zero_le _, Nat.zero_le _⟩ dX9_putGate_8 (fun H locs S => ?_)
  refine lv_if_ne (tgt := 25) hx hb dX9_putGate_11 (by decide) (fun c6 => ?_) (fun c6 => ?_)
  · rw [if_neg c6] at h
    refine lv_iconst (v := 0) hx hb dX9_putGate_25 (by decide) ?_
    cases h
    exact g_iret F hr hlk S rfl dX9_putGate_26
  · rw [if_pos c6] at h
    refine lv_aload_n hx hb dX9_putGate_14 rfl (lv_at hl 0 rfl) ?_
    refine lv_iload_n hx hb dX9_putGate_15 rfl (lv_at hl 3 rfl) ?_
    refine lv_iconst (v := 0) hx hb dX9_putGate_16 (by decide) ?_
    refine lv_iconst (v := 3) hx hb dX9_putGate_17 (by decide) ?_
    refine lv_iconst (v := 2) hx hb dX9_putGate_18 (by decide) ?_
    obtain ⟨v8, g9, e7, h⟩ := bd2_inv h
    refine call_m_bad hE F hK S e7 hl.1 (Nat.le_of_ble_eq_true rfl) ⟨Nat.le_of_ble_eq_true rfl, Nat.le_of_ble_eq_true rfl⟩ ⟨Nat.zero_le _, Nat.zero_le _⟩ dX9_putGate_19 (fun H locs S => ?_)
    refine lv_if_eq (tgt := 27) hx hb dX9_putGate_22 (by decide) (fun c10 => ?_) (fun c10 => ?_)
    · rw [if_pos c10] at h
      refine lv_aload_n hx hb dX9_putGate_27 rfl (lv_at hl 0 rfl) ?_
      refine lv_iload_n hx hb dX9_putGate_28 rfl (lv_at hl 1 rfl) ?_
      refine lv_iload_n hx hb dX9_putGate_29 rfl (lv_at hl 2 rfl) ?_
      obtain ⟨v12, e11, h⟩ := bd1_inv h
      refine call_m_noLay hE F hK S e11 hl.1 (Nat.le_of_ble_eq_true rfl) ⟨Nat.le_of_ble_eq_true rfl, Nat.le_of_ble_eq_true rfl⟩ ⟨Nat.zero_le _, Nat.zero_le _⟩ dX9_putGate_30 (fun H locs S => ?_)
      refine lv_istore (lv' := [(4, .int v12), (0, .ref (mad E 0)), (1, .int x1), (2, .int x2), (3, .int x3)]) hx hb dX9_putGate_33 hl (by decide) rfl (fun ls hl => ?_)
      refine lv_iload hx hb dX9_putGate_35 (lv_at hl 0 rfl) ?_
      obtain ⟨v17, g18, hB, h⟩ := bd2_inv h
      have hJ55 : ∀ (H : Heap) (locs : List Loc) (ls : Array Slot), gS (mA E) s.heap (mP E g18) H locs → lv_has ls 5 [] → W p l e rm_m_putGate s m args below meth c H locs 0 0 (MQ below (gQi r (mP E gZ) (mA E)) args s 0 0 (mA E)) (F0 m 55 ls [.int v17]) := by
        intro H locs ls S hl
        cases h
        exact g_iret F hr hlk S rfl dX9_putGate_55
      clear h
      have h := hB
      clear hB
      refine lv_if_eq (tgt := 46) hx hb dX9_putGate_37 (by decide) (fun c13 => ?_) (fun c13 => ?_)
      · rw [if_pos c13] at h
        refine lv_aload_n hx hb dX9_putGate_46 rfl (lv_at hl 1 rfl) ?_
        refine lv_iload_n hx hb dX9_putGate_47 rfl (lv_at hl 2 rfl) ?_
        refine lv_iload_n hx hb dX9_putGate_48 rfl (lv_at hl 3 rfl) ?_
        refine lv_iconst (v := 5) hx hb dX9_putGate_49 (by decide) ?_
        refine lv_iload_n hx hb dX9_putGate_50 rfl (lv_at hl 4 rfl) ?_
        refine lv_iconst (v := 0) hx hb dX9_putGate_51 (by decide) ?_
        obtain ⟨v15, g16, e14, h⟩ := bd2_inv h
        refine call_m_change hE F hK S e14 hl.1 (Nat.le_of_ble_eq_true rfl) ⟨Nat.le_of_ble_eq_true rfl, Nat.le_of_ble_eq_true rfl⟩ ⟨Nat.zero_le _, Nat.zero_le _⟩ dX9_putGate_52 (fun H locs S => ?_)
        cases h
        exact hJ55 _ _ _ S (lv_sub hl [] rfl)
      · rw [if_neg c13] at h
        refine lv_iload hx hb dX9_putGate_40 (lv_at hl 0 rfl) ?_
        refine lv_ineg hx hb dX9_putGate_42 ?_
        refine lv_goto (tgt := 55) hx hb dX9_putGate_43 (by decide) ?_
        cases h
        exact hJ55 _ _ _ S (lv_sub hl [] rfl)
    · rw [if_neg c10] at h
      refine lv_iconst (v := 0) hx hb dX9_putGate_25 (by decide) ?_
      cases h
      exact g_iret F hr hlk S rfl dX9_putGate_26
abbrev rm_m_layPair : Room := { frames := 8, cells := 0, slots := 0, locals := 186 }
def fm_layPair (g : mS) (x1 : Int32) (x2 : Int32) (x3 : Int32) (x4 : Int32) : Option (mS) :=
  bd1 (fm_cellAt g x3 x4) fun v2 =>
  bd1 (fm_lay g x1 x2 6 v2 0) fun g4 =>
  bd1 (fm_cellAt g4 x1 x2) fun v6 =>
  bd1 (fm_lay g4 x3 x4 6 v6 0) fun g8 =>
  bd2 (fm_openAll g8) fun v10 g11 =>
  some g11
set_option maxHeartbeats 4000000 in
set_option maxRecDepth 100000 in
theorem met_m_layPair (l : Launch) (E : mEnv) (hE : mInj E) (g : mS) (x1 : Int32) (x2 : Int32) (x3 : Int32) (x4 : Int32) (gZ : mS) (h : fm_layPair g x1 x2 x3 x4 = some gZ) : Met l yX9_layPair (ws_ yX9_layPair cX9_layPair 5 (none)) rm_m_layPair (va_Pc [.ref (mad E 0), .int x1, .int x2, .int x3, .int x4] (gPre (mK E) (mP E g))) (gQv (mP E gZ) (mA E)) 0 0 (mA E) := by
  refine g_met (own := RX9) (by decide) rfl (Nat.le_of_ble_eq_true rfl) ?_
  intro p e s m args below meth c ls F hr hlk hK S hl
  have hx := F.1
  have hb := F.2.1
  have hl : lv_has ls 5 [(0, .ref (mad E 0)), (1, .int x1), (2, .int x2), (3, .int x3), (4, .int x4)] := hl
  unfold fm_layPair at h
  refine lv_aload_n hx hb dX9_layPair_0 rfl (lv_at hl 0 rfl) ?_
  refine lv_iload_n hx hb dX9_layPair_1 rfl (lv_at hl 1 rfl) ?_
  refine lv_iload_n hx hb dX9_layPair_2 rfl (lv_at hl 2 rfl) ?_
  refine lv_bipush (v := 6) hx hb dX9_layPair_3 (by decide) ?_
  refine lv_aload_n hx hb dX9_layPair_5 rfl (lv_at hl 0 rfl) ?_
  refine lv_iload_n hx hb dX9_layPair_6 rfl (lv_at hl 3 rfl) ?_
  refine lv_iload hx hb dX9_layPair_7 (lv_at hl 4 rfl) ?_
  obtain ⟨v2, e1, h⟩ := bd1_inv h
  refine call_m_cellAt hE F hK S e1 hl.1 (Nat.le_of_ble_eq_true rfl) ⟨Nat.le_of_ble_eq_true rfl, Nat.le_of_ble_eq_true rfl⟩ ⟨Nat.zero_le _, Nat.zero_le _⟩ dX9_layPair_9 (fun H locs S => ?_)
  refine lv_iconst (v := 0) hx hb dX9_layPair_12 (by decide) ?_
  obtain ⟨g4, e3, h⟩ := bd1_inv h
  refine call_m_lay hE F hK S e3 hl.1 (Nat.le_of_ble_eq_true rfl) ⟨Nat.le_of_ble_eq_true rfl, Nat.le_of_ble_eq_true rfl⟩ ⟨Nat.zero_le _, Nat.zero_le _⟩ dX9_layPair_13 (fun H locs S => ?_)
  refine lv_aload_n hx hb dX9_layPair_16 rfl (lv_at hl 0 rfl) ?_
  refine lv_iload_n hx hb dX9_layPair_17 rfl (lv_at hl 3 rfl) ?_
  refine lv_iload hx hb dX9_layPair_18 (lv_at hl 4 rfl) ?_
  refine lv_bipush (v := 6) hx hb dX9_layPair_20 (by decide) ?_
  refine lv_aload_n hx hb dX9_layPair_22 rfl (lv_at hl 0 rfl) ?_
  refine lv_iload_n hx hb dX9_layPair_23 rfl (lv_at hl 1 rfl) ?_
  refine lv_iload_n hx hb dX9_layPair_24 rfl (lv_at hl 2 rfl) ?_
  obtain ⟨v6, e5, h⟩ := bd1_inv h
  refine call_m_cellAt hE F hK S e5 hl.1 (Nat.le_of_ble_eq_true rfl) ⟨Nat.le_of_ble_eq_true rfl, Nat.le_of_ble_eq_true rfl⟩ ⟨Nat.zero_le _, Nat.zero_le _⟩ dX9_layPair_25 (fun H locs S => ?_)
  refine lv_iconst (v := 0) hx hb dX9_layPair_28 (by decide) ?_
  obtain ⟨g8, e7, h⟩ := bd1_inv h
  refine call_m_lay hE F hK S e7 hl.1 (Nat.le_of_ble_eq_true rfl) ⟨Nat.le_of_ble_eq_true rfl, Nat.le_of_ble_eq_true rfl⟩ ⟨Nat.zero_le _, Nat.zero_le _⟩ dX9_layPair_29 (fun H locs S => ?_)
  refine lv_aload_n hx hb dX9_layPair_32 rfl (lv_at hl 0 rfl) ?_
  obtain ⟨v10, g11, e9, h⟩ := bd2_inv h
  refine call_m_openAll hE F hK S e9 hl.1 (Nat.le_of_ble_eq_true rfl) ⟨Nat.le_of_ble_eq_true rfl, Nat.le_of_ble_eq_true rfl⟩ ⟨Nat.zero_le _, Nat.zero_le _⟩ dX9_layPair_33 (fun H locs S => ?_)
  refine lv_pop hx hb dX9_layPair_36 rfl ?_
  cases h
  exact g_vret F hr hlk S dX9_layPair_37
theorem call_m_layPair {p : Program} {l : Launch} {e : Env} {s : State} {m : MethodId} {args : Array Value} {below : List Frame} {meth : Method} {c : Code} {R : Room} {H : Heap} {locs : List Loc} {cells slots pc nL : Nat} {Q : State → Prop} {ls : Array Slot} {rest : List Value} {cc : ByteArray} {E : mEnv} (hE : mInj E) {g : mS} {x1 : Int32} {x2 : Int32} {x3 : Int32} {x4 : Int32} {gZ : mS} (F : CallFix p m c cc nL s args lw_all RX9) (hK : mK E s) (S : gS (mA E) s.heap (mP E g) H locs) (h : fm_layPair g x1 x2 x3 x4 = some gZ) (hls : ls.size = nL) (hW : (rest.map fun v => v.category).sum ≤ 8) (hR : rm_m_layPair.frames + 1 ≤ R.frames ∧ 8 + (5 + 11) + rm_m_layPair.locals ≤ R.locals) (hf : cells ≤ R.cells ∧ slots ≤ R.slots) (hdg : decode cc pc = .ok (.invokevirtual 208, 3))
    (kk : ∀ (H1 : Heap) (locs1 : List Loc), gS (mA E) s.heap (mP E gZ) H1 locs1 → W p l e R s m args below meth c H1 locs1 cells slots Q (F0 m (pc + 3) ls (rest))) : W p l e R s m args below meth c H locs cells slots Q (F0 m pc ls (.int x4 :: .int x3 :: .int x2 :: .int x1 :: .ref (mad E 0) :: rest)) :=
  g_kv (g_runV F hK (mKm E) S (met_m_layPair l E hE g x1 x2 x3 x4 gZ h) (cwV 4 F.2.2.2.2 (lw_V q2050 q2052 qs67 q121 q2053) rfl rfl rfl (by decide +kernel) hR) (m_recv hK S) rfl hls rfl hW hdg hf) S kk
