theorem hc3_0 {β : Type} {a : Option β} {f : PV → Option β} {g : RV → Option β} {r : β} (h : hc3 none a f g = some r) : a = some r := h
theorem hc3_1 {β : Type} {a : Option β} {f : PV → Option β} {g : RV → Option β} {P : PV} {r : β} (h : hc3 (some (.inl P)) a f g = some r) : f P = some r := h
theorem hc3_2 {β : Type} {a : Option β} {f : PV → Option β} {g : RV → Option β} {k : RV} {r : β} (h : hc3 (some (.inr k)) a f g = some r) : g k = some r := h
